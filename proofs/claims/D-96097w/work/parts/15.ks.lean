/-! Time.takes; ArrayList; Test.holds; Kiln -/
set_option maxRecDepth 100000
abbrev cX1_takes : ByteArray := prog_20_method_2_code
def yX1_takes : MethodName := ⟨RX1, "takes", "(LBakedBefore$Time;)V"⟩
def dkwX1_takes_0 : List UInt8 := [43, 180, 0, 9, 3, 42, 180, 0, 9, 3, 7, 184, 0, 15, 42, 43, 180, 0, 21, 181, 0, 21, 177]
abbrev dktX1_takes_0 : List UInt8 := dkwX1_takes_0 ++ []
theorem dksX1_takes_0 : cX1_takes.data.toList.drop 0 = dktX1_takes_0 := by decide +kernel
theorem dX1_takes_0 : decode cX1_takes 0 = .ok (.aload_n 1, 1) := dk_43 (dk_at dksX1_takes_0 0 rfl rfl)
theorem dX1_takes_1 : decode cX1_takes 1 = .ok (.getfield 9, 3) := dk_180 0 9 (dk_at dksX1_takes_0 1 rfl rfl)
theorem dX1_takes_4 : decode cX1_takes 4 = .ok (.iconst 0, 1) := dk_3 (dk_at dksX1_takes_0 4 rfl rfl)
theorem dX1_takes_5 : decode cX1_takes 5 = .ok (.aload_n 0, 1) := dk_42 (dk_at dksX1_takes_0 5 rfl rfl)
theorem dX1_takes_6 : decode cX1_takes 6 = .ok (.getfield 9, 3) := dk_180 0 9 (dk_at dksX1_takes_0 6 rfl rfl)
theorem dX1_takes_9 : decode cX1_takes 9 = .ok (.iconst 0, 1) := dk_3 (dk_at dksX1_takes_0 9 rfl rfl)
theorem dX1_takes_10 : decode cX1_takes 10 = .ok (.iconst 4, 1) := dk_7 (dk_at dksX1_takes_0 10 rfl rfl)
theorem dX1_takes_11 : decode cX1_takes 11 = .ok (.invokestatic 15, 3) := dk_184 0 15 (dk_at dksX1_takes_0 11 rfl rfl)
theorem dX1_takes_14 : decode cX1_takes 14 = .ok (.aload_n 0, 1) := dk_42 (dk_at dksX1_takes_0 14 rfl rfl)
theorem dX1_takes_15 : decode cX1_takes 15 = .ok (.aload_n 1, 1) := dk_43 (dk_at dksX1_takes_0 15 rfl rfl)
theorem dX1_takes_16 : decode cX1_takes 16 = .ok (.getfield 21, 3) := dk_180 0 21 (dk_at dksX1_takes_0 16 rfl rfl)
theorem dX1_takes_19 : decode cX1_takes 19 = .ok (.putfield 21, 3) := dk_181 0 21 (dk_at dksX1_takes_0 19 rfl rfl)
theorem dX1_takes_22 : decode cX1_takes 22 = .ok (.return_, 1) := dk_177 (dk_at dksX1_takes_0 22 rfl rfl)
abbrev cJ2_size : ByteArray := prog_48_method_8_code
def yJ2_size : MethodName := ⟨RJ2, "size", "()I"⟩
theorem dJ2_size_0 : decode cJ2_size 0 = .ok (.aload_n 0, 1) := by decide +kernel
theorem dJ2_size_1 : decode cJ2_size 1 = .ok (.getfield 48, 3) := by decide +kernel
theorem dJ2_size_4 : decode cJ2_size 4 = .ok (.ireturn, 1) := by decide +kernel
abbrev cJ2_isEmpty : ByteArray := prog_48_method_9_code
def yJ2_isEmpty : MethodName := ⟨RJ2, "isEmpty", "()Z"⟩
def dkwJ2_isEmpty_0 : List UInt8 := [42, 180, 0, 48, 154, 0, 7, 4, 167, 0, 4, 3, 172]
abbrev dktJ2_isEmpty_0 : List UInt8 := dkwJ2_isEmpty_0 ++ []
theorem dksJ2_isEmpty_0 : cJ2_isEmpty.data.toList.drop 0 = dktJ2_isEmpty_0 := by decide +kernel
theorem dJ2_isEmpty_0 : decode cJ2_isEmpty 0 = .ok (.aload_n 0, 1) := dk_42 (dk_at dksJ2_isEmpty_0 0 rfl rfl)
theorem dJ2_isEmpty_1 : decode cJ2_isEmpty 1 = .ok (.getfield 48, 3) := dk_180 0 48 (dk_at dksJ2_isEmpty_0 1 rfl rfl)
theorem dJ2_isEmpty_4 : decode cJ2_isEmpty 4 = .ok (.ifCond .ne 7, 3) := dk_154 0 7 (dk_at dksJ2_isEmpty_0 4 rfl rfl)
theorem dJ2_isEmpty_7 : decode cJ2_isEmpty 7 = .ok (.iconst 1, 1) := dk_4 (dk_at dksJ2_isEmpty_0 7 rfl rfl)
theorem dJ2_isEmpty_8 : decode cJ2_isEmpty 8 = .ok (.goto 4, 3) := dk_167 0 4 (dk_at dksJ2_isEmpty_0 8 rfl rfl)
theorem dJ2_isEmpty_11 : decode cJ2_isEmpty 11 = .ok (.iconst 0, 1) := dk_3 (dk_at dksJ2_isEmpty_0 11 rfl rfl)
theorem dJ2_isEmpty_12 : decode cJ2_isEmpty 12 = .ok (.ireturn, 1) := dk_172 (dk_at dksJ2_isEmpty_0 12 rfl rfl)
abbrev cJ2_get : ByteArray := prog_48_method_20_code
def yJ2_get : MethodName := ⟨RJ2, "get", "(I)Ljava/lang/Object;"⟩
def dkwJ2_get_0 : List UInt8 := [27, 42, 180, 0, 48, 184, 0, 118, 87, 42, 27, 182, 0, 123, 176]
abbrev dktJ2_get_0 : List UInt8 := dkwJ2_get_0 ++ []
theorem dksJ2_get_0 : cJ2_get.data.toList.drop 0 = dktJ2_get_0 := by decide +kernel
theorem dJ2_get_0 : decode cJ2_get 0 = .ok (.iload_n 1, 1) := dk_27 (dk_at dksJ2_get_0 0 rfl rfl)
theorem dJ2_get_1 : decode cJ2_get 1 = .ok (.aload_n 0, 1) := dk_42 (dk_at dksJ2_get_0 1 rfl rfl)
theorem dJ2_get_2 : decode cJ2_get 2 = .ok (.getfield 48, 3) := dk_180 0 48 (dk_at dksJ2_get_0 2 rfl rfl)
theorem dJ2_get_5 : decode cJ2_get 5 = .ok (.invokestatic 118, 3) := dk_184 0 118 (dk_at dksJ2_get_0 5 rfl rfl)
theorem dJ2_get_8 : decode cJ2_get 8 = .ok (.pop, 1) := dk_87 (dk_at dksJ2_get_0 8 rfl rfl)
theorem dJ2_get_9 : decode cJ2_get 9 = .ok (.aload_n 0, 1) := dk_42 (dk_at dksJ2_get_0 9 rfl rfl)
theorem dJ2_get_10 : decode cJ2_get 10 = .ok (.iload_n 1, 1) := dk_27 (dk_at dksJ2_get_0 10 rfl rfl)
theorem dJ2_get_11 : decode cJ2_get 11 = .ok (.invokevirtual 123, 3) := dk_182 0 123 (dk_at dksJ2_get_0 11 rfl rfl)
theorem dJ2_get_14 : decode cJ2_get 14 = .ok (.areturn, 1) := dk_176 (dk_at dksJ2_get_0 14 rfl rfl)
abbrev cJ2_elementData : ByteArray := prog_48_method_18_code
def yJ2_elementData : MethodName := ⟨RJ2, "elementData", "(I)Ljava/lang/Object;"⟩
def dkwJ2_elementData_0 : List UInt8 := [42, 180, 0, 9, 27, 50, 176]
abbrev dktJ2_elementData_0 : List UInt8 := dkwJ2_elementData_0 ++ []
theorem dksJ2_elementData_0 : cJ2_elementData.data.toList.drop 0 = dktJ2_elementData_0 := by decide +kernel
theorem dJ2_elementData_0 : decode cJ2_elementData 0 = .ok (.aload_n 0, 1) := dk_42 (dk_at dksJ2_elementData_0 0 rfl rfl)
theorem dJ2_elementData_1 : decode cJ2_elementData 1 = .ok (.getfield 9, 3) := dk_180 0 9 (dk_at dksJ2_elementData_0 1 rfl rfl)
theorem dJ2_elementData_4 : decode cJ2_elementData 4 = .ok (.iload_n 1, 1) := dk_27 (dk_at dksJ2_elementData_0 4 rfl rfl)
theorem dJ2_elementData_5 : decode cJ2_elementData 5 = .ok (.aaload, 1) := dk_50 (dk_at dksJ2_elementData_0 5 rfl rfl)
theorem dJ2_elementData_6 : decode cJ2_elementData 6 = .ok (.areturn, 1) := dk_176 (dk_at dksJ2_elementData_0 6 rfl rfl)
abbrev cJ3_checkIndex : ByteArray := prog_52_method_17_code
def yJ3_checkIndex : MethodName := ⟨RJ3, "checkIndex", "(II)I"⟩
def dkwJ3_checkIndex_0 : List UInt8 := [26, 27, 1, 184, 0, 105, 172]
abbrev dktJ3_checkIndex_0 : List UInt8 := dkwJ3_checkIndex_0 ++ []
theorem dksJ3_checkIndex_0 : cJ3_checkIndex.data.toList.drop 0 = dktJ3_checkIndex_0 := by decide +kernel
theorem dJ3_checkIndex_0 : decode cJ3_checkIndex 0 = .ok (.iload_n 0, 1) := dk_26 (dk_at dksJ3_checkIndex_0 0 rfl rfl)
theorem dJ3_checkIndex_1 : decode cJ3_checkIndex 1 = .ok (.iload_n 1, 1) := dk_27 (dk_at dksJ3_checkIndex_0 1 rfl rfl)
theorem dJ3_checkIndex_2 : decode cJ3_checkIndex 2 = .ok (.aconst_null, 1) := dk_1 (dk_at dksJ3_checkIndex_0 2 rfl rfl)
theorem dJ3_checkIndex_3 : decode cJ3_checkIndex 3 = .ok (.invokestatic 105, 3) := dk_184 0 105 (dk_at dksJ3_checkIndex_0 3 rfl rfl)
theorem dJ3_checkIndex_6 : decode cJ3_checkIndex 6 = .ok (.ireturn, 1) := dk_172 (dk_at dksJ3_checkIndex_0 6 rfl rfl)
theorem xs_takes : xV yX1_takes "BakedBefore$Time" cX1_takes 2 none 1 := ⟨q1020, q1021, q88, q1022, ⟨rfl, by decide +kernel, by decide +kernel, by decide +kernel⟩, by decide⟩
theorem xs_size : xV yJ2_size "java/util/ArrayList" cJ2_size 1 (some .int) 0 := ⟨q525, q526, q92, q527, ⟨rfl, by decide +kernel, by decide +kernel, by decide +kernel⟩, by decide⟩
theorem xs_isEmpty : xV yJ2_isEmpty "java/util/ArrayList" cJ2_isEmpty 1 (some .boolean) 0 := ⟨q577, q578, q92, q579, ⟨rfl, by decide +kernel, by decide +kernel, by decide +kernel⟩, by decide⟩
theorem xs_get : xV yJ2_get "java/util/ArrayList" cJ2_get 2 (some (.object "java/lang/Object")) 1 := ⟨q529, q530, q92, q531, ⟨rfl, by decide +kernel, by decide +kernel, by decide +kernel⟩, by decide⟩
theorem xs_elementData : xV yJ2_elementData "java/util/ArrayList" cJ2_elementData 2 (some (.object "java/lang/Object")) 1 := ⟨q539, q540, q92, q541, ⟨rfl, by decide +kernel, by decide +kernel, by decide +kernel⟩, by decide⟩
theorem xs_ocheck : xS yJ3_checkIndex cJ3_checkIndex 2 (some .int) 2 := ⟨q533, q104, q534, ⟨by decide +kernel, by decide +kernel, by decide +kernel⟩, by decide⟩
/-- Time.takes: the time a becomes the time b -/
def cTk (ω : CS) (a b : Nat) : CS := cA (cC ω (5 + 2 * a) (va_cpy (ω.1.1 (5 + 2 * b)) (ω.1.1 (5 + 2 * a)) 0 0 4)) (4 + 2 * a) 1 (ω.1.1 (4 + 2 * b) 1)
def cNew (ω : CS) (a : Nat) (e : va_E) : CS := (ω.1, (ω.2.1 ++ [a], va_up ω.2.2 a e))
def lofK (kind : Int32) : Nat := if kind = 1 then 8 else if kind = 2 then 9 else if kind = 3 then 10 else if kind = 4 then 11 else if kind = 5 then 12 else if kind = 6 then 13 else 7
theorem ks_takes (l : Launch) (D : va_G) (T : xT) (q : Nat → Nat) (ω : CS) {a b : Nat} (ha : a < 10) (hb : b < 10) : XM l D T yX1_takes cX1_takes 2 none 3 0 0 [.ref (q (4 + 2 * a)), .ref (q (4 + 2 * b))] (cw T q ω) (fun v w => v = none ∧ w = cw T q (cTk ω a b)) := by
  refine XM.start (by decide +kernel) (Nat.le_of_ble_eq_true rfl) (fun Γ G X _ hl_ => ?_)
  subst hl_
  refine K.less [0, 1] (lv' := [(0, .ref (q (4 + 2 * a))), (1, .ref (q (4 + 2 * b)))]) rfl ?_
  refine k_aload_n G dX1_takes_0 rfl ?_
  refine kc_held G hb (Or.inl q146) dX1_takes_1 ?_
  refine k_iconst G (v := 0) dX1_takes_4 (by decide) ?_
  refine k_aload_n G dX1_takes_5 rfl ?_
  refine kc_held G ha (Or.inl q146) dX1_takes_6 ?_
  refine k_iconst G (v := 0) dX1_takes_9 (by decide) ?_
  refine k_iconst G (v := 4) dX1_takes_10 (by decide) ?_
  refine kc_copyI G (ty := .int) (cI_time hb) (cI_time ha) rfl rfl q1023 dX1_takes_11 (by decide +kernel) (fun _ _ => rfl) (Nat.le_of_ble_eq_true rfl) (Nat.le_of_ble_eq_true rfl) ?_
  refine k_aload_n G dX1_takes_14 rfl ?_
  refine k_aload_n G dX1_takes_15 rfl ?_
  refine kc_hour G hb (Or.inl q148) dX1_takes_16 ?_
  refine kc_putHour G ha (Or.inl q148) dX1_takes_19 ?_
  refine k_vret G X dX1_takes_22 (Nat.le_refl _) (Nat.le_refl _) ⟨rfl, ?_⟩
  have e : ((cC ω (5 + 2 * a) (va_cpy (ω.1.1 (5 + 2 * b)) (ω.1.1 (5 + 2 * a)) 0 0 4)).1.1 (4 + 2 * b) 1) = ω.1.1 (4 + 2 * b) 1 := by simp only [cC]; rw [if_neg (by omega)]
  show cw T q (cA (cC ω (5 + 2 * a) (va_cpy (ω.1.1 (5 + 2 * b)) (ω.1.1 (5 + 2 * a)) 0 0 4)) (4 + 2 * a) 1 ((cC ω (5 + 2 * a) (va_cpy (ω.1.1 (5 + 2 * b)) (ω.1.1 (5 + 2 * a)) 0 0 4)).1.1 (4 + 2 * b) 1)) = _
  rw [e]; rfl
section KT1
variable {D : va_G} {T : xT} {Γ : xE} {cc : ByteArray} {own : String} {nL lev mc ms : Nat} {ret : Option FieldType} {cells slots pc : Nat} {lv : List (Nat × Value)} {st : List Value} {q : Nat → Nat} {ω : CS}
theorem kl_takes (G : xG D T Γ cc own nL ret lev mc ms) {idx a b : Nat} (ha : a < 10) (hb : b < 10) (hlink : Cond.methodLink own idx ⟨"BakedBefore$Time", "takes", "(LBakedBefore$Time;)V"⟩ ∈ lw_all) (d : decode cc pc = .ok (.invokevirtual idx, 3)) (hcat : (st.map fun v => v.category).sum ≤ 8) (hlev : 4 ≤ lev) (hroom : cells ≤ mc ∧ slots ≤ ms) (kk : K D Γ cells slots (pc + 3) lv st (cw T q (cTk ω a b))) : K D Γ cells slots pc lv (.ref (q (4 + 2 * b)) :: .ref (q (4 + 2 * a)) :: st) (cw T q ω) :=
  k_callVw G (As := [.ref (q (4 + 2 * b))]) (rest := st) (C := RX1) (ks_takes _ D T q ω ha hb) xs_takes hlink rfl rfl hcat (by omega) hroom ⟨4 + 2 * a, 1, _, TX1, 2, cw_at (cT_at ha T q ω.1), rfl⟩ d (fun v w hp => by
    obtain ⟨rfl, rfl⟩ := hp
    exact kk)
theorem kl_cold (G : xG D T Γ cc own nL ret lev mc ms) {idx : Nat} {r : Option Nat} {κ : KD} (h : kilR T ω r κ) (hlink : xFl own idx RX2 TX2 4) (d : decode cc pc = .ok (.getfield idx, 3)) (kk : K D Γ cells slots (pc + 3) lv (.int κ.2.2.2 :: st) (cw T q ω)) : K D Γ cells slots pc lv (va_rf r :: st) (cw T q ω) := by
  obtain ⟨a, rfl, ha, tk, mo, fe, many, hg, -⟩ := h
  obtain ⟨p, hp⟩ := cw_pos (T := T) (q := q) ha
  rw [hg] at hp
  exact k_get G ci_X2 hp (by decide) hlink (fun _ h => h) rfl d kk
theorem k_cast {ws : va_W} (G : xG D T Γ cc own nL ret lev mc ms) {idx p a ci N : Nat} {fs : List Value} {C nm : String} {TT : u_T} (hlink : Cond.classLink own idx nm ∈ lw_all) (he : ws[p]? = some (a, .inr (ci, fs))) (hc : xcl[ci]? = some (C, TT, N)) (hasg : C = nm ∨ (C, nm) ∈ xcast) (d : decode cc pc = .ok (.checkcast idx, 3)) (kk : K D Γ cells slots (pc + 3) lv (.ref a :: st) ws) : K D Γ cells slots pc lv (.ref a :: st) ws := by
  intro H locs ls hP hD hS hl
  have hr := va_recv G.2.2.2.2.2.2.2.2.1.1 hP hc he
  rcases hasg with e | e
  · subst e
    exact va_castE G.1 G.2.1 G.2.2.2.2.2.1 (G.2.2.2.2.2.2.1 _ hlink) hr d (kk H locs ls hP hD hS hl)
  · exact va_castY G.1 G.2.1 G.2.2.2.2.2.1 (G.2.2.2.2.2.2.1 _ hlink) (G.2.2.2.2.2.2.2.2.1.2.1.1 _ e) hr d (kk H locs ls hP hD hS hl)
theorem k_aald {ws : va_W} (G : xG D T Γ cc own nL ret lev mc ms) {p t a n b : Nat} {cA : ClassId} {C : String} {f : Nat → Option Nat} (he : ws[p]? = some (a, .inl (cA, n, .inr (.inr (.inr (.inr f)))))) (ht : (xtys T.1)[t]? = some (cA, .object C)) {i : Int32} (d : decode cc pc = .ok (.aaload, 1)) (hin : vp_in i n) (hb : f i.toNatClampNeg = some b) (kk : K D Γ cells slots (pc + 1) lv (.ref b :: st) ws) : K D Γ cells slots pc lv (.int i :: .ref a :: st) ws := fun H locs ls hP hD hS hl => va_aldq G.1 G.2.1 G.2.2.2.2.2.2.2.2.1.1 hP p t he ht hin d (by rw [hb]; exact kk H locs ls hP hD hS hl)
end KT1
theorem al_pos {T : xT} {q : Nat → Nat} {ω : CS} {al : Nat} {xs : List Nat} (h : alR T ω.2.1 ω.2.2 al xs) : ∃ (p arr : Nat) (mc : Int32), (cw T q ω)[p]? = some (al, .inr (20, [.int mc, .ref arr, .int (nI xs.length)])) := by
  obtain ⟨h1, arr, mc, h2, -⟩ := h
  obtain ⟨p, hp⟩ := cw_pos (T := T) (q := q) h1
  rw [h2] at hp
  exact ⟨p, arr, mc, hp⟩
theorem xnI_toInt {n : Nat} (h : n ≤ 100000) : (nI n).toInt = (n : Int) := by
  exact nI_toInt (by omega)
theorem i32_nat {i : Int32} (h : 0 ≤ i) : i.toInt = (i.toNatClampNeg : Int) := by
  have h2 : (0 : Int) ≤ i.toInt := Int32.le_iff_toInt_le.mp h
  show i.toInt = ((i.toInt.toNat : Nat) : Int)
  omega
theorem xnI_lt {i : Int32} {n : Nat} (h : n ≤ 100000) (h0 : 0 ≤ i) : i < nI n ↔ i.toNatClampNeg < n := by
  rw [Int32.lt_iff_toInt_lt, xnI_toInt h, i32_nat h0]
  omega
theorem al_len {T : xT} {ω : CS} {al : Nat} {xs : List Nat} (h : alR T ω.2.1 ω.2.2 al xs) : xs.length ≤ 100000 := by
  obtain ⟨-, -, -, -, h, -⟩ := h
  exact h
theorem ks_size (l : Launch) (D : va_G) (T : xT) (q : Nat → Nat) (ω : CS) {al : Nat} {xs : List Nat} (h : alR T ω.2.1 ω.2.2 al xs) : XM l D T yJ2_size cJ2_size 1 (some .int) 1 0 0 [.ref al] (cw T q ω) (fun v w => v = some (.int (nI xs.length)) ∧ w = cw T q ω) := by
  refine XM.start (by decide +kernel) (Nat.le_of_ble_eq_true rfl) (fun Γ G X _ hl_ => ?_)
  subst hl_
  refine K.less [0] (lv' := [(0, .ref al)]) rfl ?_
  obtain ⟨p, arr, mc, hp⟩ := al_pos (q := q) h
  refine k_aload_n G dJ2_size_0 rfl ?_
  refine k_get G (k := 2) ci_J2 hp (by decide) (Or.inl q177) (fun _ h => h) rfl dJ2_size_1 ?_
  exact k_iret G X dJ2_size_4 (Nat.le_refl _) (Nat.le_refl _) ⟨rfl, rfl⟩
theorem ks_isEmpty (l : Launch) (D : va_G) (T : xT) (q : Nat → Nat) (ω : CS) {al : Nat} {xs : List Nat} (h : alR T ω.2.1 ω.2.2 al xs) : XM l D T yJ2_isEmpty cJ2_isEmpty 1 (some .boolean) 1 0 0 [.ref al] (cw T q ω) (fun v w => v = some (.int (if xs.length = 0 then 1 else 0)) ∧ w = cw T q ω) := by
  refine XM.start (by decide +kernel) (Nat.le_of_ble_eq_true rfl) (fun Γ G X _ hl_ => ?_)
  subst hl_
  refine K.less [0] (lv' := [(0, .ref al)]) rfl ?_
  obtain ⟨p, arr, mc, hp⟩ := al_pos (q := q) h
  have e0 : nI xs.length = 0 ↔ xs.length = 0 := by rw [← Int32.toInt_inj, xnI_toInt (al_len h)]; simp
  refine k_aload_n G dJ2_isEmpty_0 rfl ?_
  refine k_get G (k := 2) ci_J2 hp (by decide) (Or.inl q177) (fun _ h => h) rfl dJ2_isEmpty_1 ?_
  refine k_if_ne G 11 dJ2_isEmpty_4 (by decide) (fun c4 => ?_) (fun c4 => ?_)
  · refine k_iconst G (v := 0) dJ2_isEmpty_11 (by decide) ?_
    exact k_zret G X (Or.inl rfl) dJ2_isEmpty_12 (Nat.le_refl _) (Nat.le_refl _) ⟨by rw [if_neg (fun z => c4 (e0.mpr z))], rfl⟩
  · refine k_iconst G (v := 1) dJ2_isEmpty_7 (by decide) ?_
    refine k_goto G 12 dJ2_isEmpty_8 (by decide) ?_
    exact k_zret G X (Or.inr rfl) dJ2_isEmpty_12 (Nat.le_refl _) (Nat.le_refl _) ⟨by rw [if_pos (e0.mp c4)], rfl⟩
theorem ks_elementData (l : Launch) (D : va_G) (T : xT) (q : Nat → Nat) (ω : CS) {al : Nat} {xs : List Nat} (h : alR T ω.2.1 ω.2.2 al xs) {i : Int32} {a : Nat} (h0 : 0 ≤ i) (hx : xs[i.toNatClampNeg]? = some a) : XM l D T yJ2_elementData cJ2_elementData 2 (some (.object "java/lang/Object")) 1 0 0 [.ref al, .int i] (cw T q ω) (fun v w => v = some (.ref a) ∧ w = cw T q ω) := by
  refine XM.start (by decide +kernel) (Nat.le_of_ble_eq_true rfl) (fun Γ G X _ hl_ => ?_)
  subst hl_
  refine K.less [0, 1] (lv' := [(0, .ref al), (1, .int i)]) rfl ?_
  obtain ⟨h1, arr, mc, h2, h3, h4⟩ := h
  have hlt : i.toNatClampNeg < xs.length := (List.getElem?_eq_some_iff.mp hx).1
  rcases h4 with ⟨-, rfl⟩ | ⟨h5, cap, f, h6, h7, h8, h9, h10⟩
  · exact absurd hlt (Nat.not_lt_zero _)
  obtain ⟨p, hp⟩ := cw_pos (T := T) (q := q) h1
  rw [h2] at hp
  obtain ⟨p2, hp2⟩ := cw_pos (T := T) (q := q) h5
  rw [h6] at hp2
  refine k_aload_n G dJ2_elementData_0 rfl ?_
  refine k_get G (k := 1) ci_J2 hp (by decide) (Or.inl q176) (fun _ h => h) rfl dJ2_elementData_1 ?_
  refine k_iload_n G dJ2_elementData_4 rfl ?_
  refine k_aald G (t := 8) hp2 rfl dJ2_elementData_5 (fun z => z.elim (fun z => absurd h0 (Int32.not_le.mpr z)) (fun z => absurd (Nat.lt_of_lt_of_le hlt h7) (Nat.not_lt.mpr z))) (h10 _ _ hx) ?_
  exact k_aret G X (Or.inl ⟨_, rfl⟩) (r := some a) dJ2_elementData_6 (Nat.le_refl _) (Nat.le_refl _) ⟨rfl, rfl⟩
theorem ks_ocheck (l : Launch) (D : va_G) (T : xT) {i n : Int32} (h0 : 0 ≤ i) (h1 : i < n) : XS0 l D T yJ3_checkIndex cJ3_checkIndex 2 (some .int) 2 [.int i, .int n] (.int i) := by
  refine XM.start (by decide +kernel) (Nat.le_of_ble_eq_true rfl) (fun Γ G X _ hl_ => ?_)
  subst hl_
  refine K.less [0, 1] (lv' := [(0, .int i), (1, .int n)]) rfl ?_
  refine k_iload_n G dJ3_checkIndex_0 rfl ?_
  refine k_iload_n G dJ3_checkIndex_1 rfl ?_
  refine k_null G dJ3_checkIndex_2 ?_
  refine k_callSp G (As := [.int i, .int n, va_rf none]) (rest := []) (st_pre _ D T h0 h1) xs_pre q535 rfl rfl (Nat.le_of_ble_eq_true rfl) (Nat.le_of_ble_eq_true rfl) ⟨(Nat.le_refl _), (Nat.le_refl _)⟩ dJ3_checkIndex_3 ?_
  exact k_iret G X dJ3_checkIndex_6 (Nat.le_refl _) (Nat.le_refl _) ⟨rfl, rfl⟩
theorem ks_get (l : Launch) (D : va_G) (T : xT) (q : Nat → Nat) (ω : CS) {al : Nat} {xs : List Nat} (h : alR T ω.2.1 ω.2.2 al xs) {i : Int32} {a : Nat} (h0 : 0 ≤ i) (hx : xs[i.toNatClampNeg]? = some a) : XM l D T yJ2_get cJ2_get 2 (some (.object "java/lang/Object")) 4 0 0 [.ref al, .int i] (cw T q ω) (fun v w => v = some (.ref a) ∧ w = cw T q ω) := by
  refine XM.start (by decide +kernel) (Nat.le_of_ble_eq_true rfl) (fun Γ G X _ hl_ => ?_)
  subst hl_
  refine K.less [0, 1] (lv' := [(0, .ref al), (1, .int i)]) rfl ?_
  have hlt : i.toNatClampNeg < xs.length := (List.getElem?_eq_some_iff.mp hx).1
  obtain ⟨p, arr, mc, hp⟩ := al_pos (q := q) h
  refine k_iload_n G dJ2_get_0 rfl ?_
  refine k_aload_n G dJ2_get_1 rfl ?_
  refine k_get G (k := 2) ci_J2 hp (by decide) (Or.inl q177) (fun _ h => h) rfl dJ2_get_2 ?_
  refine k_callSp G (As := [.int i, .int (nI xs.length)]) (rest := []) (ks_ocheck _ D T h0 ((xnI_lt (al_len h) h0).mpr hlt)) xs_ocheck q532 rfl rfl (Nat.le_of_ble_eq_true rfl) (Nat.le_of_ble_eq_true rfl) ⟨(Nat.le_refl _), (Nat.le_refl _)⟩ dJ2_get_5 ?_
  refine k_pop G dJ2_get_8 rfl ?_
  refine k_aload_n G dJ2_get_9 rfl ?_
  refine k_iload_n G dJ2_get_10 rfl ?_
  refine k_callVw G (As := [.int i]) (rest := []) (C := RJ2) (ks_elementData _ D T q ω h h0 hx) xs_elementData q538 rfl rfl (Nat.le_of_ble_eq_true rfl) (Nat.le_of_ble_eq_true rfl) ⟨(Nat.le_refl _), (Nat.le_refl _)⟩ ⟨p, 20, _, TJ2, 3, hp, rfl⟩ dJ2_get_11 (fun v w hq => ?_)
  obtain ⟨rfl, rfl⟩ := hq
  exact k_aret G X (Or.inl ⟨_, rfl⟩) (r := some a) dJ2_get_14 (Nat.le_refl _) (Nat.le_refl _) ⟨rfl, rfl⟩
section KT2
variable {D : va_G} {T : xT} {Γ : xE} {cc : ByteArray} {own : String} {nL lev mc ms : Nat} {ret : Option FieldType} {cells slots pc : Nat} {lv : List (Nat × Value)} {st : List Value} {q : Nat → Nat} {ω : CS}
theorem kal_size (G : xG D T Γ cc own nL ret lev mc ms) {idx : Nat} {al : Nat} {xs : List Nat} (h : alR T ω.2.1 ω.2.2 al xs)  (hlink : Cond.methodLink own idx ⟨"java/util/ArrayList", "size", "()I"⟩ ∈ lw_all) (d : decode cc pc = .ok (.invokevirtual idx, 3)) (hcat : (st.map fun v => v.category).sum ≤ 8) (hlev : 2 ≤ lev) (hroom : cells ≤ mc ∧ slots ≤ ms) (kk : K D Γ cells slots (pc + 3) lv (.int (nI xs.length) :: st) (cw T q ω)) : K D Γ cells slots pc lv (.ref al :: st) (cw T q ω) := by
  obtain ⟨p, arr, mc, hp⟩ := al_pos (q := q) h
  exact k_callVw G (As := []) (rest := st) (C := RJ2) (ks_size _ D T q ω h) xs_size hlink rfl rfl hcat (by omega) hroom ⟨p, 20, _, TJ2, 3, hp, rfl⟩ d (fun v w hp => by
    obtain ⟨rfl, rfl⟩ := hp
    exact kk)
theorem kal_isEmpty (G : xG D T Γ cc own nL ret lev mc ms) {idx : Nat} {al : Nat} {xs : List Nat} (h : alR T ω.2.1 ω.2.2 al xs)  (hlink : Cond.methodLink own idx ⟨"java/util/ArrayList", "isEmpty", "()Z"⟩ ∈ lw_all) (d : decode cc pc = .ok (.invokevirtual idx, 3)) (hcat : (st.map fun v => v.category).sum ≤ 8) (hlev : 2 ≤ lev) (hroom : cells ≤ mc ∧ slots ≤ ms) (kk : K D Γ cells slots (pc + 3) lv (.int (if xs.length = 0 then 1 else 0) :: st) (cw T q ω)) : K D Γ cells slots pc lv (.ref al :: st) (cw T q ω) := by
  obtain ⟨p, arr, mc, hp⟩ := al_pos (q := q) h
  exact k_callVw G (As := []) (rest := st) (C := RJ2) (ks_isEmpty _ D T q ω h) xs_isEmpty hlink rfl rfl hcat (by omega) hroom ⟨p, 20, _, TJ2, 3, hp, rfl⟩ d (fun v w hp => by
    obtain ⟨rfl, rfl⟩ := hp
    exact kk)
theorem kal_get (G : xG D T Γ cc own nL ret lev mc ms) {idx : Nat} {al : Nat} {xs : List Nat} (h : alR T ω.2.1 ω.2.2 al xs) {i : Int32} {a : Nat} (h0 : 0 ≤ i) (hx : xs[i.toNatClampNeg]? = some a) (hlink : Cond.methodLink own idx ⟨"java/util/ArrayList", "get", "(I)Ljava/lang/Object;"⟩ ∈ lw_all) (d : decode cc pc = .ok (.invokevirtual idx, 3)) (hcat : (st.map fun v => v.category).sum ≤ 8) (hlev : 5 ≤ lev) (hroom : cells ≤ mc ∧ slots ≤ ms) (kk : K D Γ cells slots (pc + 3) lv (.ref a :: st) (cw T q ω)) : K D Γ cells slots pc lv (.int i :: .ref al :: st) (cw T q ω) := by
  obtain ⟨p, arr, mc, hp⟩ := al_pos (q := q) h
  exact k_callVw G (As := [.int i]) (rest := st) (C := RJ2) (ks_get _ D T q ω h h0 hx) xs_get hlink rfl rfl hcat (by omega) hroom ⟨p, 20, _, TJ2, 3, hp, rfl⟩ d (fun v w hp => by
    obtain ⟨rfl, rfl⟩ := hp
    exact kk)
end KT2
abbrev cX18_holds : ByteArray := prog_16_method_2_code
def yX18_holds : MethodName := ⟨RX18, "holds", "(LBakedBefore$Look;)Z"⟩
def dkwX18_holds_2 : List UInt8 := [132, 2, 1, 167, 255, 207, 42, 180, 0, 16, 172]
abbrev dktX18_holds_2 : List UInt8 := dkwX18_holds_2 ++ []
def dkwX18_holds_1 : List UInt8 := [43, 182, 0, 28, 42, 180, 0, 16, 159, 0, 16, 42, 180, 0, 16, 154, 0, 7, 4, 167, 0, 4, 3, 172]
abbrev dktX18_holds_1 : List UInt8 := dkwX18_holds_1 ++ dktX18_holds_2
def dkwX18_holds_0 : List UInt8 := [3, 61, 28, 42, 180, 0, 10, 182, 0, 20, 162, 0, 44, 42, 180, 0, 10, 28, 182, 0, 24, 192, 0, 2]
abbrev dktX18_holds_0 : List UInt8 := dkwX18_holds_0 ++ dktX18_holds_1
theorem dksX18_holds_0 : cX18_holds.data.toList.drop 0 = dktX18_holds_0 := by decide +kernel
theorem dksX18_holds_1 : cX18_holds.data.toList.drop 24 = dktX18_holds_1 := dk_seg dksX18_holds_0 24 rfl rfl
theorem dksX18_holds_2 : cX18_holds.data.toList.drop 48 = dktX18_holds_2 := dk_seg dksX18_holds_1 24 rfl rfl
theorem dX18_holds_0 : decode cX18_holds 0 = .ok (.iconst 0, 1) := dk_3 (dk_at dksX18_holds_0 0 rfl rfl)
theorem dX18_holds_1 : decode cX18_holds 1 = .ok (.istore_n 2, 1) := dk_61 (dk_at dksX18_holds_0 1 rfl rfl)
theorem dX18_holds_2 : decode cX18_holds 2 = .ok (.iload_n 2, 1) := dk_28 (dk_at dksX18_holds_0 2 rfl rfl)
theorem dX18_holds_3 : decode cX18_holds 3 = .ok (.aload_n 0, 1) := dk_42 (dk_at dksX18_holds_0 3 rfl rfl)
theorem dX18_holds_4 : decode cX18_holds 4 = .ok (.getfield 10, 3) := dk_180 0 10 (dk_at dksX18_holds_0 4 rfl rfl)
theorem dX18_holds_7 : decode cX18_holds 7 = .ok (.invokevirtual 20, 3) := dk_182 0 20 (dk_at dksX18_holds_0 7 rfl rfl)
theorem dX18_holds_10 : decode cX18_holds 10 = .ok (.if_icmp .ge 44, 3) := dk_162 0 44 (dk_at dksX18_holds_0 10 rfl rfl)
theorem dX18_holds_13 : decode cX18_holds 13 = .ok (.aload_n 0, 1) := dk_42 (dk_at dksX18_holds_0 13 rfl rfl)
theorem dX18_holds_14 : decode cX18_holds 14 = .ok (.getfield 10, 3) := dk_180 0 10 (dk_at dksX18_holds_0 14 rfl rfl)
theorem dX18_holds_17 : decode cX18_holds 17 = .ok (.iload_n 2, 1) := dk_28 (dk_at dksX18_holds_0 17 rfl rfl)
theorem dX18_holds_18 : decode cX18_holds 18 = .ok (.invokevirtual 24, 3) := dk_182 0 24 (dk_at dksX18_holds_0 18 rfl rfl)
theorem dX18_holds_21 : decode cX18_holds 21 = .ok (.checkcast 2, 3) := dk_192 0 2 (dk_at dksX18_holds_0 21 rfl rfl)
theorem dX18_holds_24 : decode cX18_holds 24 = .ok (.aload_n 1, 1) := dk_43 (dk_at dksX18_holds_1 0 rfl rfl)
theorem dX18_holds_25 : decode cX18_holds 25 = .ok (.invokevirtual 28, 3) := dk_182 0 28 (dk_at dksX18_holds_1 1 rfl rfl)
theorem dX18_holds_28 : decode cX18_holds 28 = .ok (.aload_n 0, 1) := dk_42 (dk_at dksX18_holds_1 4 rfl rfl)
theorem dX18_holds_29 : decode cX18_holds 29 = .ok (.getfield 16, 3) := dk_180 0 16 (dk_at dksX18_holds_1 5 rfl rfl)
theorem dX18_holds_32 : decode cX18_holds 32 = .ok (.if_icmp .eq 16, 3) := dk_159 0 16 (dk_at dksX18_holds_1 8 rfl rfl)
theorem dX18_holds_35 : decode cX18_holds 35 = .ok (.aload_n 0, 1) := dk_42 (dk_at dksX18_holds_1 11 rfl rfl)
theorem dX18_holds_36 : decode cX18_holds 36 = .ok (.getfield 16, 3) := dk_180 0 16 (dk_at dksX18_holds_1 12 rfl rfl)
theorem dX18_holds_39 : decode cX18_holds 39 = .ok (.ifCond .ne 7, 3) := dk_154 0 7 (dk_at dksX18_holds_1 15 rfl rfl)
theorem dX18_holds_42 : decode cX18_holds 42 = .ok (.iconst 1, 1) := dk_4 (dk_at dksX18_holds_1 18 rfl rfl)
theorem dX18_holds_43 : decode cX18_holds 43 = .ok (.goto 4, 3) := dk_167 0 4 (dk_at dksX18_holds_1 19 rfl rfl)
theorem dX18_holds_46 : decode cX18_holds 46 = .ok (.iconst 0, 1) := dk_3 (dk_at dksX18_holds_1 22 rfl rfl)
theorem dX18_holds_47 : decode cX18_holds 47 = .ok (.ireturn, 1) := dk_172 (dk_at dksX18_holds_1 23 rfl rfl)
theorem dX18_holds_48 : decode cX18_holds 48 = .ok (.iinc 2 1, 3) := dk_132 2 1 (dk_at dksX18_holds_2 0 rfl rfl)
theorem dX18_holds_51 : decode cX18_holds 51 = .ok (.goto (-49), 3) := dk_167 255 207 (dk_at dksX18_holds_2 3 rfl rfl)
theorem dX18_holds_54 : decode cX18_holds 54 = .ok (.aload_n 0, 1) := dk_42 (dk_at dksX18_holds_2 6 rfl rfl)
theorem dX18_holds_55 : decode cX18_holds 55 = .ok (.getfield 16, 3) := dk_180 0 16 (dk_at dksX18_holds_2 7 rfl rfl)
theorem dX18_holds_58 : decode cX18_holds 58 = .ok (.ireturn, 1) := dk_172 (dk_at dksX18_holds_2 10 rfl rfl)
abbrev cX19_holds : ByteArray := prog_10_method_2_code
def yX19_holds : MethodName := ⟨RX19, "holds", "(LBakedBefore$Look;)Z"⟩
def dkwX19_holds_0 : List UInt8 := [42, 180, 0, 7, 43, 182, 0, 13, 154, 0, 7, 4, 167, 0, 4, 3, 172]
abbrev dktX19_holds_0 : List UInt8 := dkwX19_holds_0 ++ []
theorem dksX19_holds_0 : cX19_holds.data.toList.drop 0 = dktX19_holds_0 := by decide +kernel
theorem dX19_holds_0 : decode cX19_holds 0 = .ok (.aload_n 0, 1) := dk_42 (dk_at dksX19_holds_0 0 rfl rfl)
theorem dX19_holds_1 : decode cX19_holds 1 = .ok (.getfield 7, 3) := dk_180 0 7 (dk_at dksX19_holds_0 1 rfl rfl)
theorem dX19_holds_4 : decode cX19_holds 4 = .ok (.aload_n 1, 1) := dk_43 (dk_at dksX19_holds_0 4 rfl rfl)
theorem dX19_holds_5 : decode cX19_holds 5 = .ok (.invokevirtual 13, 3) := dk_182 0 13 (dk_at dksX19_holds_0 5 rfl rfl)
theorem dX19_holds_8 : decode cX19_holds 8 = .ok (.ifCond .ne 7, 3) := dk_154 0 7 (dk_at dksX19_holds_0 8 rfl rfl)
theorem dX19_holds_11 : decode cX19_holds 11 = .ok (.iconst 1, 1) := dk_4 (dk_at dksX19_holds_0 11 rfl rfl)
theorem dX19_holds_12 : decode cX19_holds 12 = .ok (.goto 4, 3) := dk_167 0 4 (dk_at dksX19_holds_0 12 rfl rfl)
theorem dX19_holds_15 : decode cX19_holds 15 = .ok (.iconst 0, 1) := dk_3 (dk_at dksX19_holds_0 15 rfl rfl)
theorem dX19_holds_16 : decode cX19_holds 16 = .ok (.ireturn, 1) := dk_172 (dk_at dksX19_holds_0 16 rfl rfl)
abbrev cX20_holds : ByteArray := prog_2_method_2_code
def yX20_holds : MethodName := ⟨RX20, "holds", "(LBakedBefore$Look;)Z"⟩
def dkwX20_holds_3 : List UInt8 := [182, 0, 19, 42, 180, 0, 16, 164, 0, 7, 4, 167, 0, 4, 3, 172]
abbrev dktX20_holds_3 : List UInt8 := dkwX20_holds_3 ++ []
def dkwX20_holds_2 : List UInt8 := [182, 0, 19, 42, 180, 0, 16, 160, 0, 7, 4, 167, 0, 27, 3, 167, 0, 23, 43, 42, 180, 0, 7]
abbrev dktX20_holds_2 : List UInt8 := dkwX20_holds_2 ++ dktX20_holds_3
def dkwX20_holds_1 : List UInt8 := [4, 167, 0, 59, 3, 167, 0, 55, 42, 180, 0, 13, 16, 61, 160, 0, 26, 43, 42, 180, 0, 7]
abbrev dktX20_holds_1 : List UInt8 := dkwX20_holds_1 ++ dktX20_holds_2
def dkwX20_holds_0 : List UInt8 := [42, 180, 0, 13, 16, 60, 160, 0, 26, 43, 42, 180, 0, 7, 182, 0, 19, 42, 180, 0, 16, 162, 0, 7]
abbrev dktX20_holds_0 : List UInt8 := dkwX20_holds_0 ++ dktX20_holds_1
theorem dksX20_holds_0 : cX20_holds.data.toList.drop 0 = dktX20_holds_0 := by decide +kernel
theorem dksX20_holds_1 : cX20_holds.data.toList.drop 24 = dktX20_holds_1 := dk_seg dksX20_holds_0 24 rfl rfl
theorem dksX20_holds_2 : cX20_holds.data.toList.drop 46 = dktX20_holds_2 := dk_seg dksX20_holds_1 22 rfl rfl
theorem dksX20_holds_3 : cX20_holds.data.toList.drop 69 = dktX20_holds_3 := dk_seg dksX20_holds_2 23 rfl rfl
theorem dX20_holds_0 : decode cX20_holds 0 = .ok (.aload_n 0, 1) := dk_42 (dk_at dksX20_holds_0 0 rfl rfl)
theorem dX20_holds_1 : decode cX20_holds 1 = .ok (.getfield 13, 3) := dk_180 0 13 (dk_at dksX20_holds_0 1 rfl rfl)
theorem dX20_holds_4 : decode cX20_holds 4 = .ok (.bipush 60, 2) := dk_16 60 (dk_at dksX20_holds_0 4 rfl rfl)
theorem dX20_holds_6 : decode cX20_holds 6 = .ok (.if_icmp .ne 26, 3) := dk_160 0 26 (dk_at dksX20_holds_0 6 rfl rfl)
theorem dX20_holds_9 : decode cX20_holds 9 = .ok (.aload_n 1, 1) := dk_43 (dk_at dksX20_holds_0 9 rfl rfl)
theorem dX20_holds_10 : decode cX20_holds 10 = .ok (.aload_n 0, 1) := dk_42 (dk_at dksX20_holds_0 10 rfl rfl)
theorem dX20_holds_11 : decode cX20_holds 11 = .ok (.getfield 7, 3) := dk_180 0 7 (dk_at dksX20_holds_0 11 rfl rfl)
theorem dX20_holds_14 : decode cX20_holds 14 = .ok (.invokevirtual 19, 3) := dk_182 0 19 (dk_at dksX20_holds_0 14 rfl rfl)
theorem dX20_holds_17 : decode cX20_holds 17 = .ok (.aload_n 0, 1) := dk_42 (dk_at dksX20_holds_0 17 rfl rfl)
theorem dX20_holds_18 : decode cX20_holds 18 = .ok (.getfield 16, 3) := dk_180 0 16 (dk_at dksX20_holds_0 18 rfl rfl)
theorem dX20_holds_21 : decode cX20_holds 21 = .ok (.if_icmp .ge 7, 3) := dk_162 0 7 (dk_at dksX20_holds_0 21 rfl rfl)
theorem dX20_holds_24 : decode cX20_holds 24 = .ok (.iconst 1, 1) := dk_4 (dk_at dksX20_holds_1 0 rfl rfl)
theorem dX20_holds_25 : decode cX20_holds 25 = .ok (.goto 59, 3) := dk_167 0 59 (dk_at dksX20_holds_1 1 rfl rfl)
theorem dX20_holds_28 : decode cX20_holds 28 = .ok (.iconst 0, 1) := dk_3 (dk_at dksX20_holds_1 4 rfl rfl)
theorem dX20_holds_29 : decode cX20_holds 29 = .ok (.goto 55, 3) := dk_167 0 55 (dk_at dksX20_holds_1 5 rfl rfl)
theorem dX20_holds_32 : decode cX20_holds 32 = .ok (.aload_n 0, 1) := dk_42 (dk_at dksX20_holds_1 8 rfl rfl)
theorem dX20_holds_33 : decode cX20_holds 33 = .ok (.getfield 13, 3) := dk_180 0 13 (dk_at dksX20_holds_1 9 rfl rfl)
theorem dX20_holds_36 : decode cX20_holds 36 = .ok (.bipush 61, 2) := dk_16 61 (dk_at dksX20_holds_1 12 rfl rfl)
theorem dX20_holds_38 : decode cX20_holds 38 = .ok (.if_icmp .ne 26, 3) := dk_160 0 26 (dk_at dksX20_holds_1 14 rfl rfl)
theorem dX20_holds_41 : decode cX20_holds 41 = .ok (.aload_n 1, 1) := dk_43 (dk_at dksX20_holds_1 17 rfl rfl)
theorem dX20_holds_42 : decode cX20_holds 42 = .ok (.aload_n 0, 1) := dk_42 (dk_at dksX20_holds_1 18 rfl rfl)
theorem dX20_holds_43 : decode cX20_holds 43 = .ok (.getfield 7, 3) := dk_180 0 7 (dk_at dksX20_holds_1 19 rfl rfl)
theorem dX20_holds_46 : decode cX20_holds 46 = .ok (.invokevirtual 19, 3) := dk_182 0 19 (dk_at dksX20_holds_2 0 rfl rfl)
theorem dX20_holds_49 : decode cX20_holds 49 = .ok (.aload_n 0, 1) := dk_42 (dk_at dksX20_holds_2 3 rfl rfl)
theorem dX20_holds_50 : decode cX20_holds 50 = .ok (.getfield 16, 3) := dk_180 0 16 (dk_at dksX20_holds_2 4 rfl rfl)
theorem dX20_holds_53 : decode cX20_holds 53 = .ok (.if_icmp .ne 7, 3) := dk_160 0 7 (dk_at dksX20_holds_2 7 rfl rfl)
theorem dX20_holds_56 : decode cX20_holds 56 = .ok (.iconst 1, 1) := dk_4 (dk_at dksX20_holds_2 10 rfl rfl)
theorem dX20_holds_57 : decode cX20_holds 57 = .ok (.goto 27, 3) := dk_167 0 27 (dk_at dksX20_holds_2 11 rfl rfl)
theorem dX20_holds_60 : decode cX20_holds 60 = .ok (.iconst 0, 1) := dk_3 (dk_at dksX20_holds_2 14 rfl rfl)
theorem dX20_holds_61 : decode cX20_holds 61 = .ok (.goto 23, 3) := dk_167 0 23 (dk_at dksX20_holds_2 15 rfl rfl)
theorem dX20_holds_64 : decode cX20_holds 64 = .ok (.aload_n 1, 1) := dk_43 (dk_at dksX20_holds_2 18 rfl rfl)
theorem dX20_holds_65 : decode cX20_holds 65 = .ok (.aload_n 0, 1) := dk_42 (dk_at dksX20_holds_2 19 rfl rfl)
theorem dX20_holds_66 : decode cX20_holds 66 = .ok (.getfield 7, 3) := dk_180 0 7 (dk_at dksX20_holds_2 20 rfl rfl)
theorem dX20_holds_69 : decode cX20_holds 69 = .ok (.invokevirtual 19, 3) := dk_182 0 19 (dk_at dksX20_holds_3 0 rfl rfl)
theorem dX20_holds_72 : decode cX20_holds 72 = .ok (.aload_n 0, 1) := dk_42 (dk_at dksX20_holds_3 3 rfl rfl)
theorem dX20_holds_73 : decode cX20_holds 73 = .ok (.getfield 16, 3) := dk_180 0 16 (dk_at dksX20_holds_3 4 rfl rfl)
theorem dX20_holds_76 : decode cX20_holds 76 = .ok (.if_icmp .le 7, 3) := dk_164 0 7 (dk_at dksX20_holds_3 7 rfl rfl)
theorem dX20_holds_79 : decode cX20_holds 79 = .ok (.iconst 1, 1) := dk_4 (dk_at dksX20_holds_3 10 rfl rfl)
theorem dX20_holds_80 : decode cX20_holds 80 = .ok (.goto 4, 3) := dk_167 0 4 (dk_at dksX20_holds_3 11 rfl rfl)
theorem dX20_holds_83 : decode cX20_holds 83 = .ok (.iconst 0, 1) := dk_3 (dk_at dksX20_holds_3 14 rfl rfl)
theorem dX20_holds_84 : decode cX20_holds 84 = .ok (.ireturn, 1) := dk_172 (dk_at dksX20_holds_3 15 rfl rfl)
theorem xu_Some : xU ⟨"BakedBefore$Test", "holds", "(LBakedBefore$Look;)Z"⟩ "BakedBefore$Test" RX18 yX18_holds cX18_holds 3 (some .boolean) 1 := ⟨q545, q563, q557, q117, q558, (Or.inr (by decide +kernel)), ⟨by decide +kernel, by decide +kernel, by decide +kernel⟩, by decide⟩
theorem xu_Not : xU ⟨"BakedBefore$Test", "holds", "(LBakedBefore$Look;)Z"⟩ "BakedBefore$Test" RX19 yX19_holds cX19_holds 2 (some .boolean) 1 := ⟨q545, q553, q554, q118, q555, (Or.inr (by decide +kernel)), ⟨by decide +kernel, by decide +kernel, by decide +kernel⟩, by decide⟩
theorem xu_Against : xU ⟨"BakedBefore$Test", "holds", "(LBakedBefore$Look;)Z"⟩ "BakedBefore$Test" RX20 yX20_holds cX20_holds 2 (some .boolean) 1 := ⟨q545, q546, q547, q119, q548, (Or.inr (by decide +kernel)), ⟨by decide +kernel, by decide +kernel, by decide +kernel⟩, by decide⟩
def bI (b : Bool) : Int32 := if b = true then 1 else 0
theorem bI_t {b : Bool} (h : b = true) : (1 : Int32) = bI b := by rw [h]; rfl
theorem bI_f {b : Bool} (h : b = false) : (0 : Int32) = bI b := by rw [h]; rfl
theorem bI_01 (b : Bool) : bI b = 0 ∨ bI b = 1 := by cases b; exact Or.inl rfl; exact Or.inr rfl
theorem bI_inj {a b : Bool} : bI a = bI b ↔ a = b := by cases a <;> cases b <;> decide
/-- what a call of Test.holds on a does, anywhere -/
def tHolds (T : xT) (q : Nat → Nat) (ω : CS) (dd a : Nat) (φ : TF1) : Prop := ∀ (D : va_G) (Γ : xE) (cc : ByteArray) (own : String) (nL lev mc ms : Nat) (ret : Option FieldType) (cells slots pc idx : Nat) (lv : List (Nat × Value)) (st : List Value), xG D T Γ cc own nL ret lev mc ms → Cond.methodLink own idx ⟨"BakedBefore$Test", "holds", "(LBakedBefore$Look;)Z"⟩ ∈ lw_all → decode cc pc = .ok (.invokevirtual idx, 3) → (st.map fun v => v.category).sum ≤ 8 → dd + 7 ≤ lev → (cells ≤ mc ∧ slots ≤ ms) → K D Γ cells slots (pc + 3) lv (.int (bI (φ (ω.1.1 25))) :: st) (cw T q ω) → K D Γ cells slots pc lv (.ref (q 25) :: .ref a :: st) (cw T q ω)
theorem of_spec (T : xT) (q : Nat → Nat) (ω : CS) (c : Int32) : ow_of T q ω c (fun r s => r = lkO (ω.1.1 25) c ∧ s = ω) := by
  unfold ow_of lkO
  refine ⟨?_, ?_, ?_, ?_, ?_, ?_⟩
  · intro h; subst h; exact ⟨rfl, rfl⟩
  · intro h; subst h; exact ⟨rfl, rfl⟩
  · intro h; subst h; exact ⟨rfl, rfl⟩
  · intro h; subst h; exact ⟨rfl, rfl⟩
  · intro h; subst h; exact ⟨rfl, rfl⟩
  · intro h1 h2 h3 h4 h5
    rw [if_neg h3, if_neg h2, if_neg h4, if_neg h5, if_neg h1]
    exact ⟨rfl, rfl⟩
theorem ks_not (l : Launch) (D : va_G) (T : xT) (q : Nat → Nat) (ω : CS) {dd a b p : Nat} {φ : TF1} (hp : (cw T q ω)[p]? = some (a, .inr (18, [.ref b]))) (ih : tHolds T q ω dd b φ) : XM l D T yX19_holds cX19_holds 2 (some .boolean) (dd + 7) 0 0 [.ref a, .ref (q 25)] (cw T q ω) (fun v w => v = some (.int (bI (!φ (ω.1.1 25)))) ∧ w = cw T q ω) := by
  refine XM.start (by decide +kernel) (Nat.le_of_ble_eq_true rfl) (fun Γ G X _ hl_ => ?_)
  subst hl_
  refine K.less [0, 1] (lv' := [(0, .ref a), (1, .ref (q 25))]) rfl ?_
  refine k_aload_n G dX19_holds_0 rfl ?_
  refine k_get G (k := 0) ci_X19 hp (by decide) (Or.inl q890) (fun _ h => h) rfl dX19_holds_1 ?_
  refine k_aload_n G dX19_holds_4 rfl ?_
  refine ih D Γ _ _ _ _ _ _ _ _ _ _ _ _ _ G q556 dX19_holds_5 (Nat.le_of_ble_eq_true rfl) (Nat.le_refl _) ⟨(Nat.le_refl _), (Nat.le_refl _)⟩ ?_
  cases hb : φ (ω.1.1 25) with
  | false =>
    refine k_if_ne G 15 dX19_holds_8 (by decide) (fun c8 => absurd c8 (fun h => h rfl)) (fun _ => ?_)
    refine k_iconst G (v := 1) dX19_holds_11 (by decide) ?_
    refine k_goto G 16 dX19_holds_12 (by decide) ?_
    exact k_zret G X (Or.inr rfl) dX19_holds_16 (Nat.le_refl _) (Nat.le_refl _) ⟨by rw [hb]; rfl, rfl⟩
  | true =>
    refine k_if_ne G 15 dX19_holds_8 (by decide) (fun _ => ?_) (fun c8 => absurd c8 (by decide))
    refine k_iconst G (v := 0) dX19_holds_15 (by decide) ?_
    exact k_zret G X (Or.inl rfl) dX19_holds_16 (Nat.le_refl _) (Nat.le_refl _) ⟨by rw [hb]; rfl, rfl⟩
theorem ks_against (l : Launch) (D : va_G) (T : xT) (q : Nat → Nat) (ω : CS) {a p : Nat} {c s n : Int32} (hp : (cw T q ω)[p]? = some (a, .inr (19, [.int c, .int s, .int n]))) : XM l D T yX20_holds cX20_holds 2 (some .boolean) 3 0 0 [.ref a, .ref (q 25)] (cw T q ω) (fun v w => v = some (.int (bI (agF c s n (ω.1.1 25)))) ∧ w = cw T q ω) := by
  refine XM.start (by decide +kernel) (Nat.le_of_ble_eq_true rfl) (fun Γ G X _ hl_ => ?_)
  subst hl_
  refine K.less [0, 1] (lv' := [(0, .ref a), (1, .ref (q 25))]) rfl ?_
  refine k_aload_n G dX20_holds_0 rfl ?_
  refine k_get G (k := 1) ci_X20 hp (by decide) (Or.inl q901) (fun _ h => h) rfl dX20_holds_1 ?_
  refine k_bipush G (v := 60) dX20_holds_4 (by decide) ?_
  refine k_icmp_ne G 32 dX20_holds_6 (by decide) (fun c6 => ?_) (fun c6 => ?_)
  · refine k_aload_n G dX20_holds_32 rfl ?_
    refine k_get G (k := 1) ci_X20 hp (by decide) (Or.inl q901) (fun _ h => h) rfl dX20_holds_33 ?_
    refine k_bipush G (v := 61) dX20_holds_36 (by decide) ?_
    refine k_icmp_ne G 64 dX20_holds_38 (by decide) (fun c38 => ?_) (fun c38 => ?_)
    · refine k_aload_n G dX20_holds_64 rfl ?_
      refine k_aload_n G dX20_holds_65 rfl ?_
      refine k_get G (k := 0) ci_X20 hp (by decide) (Or.inl q900) (fun _ h => h) rfl dX20_holds_66 ?_
      refine k_callVw G (As := [.int c]) (rest := []) (C := RX3) (ok_of _ D T q ω c _ (of_spec T q ω c)) of_of q549 rfl rfl (Nat.le_of_ble_eq_true rfl) (Nat.le_of_ble_eq_true rfl) ⟨(Nat.le_refl _), (Nat.le_refl _)⟩ ⟨25, 3, _, TX3, 6, cw_at (p := 25) rfl, rfl⟩ dX20_holds_69 (fun v w hq => ?_)
      obtain ⟨r, ω1, rfl, rfl, rfl, rfl⟩ := hq
      refine k_aload_n G dX20_holds_72 rfl ?_
      refine k_get G (k := 2) ci_X20 hp (by decide) (Or.inl q902) (fun _ h => h) rfl dX20_holds_73 ?_
      refine k_icmp_le G 83 dX20_holds_76 (by decide) (fun c76 => ?_) (fun c76 => ?_)
      · refine k_iconst G (v := 0) dX20_holds_83 (by decide) ?_
        exact k_zret G X (Or.inl rfl) dX20_holds_84 (Nat.le_refl _) (Nat.le_refl _) ⟨by rw [← bI_f (b := agF c s n _) (by unfold agF; rw [if_neg c6, if_neg c38]; exact decide_eq_false (Int32.not_lt.mpr c76))], rfl⟩
      · refine k_iconst G (v := 1) dX20_holds_79 (by decide) ?_
        refine k_goto G 84 dX20_holds_80 (by decide) ?_
        exact k_zret G X (Or.inr rfl) dX20_holds_84 (Nat.le_refl _) (Nat.le_refl _) ⟨by rw [← bI_t (b := agF c s n _) (by unfold agF; rw [if_neg c6, if_neg c38]; exact decide_eq_true (Int32.not_le.mp c76))], rfl⟩
    · refine k_aload_n G dX20_holds_41 rfl ?_
      refine k_aload_n G dX20_holds_42 rfl ?_
      refine k_get G (k := 0) ci_X20 hp (by decide) (Or.inl q900) (fun _ h => h) rfl dX20_holds_43 ?_
      refine k_callVw G (As := [.int c]) (rest := []) (C := RX3) (ok_of _ D T q ω c _ (of_spec T q ω c)) of_of q549 rfl rfl (Nat.le_of_ble_eq_true rfl) (Nat.le_of_ble_eq_true rfl) ⟨(Nat.le_refl _), (Nat.le_refl _)⟩ ⟨25, 3, _, TX3, 6, cw_at (p := 25) rfl, rfl⟩ dX20_holds_46 (fun v w hq => ?_)
      obtain ⟨r, ω1, rfl, rfl, rfl, rfl⟩ := hq
      refine k_aload_n G dX20_holds_49 rfl ?_
      refine k_get G (k := 2) ci_X20 hp (by decide) (Or.inl q902) (fun _ h => h) rfl dX20_holds_50 ?_
      refine k_icmp_ne G 60 dX20_holds_53 (by decide) (fun c53 => ?_) (fun c53 => ?_)
      · refine k_iconst G (v := 0) dX20_holds_60 (by decide) ?_
        refine k_goto G 84 dX20_holds_61 (by decide) ?_
        exact k_zret G X (Or.inl rfl) dX20_holds_84 (Nat.le_refl _) (Nat.le_refl _) ⟨by rw [← bI_f (b := agF c s n _) (by unfold agF; rw [if_neg c6, if_pos c38]; exact decide_eq_false c53)], rfl⟩
      · refine k_iconst G (v := 1) dX20_holds_56 (by decide) ?_
        refine k_goto G 84 dX20_holds_57 (by decide) ?_
        exact k_zret G X (Or.inr rfl) dX20_holds_84 (Nat.le_refl _) (Nat.le_refl _) ⟨by rw [← bI_t (b := agF c s n _) (by unfold agF; rw [if_neg c6, if_pos c38]; exact decide_eq_true c53)], rfl⟩
  · refine k_aload_n G dX20_holds_9 rfl ?_
    refine k_aload_n G dX20_holds_10 rfl ?_
    refine k_get G (k := 0) ci_X20 hp (by decide) (Or.inl q900) (fun _ h => h) rfl dX20_holds_11 ?_
    refine k_callVw G (As := [.int c]) (rest := []) (C := RX3) (ok_of _ D T q ω c _ (of_spec T q ω c)) of_of q549 rfl rfl (Nat.le_of_ble_eq_true rfl) (Nat.le_of_ble_eq_true rfl) ⟨(Nat.le_refl _), (Nat.le_refl _)⟩ ⟨25, 3, _, TX3, 6, cw_at (p := 25) rfl, rfl⟩ dX20_holds_14 (fun v w hq => ?_)
    obtain ⟨r, ω1, rfl, rfl, rfl, rfl⟩ := hq
    refine k_aload_n G dX20_holds_17 rfl ?_
    refine k_get G (k := 2) ci_X20 hp (by decide) (Or.inl q902) (fun _ h => h) rfl dX20_holds_18 ?_
    refine k_icmp_ge G 28 dX20_holds_21 (by decide) (fun c21 => ?_) (fun c21 => ?_)
    · refine k_iconst G (v := 0) dX20_holds_28 (by decide) ?_
      refine k_goto G 84 dX20_holds_29 (by decide) ?_
      exact k_zret G X (Or.inl rfl) dX20_holds_84 (Nat.le_refl _) (Nat.le_refl _) ⟨by rw [← bI_f (b := agF c s n _) (by unfold agF; rw [if_pos c6]; exact decide_eq_false (Int32.not_lt.mpr c21))], rfl⟩
    · refine k_iconst G (v := 1) dX20_holds_24 (by decide) ?_
      refine k_goto G 84 dX20_holds_25 (by decide) ?_
      exact k_zret G X (Or.inr rfl) dX20_holds_84 (Nat.le_refl _) (Nat.le_refl _) ⟨by rw [← bI_t (b := agF c s n _) (by unfold agF; rw [if_pos c6]; exact decide_eq_true (Int32.not_le.mp c21))], rfl⟩
theorem tst_obj {T : xT} {L : List Nat} {g : Nat → va_E} : ∀ {dd a : Nat} {φ : TF1}, tstR T L g dd a φ → a ∈ L ∧ ∃ (ci : Nat) (fs : List Value) (C : String) (TT : u_T) (N : Nat), g a = .inr (ci, fs) ∧ xcl[ci]? = some (C, TT, N) ∧ (C = "BakedBefore$Test" ∨ (C, "BakedBefore$Test") ∈ xcast)
  | 0, _, _, h => h.elim
  | dd + 1, a, φ, h => by
    obtain ⟨h1, h2⟩ := h
    refine ⟨h1, ?_⟩
    rcases h2 with ⟨b, φ', h, -⟩ | ⟨c, s, n, h, -⟩ | ⟨i, al, xs, φs, h, -⟩
    · exact ⟨_, _, _, _, _, h, rfl, Or.inr (by decide)⟩
    · exact ⟨_, _, _, _, _, h, rfl, Or.inr (by decide)⟩
    · exact ⟨_, _, _, _, _, h, rfl, Or.inr (by decide)⟩
theorem i32_succ {i : Int32} (h0 : 0 ≤ i) (h : i.toNatClampNeg < 100000) : 0 ≤ i + 1 ∧ (i + 1).toNatClampNeg = i.toNatClampNeg + 1 := by
  have h1 := i32_nat h0
  have h2 : (i + 1).toInt = i.toInt + 1 := by
    rw [Int32.toInt_add, show (1 : Int32).toInt = 1 from rfl, Int.bmod_eq_of_le] <;> omega
  have h3 : 0 ≤ i + 1 := Int32.le_iff_toInt_le.mpr (by rw [h2]; show (0 : Int) ≤ _; omega)
  refine ⟨h3, ?_⟩
  have h4 := i32_nat h3
  omega
/-- a row of tests, all of which up to i say b; or one that does not -/
theorem some_all {φs : List TF1} {b : Bool} {e : Nat → Int32} (h : ∀ (j : Nat) (ψ : TF1), φs[j]? = some ψ → ψ e = b) : (if b = true then φs.all (fun ψ => ψ e) else φs.any (fun ψ => ψ e)) = b := by
  cases b with
  | true => simp only [if_true]; exact List.all_eq_true.mpr fun ψ hψ => by obtain ⟨j, hj⟩ := List.getElem?_of_mem hψ; exact h j ψ hj
  | false =>
    simp only [Bool.false_eq_true, if_false]
    refine Bool.eq_false_iff.mpr fun hc => ?_
    obtain ⟨ψ, hψ, h1⟩ := List.any_eq_true.mp hc
    obtain ⟨j, hj⟩ := List.getElem?_of_mem hψ
    rw [h j ψ hj] at h1
    cases h1
theorem some_one {φs : List TF1} {b : Bool} {e : Nat → Int32} {j : Nat} {ψ : TF1} (h : φs[j]? = some ψ) (hn : ¬ ψ e = b) : (if b = true then φs.all (fun ψ => ψ e) else φs.any (fun ψ => ψ e)) = !b := by
  have hm := List.mem_of_getElem? h
  cases b with
  | true => simp only [if_true]; exact Bool.eq_false_iff.mpr fun hc => hn (List.all_eq_true.mp hc ψ hm)
  | false => simp only [Bool.false_eq_true, if_false]; exact List.any_eq_true.mpr ⟨ψ, hm, by simpa using hn⟩
theorem ks_some (l : Launch) (D : va_G) (T : xT) (q : Nat → Nat) (ω : CS) {dd a p al : Nat} {b : Bool} {xs : List Nat} {φs : List TF1} (hp : (cw T q ω)[p]? = some (a, .inr (17, [.int (bI b), .ref al]))) (h : alR T ω.2.1 ω.2.2 al xs) (hl : xs.length = φs.length) (ho : ∀ (i x : Nat) (ψ : TF1), xs[i]? = some x → φs[i]? = some ψ → tstR T ω.2.1 ω.2.2 dd x ψ) (ih : ∀ (i x : Nat) (ψ : TF1), xs[i]? = some x → φs[i]? = some ψ → tHolds T q ω dd x ψ) : XM l D T yX18_holds cX18_holds 3 (some .boolean) (dd + 7) 0 0 [.ref a, .ref (q 25)] (cw T q ω) (fun v w => v = some (.int (bI (if b = true then φs.all (fun ψ => ψ (ω.1.1 25)) else φs.any (fun ψ => ψ (ω.1.1 25))))) ∧ w = cw T q ω) := by
  refine XM.start (by decide +kernel) (Nat.le_of_ble_eq_true rfl) (fun Γ G X _ hl_ => ?_)
  subst hl_
  refine K.less [0, 1] (lv' := [(0, .ref a), (1, .ref (q 25))]) rfl ?_
  have loop : ∀ (n : Nat) (i : Int32), 0 ≤ i → i.toNatClampNeg + n = xs.length → (∀ (j : Nat) (ψ : TF1), j < i.toNatClampNeg → φs[j]? = some ψ → ψ (ω.1.1 25) = b) → K D Γ 0 0 2 [(2, .int i), (0, .ref a), (1, .ref (q 25))] [] (cw T q ω) := by
    intro n
    induction n with
    | zero =>
      intro i h0 hn hb
      refine k_iload_n G dX18_holds_2 rfl ?_
      refine k_aload_n G dX18_holds_3 rfl ?_
      refine k_get G (k := 1) ci_X18 hp (by decide) (Or.inl q865) (fun _ h => h) rfl dX18_holds_4 ?_
      refine kal_size G h q559 dX18_holds_7 (Nat.le_of_ble_eq_true rfl) (Nat.le_trans (Nat.le_of_ble_eq_true rfl) (Nat.le_add_left 7 dd)) ⟨(Nat.le_refl _), (Nat.le_refl _)⟩ ?_
      refine k_icmp_ge G 54 dX18_holds_10 (by decide) (fun _ => ?_) (fun c10 => absurd (Int32.not_lt.mp fun z => absurd ((xnI_lt (al_len h) h0).mp z) (by omega)) c10)
      refine k_aload_n G dX18_holds_54 rfl ?_
      refine k_get G (k := 0) ci_X18 hp (by decide) (Or.inl q864) (fun _ h => h) rfl dX18_holds_55 ?_
      exact k_zret G X (bI_01 b) dX18_holds_58 (Nat.le_refl _) (Nat.le_refl _) ⟨by rw [some_all (fun j ψ hj => hb j ψ (by have := (List.getElem?_eq_some_iff.mp hj).1; omega) hj)], rfl⟩
    | succ n ihn =>
      intro i h0 hn hb
      have hlt : i.toNatClampNeg < xs.length := by omega
      obtain ⟨x, hx⟩ : ∃ x, xs[i.toNatClampNeg]? = some x := ⟨_, List.getElem?_eq_getElem hlt⟩
      obtain ⟨ψ, hψ⟩ : ∃ ψ, φs[i.toNatClampNeg]? = some ψ := ⟨_, List.getElem?_eq_getElem (by omega)⟩
      obtain ⟨hxL, ci, fs, C, TT, N, hg, hc, hcast⟩ := tst_obj (ho _ _ _ hx hψ)
      obtain ⟨p2, hp2⟩ := cw_pos (T := T) (q := q) hxL
      rw [hg] at hp2
      refine k_iload_n G dX18_holds_2 rfl ?_
      refine k_aload_n G dX18_holds_3 rfl ?_
      refine k_get G (k := 1) ci_X18 hp (by decide) (Or.inl q865) (fun _ h => h) rfl dX18_holds_4 ?_
      refine kal_size G h q559 dX18_holds_7 (Nat.le_of_ble_eq_true rfl) (Nat.le_trans (Nat.le_of_ble_eq_true rfl) (Nat.le_add_left 7 dd)) ⟨(Nat.le_refl _), (Nat.le_refl _)⟩ ?_
      refine k_icmp_ge G 54 dX18_holds_10 (by decide) (fun c10 => absurd c10 (Int32.not_le.mpr ((xnI_lt (al_len h) h0).mpr hlt))) (fun _ => ?_)
      refine k_aload_n G dX18_holds_13 rfl ?_
      refine k_get G (k := 1) ci_X18 hp (by decide) (Or.inl q865) (fun _ h => h) rfl dX18_holds_14 ?_
      refine k_iload_n G dX18_holds_17 rfl ?_
      refine kal_get G h h0 hx q560 dX18_holds_18 (Nat.le_of_ble_eq_true rfl) (Nat.le_trans (Nat.le_of_ble_eq_true rfl) (Nat.le_add_left 7 dd)) ⟨(Nat.le_refl _), (Nat.le_refl _)⟩ ?_
      refine k_cast G q561 hp2 hc hcast dX18_holds_21 ?_
      refine k_aload_n G dX18_holds_24 rfl ?_
      refine ih _ _ _ hx hψ D Γ _ _ _ _ _ _ _ _ _ _ _ _ _ G q562 dX18_holds_25 (Nat.le_of_ble_eq_true rfl) (Nat.le_refl _) ⟨(Nat.le_refl _), (Nat.le_refl _)⟩ ?_
      refine k_aload_n G dX18_holds_28 rfl ?_
      refine k_get G (k := 0) ci_X18 hp (by decide) (Or.inl q864) (fun _ h => h) rfl dX18_holds_29 ?_
      refine k_icmp_eq G 48 dX18_holds_32 (by decide) (fun c32 => ?_) (fun c32 => ?_)
      · have heq : ψ (ω.1.1 25) = b := bI_inj.mp c32
        refine k_iinc G [(2, .int (i + 1)), (0, .ref a), (1, .ref (q 25))] dX18_holds_48 rfl (v := i + 1) rfl (Nat.le_of_ble_eq_true rfl) rfl ?_
        refine k_goto G 2 dX18_holds_51 (by decide) ?_
        obtain ⟨s0, s1⟩ := i32_succ h0 (Nat.lt_of_lt_of_le hlt (al_len h))
        refine ihn (i + 1) s0 (by omega) (fun j ψ' hj hj' => ?_)
        rw [s1] at hj
        by_cases hji : j = i.toNatClampNeg
        · subst hji; cases hj'.symm.trans hψ; exact heq
        · exact hb j ψ' (by omega) hj'
      · have hne : ¬ ψ (ω.1.1 25) = b := fun hh => c32 (by rw [hh])
        rw [some_one hψ hne] at X
        refine k_aload_n G dX18_holds_35 rfl ?_
        refine k_get G (k := 0) ci_X18 hp (by decide) (Or.inl q864) (fun _ h => h) rfl dX18_holds_36 ?_
        cases b with
        | false =>
          refine k_if_ne G 46 dX18_holds_39 (by decide) (fun c39 => absurd c39 (fun h => h rfl)) (fun _ => ?_)
          refine k_iconst G (v := 1) dX18_holds_42 (by decide) ?_
          refine k_goto G 47 dX18_holds_43 (by decide) ?_
          exact k_zret G X (Or.inr rfl) dX18_holds_47 (Nat.le_refl _) (Nat.le_refl _) ⟨rfl, rfl⟩
        | true =>
          refine k_if_ne G 46 dX18_holds_39 (by decide) (fun _ => ?_) (fun c39 => absurd c39 (by decide))
          refine k_iconst G (v := 0) dX18_holds_46 (by decide) ?_
          exact k_zret G X (Or.inl rfl) dX18_holds_47 (Nat.le_refl _) (Nat.le_refl _) ⟨rfl, rfl⟩
  refine k_iconst G (v := 0) dX18_holds_0 (by decide) ?_
  refine k_istore_n G [(2, .int 0), (0, .ref a), (1, .ref (q 25))] dX18_holds_1 rfl (Nat.le_of_ble_eq_true rfl) rfl ?_
  exact loop xs.length 0 (by decide) (Nat.zero_add _) (fun j ψ hj _ => absurd hj (Nat.not_lt_zero _))
theorem t_holds {T : xT} {q : Nat → Nat} {ω : CS} : ∀ {dd a : Nat} {φ : TF1}, tstR T ω.2.1 ω.2.2 dd a φ → tHolds T q ω dd a φ
  | 0, _, _, h => h.elim
  | dd + 1, a, φ, h => by
    intro D Γ cc own nL lev mc ms ret cells slots pc idx lv st G hlink d hcat hlev hroom kk
    obtain ⟨h1, h2⟩ := h
    obtain ⟨p, hp⟩ := cw_pos (T := T) (q := q) h1
    rcases h2 with ⟨b, φ', hg, hb, he⟩ | ⟨c, s, n, hg, he⟩ | ⟨b, al, xs, φs, hg, hal, hl, ho, he⟩
    · rw [hg] at hp
      rw [he] at kk
      exact k_callU G (As := [.ref (q 25)]) (rest := st) (ks_not _ D T q ω hp (t_holds hb)) xu_Not hlink d rfl rfl hcat (by omega) hroom ⟨p, _, _, TX19, 1, hp, rfl⟩ (fun v w hq => by
        obtain ⟨rfl, rfl⟩ := hq
        exact kk)
    · rw [hg] at hp
      rw [he] at kk
      exact k_callU G (As := [.ref (q 25)]) (rest := st) (ks_against _ D T q ω hp) xu_Against hlink d rfl rfl hcat (by omega) hroom ⟨p, _, _, TX20, 3, hp, rfl⟩ (fun v w hq => by
        obtain ⟨rfl, rfl⟩ := hq
        exact kk)
    · rw [hg] at hp
      rw [he] at kk
      exact k_callU G (As := [.ref (q 25)]) (rest := st) (ks_some _ D T q ω hp hal hl ho (fun i x ψ hx hψ => t_holds (ho i x ψ hx hψ))) xu_Some hlink d rfl rfl hcat (by omega) hroom ⟨p, _, _, TX18, 2, hp, rfl⟩ (fun v w hq => by
        obtain ⟨rfl, rfl⟩ := hq
        exact kk)
abbrev cX2_sum : ByteArray := prog_7_method_2_code
def yX2_sum : MethodName := ⟨RX2, "sum", "(Ljava/util/ArrayList;LBakedBefore$Look;)I"⟩
def dkwX2_sum_2 : List UInt8 := [167, 255, 213, 28, 172]
abbrev dktX2_sum_2 : List UInt8 := dkwX2_sum_2 ++ []
def dkwX2_sum_1 : List UInt8 := [182, 0, 42, 153, 0, 17, 28, 42, 29, 182, 0, 32, 192, 0, 36, 180, 0, 48, 96, 61, 132, 3, 1]
abbrev dktX2_sum_1 : List UInt8 := dkwX2_sum_1 ++ dktX2_sum_2
def dkwX2_sum_0 : List UInt8 := [3, 61, 3, 62, 29, 42, 182, 0, 28, 162, 0, 41, 42, 29, 182, 0, 32, 192, 0, 36, 180, 0, 38, 43]
abbrev dktX2_sum_0 : List UInt8 := dkwX2_sum_0 ++ dktX2_sum_1
theorem dksX2_sum_0 : cX2_sum.data.toList.drop 0 = dktX2_sum_0 := by decide +kernel
theorem dksX2_sum_1 : cX2_sum.data.toList.drop 24 = dktX2_sum_1 := dk_seg dksX2_sum_0 24 rfl rfl
theorem dksX2_sum_2 : cX2_sum.data.toList.drop 47 = dktX2_sum_2 := dk_seg dksX2_sum_1 23 rfl rfl
theorem dX2_sum_0 : decode cX2_sum 0 = .ok (.iconst 0, 1) := dk_3 (dk_at dksX2_sum_0 0 rfl rfl)
theorem dX2_sum_1 : decode cX2_sum 1 = .ok (.istore_n 2, 1) := dk_61 (dk_at dksX2_sum_0 1 rfl rfl)
theorem dX2_sum_2 : decode cX2_sum 2 = .ok (.iconst 0, 1) := dk_3 (dk_at dksX2_sum_0 2 rfl rfl)
theorem dX2_sum_3 : decode cX2_sum 3 = .ok (.istore_n 3, 1) := dk_62 (dk_at dksX2_sum_0 3 rfl rfl)
theorem dX2_sum_4 : decode cX2_sum 4 = .ok (.iload_n 3, 1) := dk_29 (dk_at dksX2_sum_0 4 rfl rfl)
theorem dX2_sum_5 : decode cX2_sum 5 = .ok (.aload_n 0, 1) := dk_42 (dk_at dksX2_sum_0 5 rfl rfl)
theorem dX2_sum_6 : decode cX2_sum 6 = .ok (.invokevirtual 28, 3) := dk_182 0 28 (dk_at dksX2_sum_0 6 rfl rfl)
theorem dX2_sum_9 : decode cX2_sum 9 = .ok (.if_icmp .ge 41, 3) := dk_162 0 41 (dk_at dksX2_sum_0 9 rfl rfl)
theorem dX2_sum_12 : decode cX2_sum 12 = .ok (.aload_n 0, 1) := dk_42 (dk_at dksX2_sum_0 12 rfl rfl)
theorem dX2_sum_13 : decode cX2_sum 13 = .ok (.iload_n 3, 1) := dk_29 (dk_at dksX2_sum_0 13 rfl rfl)
theorem dX2_sum_14 : decode cX2_sum 14 = .ok (.invokevirtual 32, 3) := dk_182 0 32 (dk_at dksX2_sum_0 14 rfl rfl)
theorem dX2_sum_17 : decode cX2_sum 17 = .ok (.checkcast 36, 3) := dk_192 0 36 (dk_at dksX2_sum_0 17 rfl rfl)
theorem dX2_sum_20 : decode cX2_sum 20 = .ok (.getfield 38, 3) := dk_180 0 38 (dk_at dksX2_sum_0 20 rfl rfl)
theorem dX2_sum_23 : decode cX2_sum 23 = .ok (.aload_n 1, 1) := dk_43 (dk_at dksX2_sum_0 23 rfl rfl)
theorem dX2_sum_24 : decode cX2_sum 24 = .ok (.invokevirtual 42, 3) := dk_182 0 42 (dk_at dksX2_sum_1 0 rfl rfl)
theorem dX2_sum_27 : decode cX2_sum 27 = .ok (.ifCond .eq 17, 3) := dk_153 0 17 (dk_at dksX2_sum_1 3 rfl rfl)
theorem dX2_sum_30 : decode cX2_sum 30 = .ok (.iload_n 2, 1) := dk_28 (dk_at dksX2_sum_1 6 rfl rfl)
theorem dX2_sum_31 : decode cX2_sum 31 = .ok (.aload_n 0, 1) := dk_42 (dk_at dksX2_sum_1 7 rfl rfl)
theorem dX2_sum_32 : decode cX2_sum 32 = .ok (.iload_n 3, 1) := dk_29 (dk_at dksX2_sum_1 8 rfl rfl)
theorem dX2_sum_33 : decode cX2_sum 33 = .ok (.invokevirtual 32, 3) := dk_182 0 32 (dk_at dksX2_sum_1 9 rfl rfl)
theorem dX2_sum_36 : decode cX2_sum 36 = .ok (.checkcast 36, 3) := dk_192 0 36 (dk_at dksX2_sum_1 12 rfl rfl)
theorem dX2_sum_39 : decode cX2_sum 39 = .ok (.getfield 48, 3) := dk_180 0 48 (dk_at dksX2_sum_1 15 rfl rfl)
theorem dX2_sum_42 : decode cX2_sum 42 = .ok (.iadd, 1) := dk_96 (dk_at dksX2_sum_1 18 rfl rfl)
theorem dX2_sum_43 : decode cX2_sum 43 = .ok (.istore_n 2, 1) := dk_61 (dk_at dksX2_sum_1 19 rfl rfl)
theorem dX2_sum_44 : decode cX2_sum 44 = .ok (.iinc 3 1, 3) := dk_132 3 1 (dk_at dksX2_sum_1 20 rfl rfl)
theorem dX2_sum_47 : decode cX2_sum 47 = .ok (.goto (-43), 3) := dk_167 255 213 (dk_at dksX2_sum_2 0 rfl rfl)
theorem dX2_sum_50 : decode cX2_sum 50 = .ok (.iload_n 2, 1) := dk_28 (dk_at dksX2_sum_2 3 rfl rfl)
theorem dX2_sum_51 : decode cX2_sum 51 = .ok (.ireturn, 1) := dk_172 (dk_at dksX2_sum_2 4 rfl rfl)
abbrev cX2_part : ByteArray := prog_7_method_3_code
def yX2_part : MethodName := ⟨RX2, "part", "(LBakedBefore$Look;)I"⟩
def dkwX2_part_0 : List UInt8 := [42, 180, 0, 12, 182, 0, 51, 153, 0, 8, 16, 50, 167, 0, 11, 42, 180, 0, 12, 43, 184, 0, 55, 172]
abbrev dktX2_part_0 : List UInt8 := dkwX2_part_0 ++ []
theorem dksX2_part_0 : cX2_part.data.toList.drop 0 = dktX2_part_0 := by decide +kernel
theorem dX2_part_0 : decode cX2_part 0 = .ok (.aload_n 0, 1) := dk_42 (dk_at dksX2_part_0 0 rfl rfl)
theorem dX2_part_1 : decode cX2_part 1 = .ok (.getfield 12, 3) := dk_180 0 12 (dk_at dksX2_part_0 1 rfl rfl)
theorem dX2_part_4 : decode cX2_part 4 = .ok (.invokevirtual 51, 3) := dk_182 0 51 (dk_at dksX2_part_0 4 rfl rfl)
theorem dX2_part_7 : decode cX2_part 7 = .ok (.ifCond .eq 8, 3) := dk_153 0 8 (dk_at dksX2_part_0 7 rfl rfl)
theorem dX2_part_10 : decode cX2_part 10 = .ok (.bipush 50, 2) := dk_16 50 (dk_at dksX2_part_0 10 rfl rfl)
theorem dX2_part_12 : decode cX2_part 12 = .ok (.goto 11, 3) := dk_167 0 11 (dk_at dksX2_part_0 12 rfl rfl)
theorem dX2_part_15 : decode cX2_part 15 = .ok (.aload_n 0, 1) := dk_42 (dk_at dksX2_part_0 15 rfl rfl)
theorem dX2_part_16 : decode cX2_part 16 = .ok (.getfield 12, 3) := dk_180 0 12 (dk_at dksX2_part_0 16 rfl rfl)
theorem dX2_part_19 : decode cX2_part 19 = .ok (.aload_n 1, 1) := dk_43 (dk_at dksX2_part_0 19 rfl rfl)
theorem dX2_part_20 : decode cX2_part 20 = .ok (.invokestatic 55, 3) := dk_184 0 55 (dk_at dksX2_part_0 20 rfl rfl)
theorem dX2_part_23 : decode cX2_part 23 = .ok (.ireturn, 1) := dk_172 (dk_at dksX2_part_0 23 rfl rfl)
abbrev cX2_more : ByteArray := prog_7_method_4_code
def yX2_more : MethodName := ⟨RX2, "more", "(LBakedBefore$Look;)I"⟩
def dkwX2_more_0 : List UInt8 := [42, 180, 0, 18, 43, 184, 0, 55, 172]
abbrev dktX2_more_0 : List UInt8 := dkwX2_more_0 ++ []
theorem dksX2_more_0 : cX2_more.data.toList.drop 0 = dktX2_more_0 := by decide +kernel
theorem dX2_more_0 : decode cX2_more 0 = .ok (.aload_n 0, 1) := dk_42 (dk_at dksX2_more_0 0 rfl rfl)
theorem dX2_more_1 : decode cX2_more 1 = .ok (.getfield 18, 3) := dk_180 0 18 (dk_at dksX2_more_0 1 rfl rfl)
theorem dX2_more_4 : decode cX2_more 4 = .ok (.aload_n 1, 1) := dk_43 (dk_at dksX2_more_0 4 rfl rfl)
theorem dX2_more_5 : decode cX2_more 5 = .ok (.invokestatic 55, 3) := dk_184 0 55 (dk_at dksX2_more_0 5 rfl rfl)
theorem dX2_more_8 : decode cX2_more 8 = .ok (.ireturn, 1) := dk_172 (dk_at dksX2_more_0 8 rfl rfl)
abbrev cX2_fee : ByteArray := prog_7_method_5_code
def yX2_fee : MethodName := ⟨RX2, "fee", "(LBakedBefore$Look;)I"⟩
def dkwX2_fee_0 : List UInt8 := [4, 42, 180, 0, 21, 43, 184, 0, 55, 96, 172]
abbrev dktX2_fee_0 : List UInt8 := dkwX2_fee_0 ++ []
theorem dksX2_fee_0 : cX2_fee.data.toList.drop 0 = dktX2_fee_0 := by decide +kernel
theorem dX2_fee_0 : decode cX2_fee 0 = .ok (.iconst 1, 1) := dk_4 (dk_at dksX2_fee_0 0 rfl rfl)
theorem dX2_fee_1 : decode cX2_fee 1 = .ok (.aload_n 0, 1) := dk_42 (dk_at dksX2_fee_0 1 rfl rfl)
theorem dX2_fee_2 : decode cX2_fee 2 = .ok (.getfield 21, 3) := dk_180 0 21 (dk_at dksX2_fee_0 2 rfl rfl)
theorem dX2_fee_5 : decode cX2_fee 5 = .ok (.aload_n 1, 1) := dk_43 (dk_at dksX2_fee_0 5 rfl rfl)
theorem dX2_fee_6 : decode cX2_fee 6 = .ok (.invokestatic 55, 3) := dk_184 0 55 (dk_at dksX2_fee_0 6 rfl rfl)
theorem dX2_fee_9 : decode cX2_fee 9 = .ok (.iadd, 1) := dk_96 (dk_at dksX2_fee_0 9 rfl rfl)
theorem dX2_fee_10 : decode cX2_fee 10 = .ok (.ireturn, 1) := dk_172 (dk_at dksX2_fee_0 10 rfl rfl)
theorem xs_sum : xS yX2_sum cX2_sum 4 (some .int) 2 := ⟨q522, q89, q523, ⟨by decide +kernel, by decide +kernel, by decide +kernel⟩, by decide⟩
theorem xs_part : xV yX2_part "BakedBefore$Kiln" cX2_part 2 (some .int) 1 := ⟨q573, q574, q89, q575, ⟨rfl, by decide +kernel, by decide +kernel, by decide +kernel⟩, by decide⟩
theorem xs_more : xV yX2_more "BakedBefore$Kiln" cX2_more 2 (some .int) 1 := ⟨q621, q622, q89, q623, ⟨rfl, by decide +kernel, by decide +kernel, by decide +kernel⟩, by decide⟩
theorem xs_fee : xV yX2_fee "BakedBefore$Kiln" cX2_fee 2 (some .int) 1 := ⟨q518, q519, q89, q520, ⟨rfl, by decide +kernel, by decide +kernel, by decide +kernel⟩, by decide⟩
theorem clSum_succ {cs : CL1} {i : Nat} {c : Int32 × TF1} (h : cs[i]? = some c) (e : Nat → Int32) : clSum (cs.take (i + 1)) e = if c.2 e = true then clSum (cs.take i) e + c.1 else clSum (cs.take i) e := by
  unfold clSum
  rw [List.take_add_one, h]
  simp [List.foldl_append]
theorem ks_sum (l : Launch) (D : va_G) (T : xT) (q : Nat → Nat) (ω : CS) {al : Nat} {cs : CL1} (hc : clR T ω.2.1 ω.2.2 al cs) : XM l D T yX2_sum cX2_sum 4 (some .int) 28 0 0 [.ref al, .ref (q 25)] (cw T q ω) (fun v w => v = some (.int (clSum cs (ω.1.1 25))) ∧ w = cw T q ω) := by
  refine XM.start (by decide +kernel) (Nat.le_of_ble_eq_true rfl) (fun Γ G X _ hl_ => ?_)
  subst hl_
  refine K.less [0, 1] (lv' := [(0, .ref al), (1, .ref (q 25))]) rfl ?_
  obtain ⟨xs, h, hl, hx0⟩ := hc
  have loop : ∀ (n : Nat) (i : Int32), 0 ≤ i → i.toNatClampNeg + n = xs.length → K D Γ 0 0 4 [(3, .int i), (2, .int (clSum (cs.take i.toNatClampNeg) (ω.1.1 25))), (0, .ref al), (1, .ref (q 25))] [] (cw T q ω) := by
    intro n
    induction n with
    | zero =>
      intro i h0 hn
      refine k_iload_n G dX2_sum_4 rfl ?_
      refine k_aload_n G dX2_sum_5 rfl ?_
      refine kal_size G h q524 dX2_sum_6 (Nat.le_of_ble_eq_true rfl) (Nat.le_of_ble_eq_true rfl) ⟨(Nat.le_refl _), (Nat.le_refl _)⟩ ?_
      refine k_icmp_ge G 50 dX2_sum_9 (by decide) (fun _ => ?_) (fun c9 => absurd (Int32.not_lt.mp fun z => absurd ((xnI_lt (al_len h) h0).mp z) (by omega)) c9)
      refine k_iload_n G dX2_sum_50 rfl ?_
      exact k_iret G X dX2_sum_51 (Nat.le_refl _) (Nat.le_refl _) ⟨by rw [List.take_of_length_le (by omega)], rfl⟩
    | succ n ihn =>
      intro i h0 hn
      have hlt : i.toNatClampNeg < xs.length := by omega
      obtain ⟨x, hx⟩ : ∃ x, xs[i.toNatClampNeg]? = some x := ⟨_, List.getElem?_eq_getElem hlt⟩
      obtain ⟨c, hc⟩ : ∃ c, cs[i.toNatClampNeg]? = some c := ⟨_, List.getElem?_eq_getElem (by omega)⟩
      obtain ⟨hxL, t, hg, ht⟩ := hx0 _ _ _ hx hc
      obtain ⟨p2, hp2⟩ := cw_pos (T := T) (q := q) hxL
      rw [hg] at hp2
      obtain ⟨s0, s1⟩ := i32_succ h0 (Nat.lt_of_lt_of_le hlt (al_len h))
      have hsum := clSum_succ hc (ω.1.1 25)
      rw [← s1] at hsum
      have ihn := ihn (i + 1) s0 (by omega)
      refine k_iload_n G dX2_sum_4 rfl ?_
      refine k_aload_n G dX2_sum_5 rfl ?_
      refine kal_size G h q524 dX2_sum_6 (Nat.le_of_ble_eq_true rfl) (Nat.le_of_ble_eq_true rfl) ⟨(Nat.le_refl _), (Nat.le_refl _)⟩ ?_
      refine k_icmp_ge G 50 dX2_sum_9 (by decide) (fun c9 => absurd c9 (Int32.not_le.mpr ((xnI_lt (al_len h) h0).mpr hlt))) (fun _ => ?_)
      refine k_aload_n G dX2_sum_12 rfl ?_
      refine k_iload_n G dX2_sum_13 rfl ?_
      refine kal_get G h h0 hx q528 dX2_sum_14 (Nat.le_of_ble_eq_true rfl) (Nat.le_of_ble_eq_true rfl) ⟨(Nat.le_refl _), (Nat.le_refl _)⟩ ?_
      refine k_cast G q542 hp2 rfl (Or.inl rfl) dX2_sum_17 ?_
      refine k_get G (k := 1) ci_X16 hp2 (by decide) (Or.inr (List.mem_of_getElem? (i := 20) rfl)) (fun _ h => h) rfl dX2_sum_20 ?_
      refine k_aload_n G dX2_sum_23 rfl ?_
      refine t_holds ht D Γ _ _ _ _ _ _ _ _ _ _ _ _ _ G q543 dX2_sum_24 (Nat.le_of_ble_eq_true rfl) (Nat.le_of_ble_eq_true rfl) ⟨(Nat.le_refl _), (Nat.le_refl _)⟩ ?_
      cases hb : c.2 (ω.1.1 25) with
      | false =>
        refine k_if_eq G 44 dX2_sum_27 (by decide) (fun _ => ?_) (fun c27 => absurd (by decide) c27)
        rw [hb, if_neg (by decide)] at hsum
        rw [hsum] at ihn
        refine k_iinc G [(3, .int (i + 1)), (2, .int (clSum (cs.take i.toNatClampNeg) (ω.1.1 25))), (0, .ref al), (1, .ref (q 25))] dX2_sum_44 rfl (v := i + 1) rfl (Nat.le_of_ble_eq_true rfl) rfl ?_
        refine k_goto G 4 dX2_sum_47 (by decide) ?_
        exact ihn
      | true =>
        refine k_if_eq G 44 dX2_sum_27 (by decide) (fun c27 => absurd c27 (by decide)) (fun _ => ?_)
        rw [hb, if_pos rfl] at hsum
        rw [hsum] at ihn
        refine k_iload_n G dX2_sum_30 rfl ?_
        refine k_aload_n G dX2_sum_31 rfl ?_
        refine k_iload_n G dX2_sum_32 rfl ?_
        refine kal_get G h h0 hx q528 dX2_sum_33 (Nat.le_of_ble_eq_true rfl) (Nat.le_of_ble_eq_true rfl) ⟨(Nat.le_refl _), (Nat.le_refl _)⟩ ?_
        refine k_cast G q542 hp2 rfl (Or.inl rfl) dX2_sum_36 ?_
        refine k_get G (k := 0) ci_X16 hp2 (by decide) (Or.inr (List.mem_of_getElem? (i := 19) rfl)) (fun _ h => h) rfl dX2_sum_39 ?_
        refine k_iadd G dX2_sum_42 ?_
        refine k_istore_n G [(2, .int (((clSum (cs.take i.toNatClampNeg) (ω.1.1 25))) + c.1)), (3, .int i), (0, .ref al), (1, .ref (q 25))] dX2_sum_43 rfl (Nat.le_of_ble_eq_true rfl) rfl ?_
        refine k_iinc G [(3, .int (i + 1)), (2, .int ((clSum (cs.take i.toNatClampNeg) (ω.1.1 25)) + c.1)), (0, .ref al), (1, .ref (q 25))] dX2_sum_44 rfl (v := i + 1) rfl (Nat.le_of_ble_eq_true rfl) rfl ?_
        refine k_goto G 4 dX2_sum_47 (by decide) ?_
        exact ihn
  refine k_iconst G (v := 0) dX2_sum_0 (by decide) ?_
  refine k_istore_n G [(2, .int 0), (0, .ref al), (1, .ref (q 25))] dX2_sum_1 rfl (Nat.le_of_ble_eq_true rfl) rfl ?_
  refine k_iconst G (v := 0) dX2_sum_2 (by decide) ?_
  refine k_istore_n G [(3, .int 0), (2, .int 0), (0, .ref al), (1, .ref (q 25))] dX2_sum_3 rfl (Nat.le_of_ble_eq_true rfl) rfl ?_
  exact loop xs.length 0 (by decide) (Nat.zero_add _)
theorem ks_part (l : Launch) (D : va_G) (T : xT) (q : Nat → Nat) (ω : CS) {a : Nat} {κ : KD} (h : kilR T ω (some a) κ) : XM l D T yX2_part cX2_part 2 (some .int) 29 0 0 [.ref a, .ref (q 25)] (cw T q ω) (fun v w => v = some (.int (kPart κ (ω.1.1 25))) ∧ w = cw T q ω) := by
  refine XM.start (by decide +kernel) (Nat.le_of_ble_eq_true rfl) (fun Γ G X _ hl_ => ?_)
  subst hl_
  refine K.less [0, 1] (lv' := [(0, .ref a), (1, .ref (q 25))]) rfl ?_
  obtain ⟨a', ea, ha, tk, mo, fe, many, hg, h1, h2, h3⟩ := h
  cases ea
  obtain ⟨p, hp⟩ := cw_pos (T := T) (q := q) ha
  rw [hg] at hp
  obtain ⟨xs, hal, hlen, hx0⟩ := h1
  have h1 : clR T ω.2.1 ω.2.2 tk κ.1 := ⟨xs, hal, hlen, hx0⟩
  refine k_aload_n G dX2_part_0 rfl ?_
  refine k_get G (k := 0) ci_X2 hp (by decide) (Or.inl q189) (fun _ h => h) rfl dX2_part_1 ?_
  refine kal_isEmpty G hal q576 dX2_part_4 (Nat.le_of_ble_eq_true rfl) (Nat.le_of_ble_eq_true rfl) ⟨(Nat.le_refl _), (Nat.le_refl _)⟩ ?_
  by_cases hz : xs.length = 0
  · rw [if_pos hz]
    refine k_if_eq G 15 dX2_part_7 (by decide) (fun c7 => absurd c7 (by decide)) (fun _ => ?_)
    refine k_bipush G (v := 50) dX2_part_10 (by decide) ?_
    refine k_goto G 23 dX2_part_12 (by decide) ?_
    exact k_iret G X dX2_part_23 (Nat.le_refl _) (Nat.le_refl _) ⟨by unfold kPart; rw [if_pos (by omega)], rfl⟩
  · rw [if_neg hz]
    refine k_if_eq G 15 dX2_part_7 (by decide) (fun _ => ?_) (fun c7 => absurd rfl c7)
    refine k_aload_n G dX2_part_15 rfl ?_
    refine k_get G (k := 0) ci_X2 hp (by decide) (Or.inl q189) (fun _ h => h) rfl dX2_part_16 ?_
    refine k_aload_n G dX2_part_19 rfl ?_
    refine k_callSw G (As := [.ref tk, .ref (q 25)]) (rest := []) (ks_sum _ D T q ω h1) xs_sum q521 rfl rfl (Nat.le_of_ble_eq_true rfl) (Nat.le_of_ble_eq_true rfl) ⟨(Nat.le_refl _), (Nat.le_refl _)⟩ dX2_part_20 (fun v w hq => ?_)
    obtain ⟨rfl, rfl⟩ := hq
    exact k_iret G X dX2_part_23 (Nat.le_refl _) (Nat.le_refl _) ⟨by unfold kPart; rw [if_neg (by omega)], rfl⟩
theorem ks_more (l : Launch) (D : va_G) (T : xT) (q : Nat → Nat) (ω : CS) {a : Nat} {κ : KD} (h : kilR T ω (some a) κ) : XM l D T yX2_more cX2_more 2 (some .int) 29 0 0 [.ref a, .ref (q 25)] (cw T q ω) (fun v w => v = some (.int (kMore κ (ω.1.1 25))) ∧ w = cw T q ω) := by
  refine XM.start (by decide +kernel) (Nat.le_of_ble_eq_true rfl) (fun Γ G X _ hl_ => ?_)
  subst hl_
  refine K.less [0, 1] (lv' := [(0, .ref a), (1, .ref (q 25))]) rfl ?_
  obtain ⟨a', ea, ha, tk, mo, fe, many, hg, h1, h2, h3⟩ := h
  cases ea
  obtain ⟨p, hp⟩ := cw_pos (T := T) (q := q) ha
  rw [hg] at hp
  refine k_aload_n G dX2_more_0 rfl ?_
  refine k_get G (k := 1) ci_X2 hp (by decide) (Or.inl q191) (fun _ h => h) rfl dX2_more_1 ?_
  refine k_aload_n G dX2_more_4 rfl ?_
  refine k_callSw G (As := [.ref mo, .ref (q 25)]) (rest := []) (ks_sum _ D T q ω h2) xs_sum q521 rfl rfl (Nat.le_of_ble_eq_true rfl) (Nat.le_of_ble_eq_true rfl) ⟨(Nat.le_refl _), (Nat.le_refl _)⟩ dX2_more_5 (fun v w hq => ?_)
  obtain ⟨rfl, rfl⟩ := hq
  exact k_iret G X dX2_more_8 (Nat.le_refl _) (Nat.le_refl _) ⟨rfl, rfl⟩
theorem ks_fee (l : Launch) (D : va_G) (T : xT) (q : Nat → Nat) (ω : CS) {a : Nat} {κ : KD} (h : kilR T ω (some a) κ) : XM l D T yX2_fee cX2_fee 2 (some .int) 29 0 0 [.ref a, .ref (q 25)] (cw T q ω) (fun v w => v = some (.int (kFee κ (ω.1.1 25))) ∧ w = cw T q ω) := by
  refine XM.start (by decide +kernel) (Nat.le_of_ble_eq_true rfl) (fun Γ G X _ hl_ => ?_)
  subst hl_
  refine K.less [0, 1] (lv' := [(0, .ref a), (1, .ref (q 25))]) rfl ?_
  obtain ⟨a', ea, ha, tk, mo, fe, many, hg, h1, h2, h3⟩ := h
  cases ea
  obtain ⟨p, hp⟩ := cw_pos (T := T) (q := q) ha
  rw [hg] at hp
  refine k_iconst G (v := 1) dX2_fee_0 (by decide) ?_
  refine k_aload_n G dX2_fee_1 rfl ?_
  refine k_get G (k := 2) ci_X2 hp (by decide) (Or.inl q193) (fun _ h => h) rfl dX2_fee_2 ?_
  refine k_aload_n G dX2_fee_5 rfl ?_
  refine k_callSw G (As := [.ref fe, .ref (q 25)]) (rest := [.int 1]) (ks_sum _ D T q ω h3) xs_sum q521 rfl rfl (Nat.le_of_ble_eq_true rfl) (Nat.le_of_ble_eq_true rfl) ⟨(Nat.le_refl _), (Nat.le_refl _)⟩ dX2_fee_6 (fun v w hq => ?_)
  obtain ⟨rfl, rfl⟩ := hq
  refine k_iadd G dX2_fee_9 ?_
  exact k_iret G X dX2_fee_10 (Nat.le_refl _) (Nat.le_refl _) ⟨rfl, rfl⟩
section KT3
variable {D : va_G} {T : xT} {Γ : xE} {cc : ByteArray} {own : String} {nL lev mc ms : Nat} {ret : Option FieldType} {cells slots pc : Nat} {lv : List (Nat × Value)} {st : List Value} {q : Nat → Nat} {ω : CS}
theorem kl_part (G : xG D T Γ cc own nL ret lev mc ms) {idx : Nat} {r : Option Nat} {κ : KD} (h : kilR T ω r κ) (hlink : Cond.methodLink own idx ⟨"BakedBefore$Kiln", "part", "(LBakedBefore$Look;)I"⟩ ∈ lw_all) (d : decode cc pc = .ok (.invokevirtual idx, 3)) (hcat : (st.map fun v => v.category).sum ≤ 8) (hlev : 60 ≤ lev) (hroom : cells ≤ mc ∧ slots ≤ ms) (kk : K D Γ cells slots (pc + 3) lv (.int (kPart κ (ω.1.1 25)) :: st) (cw T q ω)) : K D Γ cells slots pc lv (.ref (q 25) :: va_rf r :: st) (cw T q ω) := by
  have h' := h
  obtain ⟨a, rfl, ha, tk, mo, fe, many, hg, -⟩ := h'
  obtain ⟨p, hp⟩ := cw_pos (T := T) (q := q) ha
  rw [hg] at hp
  exact k_callVw G (As := [.ref (q 25)]) (rest := st) (C := RX2) (ks_part _ D T q ω h) xs_part hlink rfl rfl hcat (by omega) hroom ⟨p, 2, _, TX2, 5, hp, rfl⟩ d (fun v w hq => by
    obtain ⟨rfl, rfl⟩ := hq
    exact kk)
theorem kl_more (G : xG D T Γ cc own nL ret lev mc ms) {idx : Nat} {r : Option Nat} {κ : KD} (h : kilR T ω r κ) (hlink : Cond.methodLink own idx ⟨"BakedBefore$Kiln", "more", "(LBakedBefore$Look;)I"⟩ ∈ lw_all) (d : decode cc pc = .ok (.invokevirtual idx, 3)) (hcat : (st.map fun v => v.category).sum ≤ 8) (hlev : 60 ≤ lev) (hroom : cells ≤ mc ∧ slots ≤ ms) (kk : K D Γ cells slots (pc + 3) lv (.int (kMore κ (ω.1.1 25)) :: st) (cw T q ω)) : K D Γ cells slots pc lv (.ref (q 25) :: va_rf r :: st) (cw T q ω) := by
  have h' := h
  obtain ⟨a, rfl, ha, tk, mo, fe, many, hg, -⟩ := h'
  obtain ⟨p, hp⟩ := cw_pos (T := T) (q := q) ha
  rw [hg] at hp
  exact k_callVw G (As := [.ref (q 25)]) (rest := st) (C := RX2) (ks_more _ D T q ω h) xs_more hlink rfl rfl hcat (by omega) hroom ⟨p, 2, _, TX2, 5, hp, rfl⟩ d (fun v w hq => by
    obtain ⟨rfl, rfl⟩ := hq
    exact kk)
theorem kl_fee (G : xG D T Γ cc own nL ret lev mc ms) {idx : Nat} {r : Option Nat} {κ : KD} (h : kilR T ω r κ) (hlink : Cond.methodLink own idx ⟨"BakedBefore$Kiln", "fee", "(LBakedBefore$Look;)I"⟩ ∈ lw_all) (d : decode cc pc = .ok (.invokevirtual idx, 3)) (hcat : (st.map fun v => v.category).sum ≤ 8) (hlev : 60 ≤ lev) (hroom : cells ≤ mc ∧ slots ≤ ms) (kk : K D Γ cells slots (pc + 3) lv (.int (kFee κ (ω.1.1 25)) :: st) (cw T q ω)) : K D Γ cells slots pc lv (.ref (q 25) :: va_rf r :: st) (cw T q ω) := by
  have h' := h
  obtain ⟨a, rfl, ha, tk, mo, fe, many, hg, -⟩ := h'
  obtain ⟨p, hp⟩ := cw_pos (T := T) (q := q) ha
  rw [hg] at hp
  exact k_callVw G (As := [.ref (q 25)]) (rest := st) (C := RX2) (ks_fee _ D T q ω h) xs_fee hlink rfl rfl hcat (by omega) hroom ⟨p, 2, _, TX2, 5, hp, rfl⟩ d (fun v w hq => by
    obtain ⟨rfl, rfl⟩ := hq
    exact kk)
end KT3
