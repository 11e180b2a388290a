/-! takenFor, taken -/
set_option maxRecDepth 100000
section KW1
variable {D : va_G} {T : xT} {Γ : xE} {cc : ByteArray} {own : String} {nL lev mc ms : Nat} {ret : Option FieldType} {cells slots pc : Nat} {lv : List (Nat × Value)} {st rest : List Value} {ws : va_W} {q : Nat → Nat} {ω : CS}
theorem k_castNull (G : xG D T Γ cc own nL ret lev mc ms) {idx : Nat} (d : decode cc pc = .ok (.checkcast idx, 3)) (kk : K D Γ cells slots (pc + 3) lv (.null :: st) ws) : K D Γ cells slots pc lv (.null :: st) ws := by
  intro H locs ls hP hD hS hl S hT X
  obtain ⟨t, a1, b1⟩ := kk H locs ls hP hD hS hl S hT X
  exact ⟨t, X.checkcastNull G.1 (g := F0 Γ.2.1.2.1 pc ls (.null :: st)) rfl (rest := st) rfl (by rw [G.2.1]; exact d) t a1, b1⟩
theorem k_aload_nN (G : xG D T Γ cc own nL ret lev mc ms) {i : Fin 4} (d : decode cc pc = .ok (.aload_n i, 1)) (h : xlk lv (i : Nat) = some .null) (k : K D Γ cells slots (pc + 1) lv (.null :: st) ws) : K D Γ cells slots pc lv st ws := fun H locs ls hP hD hS hl => lv_aload_nN G.1 G.2.1 d rfl (xlk_at hl h) (k H locs ls hP hD hS hl)
theorem kx_castNo (G : xG D T Γ cc own nL ret lev mc ms) (hlt : Γ.1.2.1.stackTraces = false) (hlev : 200 ≤ lev) {idx p a ci N : Nat} {fs : List Value} {C nm : String} {TT : u_T} (hlink : Cond.classLink own idx nm ∈ lw_all) (he : ws[p]? = some (a, .inr (ci, fs))) (hc : xcl[ci]? = some (C, TT, N)) (hn : (C, nm) ∈ xnc) (h1 : ourN C) (h2 : ourN nm) (hcat : ((Value.ref a :: rest).map fun v => v.category).sum ≤ 8) (hroom : cells + 3 ≤ mc ∧ slots + 1000 ≤ ms) (d : decode cc pc = .ok (.checkcast idx, 3)) (k : ∀ q : Nat, KX D Γ (cells + 3) (slots + 1000) pc lv (.ref a :: rest) ws "java/lang/ClassCastException" q) : K D Γ cells slots pc lv (.ref a :: rest) ws := by
  intro H locs ls hP hD hS hl
  exact vx_castNo G.1 G.2.1 G.2.2.2.2.2.1 (G.2.2.2.2.2.2.1 _ hlink) (G.2.2.2.2.2.2.2.2.1.2.1.2.2.2.2.2.1 _ hn) G.2.2.2.2.2.2.2.2.1.2.1.2.2.2.2.2.2 h1 h2 (va_recv G.2.2.2.2.2.2.2.2.1.1 hP hc he) d (fun tx t1 t2 => kx_vm G hlt hlev (names := ["java/lang/RuntimeException", "java/lang/Exception"]) (by decide) (nb := 990) t1 t2 (by decide) hcat hroom k hP hD hS hl)
theorem kr_castNo (G : xG D T Γ cc own nL ret lev mc ms) (hlt : Γ.1.2.1.stackTraces = false) (hlev : 200 ≤ lev) {idx s a : Nat} {x : vp_A} {nm : String} (h : rowE T ω s a x) (hlink : Cond.classLink own idx nm ∈ lw_all) (hn : (sortN s, nm) ∈ xnc) (h1 : ourN (sortN s)) (h2 : ourN nm) (hcat : ((Value.ref a :: rest).map fun v => v.category).sum ≤ 8) (hroom : cells + 3 ≤ mc ∧ slots + 1000 ≤ ms) (d : decode cc pc = .ok (.checkcast idx, 3)) (k : ∀ q9 : Nat, KX D Γ (cells + 3) (slots + 1000) pc lv (.ref a :: rest) (cw T q ω) "java/lang/ClassCastException" q9) : K D Γ cells slots pc lv (.ref a :: rest) (cw T q ω) := by
  intro H locs ls hP hD hS hl
  exact vx_castNo G.1 G.2.1 G.2.2.2.2.2.1 (G.2.2.2.2.2.2.1 _ hlink) (G.2.2.2.2.2.2.2.2.1.2.1.2.2.2.2.2.1 _ hn) G.2.2.2.2.2.2.2.2.1.2.1.2.2.2.2.2.2 h1 h2 (kr_recv G h hP) d (fun tx t1 t2 => kx_vm G hlt hlev (names := ["java/lang/RuntimeException", "java/lang/Exception"]) (by decide) (nb := 990) t1 t2 (by decide) hcat hroom k hP hD hS hl)
/-- a call on null -/
theorem kx_invN (G : xG D T Γ cc own nL ret lev mc ms) (hlt : Γ.1.2.1.stackTraces = false) (hlev : 170 ≤ lev) {y : MethodName} {code' : ByteArray} {nL' n idx : Nat} {ret' : Option FieldType} {C : String} {As : List Value} (f : xV y C code' nL' ret' n) (hlink : Cond.methodLink own idx y ∈ lw_all) (hn : As.length = n) (hst : st = As.reverse ++ .null :: rest) (hcat : (rest.map fun v => v.category).sum ≤ 8) (hroom : cells + 1 ≤ mc ∧ slots + 8 ≤ ms) (d : decode cc pc = .ok (.invokevirtual idx, 3)) (k : ∀ q : Nat, KX D Γ (cells + 1) (slots + 8) pc lv rest ws "java/lang/NullPointerException" q) : K D Γ cells slots pc lv st ws := by
  intro H locs ls hP hD hS hl
  obtain ⟨f1, f2, f3, f4, f5, f6⟩ := f
  have w := G.2.2.2.2.2.2.1
  exact vx_invokeN G.1 G.2.1 G.2.2.2.2.2.1 (w _ hlink) (w _ f1) (w _ f4) (w _ f2) ⟨f5.2.1, f5.2.2.1⟩ (by rw [hn]; exact f5.2.2.2) d (kx_npe G hlt hlev hcat hroom k hP hD hS hl) hst
end KW1
def castOK (kd j : Nat) : Bool := j == 0 || j == kd || (kd == 4 && j == 1) || (kd == 5 && j == 2) || (kd == 6 && j == 3)
theorem our_Loaf : ourN "BakedBefore$Loaf" := ⟨by decide +kernel, by decide +kernel⟩
theorem our_Clean : ourN "BakedBefore$Clean" := ⟨by decide +kernel, by decide +kernel⟩
theorem our_Greedy : ourN "BakedBefore$Greedy" := ⟨by decide +kernel, by decide +kernel⟩
theorem our_Holy : ourN "BakedBefore$Holy" := ⟨by decide +kernel, by decide +kernel⟩
theorem our_Rye : ourN "BakedBefore$Rye" := ⟨by decide +kernel, by decide +kernel⟩
theorem our_Poisoned : ourN "BakedBefore$Poisoned" := ⟨by decide +kernel, by decide +kernel⟩
theorem our_Shy : ourN "BakedBefore$Shy" := ⟨by decide +kernel, by decide +kernel⟩
theorem our_aB : ourN "[B" := ⟨by decide +kernel, by decide +kernel⟩
theorem our_aS : ourN "[S" := ⟨by decide +kernel, by decide +kernel⟩
theorem our_aI : ourN "[I" := ⟨by decide +kernel, by decide +kernel⟩
theorem our_aJ : ourN "[J" := ⟨by decide +kernel, by decide +kernel⟩
theorem our_aZ : ourN "[Z" := ⟨by decide +kernel, by decide +kernel⟩
abbrev cX0_takenFor : ByteArray := prog_1_method_59_code
def yX0_takenFor : MethodName := ⟨RX0, "takenFor", "(LBakedBefore$Tells;I)LBakedBefore$Loaf;"⟩
def dkwX0_takenFor_3 : List UInt8 := [176, 42, 192, 0, 129, 176, 42, 192, 0, 132, 176]
abbrev dktX0_takenFor_3 : List UInt8 := dkwX0_takenFor_3 ++ []
def dkwX0_takenFor_2 : List UInt8 := [42, 192, 0, 11, 176, 42, 192, 0, 115, 176, 42, 192, 0, 120, 176, 42, 192, 0, 123, 176, 42, 192, 0, 126]
abbrev dktX0_takenFor_2 : List UInt8 := dkwX0_takenFor_2 ++ dktX0_takenFor_3
def dkwX0_takenFor_1 : List UInt8 := [170, 0, 0, 0, 0, 0, 69, 0, 0, 0, 0, 0, 0, 0, 5, 0, 0, 0, 39, 0, 0, 0, 44, 0, 0, 0, 49, 0, 0, 0, 54, 0, 0, 0, 59, 0, 0, 0, 64]
abbrev dktX0_takenFor_1 : List UInt8 := dkwX0_takenFor_1 ++ dktX0_takenFor_2
def dkwX0_takenFor_0 : List UInt8 := [27]
abbrev dktX0_takenFor_0 : List UInt8 := dkwX0_takenFor_0 ++ dktX0_takenFor_1
theorem dksX0_takenFor_0 : cX0_takenFor.data.toList.drop 0 = dktX0_takenFor_0 := by decide +kernel
theorem dksX0_takenFor_1 : cX0_takenFor.data.toList.drop 1 = dktX0_takenFor_1 := dk_seg dksX0_takenFor_0 1 rfl rfl
theorem dksX0_takenFor_2 : cX0_takenFor.data.toList.drop 40 = dktX0_takenFor_2 := dk_seg dksX0_takenFor_1 39 rfl rfl
theorem dksX0_takenFor_3 : cX0_takenFor.data.toList.drop 64 = dktX0_takenFor_3 := dk_seg dksX0_takenFor_2 24 rfl rfl
theorem dX0_takenFor_0 : decode cX0_takenFor 0 = .ok (.iload_n 1, 1) := dk_27 (dk_at dksX0_takenFor_0 0 rfl rfl)
theorem dX0_takenFor_1 : decode cX0_takenFor 1 = .ok (.tableswitch 69 0 5 #[39, 44, 49, 54, 59, 64], 39) := by decide +kernel
theorem dX0_takenFor_40 : decode cX0_takenFor 40 = .ok (.aload_n 0, 1) := dk_42 (dk_at dksX0_takenFor_2 0 rfl rfl)
theorem dX0_takenFor_41 : decode cX0_takenFor 41 = .ok (.checkcast 11, 3) := dk_192 0 11 (dk_at dksX0_takenFor_2 1 rfl rfl)
theorem dX0_takenFor_44 : decode cX0_takenFor 44 = .ok (.areturn, 1) := dk_176 (dk_at dksX0_takenFor_2 4 rfl rfl)
theorem dX0_takenFor_45 : decode cX0_takenFor 45 = .ok (.aload_n 0, 1) := dk_42 (dk_at dksX0_takenFor_2 5 rfl rfl)
theorem dX0_takenFor_46 : decode cX0_takenFor 46 = .ok (.checkcast 115, 3) := dk_192 0 115 (dk_at dksX0_takenFor_2 6 rfl rfl)
theorem dX0_takenFor_49 : decode cX0_takenFor 49 = .ok (.areturn, 1) := dk_176 (dk_at dksX0_takenFor_2 9 rfl rfl)
theorem dX0_takenFor_50 : decode cX0_takenFor 50 = .ok (.aload_n 0, 1) := dk_42 (dk_at dksX0_takenFor_2 10 rfl rfl)
theorem dX0_takenFor_51 : decode cX0_takenFor 51 = .ok (.checkcast 120, 3) := dk_192 0 120 (dk_at dksX0_takenFor_2 11 rfl rfl)
theorem dX0_takenFor_54 : decode cX0_takenFor 54 = .ok (.areturn, 1) := dk_176 (dk_at dksX0_takenFor_2 14 rfl rfl)
theorem dX0_takenFor_55 : decode cX0_takenFor 55 = .ok (.aload_n 0, 1) := dk_42 (dk_at dksX0_takenFor_2 15 rfl rfl)
theorem dX0_takenFor_56 : decode cX0_takenFor 56 = .ok (.checkcast 123, 3) := dk_192 0 123 (dk_at dksX0_takenFor_2 16 rfl rfl)
theorem dX0_takenFor_59 : decode cX0_takenFor 59 = .ok (.areturn, 1) := dk_176 (dk_at dksX0_takenFor_2 19 rfl rfl)
theorem dX0_takenFor_60 : decode cX0_takenFor 60 = .ok (.aload_n 0, 1) := dk_42 (dk_at dksX0_takenFor_2 20 rfl rfl)
theorem dX0_takenFor_61 : decode cX0_takenFor 61 = .ok (.checkcast 126, 3) := dk_192 0 126 (dk_at dksX0_takenFor_2 21 rfl rfl)
theorem dX0_takenFor_64 : decode cX0_takenFor 64 = .ok (.areturn, 1) := dk_176 (dk_at dksX0_takenFor_3 0 rfl rfl)
theorem dX0_takenFor_65 : decode cX0_takenFor 65 = .ok (.aload_n 0, 1) := dk_42 (dk_at dksX0_takenFor_3 1 rfl rfl)
theorem dX0_takenFor_66 : decode cX0_takenFor 66 = .ok (.checkcast 129, 3) := dk_192 0 129 (dk_at dksX0_takenFor_3 2 rfl rfl)
theorem dX0_takenFor_69 : decode cX0_takenFor 69 = .ok (.areturn, 1) := dk_176 (dk_at dksX0_takenFor_3 5 rfl rfl)
theorem dX0_takenFor_70 : decode cX0_takenFor 70 = .ok (.aload_n 0, 1) := dk_42 (dk_at dksX0_takenFor_3 6 rfl rfl)
theorem dX0_takenFor_71 : decode cX0_takenFor 71 = .ok (.checkcast 132, 3) := dk_192 0 132 (dk_at dksX0_takenFor_3 7 rfl rfl)
theorem dX0_takenFor_74 : decode cX0_takenFor 74 = .ok (.areturn, 1) := dk_176 (dk_at dksX0_takenFor_3 10 rfl rfl)
abbrev cX0_taken : ByteArray := prog_1_method_60_code
def yX0_taken : MethodName := ⟨RX0, "taken", "(II)I"⟩
def dkwX0_taken_2 : List UInt8 := [172]
abbrev dktX0_taken_2 : List UInt8 := dkwX0_taken_2 ++ []
def dkwX0_taken_1 : List UInt8 := [180, 0, 13, 27, 50, 167, 0, 4, 1, 28, 184, 1, 121, 182, 0, 150, 172, 78, 16, 245, 172, 78, 16, 244]
abbrev dktX0_taken_1 : List UInt8 := dkwX0_taken_1 ++ dktX0_taken_2
def dkwX0_taken_0 : List UInt8 := [28, 3, 16, 6, 184, 0, 111, 154, 0, 6, 16, 254, 172, 42, 27, 182, 0, 140, 153, 0, 12, 42]
abbrev dktX0_taken_0 : List UInt8 := dkwX0_taken_0 ++ dktX0_taken_1
theorem dksX0_taken_0 : cX0_taken.data.toList.drop 0 = dktX0_taken_0 := by decide +kernel
theorem dksX0_taken_1 : cX0_taken.data.toList.drop 22 = dktX0_taken_1 := dk_seg dksX0_taken_0 22 rfl rfl
theorem dksX0_taken_2 : cX0_taken.data.toList.drop 46 = dktX0_taken_2 := dk_seg dksX0_taken_1 24 rfl rfl
theorem dX0_taken_0 : decode cX0_taken 0 = .ok (.iload_n 2, 1) := dk_28 (dk_at dksX0_taken_0 0 rfl rfl)
theorem dX0_taken_1 : decode cX0_taken 1 = .ok (.iconst 0, 1) := dk_3 (dk_at dksX0_taken_0 1 rfl rfl)
theorem dX0_taken_2 : decode cX0_taken 2 = .ok (.bipush 6, 2) := dk_16 6 (dk_at dksX0_taken_0 2 rfl rfl)
theorem dX0_taken_4 : decode cX0_taken 4 = .ok (.invokestatic 111, 3) := dk_184 0 111 (dk_at dksX0_taken_0 4 rfl rfl)
theorem dX0_taken_7 : decode cX0_taken 7 = .ok (.ifCond .ne 6, 3) := dk_154 0 6 (dk_at dksX0_taken_0 7 rfl rfl)
theorem dX0_taken_10 : decode cX0_taken 10 = .ok (.bipush (-2), 2) := dk_16 254 (dk_at dksX0_taken_0 10 rfl rfl)
theorem dX0_taken_12 : decode cX0_taken 12 = .ok (.ireturn, 1) := dk_172 (dk_at dksX0_taken_0 12 rfl rfl)
theorem dX0_taken_13 : decode cX0_taken 13 = .ok (.aload_n 0, 1) := dk_42 (dk_at dksX0_taken_0 13 rfl rfl)
theorem dX0_taken_14 : decode cX0_taken 14 = .ok (.iload_n 1, 1) := dk_27 (dk_at dksX0_taken_0 14 rfl rfl)
theorem dX0_taken_15 : decode cX0_taken 15 = .ok (.invokevirtual 140, 3) := dk_182 0 140 (dk_at dksX0_taken_0 15 rfl rfl)
theorem dX0_taken_18 : decode cX0_taken 18 = .ok (.ifCond .eq 12, 3) := dk_153 0 12 (dk_at dksX0_taken_0 18 rfl rfl)
theorem dX0_taken_21 : decode cX0_taken 21 = .ok (.aload_n 0, 1) := dk_42 (dk_at dksX0_taken_0 21 rfl rfl)
theorem dX0_taken_22 : decode cX0_taken 22 = .ok (.getfield 13, 3) := dk_180 0 13 (dk_at dksX0_taken_1 0 rfl rfl)
theorem dX0_taken_25 : decode cX0_taken 25 = .ok (.iload_n 1, 1) := dk_27 (dk_at dksX0_taken_1 3 rfl rfl)
theorem dX0_taken_26 : decode cX0_taken 26 = .ok (.aaload, 1) := dk_50 (dk_at dksX0_taken_1 4 rfl rfl)
theorem dX0_taken_27 : decode cX0_taken 27 = .ok (.goto 4, 3) := dk_167 0 4 (dk_at dksX0_taken_1 5 rfl rfl)
theorem dX0_taken_30 : decode cX0_taken 30 = .ok (.aconst_null, 1) := dk_1 (dk_at dksX0_taken_1 8 rfl rfl)
theorem dX0_taken_31 : decode cX0_taken 31 = .ok (.iload_n 2, 1) := dk_28 (dk_at dksX0_taken_1 9 rfl rfl)
theorem dX0_taken_32 : decode cX0_taken 32 = .ok (.invokestatic 377, 3) := dk_184 1 121 (dk_at dksX0_taken_1 10 rfl rfl)
theorem dX0_taken_35 : decode cX0_taken 35 = .ok (.invokevirtual 150, 3) := dk_182 0 150 (dk_at dksX0_taken_1 13 rfl rfl)
theorem dX0_taken_38 : decode cX0_taken 38 = .ok (.ireturn, 1) := dk_172 (dk_at dksX0_taken_1 16 rfl rfl)
theorem dX0_taken_39 : decode cX0_taken 39 = .ok (.astore_n 3, 1) := dk_78 (dk_at dksX0_taken_1 17 rfl rfl)
theorem dX0_taken_40 : decode cX0_taken 40 = .ok (.bipush (-11), 2) := dk_16 245 (dk_at dksX0_taken_1 18 rfl rfl)
theorem dX0_taken_42 : decode cX0_taken 42 = .ok (.ireturn, 1) := dk_172 (dk_at dksX0_taken_1 20 rfl rfl)
theorem dX0_taken_43 : decode cX0_taken 43 = .ok (.astore_n 3, 1) := dk_78 (dk_at dksX0_taken_1 21 rfl rfl)
theorem dX0_taken_44 : decode cX0_taken 44 = .ok (.bipush (-12), 2) := dk_16 244 (dk_at dksX0_taken_1 22 rfl rfl)
theorem dX0_taken_46 : decode cX0_taken 46 = .ok (.ireturn, 1) := dk_172 (dk_at dksX0_taken_2 0 rfl rfl)
theorem xs_takenFor : xS yX0_takenFor cX0_takenFor 2 (some (.object "BakedBefore$Loaf")) 2 := ⟨q1312, q87, q1313, ⟨by decide +kernel, by decide +kernel, by decide +kernel⟩, by decide⟩
theorem xs_taken : xVW yX0_taken "BakedBefore" cX0_taken 4 (some .int) [(13, 38, 39, 331), (13, 38, 43, 345)] 2 := ⟨q1308, q1309, q87, q1310, ⟨rfl, by decide +kernel, by decide +kernel, by decide +kernel⟩, by decide⟩
theorem ks_takenFor (l : Launch) (hlt : l.stackTraces = false) (D : va_G) (T : xT) (q : Nat → Nat) (ω : CS) {j : Nat} (hj : j ≤ 6) {r : Option Nat} (hr : r = none ∨ ∃ (a kd : Nat) (n v0 : Int32), r = some a ∧ lofR q ω a kd n v0) : XMX l D T yX0_takenFor cX0_takenFor 2 (some (.object "BakedBefore$Loaf")) 200 3 1000 [va_rf r, .int (nI j)] (cw T q ω) (fun v w => (r = none ∨ (∃ (a kd : Nat) (n v0 : Int32), r = some a ∧ lofR q ω a kd n v0 ∧ castOK kd j = true)) ∧ v = some (va_rf r) ∧ w = cw T q ω) (fun E _ w => (∃ (a kd : Nat) (n v0 : Int32), r = some a ∧ lofR q ω a kd n v0 ∧ castOK kd j = false) ∧ E = "java/lang/ClassCastException" ∧ w = cw T q ω) := by
  rcases hr with rfl | ⟨a, kd, n, v0, rfl, h⟩
  · refine XMX.start (by decide +kernel) (Nat.le_of_ble_eq_true rfl) (fun Γ G X htab hl_ => ?_)
    subst hl_
    refine K.less [0, 1] (lv' := [(0, va_rf none), (1, .int (nI j))]) rfl ?_
    match j, hj with
    | 0, _ =>
      refine k_iload_n G dX0_takenFor_0 rfl ?_
      refine k_tswIn G 0 rfl 40 dX0_takenFor_1 (by decide +kernel) (by decide +kernel) rfl (by decide) ?_
      refine k_aload_nN G dX0_takenFor_40 rfl ?_
      refine k_castNull G dX0_takenFor_41 ?_
      exact kx_ret X (k_aret (xEr.G G) xEr.X (Or.inl ⟨_, rfl⟩) (r := none) dX0_takenFor_44 (Nat.zero_le _) (Nat.zero_le _) ⟨Or.inl rfl, rfl, rfl⟩)
    | 1, _ =>
      refine k_iload_n G dX0_takenFor_0 rfl ?_
      refine k_tswIn G 1 rfl 45 dX0_takenFor_1 (by decide +kernel) (by decide +kernel) rfl (by decide) ?_
      refine k_aload_nN G dX0_takenFor_45 rfl ?_
      refine k_castNull G dX0_takenFor_46 ?_
      exact kx_ret X (k_aret (xEr.G G) xEr.X (Or.inl ⟨_, rfl⟩) (r := none) dX0_takenFor_49 (Nat.zero_le _) (Nat.zero_le _) ⟨Or.inl rfl, rfl, rfl⟩)
    | 2, _ =>
      refine k_iload_n G dX0_takenFor_0 rfl ?_
      refine k_tswIn G 2 rfl 50 dX0_takenFor_1 (by decide +kernel) (by decide +kernel) rfl (by decide) ?_
      refine k_aload_nN G dX0_takenFor_50 rfl ?_
      refine k_castNull G dX0_takenFor_51 ?_
      exact kx_ret X (k_aret (xEr.G G) xEr.X (Or.inl ⟨_, rfl⟩) (r := none) dX0_takenFor_54 (Nat.zero_le _) (Nat.zero_le _) ⟨Or.inl rfl, rfl, rfl⟩)
    | 3, _ =>
      refine k_iload_n G dX0_takenFor_0 rfl ?_
      refine k_tswIn G 3 rfl 55 dX0_takenFor_1 (by decide +kernel) (by decide +kernel) rfl (by decide) ?_
      refine k_aload_nN G dX0_takenFor_55 rfl ?_
      refine k_castNull G dX0_takenFor_56 ?_
      exact kx_ret X (k_aret (xEr.G G) xEr.X (Or.inl ⟨_, rfl⟩) (r := none) dX0_takenFor_59 (Nat.zero_le _) (Nat.zero_le _) ⟨Or.inl rfl, rfl, rfl⟩)
    | 4, _ =>
      refine k_iload_n G dX0_takenFor_0 rfl ?_
      refine k_tswIn G 4 rfl 60 dX0_takenFor_1 (by decide +kernel) (by decide +kernel) rfl (by decide) ?_
      refine k_aload_nN G dX0_takenFor_60 rfl ?_
      refine k_castNull G dX0_takenFor_61 ?_
      exact kx_ret X (k_aret (xEr.G G) xEr.X (Or.inl ⟨_, rfl⟩) (r := none) dX0_takenFor_64 (Nat.zero_le _) (Nat.zero_le _) ⟨Or.inl rfl, rfl, rfl⟩)
    | 5, _ =>
      refine k_iload_n G dX0_takenFor_0 rfl ?_
      refine k_tswIn G 5 rfl 65 dX0_takenFor_1 (by decide +kernel) (by decide +kernel) rfl (by decide) ?_
      refine k_aload_nN G dX0_takenFor_65 rfl ?_
      refine k_castNull G dX0_takenFor_66 ?_
      exact kx_ret X (k_aret (xEr.G G) xEr.X (Or.inl ⟨_, rfl⟩) (r := none) dX0_takenFor_69 (Nat.zero_le _) (Nat.zero_le _) ⟨Or.inl rfl, rfl, rfl⟩)
    | 6, _ =>
      refine k_iload_n G dX0_takenFor_0 rfl ?_
      refine k_tswD G [0, 1, 2, 3, 4, 5] 70 dX0_takenFor_1 (by decide +kernel) (by decide) (by decide) (by decide) ?_
      refine k_aload_nN G dX0_takenFor_70 rfl ?_
      refine k_castNull G dX0_takenFor_71 ?_
      exact kx_ret X (k_aret (xEr.G G) xEr.X (Or.inl ⟨_, rfl⟩) (r := none) dX0_takenFor_74 (Nat.zero_le _) (Nat.zero_le _) ⟨Or.inl rfl, rfl, rfl⟩)
  · refine XMX.start (by decide +kernel) (Nat.le_of_ble_eq_true rfl) (fun Γ G X htab hl_ => ?_)
    subst hl_
    refine K.less [0, 1] (lv' := [(0, va_rf (some a)), (1, .int (nI j))]) rfl ?_
    obtain ⟨p, hp⟩ := cw_pos (T := T) (q := q) h.2.1
    rw [h.2.2] at hp
    match kd, h.1, h, hp, j, hj with
    | 0, _, h, hp, 0, _ =>
      refine k_iload_n G dX0_takenFor_0 rfl ?_
      refine k_tswIn G 0 rfl 40 dX0_takenFor_1 (by decide +kernel) (by decide +kernel) rfl (by decide) ?_
      refine k_aload_n G dX0_takenFor_40 rfl ?_
      refine k_cast G (idx := 11) (ci := 7) q138 hp rfl (Or.inl rfl) dX0_takenFor_41 ?_
      exact kx_ret X (k_aret (xEr.G G) xEr.X (Or.inl ⟨_, rfl⟩) (r := some a) dX0_takenFor_44 (Nat.zero_le _) (Nat.zero_le _) ⟨Or.inr ⟨a, 0, n, v0, rfl, h, rfl⟩, rfl, rfl⟩)
    | 0, _, h, hp, 1, _ =>
      refine k_iload_n G dX0_takenFor_0 rfl ?_
      refine k_tswIn G 1 rfl 45 dX0_takenFor_1 (by decide +kernel) (by decide +kernel) rfl (by decide) ?_
      refine k_aload_n G dX0_takenFor_45 rfl ?_
      exact kx_castNo G hlt (Nat.le_refl _) (idx := 115) (ci := 7) q375 hp rfl (by decide +kernel) our_Loaf our_Clean (Nat.le_of_ble_eq_true rfl) ⟨Nat.le_refl _, Nat.le_refl _⟩ dX0_takenFor_46 (fun q9 => kx_out G X htab (Nat.le_refl _) (Nat.le_refl _) ⟨⟨a, 0, n, v0, rfl, h, rfl⟩, rfl, rfl⟩)
    | 0, _, h, hp, 2, _ =>
      refine k_iload_n G dX0_takenFor_0 rfl ?_
      refine k_tswIn G 2 rfl 50 dX0_takenFor_1 (by decide +kernel) (by decide +kernel) rfl (by decide) ?_
      refine k_aload_n G dX0_takenFor_50 rfl ?_
      exact kx_castNo G hlt (Nat.le_refl _) (idx := 120) (ci := 7) q415 hp rfl (by decide +kernel) our_Loaf our_Greedy (Nat.le_of_ble_eq_true rfl) ⟨Nat.le_refl _, Nat.le_refl _⟩ dX0_takenFor_51 (fun q9 => kx_out G X htab (Nat.le_refl _) (Nat.le_refl _) ⟨⟨a, 0, n, v0, rfl, h, rfl⟩, rfl, rfl⟩)
    | 0, _, h, hp, 3, _ =>
      refine k_iload_n G dX0_takenFor_0 rfl ?_
      refine k_tswIn G 3 rfl 55 dX0_takenFor_1 (by decide +kernel) (by decide +kernel) rfl (by decide) ?_
      refine k_aload_n G dX0_takenFor_55 rfl ?_
      exact kx_castNo G hlt (Nat.le_refl _) (idx := 123) (ci := 7) q425 hp rfl (by decide +kernel) our_Loaf our_Holy (Nat.le_of_ble_eq_true rfl) ⟨Nat.le_refl _, Nat.le_refl _⟩ dX0_takenFor_56 (fun q9 => kx_out G X htab (Nat.le_refl _) (Nat.le_refl _) ⟨⟨a, 0, n, v0, rfl, h, rfl⟩, rfl, rfl⟩)
    | 0, _, h, hp, 4, _ =>
      refine k_iload_n G dX0_takenFor_0 rfl ?_
      refine k_tswIn G 4 rfl 60 dX0_takenFor_1 (by decide +kernel) (by decide +kernel) rfl (by decide) ?_
      refine k_aload_n G dX0_takenFor_60 rfl ?_
      exact kx_castNo G hlt (Nat.le_refl _) (idx := 126) (ci := 7) q435 hp rfl (by decide +kernel) our_Loaf our_Rye (Nat.le_of_ble_eq_true rfl) ⟨Nat.le_refl _, Nat.le_refl _⟩ dX0_takenFor_61 (fun q9 => kx_out G X htab (Nat.le_refl _) (Nat.le_refl _) ⟨⟨a, 0, n, v0, rfl, h, rfl⟩, rfl, rfl⟩)
    | 0, _, h, hp, 5, _ =>
      refine k_iload_n G dX0_takenFor_0 rfl ?_
      refine k_tswIn G 5 rfl 65 dX0_takenFor_1 (by decide +kernel) (by decide +kernel) rfl (by decide) ?_
      refine k_aload_n G dX0_takenFor_65 rfl ?_
      exact kx_castNo G hlt (Nat.le_refl _) (idx := 129) (ci := 7) q445 hp rfl (by decide +kernel) our_Loaf our_Poisoned (Nat.le_of_ble_eq_true rfl) ⟨Nat.le_refl _, Nat.le_refl _⟩ dX0_takenFor_66 (fun q9 => kx_out G X htab (Nat.le_refl _) (Nat.le_refl _) ⟨⟨a, 0, n, v0, rfl, h, rfl⟩, rfl, rfl⟩)
    | 0, _, h, hp, 6, _ =>
      refine k_iload_n G dX0_takenFor_0 rfl ?_
      refine k_tswD G [0, 1, 2, 3, 4, 5] 70 dX0_takenFor_1 (by decide +kernel) (by decide) (by decide) (by decide) ?_
      refine k_aload_n G dX0_takenFor_70 rfl ?_
      exact kx_castNo G hlt (Nat.le_refl _) (idx := 132) (ci := 7) q455 hp rfl (by decide +kernel) our_Loaf our_Shy (Nat.le_of_ble_eq_true rfl) ⟨Nat.le_refl _, Nat.le_refl _⟩ dX0_takenFor_71 (fun q9 => kx_out G X htab (Nat.le_refl _) (Nat.le_refl _) ⟨⟨a, 0, n, v0, rfl, h, rfl⟩, rfl, rfl⟩)
    | 1, _, h, hp, 0, _ =>
      refine k_iload_n G dX0_takenFor_0 rfl ?_
      refine k_tswIn G 0 rfl 40 dX0_takenFor_1 (by decide +kernel) (by decide +kernel) rfl (by decide) ?_
      refine k_aload_n G dX0_takenFor_40 rfl ?_
      refine k_cast G (idx := 11) (ci := 8) q138 hp rfl (Or.inr (by decide +kernel)) dX0_takenFor_41 ?_
      exact kx_ret X (k_aret (xEr.G G) xEr.X (Or.inl ⟨_, rfl⟩) (r := some a) dX0_takenFor_44 (Nat.zero_le _) (Nat.zero_le _) ⟨Or.inr ⟨a, 1, n, v0, rfl, h, rfl⟩, rfl, rfl⟩)
    | 1, _, h, hp, 1, _ =>
      refine k_iload_n G dX0_takenFor_0 rfl ?_
      refine k_tswIn G 1 rfl 45 dX0_takenFor_1 (by decide +kernel) (by decide +kernel) rfl (by decide) ?_
      refine k_aload_n G dX0_takenFor_45 rfl ?_
      refine k_cast G (idx := 115) (ci := 8) q375 hp rfl (Or.inl rfl) dX0_takenFor_46 ?_
      exact kx_ret X (k_aret (xEr.G G) xEr.X (Or.inl ⟨_, rfl⟩) (r := some a) dX0_takenFor_49 (Nat.zero_le _) (Nat.zero_le _) ⟨Or.inr ⟨a, 1, n, v0, rfl, h, rfl⟩, rfl, rfl⟩)
    | 1, _, h, hp, 2, _ =>
      refine k_iload_n G dX0_takenFor_0 rfl ?_
      refine k_tswIn G 2 rfl 50 dX0_takenFor_1 (by decide +kernel) (by decide +kernel) rfl (by decide) ?_
      refine k_aload_n G dX0_takenFor_50 rfl ?_
      exact kx_castNo G hlt (Nat.le_refl _) (idx := 120) (ci := 8) q415 hp rfl (by decide +kernel) our_Clean our_Greedy (Nat.le_of_ble_eq_true rfl) ⟨Nat.le_refl _, Nat.le_refl _⟩ dX0_takenFor_51 (fun q9 => kx_out G X htab (Nat.le_refl _) (Nat.le_refl _) ⟨⟨a, 1, n, v0, rfl, h, rfl⟩, rfl, rfl⟩)
    | 1, _, h, hp, 3, _ =>
      refine k_iload_n G dX0_takenFor_0 rfl ?_
      refine k_tswIn G 3 rfl 55 dX0_takenFor_1 (by decide +kernel) (by decide +kernel) rfl (by decide) ?_
      refine k_aload_n G dX0_takenFor_55 rfl ?_
      exact kx_castNo G hlt (Nat.le_refl _) (idx := 123) (ci := 8) q425 hp rfl (by decide +kernel) our_Clean our_Holy (Nat.le_of_ble_eq_true rfl) ⟨Nat.le_refl _, Nat.le_refl _⟩ dX0_takenFor_56 (fun q9 => kx_out G X htab (Nat.le_refl _) (Nat.le_refl _) ⟨⟨a, 1, n, v0, rfl, h, rfl⟩, rfl, rfl⟩)
    | 1, _, h, hp, 4, _ =>
      refine k_iload_n G dX0_takenFor_0 rfl ?_
      refine k_tswIn G 4 rfl 60 dX0_takenFor_1 (by decide +kernel) (by decide +kernel) rfl (by decide) ?_
      refine k_aload_n G dX0_takenFor_60 rfl ?_
      exact kx_castNo G hlt (Nat.le_refl _) (idx := 126) (ci := 8) q435 hp rfl (by decide +kernel) our_Clean our_Rye (Nat.le_of_ble_eq_true rfl) ⟨Nat.le_refl _, Nat.le_refl _⟩ dX0_takenFor_61 (fun q9 => kx_out G X htab (Nat.le_refl _) (Nat.le_refl _) ⟨⟨a, 1, n, v0, rfl, h, rfl⟩, rfl, rfl⟩)
    | 1, _, h, hp, 5, _ =>
      refine k_iload_n G dX0_takenFor_0 rfl ?_
      refine k_tswIn G 5 rfl 65 dX0_takenFor_1 (by decide +kernel) (by decide +kernel) rfl (by decide) ?_
      refine k_aload_n G dX0_takenFor_65 rfl ?_
      exact kx_castNo G hlt (Nat.le_refl _) (idx := 129) (ci := 8) q445 hp rfl (by decide +kernel) our_Clean our_Poisoned (Nat.le_of_ble_eq_true rfl) ⟨Nat.le_refl _, Nat.le_refl _⟩ dX0_takenFor_66 (fun q9 => kx_out G X htab (Nat.le_refl _) (Nat.le_refl _) ⟨⟨a, 1, n, v0, rfl, h, rfl⟩, rfl, rfl⟩)
    | 1, _, h, hp, 6, _ =>
      refine k_iload_n G dX0_takenFor_0 rfl ?_
      refine k_tswD G [0, 1, 2, 3, 4, 5] 70 dX0_takenFor_1 (by decide +kernel) (by decide) (by decide) (by decide) ?_
      refine k_aload_n G dX0_takenFor_70 rfl ?_
      exact kx_castNo G hlt (Nat.le_refl _) (idx := 132) (ci := 8) q455 hp rfl (by decide +kernel) our_Clean our_Shy (Nat.le_of_ble_eq_true rfl) ⟨Nat.le_refl _, Nat.le_refl _⟩ dX0_takenFor_71 (fun q9 => kx_out G X htab (Nat.le_refl _) (Nat.le_refl _) ⟨⟨a, 1, n, v0, rfl, h, rfl⟩, rfl, rfl⟩)
    | 2, _, h, hp, 0, _ =>
      refine k_iload_n G dX0_takenFor_0 rfl ?_
      refine k_tswIn G 0 rfl 40 dX0_takenFor_1 (by decide +kernel) (by decide +kernel) rfl (by decide) ?_
      refine k_aload_n G dX0_takenFor_40 rfl ?_
      refine k_cast G (idx := 11) (ci := 9) q138 hp rfl (Or.inr (by decide +kernel)) dX0_takenFor_41 ?_
      exact kx_ret X (k_aret (xEr.G G) xEr.X (Or.inl ⟨_, rfl⟩) (r := some a) dX0_takenFor_44 (Nat.zero_le _) (Nat.zero_le _) ⟨Or.inr ⟨a, 2, n, v0, rfl, h, rfl⟩, rfl, rfl⟩)
    | 2, _, h, hp, 1, _ =>
      refine k_iload_n G dX0_takenFor_0 rfl ?_
      refine k_tswIn G 1 rfl 45 dX0_takenFor_1 (by decide +kernel) (by decide +kernel) rfl (by decide) ?_
      refine k_aload_n G dX0_takenFor_45 rfl ?_
      exact kx_castNo G hlt (Nat.le_refl _) (idx := 115) (ci := 9) q375 hp rfl (by decide +kernel) our_Greedy our_Clean (Nat.le_of_ble_eq_true rfl) ⟨Nat.le_refl _, Nat.le_refl _⟩ dX0_takenFor_46 (fun q9 => kx_out G X htab (Nat.le_refl _) (Nat.le_refl _) ⟨⟨a, 2, n, v0, rfl, h, rfl⟩, rfl, rfl⟩)
    | 2, _, h, hp, 2, _ =>
      refine k_iload_n G dX0_takenFor_0 rfl ?_
      refine k_tswIn G 2 rfl 50 dX0_takenFor_1 (by decide +kernel) (by decide +kernel) rfl (by decide) ?_
      refine k_aload_n G dX0_takenFor_50 rfl ?_
      refine k_cast G (idx := 120) (ci := 9) q415 hp rfl (Or.inl rfl) dX0_takenFor_51 ?_
      exact kx_ret X (k_aret (xEr.G G) xEr.X (Or.inl ⟨_, rfl⟩) (r := some a) dX0_takenFor_54 (Nat.zero_le _) (Nat.zero_le _) ⟨Or.inr ⟨a, 2, n, v0, rfl, h, rfl⟩, rfl, rfl⟩)
    | 2, _, h, hp, 3, _ =>
      refine k_iload_n G dX0_takenFor_0 rfl ?_
      refine k_tswIn G 3 rfl 55 dX0_takenFor_1 (by decide +kernel) (by decide +kernel) rfl (by decide) ?_
      refine k_aload_n G dX0_takenFor_55 rfl ?_
      exact kx_castNo G hlt (Nat.le_refl _) (idx := 123) (ci := 9) q425 hp rfl (by decide +kernel) our_Greedy our_Holy (Nat.le_of_ble_eq_true rfl) ⟨Nat.le_refl _, Nat.le_refl _⟩ dX0_takenFor_56 (fun q9 => kx_out G X htab (Nat.le_refl _) (Nat.le_refl _) ⟨⟨a, 2, n, v0, rfl, h, rfl⟩, rfl, rfl⟩)
    | 2, _, h, hp, 4, _ =>
      refine k_iload_n G dX0_takenFor_0 rfl ?_
      refine k_tswIn G 4 rfl 60 dX0_takenFor_1 (by decide +kernel) (by decide +kernel) rfl (by decide) ?_
      refine k_aload_n G dX0_takenFor_60 rfl ?_
      exact kx_castNo G hlt (Nat.le_refl _) (idx := 126) (ci := 9) q435 hp rfl (by decide +kernel) our_Greedy our_Rye (Nat.le_of_ble_eq_true rfl) ⟨Nat.le_refl _, Nat.le_refl _⟩ dX0_takenFor_61 (fun q9 => kx_out G X htab (Nat.le_refl _) (Nat.le_refl _) ⟨⟨a, 2, n, v0, rfl, h, rfl⟩, rfl, rfl⟩)
    | 2, _, h, hp, 5, _ =>
      refine k_iload_n G dX0_takenFor_0 rfl ?_
      refine k_tswIn G 5 rfl 65 dX0_takenFor_1 (by decide +kernel) (by decide +kernel) rfl (by decide) ?_
      refine k_aload_n G dX0_takenFor_65 rfl ?_
      exact kx_castNo G hlt (Nat.le_refl _) (idx := 129) (ci := 9) q445 hp rfl (by decide +kernel) our_Greedy our_Poisoned (Nat.le_of_ble_eq_true rfl) ⟨Nat.le_refl _, Nat.le_refl _⟩ dX0_takenFor_66 (fun q9 => kx_out G X htab (Nat.le_refl _) (Nat.le_refl _) ⟨⟨a, 2, n, v0, rfl, h, rfl⟩, rfl, rfl⟩)
    | 2, _, h, hp, 6, _ =>
      refine k_iload_n G dX0_takenFor_0 rfl ?_
      refine k_tswD G [0, 1, 2, 3, 4, 5] 70 dX0_takenFor_1 (by decide +kernel) (by decide) (by decide) (by decide) ?_
      refine k_aload_n G dX0_takenFor_70 rfl ?_
      exact kx_castNo G hlt (Nat.le_refl _) (idx := 132) (ci := 9) q455 hp rfl (by decide +kernel) our_Greedy our_Shy (Nat.le_of_ble_eq_true rfl) ⟨Nat.le_refl _, Nat.le_refl _⟩ dX0_takenFor_71 (fun q9 => kx_out G X htab (Nat.le_refl _) (Nat.le_refl _) ⟨⟨a, 2, n, v0, rfl, h, rfl⟩, rfl, rfl⟩)
    | 3, _, h, hp, 0, _ =>
      refine k_iload_n G dX0_takenFor_0 rfl ?_
      refine k_tswIn G 0 rfl 40 dX0_takenFor_1 (by decide +kernel) (by decide +kernel) rfl (by decide) ?_
      refine k_aload_n G dX0_takenFor_40 rfl ?_
      refine k_cast G (idx := 11) (ci := 10) q138 hp rfl (Or.inr (by decide +kernel)) dX0_takenFor_41 ?_
      exact kx_ret X (k_aret (xEr.G G) xEr.X (Or.inl ⟨_, rfl⟩) (r := some a) dX0_takenFor_44 (Nat.zero_le _) (Nat.zero_le _) ⟨Or.inr ⟨a, 3, n, v0, rfl, h, rfl⟩, rfl, rfl⟩)
    | 3, _, h, hp, 1, _ =>
      refine k_iload_n G dX0_takenFor_0 rfl ?_
      refine k_tswIn G 1 rfl 45 dX0_takenFor_1 (by decide +kernel) (by decide +kernel) rfl (by decide) ?_
      refine k_aload_n G dX0_takenFor_45 rfl ?_
      exact kx_castNo G hlt (Nat.le_refl _) (idx := 115) (ci := 10) q375 hp rfl (by decide +kernel) our_Holy our_Clean (Nat.le_of_ble_eq_true rfl) ⟨Nat.le_refl _, Nat.le_refl _⟩ dX0_takenFor_46 (fun q9 => kx_out G X htab (Nat.le_refl _) (Nat.le_refl _) ⟨⟨a, 3, n, v0, rfl, h, rfl⟩, rfl, rfl⟩)
    | 3, _, h, hp, 2, _ =>
      refine k_iload_n G dX0_takenFor_0 rfl ?_
      refine k_tswIn G 2 rfl 50 dX0_takenFor_1 (by decide +kernel) (by decide +kernel) rfl (by decide) ?_
      refine k_aload_n G dX0_takenFor_50 rfl ?_
      exact kx_castNo G hlt (Nat.le_refl _) (idx := 120) (ci := 10) q415 hp rfl (by decide +kernel) our_Holy our_Greedy (Nat.le_of_ble_eq_true rfl) ⟨Nat.le_refl _, Nat.le_refl _⟩ dX0_takenFor_51 (fun q9 => kx_out G X htab (Nat.le_refl _) (Nat.le_refl _) ⟨⟨a, 3, n, v0, rfl, h, rfl⟩, rfl, rfl⟩)
    | 3, _, h, hp, 3, _ =>
      refine k_iload_n G dX0_takenFor_0 rfl ?_
      refine k_tswIn G 3 rfl 55 dX0_takenFor_1 (by decide +kernel) (by decide +kernel) rfl (by decide) ?_
      refine k_aload_n G dX0_takenFor_55 rfl ?_
      refine k_cast G (idx := 123) (ci := 10) q425 hp rfl (Or.inl rfl) dX0_takenFor_56 ?_
      exact kx_ret X (k_aret (xEr.G G) xEr.X (Or.inl ⟨_, rfl⟩) (r := some a) dX0_takenFor_59 (Nat.zero_le _) (Nat.zero_le _) ⟨Or.inr ⟨a, 3, n, v0, rfl, h, rfl⟩, rfl, rfl⟩)
    | 3, _, h, hp, 4, _ =>
      refine k_iload_n G dX0_takenFor_0 rfl ?_
      refine k_tswIn G 4 rfl 60 dX0_takenFor_1 (by decide +kernel) (by decide +kernel) rfl (by decide) ?_
      refine k_aload_n G dX0_takenFor_60 rfl ?_
      exact kx_castNo G hlt (Nat.le_refl _) (idx := 126) (ci := 10) q435 hp rfl (by decide +kernel) our_Holy our_Rye (Nat.le_of_ble_eq_true rfl) ⟨Nat.le_refl _, Nat.le_refl _⟩ dX0_takenFor_61 (fun q9 => kx_out G X htab (Nat.le_refl _) (Nat.le_refl _) ⟨⟨a, 3, n, v0, rfl, h, rfl⟩, rfl, rfl⟩)
    | 3, _, h, hp, 5, _ =>
      refine k_iload_n G dX0_takenFor_0 rfl ?_
      refine k_tswIn G 5 rfl 65 dX0_takenFor_1 (by decide +kernel) (by decide +kernel) rfl (by decide) ?_
      refine k_aload_n G dX0_takenFor_65 rfl ?_
      exact kx_castNo G hlt (Nat.le_refl _) (idx := 129) (ci := 10) q445 hp rfl (by decide +kernel) our_Holy our_Poisoned (Nat.le_of_ble_eq_true rfl) ⟨Nat.le_refl _, Nat.le_refl _⟩ dX0_takenFor_66 (fun q9 => kx_out G X htab (Nat.le_refl _) (Nat.le_refl _) ⟨⟨a, 3, n, v0, rfl, h, rfl⟩, rfl, rfl⟩)
    | 3, _, h, hp, 6, _ =>
      refine k_iload_n G dX0_takenFor_0 rfl ?_
      refine k_tswD G [0, 1, 2, 3, 4, 5] 70 dX0_takenFor_1 (by decide +kernel) (by decide) (by decide) (by decide) ?_
      refine k_aload_n G dX0_takenFor_70 rfl ?_
      exact kx_castNo G hlt (Nat.le_refl _) (idx := 132) (ci := 10) q455 hp rfl (by decide +kernel) our_Holy our_Shy (Nat.le_of_ble_eq_true rfl) ⟨Nat.le_refl _, Nat.le_refl _⟩ dX0_takenFor_71 (fun q9 => kx_out G X htab (Nat.le_refl _) (Nat.le_refl _) ⟨⟨a, 3, n, v0, rfl, h, rfl⟩, rfl, rfl⟩)
    | 4, _, h, hp, 0, _ =>
      refine k_iload_n G dX0_takenFor_0 rfl ?_
      refine k_tswIn G 0 rfl 40 dX0_takenFor_1 (by decide +kernel) (by decide +kernel) rfl (by decide) ?_
      refine k_aload_n G dX0_takenFor_40 rfl ?_
      refine k_cast G (idx := 11) (ci := 11) q138 hp rfl (Or.inr (by decide +kernel)) dX0_takenFor_41 ?_
      exact kx_ret X (k_aret (xEr.G G) xEr.X (Or.inl ⟨_, rfl⟩) (r := some a) dX0_takenFor_44 (Nat.zero_le _) (Nat.zero_le _) ⟨Or.inr ⟨a, 4, n, v0, rfl, h, rfl⟩, rfl, rfl⟩)
    | 4, _, h, hp, 1, _ =>
      refine k_iload_n G dX0_takenFor_0 rfl ?_
      refine k_tswIn G 1 rfl 45 dX0_takenFor_1 (by decide +kernel) (by decide +kernel) rfl (by decide) ?_
      refine k_aload_n G dX0_takenFor_45 rfl ?_
      refine k_cast G (idx := 115) (ci := 11) q375 hp rfl (Or.inr (by decide +kernel)) dX0_takenFor_46 ?_
      exact kx_ret X (k_aret (xEr.G G) xEr.X (Or.inl ⟨_, rfl⟩) (r := some a) dX0_takenFor_49 (Nat.zero_le _) (Nat.zero_le _) ⟨Or.inr ⟨a, 4, n, v0, rfl, h, rfl⟩, rfl, rfl⟩)
    | 4, _, h, hp, 2, _ =>
      refine k_iload_n G dX0_takenFor_0 rfl ?_
      refine k_tswIn G 2 rfl 50 dX0_takenFor_1 (by decide +kernel) (by decide +kernel) rfl (by decide) ?_
      refine k_aload_n G dX0_takenFor_50 rfl ?_
      exact kx_castNo G hlt (Nat.le_refl _) (idx := 120) (ci := 11) q415 hp rfl (by decide +kernel) our_Rye our_Greedy (Nat.le_of_ble_eq_true rfl) ⟨Nat.le_refl _, Nat.le_refl _⟩ dX0_takenFor_51 (fun q9 => kx_out G X htab (Nat.le_refl _) (Nat.le_refl _) ⟨⟨a, 4, n, v0, rfl, h, rfl⟩, rfl, rfl⟩)
    | 4, _, h, hp, 3, _ =>
      refine k_iload_n G dX0_takenFor_0 rfl ?_
      refine k_tswIn G 3 rfl 55 dX0_takenFor_1 (by decide +kernel) (by decide +kernel) rfl (by decide) ?_
      refine k_aload_n G dX0_takenFor_55 rfl ?_
      exact kx_castNo G hlt (Nat.le_refl _) (idx := 123) (ci := 11) q425 hp rfl (by decide +kernel) our_Rye our_Holy (Nat.le_of_ble_eq_true rfl) ⟨Nat.le_refl _, Nat.le_refl _⟩ dX0_takenFor_56 (fun q9 => kx_out G X htab (Nat.le_refl _) (Nat.le_refl _) ⟨⟨a, 4, n, v0, rfl, h, rfl⟩, rfl, rfl⟩)
    | 4, _, h, hp, 4, _ =>
      refine k_iload_n G dX0_takenFor_0 rfl ?_
      refine k_tswIn G 4 rfl 60 dX0_takenFor_1 (by decide +kernel) (by decide +kernel) rfl (by decide) ?_
      refine k_aload_n G dX0_takenFor_60 rfl ?_
      refine k_cast G (idx := 126) (ci := 11) q435 hp rfl (Or.inl rfl) dX0_takenFor_61 ?_
      exact kx_ret X (k_aret (xEr.G G) xEr.X (Or.inl ⟨_, rfl⟩) (r := some a) dX0_takenFor_64 (Nat.zero_le _) (Nat.zero_le _) ⟨Or.inr ⟨a, 4, n, v0, rfl, h, rfl⟩, rfl, rfl⟩)
    | 4, _, h, hp, 5, _ =>
      refine k_iload_n G dX0_takenFor_0 rfl ?_
      refine k_tswIn G 5 rfl 65 dX0_takenFor_1 (by decide +kernel) (by decide +kernel) rfl (by decide) ?_
      refine k_aload_n G dX0_takenFor_65 rfl ?_
      exact kx_castNo G hlt (Nat.le_refl _) (idx := 129) (ci := 11) q445 hp rfl (by decide +kernel) our_Rye our_Poisoned (Nat.le_of_ble_eq_true rfl) ⟨Nat.le_refl _, Nat.le_refl _⟩ dX0_takenFor_66 (fun q9 => kx_out G X htab (Nat.le_refl _) (Nat.le_refl _) ⟨⟨a, 4, n, v0, rfl, h, rfl⟩, rfl, rfl⟩)
    | 4, _, h, hp, 6, _ =>
      refine k_iload_n G dX0_takenFor_0 rfl ?_
      refine k_tswD G [0, 1, 2, 3, 4, 5] 70 dX0_takenFor_1 (by decide +kernel) (by decide) (by decide) (by decide) ?_
      refine k_aload_n G dX0_takenFor_70 rfl ?_
      exact kx_castNo G hlt (Nat.le_refl _) (idx := 132) (ci := 11) q455 hp rfl (by decide +kernel) our_Rye our_Shy (Nat.le_of_ble_eq_true rfl) ⟨Nat.le_refl _, Nat.le_refl _⟩ dX0_takenFor_71 (fun q9 => kx_out G X htab (Nat.le_refl _) (Nat.le_refl _) ⟨⟨a, 4, n, v0, rfl, h, rfl⟩, rfl, rfl⟩)
    | 5, _, h, hp, 0, _ =>
      refine k_iload_n G dX0_takenFor_0 rfl ?_
      refine k_tswIn G 0 rfl 40 dX0_takenFor_1 (by decide +kernel) (by decide +kernel) rfl (by decide) ?_
      refine k_aload_n G dX0_takenFor_40 rfl ?_
      refine k_cast G (idx := 11) (ci := 12) q138 hp rfl (Or.inr (by decide +kernel)) dX0_takenFor_41 ?_
      exact kx_ret X (k_aret (xEr.G G) xEr.X (Or.inl ⟨_, rfl⟩) (r := some a) dX0_takenFor_44 (Nat.zero_le _) (Nat.zero_le _) ⟨Or.inr ⟨a, 5, n, v0, rfl, h, rfl⟩, rfl, rfl⟩)
    | 5, _, h, hp, 1, _ =>
      refine k_iload_n G dX0_takenFor_0 rfl ?_
      refine k_tswIn G 1 rfl 45 dX0_takenFor_1 (by decide +kernel) (by decide +kernel) rfl (by decide) ?_
      refine k_aload_n G dX0_takenFor_45 rfl ?_
      exact kx_castNo G hlt (Nat.le_refl _) (idx := 115) (ci := 12) q375 hp rfl (by decide +kernel) our_Poisoned our_Clean (Nat.le_of_ble_eq_true rfl) ⟨Nat.le_refl _, Nat.le_refl _⟩ dX0_takenFor_46 (fun q9 => kx_out G X htab (Nat.le_refl _) (Nat.le_refl _) ⟨⟨a, 5, n, v0, rfl, h, rfl⟩, rfl, rfl⟩)
    | 5, _, h, hp, 2, _ =>
      refine k_iload_n G dX0_takenFor_0 rfl ?_
      refine k_tswIn G 2 rfl 50 dX0_takenFor_1 (by decide +kernel) (by decide +kernel) rfl (by decide) ?_
      refine k_aload_n G dX0_takenFor_50 rfl ?_
      refine k_cast G (idx := 120) (ci := 12) q415 hp rfl (Or.inr (by decide +kernel)) dX0_takenFor_51 ?_
      exact kx_ret X (k_aret (xEr.G G) xEr.X (Or.inl ⟨_, rfl⟩) (r := some a) dX0_takenFor_54 (Nat.zero_le _) (Nat.zero_le _) ⟨Or.inr ⟨a, 5, n, v0, rfl, h, rfl⟩, rfl, rfl⟩)
    | 5, _, h, hp, 3, _ =>
      refine k_iload_n G dX0_takenFor_0 rfl ?_
      refine k_tswIn G 3 rfl 55 dX0_takenFor_1 (by decide +kernel) (by decide +kernel) rfl (by decide) ?_
      refine k_aload_n G dX0_takenFor_55 rfl ?_
      exact kx_castNo G hlt (Nat.le_refl _) (idx := 123) (ci := 12) q425 hp rfl (by decide +kernel) our_Poisoned our_Holy (Nat.le_of_ble_eq_true rfl) ⟨Nat.le_refl _, Nat.le_refl _⟩ dX0_takenFor_56 (fun q9 => kx_out G X htab (Nat.le_refl _) (Nat.le_refl _) ⟨⟨a, 5, n, v0, rfl, h, rfl⟩, rfl, rfl⟩)
    | 5, _, h, hp, 4, _ =>
      refine k_iload_n G dX0_takenFor_0 rfl ?_
      refine k_tswIn G 4 rfl 60 dX0_takenFor_1 (by decide +kernel) (by decide +kernel) rfl (by decide) ?_
      refine k_aload_n G dX0_takenFor_60 rfl ?_
      exact kx_castNo G hlt (Nat.le_refl _) (idx := 126) (ci := 12) q435 hp rfl (by decide +kernel) our_Poisoned our_Rye (Nat.le_of_ble_eq_true rfl) ⟨Nat.le_refl _, Nat.le_refl _⟩ dX0_takenFor_61 (fun q9 => kx_out G X htab (Nat.le_refl _) (Nat.le_refl _) ⟨⟨a, 5, n, v0, rfl, h, rfl⟩, rfl, rfl⟩)
    | 5, _, h, hp, 5, _ =>
      refine k_iload_n G dX0_takenFor_0 rfl ?_
      refine k_tswIn G 5 rfl 65 dX0_takenFor_1 (by decide +kernel) (by decide +kernel) rfl (by decide) ?_
      refine k_aload_n G dX0_takenFor_65 rfl ?_
      refine k_cast G (idx := 129) (ci := 12) q445 hp rfl (Or.inl rfl) dX0_takenFor_66 ?_
      exact kx_ret X (k_aret (xEr.G G) xEr.X (Or.inl ⟨_, rfl⟩) (r := some a) dX0_takenFor_69 (Nat.zero_le _) (Nat.zero_le _) ⟨Or.inr ⟨a, 5, n, v0, rfl, h, rfl⟩, rfl, rfl⟩)
    | 5, _, h, hp, 6, _ =>
      refine k_iload_n G dX0_takenFor_0 rfl ?_
      refine k_tswD G [0, 1, 2, 3, 4, 5] 70 dX0_takenFor_1 (by decide +kernel) (by decide) (by decide) (by decide) ?_
      refine k_aload_n G dX0_takenFor_70 rfl ?_
      exact kx_castNo G hlt (Nat.le_refl _) (idx := 132) (ci := 12) q455 hp rfl (by decide +kernel) our_Poisoned our_Shy (Nat.le_of_ble_eq_true rfl) ⟨Nat.le_refl _, Nat.le_refl _⟩ dX0_takenFor_71 (fun q9 => kx_out G X htab (Nat.le_refl _) (Nat.le_refl _) ⟨⟨a, 5, n, v0, rfl, h, rfl⟩, rfl, rfl⟩)
    | 6, _, h, hp, 0, _ =>
      refine k_iload_n G dX0_takenFor_0 rfl ?_
      refine k_tswIn G 0 rfl 40 dX0_takenFor_1 (by decide +kernel) (by decide +kernel) rfl (by decide) ?_
      refine k_aload_n G dX0_takenFor_40 rfl ?_
      refine k_cast G (idx := 11) (ci := 13) q138 hp rfl (Or.inr (by decide +kernel)) dX0_takenFor_41 ?_
      exact kx_ret X (k_aret (xEr.G G) xEr.X (Or.inl ⟨_, rfl⟩) (r := some a) dX0_takenFor_44 (Nat.zero_le _) (Nat.zero_le _) ⟨Or.inr ⟨a, 6, n, v0, rfl, h, rfl⟩, rfl, rfl⟩)
    | 6, _, h, hp, 1, _ =>
      refine k_iload_n G dX0_takenFor_0 rfl ?_
      refine k_tswIn G 1 rfl 45 dX0_takenFor_1 (by decide +kernel) (by decide +kernel) rfl (by decide) ?_
      refine k_aload_n G dX0_takenFor_45 rfl ?_
      exact kx_castNo G hlt (Nat.le_refl _) (idx := 115) (ci := 13) q375 hp rfl (by decide +kernel) our_Shy our_Clean (Nat.le_of_ble_eq_true rfl) ⟨Nat.le_refl _, Nat.le_refl _⟩ dX0_takenFor_46 (fun q9 => kx_out G X htab (Nat.le_refl _) (Nat.le_refl _) ⟨⟨a, 6, n, v0, rfl, h, rfl⟩, rfl, rfl⟩)
    | 6, _, h, hp, 2, _ =>
      refine k_iload_n G dX0_takenFor_0 rfl ?_
      refine k_tswIn G 2 rfl 50 dX0_takenFor_1 (by decide +kernel) (by decide +kernel) rfl (by decide) ?_
      refine k_aload_n G dX0_takenFor_50 rfl ?_
      exact kx_castNo G hlt (Nat.le_refl _) (idx := 120) (ci := 13) q415 hp rfl (by decide +kernel) our_Shy our_Greedy (Nat.le_of_ble_eq_true rfl) ⟨Nat.le_refl _, Nat.le_refl _⟩ dX0_takenFor_51 (fun q9 => kx_out G X htab (Nat.le_refl _) (Nat.le_refl _) ⟨⟨a, 6, n, v0, rfl, h, rfl⟩, rfl, rfl⟩)
    | 6, _, h, hp, 3, _ =>
      refine k_iload_n G dX0_takenFor_0 rfl ?_
      refine k_tswIn G 3 rfl 55 dX0_takenFor_1 (by decide +kernel) (by decide +kernel) rfl (by decide) ?_
      refine k_aload_n G dX0_takenFor_55 rfl ?_
      refine k_cast G (idx := 123) (ci := 13) q425 hp rfl (Or.inr (by decide +kernel)) dX0_takenFor_56 ?_
      exact kx_ret X (k_aret (xEr.G G) xEr.X (Or.inl ⟨_, rfl⟩) (r := some a) dX0_takenFor_59 (Nat.zero_le _) (Nat.zero_le _) ⟨Or.inr ⟨a, 6, n, v0, rfl, h, rfl⟩, rfl, rfl⟩)
    | 6, _, h, hp, 4, _ =>
      refine k_iload_n G dX0_takenFor_0 rfl ?_
      refine k_tswIn G 4 rfl 60 dX0_takenFor_1 (by decide +kernel) (by decide +kernel) rfl (by decide) ?_
      refine k_aload_n G dX0_takenFor_60 rfl ?_
      exact kx_castNo G hlt (Nat.le_refl _) (idx := 126) (ci := 13) q435 hp rfl (by decide +kernel) our_Shy our_Rye (Nat.le_of_ble_eq_true rfl) ⟨Nat.le_refl _, Nat.le_refl _⟩ dX0_takenFor_61 (fun q9 => kx_out G X htab (Nat.le_refl _) (Nat.le_refl _) ⟨⟨a, 6, n, v0, rfl, h, rfl⟩, rfl, rfl⟩)
    | 6, _, h, hp, 5, _ =>
      refine k_iload_n G dX0_takenFor_0 rfl ?_
      refine k_tswIn G 5 rfl 65 dX0_takenFor_1 (by decide +kernel) (by decide +kernel) rfl (by decide) ?_
      refine k_aload_n G dX0_takenFor_65 rfl ?_
      exact kx_castNo G hlt (Nat.le_refl _) (idx := 129) (ci := 13) q445 hp rfl (by decide +kernel) our_Shy our_Poisoned (Nat.le_of_ble_eq_true rfl) ⟨Nat.le_refl _, Nat.le_refl _⟩ dX0_takenFor_66 (fun q9 => kx_out G X htab (Nat.le_refl _) (Nat.le_refl _) ⟨⟨a, 6, n, v0, rfl, h, rfl⟩, rfl, rfl⟩)
    | 6, _, h, hp, 6, _ =>
      refine k_iload_n G dX0_takenFor_0 rfl ?_
      refine k_tswD G [0, 1, 2, 3, 4, 5] 70 dX0_takenFor_1 (by decide +kernel) (by decide) (by decide) (by decide) ?_
      refine k_aload_n G dX0_takenFor_70 rfl ?_
      refine k_cast G (idx := 132) (ci := 13) q455 hp rfl (Or.inl rfl) dX0_takenFor_71 ?_
      exact kx_ret X (k_aret (xEr.G G) xEr.X (Or.inl ⟨_, rfl⟩) (r := some a) dX0_takenFor_74 (Nat.zero_le _) (Nat.zero_le _) ⟨Or.inr ⟨a, 6, n, v0, rfl, h, rfl⟩, rfl, rfl⟩)
/-- what taken answers -/
def takenO (q : Nat → Nat) (ω : CS) (x k r : Int32) : Prop := (¬ (0 ≤ k ∧ k ≤ 6) ∧ r = -2) ∨ ((0 ≤ k ∧ k ≤ 6) ∧ ¬ (0 ≤ x ∧ x ≤ ω.1.1 0 3 - 1) ∧ r = -11) ∨ ((0 ≤ k ∧ k ≤ 6) ∧ (0 ≤ x ∧ x ≤ ω.1.1 0 3 - 1) ∧ ∃ (a kd : Nat) (n v0 : Int32), ω.1.2 1 x.toNatClampNeg = some a ∧ lofR q ω a kd n v0 ∧ ((castOK kd k.toNatClampNeg = true ∧ r = nI kd) ∨ (castOK kd k.toNatClampNeg = false ∧ r = -12)))
theorem kind_of {k : Int32} (h : 0 ≤ k ∧ k ≤ 6) : k.toNatClampNeg ≤ 6 ∧ k = nI k.toNatClampNeg := by
  have a1 : 0 ≤ k.toInt := Int32.le_iff_toInt_le.mp h.1
  have a2 : k.toInt ≤ 6 := Int32.le_iff_toInt_le.mp h.2
  have a3 : k.toNatClampNeg ≤ 6 := by show k.toInt.toNat ≤ 6; omega
  refine ⟨a3, ?_⟩
  rw [← Int32.toInt_inj, xnI_toInt (by omega)]
  show k.toInt = ((k.toInt.toNat : Nat) : Int)
  omega
theorem xs_lkind : xV yX7_kind "BakedBefore$Loaf" cX7_kind 1 (some .int) 0 := ⟨q487, q488, q97, q508, ⟨rfl, by decide +kernel, by decide +kernel, by decide +kernel⟩, by decide⟩
theorem lof_kd {q : Nat → Nat} {ω : CS} {a kd kd2 : Nat} {n v n2 v2 : Int32} (h : lofR q ω a kd n v) (h2 : lofR q ω a kd2 n2 v2) : kd = kd2 := by
  have e := h.2.2.symm.trans h2.2.2
  injection e with e
  injection e with e1 e2
  omega
theorem ks_taken (l : Launch) (hlt : l.stackTraces = false) (D : va_G) (T : xT) (q : Nat → Nat) (ω : CS) (x k : Int32) (hb : (0 ≤ x ∧ x ≤ ω.1.1 0 3 - 1) → vp_in x 6 ∧ ∃ (a kd : Nat) (n v0 : Int32), ω.1.2 1 x.toNatClampNeg = some a ∧ lofR q ω a kd n v0) : XMW l D T yX0_taken cX0_taken 4 (some .int) [(13, 38, 39, 331), (13, 38, 43, 345)] 201 4 1010 [.ref (q 0), .int x, .int k] (cw T q ω) (fun v w => ∃ r : Int32, v = some (.int r) ∧ w = cw T q ω ∧ takenO q ω x k r) := by
  refine XMW.start (by decide +kernel) (Nat.le_of_ble_eq_true rfl) (fun Γ G X htab hl_ => ?_)
  subst hl_
  refine K.less [0, 1, 2] (lv' := [(0, .ref (q 0)), (1, .int x), (2, .int k)]) rfl ?_
  by_cases hk : 0 ≤ k ∧ k ≤ 6
  rotate_left
  · refine k_iload_n G dX0_taken_0 rfl ?_
    refine k_iconst G (v := 0) dX0_taken_1 (by decide) ?_
    refine k_bipush G (v := 6) dX0_taken_2 (by decide) ?_
    refine k_callPI G (vk_in _ D T k 0 6 (fun r => r = 0) (q_F hk rfl)) gf_in q368 dX0_taken_4 rfl rfl (Nat.le_of_ble_eq_true rfl) (Nat.le_of_ble_eq_true rfl) ⟨(Nat.zero_le _), (Nat.zero_le _)⟩ (fun r h9 => ?_)
    subst h9
    refine k_if_ne G 13 dX0_taken_7 (by decide) (fun c7 => absurd c7 (fun z => z rfl)) (fun _ => ?_)
    refine k_bipush G (v := -2) dX0_taken_10 (by decide) ?_
    exact k_iret G X dX0_taken_12 (by decide) (by decide) ⟨_, rfl, rfl, Or.inl ⟨hk, rfl⟩⟩
  obtain ⟨hj, ej⟩ := kind_of hk
  refine k_iload_n G dX0_taken_0 rfl ?_
  refine k_iconst G (v := 0) dX0_taken_1 (by decide) ?_
  refine k_bipush G (v := 6) dX0_taken_2 (by decide) ?_
  refine k_callPI G (vk_in _ D T k 0 6 (fun r => r = 1) (q_T hk rfl)) gf_in q368 dX0_taken_4 rfl rfl (Nat.le_of_ble_eq_true rfl) (Nat.le_of_ble_eq_true rfl) ⟨(Nat.zero_le _), (Nat.zero_le _)⟩ (fun r h9 => ?_)
  subst h9
  refine k_if_ne G 13 dX0_taken_7 (by decide) (fun _ => ?_) (fun c7 => absurd c7 (by decide))
  by_cases hx : 0 ≤ x ∧ x ≤ ω.1.1 0 3 - 1
  rotate_left
  · refine k_aload_n G dX0_taken_13 rfl ?_
    refine k_iload_n G dX0_taken_14 rfl ?_
    refine k_callVw G (As := [.int x]) (rest := []) (C := RX0) (vk_isLoaf _ D T q ω x (fun r s9 => r = 0 ∧ s9 = ω) (q_F hx ⟨Or.inl rfl, rfl, rfl⟩)) gf_isLoaf q475 rfl rfl (Nat.le_of_ble_eq_true rfl) (Nat.le_of_ble_eq_true rfl) ⟨(Nat.zero_le _), (Nat.zero_le _)⟩ ⟨0, 0, _, TX0, 31, cw_at (p := 0) rfl, rfl⟩ dX0_taken_15 (fun v9 w9 h9 => ?_)
    obtain ⟨r9, s9, rfl, rfl, rfl, e9⟩ := h9
    replace e9 := e9.symm
    subst e9
    refine k_if_eq G 30 dX0_taken_18 (by decide) (fun _ => ?_) (fun c18 => absurd rfl c18)
    refine k_null G dX0_taken_30 ?_
    refine k_iload_n G dX0_taken_31 rfl ?_
    have eJ : (Value.int k) = .int (nI k.toNatClampNeg) := congrArg Value.int ej
    rw [eJ]
    refine k_callSXw G (As := [va_rf none, .int (nI k.toNatClampNeg)]) (rest := []) (ks_takenFor _ hlt D T q ω hj (Or.inl rfl)) xs_takenFor q1311 rfl rfl (Nat.le_of_ble_eq_true rfl) (Nat.le_refl _) ⟨Nat.le_of_ble_eq_true rfl, Nat.le_of_ble_eq_true rfl⟩ dX0_taken_32 (fun v w hp => ?_) (fun E q9 w hp => ?_)
    · obtain ⟨-, rfl, rfl⟩ := hp
      refine kx_invN G hlt (by decide) (As := []) (rest := []) xs_lkind q486 rfl rfl (Nat.le_of_ble_eq_true rfl) ⟨Nat.le_of_ble_eq_true rfl, Nat.le_of_ble_eq_true rfl⟩ dX0_taken_35 (fun q9 => ?_)
      refine kx_catch G (name := "java/lang/NullPointerException") [] ⟨13, 38, 39, 331⟩ [⟨13, 38, 43, 345⟩] (by rw [htab]; rfl) (fun z hz => nomatch hz) rfl (by decide) q1191 (by decide +kernel) rfl ?_
      refine k_astore_n G [(3, .ref q9), (0, .ref (q 0)), (1, .int x), (2, .int (nI k.toNatClampNeg))] dX0_taken_39 rfl (Nat.le_of_ble_eq_true rfl) rfl ?_
      refine k_bipush G (v := -11) dX0_taken_40 (by decide) ?_
      exact k_iret G X dX0_taken_42 (by decide) (by decide) ⟨_, rfl, rfl, Or.inr (Or.inl ⟨hk, hx, rfl⟩)⟩
    · obtain ⟨⟨a, kd, n, v0, z, -, -⟩, -, -⟩ := hp
      cases z
  refine k_aload_n G dX0_taken_13 rfl ?_
  refine k_iload_n G dX0_taken_14 rfl ?_
  refine k_callVw G (As := [.int x]) (rest := []) (C := RX0) (vk_isLoaf _ D T q ω x (fun r s9 => r = 1 ∧ s9 = ω) (q_T hx ⟨Or.inr rfl, rfl, rfl⟩)) gf_isLoaf q475 rfl rfl (Nat.le_of_ble_eq_true rfl) (Nat.le_of_ble_eq_true rfl) ⟨(Nat.zero_le _), (Nat.zero_le _)⟩ ⟨0, 0, _, TX0, 31, cw_at (p := 0) rfl, rfl⟩ dX0_taken_15 (fun v9 w9 h9 => ?_)
  obtain ⟨r9, s9, rfl, rfl, rfl, e9⟩ := h9
  replace e9 := e9.symm
  subst e9
  refine k_if_eq G 30 dX0_taken_18 (by decide) (fun c18 => absurd c18 (by decide)) (fun _ => ?_)
  obtain ⟨hin, a, kd, n, v0, ha, hl⟩ := hb hx
  refine k_aload_n G dX0_taken_21 rfl ?_
  refine kc_this G (show CF "BakedBefore" 0 13 from ⟨by decide, Or.inl q270, rfl⟩) dX0_taken_22 rfl ?_
  refine k_iload_n G dX0_taken_25 rfl ?_
  refine kc_aaldL G cJ_1 dX0_taken_26 hin ha ?_
  refine k_goto G 31 dX0_taken_27 (by decide) ?_
  refine k_iload_n G dX0_taken_31 rfl ?_
  have eJ : (Value.int k) = .int (nI k.toNatClampNeg) := congrArg Value.int ej
  rw [eJ]
  refine k_callSXw G (As := [va_rf (some a), .int (nI k.toNatClampNeg)]) (rest := []) (ks_takenFor _ hlt D T q ω hj (Or.inr ⟨a, kd, n, v0, rfl, hl⟩)) xs_takenFor q1311 rfl rfl (Nat.le_of_ble_eq_true rfl) (Nat.le_refl _) ⟨Nat.le_of_ble_eq_true rfl, Nat.le_of_ble_eq_true rfl⟩ dX0_taken_32 (fun v w hp => ?_) (fun E q9 w hp => ?_)
  · obtain ⟨h9, rfl, rfl⟩ := hp
    rcases h9 with z | ⟨a2, kd2, n2, v2, z, hl2, ok⟩
    · cases z
    cases z
    have ek := lof_kd hl hl2
    subst ek
    refine kl_kind G hl q486 dX0_taken_35 (Nat.le_of_ble_eq_true rfl) (by decide) ⟨Nat.le_of_ble_eq_true rfl, Nat.le_of_ble_eq_true rfl⟩ ?_
    exact k_iret G X dX0_taken_38 (by decide) (by decide) ⟨_, rfl, rfl, Or.inr (Or.inr ⟨hk, hx, a, kd, n, v0, ha, hl, Or.inl ⟨ok, rfl⟩⟩)⟩
  · obtain ⟨⟨a2, kd2, n2, v2, z, hl2, ok⟩, rfl, rfl⟩ := hp
    cases z
    have ek := lof_kd hl hl2
    subst ek
    refine kx_catch G (name := "java/lang/ClassCastException") [⟨13, 38, 39, 331⟩] ⟨13, 38, 43, 345⟩ [] (by rw [htab]; rfl) (fun z hz => by
      simp only [List.mem_cons, List.not_mem_nil, or_false] at hz
      rcases hz with rfl
      · exact (Or.inr ⟨by decide, "java/lang/NullPointerException", q1191, by decide +kernel⟩)) rfl (by decide) q1156 (by decide +kernel) rfl ?_
    refine k_astore_n G [(3, .ref q9), (0, .ref (q 0)), (1, .int x), (2, .int (nI k.toNatClampNeg))] dX0_taken_43 rfl (Nat.le_of_ble_eq_true rfl) rfl ?_
    refine k_bipush G (v := -12) dX0_taken_44 (by decide) ?_
    exact k_iret G X dX0_taken_46 (by decide) (by decide) ⟨_, rfl, rfl, Or.inr (Or.inr ⟨hk, hx, a, kd, n, v0, ha, hl, Or.inr ⟨ok, rfl⟩⟩)⟩
