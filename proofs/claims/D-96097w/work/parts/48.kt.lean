/-! the tapes: size, read -/
set_option maxRecDepth 100000
section KNM
variable {D : va_G} {T : xT} {Γ : xE} {cc : ByteArray} {own : String} {nL lev mc ms : Nat} {ret : Option FieldType} {cells slots pc : Nat} {lv : List (Nat × Value)} {st rest : List Value} {wl wc wr ws : va_W} {post : Option Value → va_W → Prop} {y : MethodName} {code' : ByteArray} {nL' lev' mcc msc n idx b : Nat} {ret' : Option FieldType} {As : List Value}
/-- a private method of a nest mate -/
theorem k_callVN (G : xG D T Γ cc own nL ret lev mc ms) {C : String} (hM : XM Γ.1.2.1 D T y code' nL' ret' lev' mcc msc (.ref b :: As) wc post) (f : xV y C code' nL' ret' n) (hlink : (own, idx, y) ∈ xmln) (hn : As.length = n) (hst : st = As.reverse ++ .ref b :: rest) (hcat : (rest.map fun v => v.category).sum ≤ 8) (hlev : lev' + 1 ≤ lev) (hroom : cells + mcc ≤ mc ∧ slots + msc ≤ ms)
    (hrecv : ∃ (q0 ci : Nat) (fs : List Value) (TT : u_T) (N : Nat), (wl ++ (wc ++ wr))[q0]? = some (b, .inr (ci, fs)) ∧ xcl[ci]? = some (C, TT, N)) (d : decode cc pc = .ok (.invokevirtual idx, 3))
    (kk : ∀ (v : Option Value) (wc' : va_W), post v wc' → K D Γ (cells + mcc) (slots + msc) (pc + 3) lv (v.toList ++ rest) (wl ++ (wc' ++ wr))) : K D Γ cells slots pc lv st (wl ++ (wc ++ wr)) := by
  obtain ⟨f1, f2, f3, f4, f5, f6⟩ := f
  obtain ⟨q0, ci, fs, TT, N, r1, r2⟩ := hrecv
  have hR : Γ.1.2.2.2 = xrm lev mc ms := G.2.2.2.2.2.2.2.2.2
  have w := G.2.2.2.2.2.2.1
  refine k_run G (a := (Value.ref b :: As).toArray) (fun H locs ls hP hD hS hl => ?_) kk
  have hPc := (x_pa.mp (x_pa.mp hP).2).1
  have hDc := (x_da.mp (x_da.mp hD).2.1).1
  exact va_runVN (As := As) (rest := rest) (host := "BakedBefore") ⟨G.1, G.2.1, G.2.2.1, G.2.2.2.2.2.1, G.2.2.2.2.2.2.1⟩ (hM H.size) ⟨va_cnB n w (lw_meth f4) rfl rfl rfl (G.2.2.2.2.2.2.2.2.1.2.1.2.2.2.1 _ hlink) (by rw [f5.1]; exact w _ f3) f5.2 (by rw [hR]; exact ⟨hlev, by show 8 + (nL' + 11) + 64 * lev' ≤ 64 * lev; omega⟩), w _ f1, w _ f2⟩
    ⟨x_blind, va_recv G.2.2.2.2.2.2.2.2.1.1 hP r2 r1, fun U hU hW => ⟨rfl, by rw [hU], by rw [hU]; exact hPc, G.2.2.2.2.2.2.2.2.1.next hW (fun a ha hb => by rw [hU]; exact hS.2.1 a ha hb) (x_free hD hS G.2.2.2.2.2.2.2.1), hDc.weaken (fun _ _ _ _ => trivial)⟩⟩ rfl hn (hl.1.trans G.2.2.1) hst (lv_room hcat) d (by rw [hR]; exact hroom)
theorem k_callVNw (G : xG D T Γ cc own nL ret lev mc ms) {C : String} (hM : XM Γ.1.2.1 D T y code' nL' ret' lev' mcc msc (.ref b :: As) ws post) (f : xV y C code' nL' ret' n) (hlink : (own, idx, y) ∈ xmln) (hn : As.length = n) (hst : st = As.reverse ++ .ref b :: rest) (hcat : (rest.map fun v => v.category).sum ≤ 8) (hlev : lev' + 1 ≤ lev) (hroom : cells + mcc ≤ mc ∧ slots + msc ≤ ms)
    (hrecv : ∃ (q0 ci : Nat) (fs : List Value) (TT : u_T) (N : Nat), ws[q0]? = some (b, .inr (ci, fs)) ∧ xcl[ci]? = some (C, TT, N)) (d : decode cc pc = .ok (.invokevirtual idx, 3))
    (kk : ∀ (v : Option Value) (wc' : va_W), post v wc' → K D Γ (cells + mcc) (slots + msc) (pc + 3) lv (v.toList ++ rest) wc') : K D Γ cells slots pc lv st ws := by
  have h := k_callVN G (wl := []) (wr := []) hM f hlink hn hst hcat hlev hroom (by simpa using hrecv) d (fun v wc' hp => by simpa using kk v wc' hp)
  simpa using h
theorem k_callSN (G : xG D T Γ cc own nL ret lev mc ms) (hM : XM Γ.1.2.1 D T y code' nL' ret' lev' mcc msc As wc post) (f : xS y code' nL' ret' n) (hlink : (own, idx, y) ∈ xmln) (hn : As.length = n) (hst : st = As.reverse ++ rest) (hcat : (rest.map fun v => v.category).sum ≤ 8) (hlev : lev' + 1 ≤ lev) (hroom : cells + mcc ≤ mc ∧ slots + msc ≤ ms)
    (d : decode cc pc = .ok (.invokestatic idx, 3))
    (kk : ∀ (v : Option Value) (wc' : va_W), post v wc' → K D Γ (cells + mcc) (slots + msc) (pc + 3) lv (v.toList ++ rest) (wl ++ (wc' ++ wr))) : K D Γ cells slots pc lv st (wl ++ (wc ++ wr)) := by
  obtain ⟨f1, f3, f4, f5, f6⟩ := f
  have hR : Γ.1.2.2.2 = xrm lev mc ms := G.2.2.2.2.2.2.2.2.2
  have w := G.2.2.2.2.2.2.1
  refine k_run G (a := As.toArray) (fun H locs ls hP hD hS hl => ?_) kk
  have hPc := (x_pa.mp (x_pa.mp hP).2).1
  have hDc := (x_da.mp (x_da.mp hD).2.1).1
  exact va_runSN (As := As) (rest := rest) (host := "BakedBefore") ⟨G.1, G.2.1, G.2.2.1, G.2.2.2.2.2.1, G.2.2.2.2.2.2.1⟩ (hM H.size) ⟨va_cnB n w (lw_meth f4) rfl rfl rfl (G.2.2.2.2.2.2.2.2.1.2.1.2.2.2.1 _ hlink) (w _ f3) f5 (by rw [hR]; exact ⟨hlev, by show 8 + (nL' + 11) + 64 * lev' ≤ 64 * lev; omega⟩), w _ f1, trivial⟩
    ⟨x_blind, fun U hU hW => ⟨rfl, by rw [hU], by rw [hU]; exact hPc, G.2.2.2.2.2.2.2.2.1.next hW (fun a ha hb => by rw [hU]; exact hS.2.1 a ha hb) (x_free hD hS G.2.2.2.2.2.2.2.1), hDc.weaken (fun _ _ _ _ => trivial)⟩⟩ rfl hn (hl.1.trans G.2.2.1) hst (lv_room hcat) d (by rw [hR]; exact hroom)
/-- BakedBefore.in from a nest mate -/
theorem k_inN (G : xG D T Γ cc own nL ret lev mc ms) {x a b : Int32} {k : Int32 → Prop} (h : qw_in x a b k) (hlink : (own, idx, yX0_in) ∈ xmln) (hst : st = .int b :: .int a :: .int x :: rest) (hcat : (rest.map fun v => v.category).sum ≤ 8) (hlev : 2 ≤ lev) (hroom : cells ≤ mc ∧ slots ≤ ms) (d : decode cc pc = .ok (.invokestatic idx, 3)) (kk : ∀ r : Int32, k r → K D Γ cells slots (pc + 3) lv (.int r :: rest) ws) : K D Γ cells slots pc lv st ws := by
  subst hst
  exact k_callSN G (st := .int b :: .int a :: .int x :: rest) (wl := []) (wc := []) (wr := ws) (vk_in _ D T _ _ _ _ h) gf_in hlink (As := [.int x, .int a, .int b]) rfl rfl hcat (by omega) hroom d (fun v wc' hp => by
    obtain ⟨r, rfl, rfl, hk⟩ := hp
    exact kk r hk)
end KNM
abbrev cX5_size : ByteArray := prog_17_method_2_code
def yX5_size : MethodName := ⟨RX5, "size", "()I"⟩
def dkwX5_size_3 : List UInt8 := [153, 0, 13, 44, 192, 0, 21, 76, 43, 190, 167, 0, 11, 42, 180, 0, 9, 192, 0, 23, 190, 172]
abbrev dktX5_size_3 : List UInt8 := dkwX5_size_3 ++ []
def dkwX5_size_2 : List UInt8 := [193, 0, 19, 153, 0, 11, 44, 192, 0, 19, 76, 43, 190, 172, 42, 180, 0, 9, 77, 44, 193, 0, 21]
abbrev dktX5_size_2 : List UInt8 := dkwX5_size_2 ++ dktX5_size_3
def dkwX5_size_1 : List UInt8 := [77, 44, 193, 0, 17, 153, 0, 11, 44, 192, 0, 17, 76, 43, 190, 172, 42, 180, 0, 9, 77, 44]
abbrev dktX5_size_1 : List UInt8 := dkwX5_size_1 ++ dktX5_size_2
def dkwX5_size_0 : List UInt8 := [42, 180, 0, 9, 77, 44, 193, 0, 15, 153, 0, 11, 44, 192, 0, 15, 76, 43, 190, 172, 42, 180, 0, 9]
abbrev dktX5_size_0 : List UInt8 := dkwX5_size_0 ++ dktX5_size_1
theorem dksX5_size_0 : cX5_size.data.toList.drop 0 = dktX5_size_0 := by decide +kernel
theorem dksX5_size_1 : cX5_size.data.toList.drop 24 = dktX5_size_1 := dk_seg dksX5_size_0 24 rfl rfl
theorem dksX5_size_2 : cX5_size.data.toList.drop 46 = dktX5_size_2 := dk_seg dksX5_size_1 22 rfl rfl
theorem dksX5_size_3 : cX5_size.data.toList.drop 69 = dktX5_size_3 := dk_seg dksX5_size_2 23 rfl rfl
theorem dX5_size_0 : decode cX5_size 0 = .ok (.aload_n 0, 1) := dk_42 (dk_at dksX5_size_0 0 rfl rfl)
theorem dX5_size_1 : decode cX5_size 1 = .ok (.getfield 9, 3) := dk_180 0 9 (dk_at dksX5_size_0 1 rfl rfl)
theorem dX5_size_4 : decode cX5_size 4 = .ok (.astore_n 2, 1) := dk_77 (dk_at dksX5_size_0 4 rfl rfl)
theorem dX5_size_5 : decode cX5_size 5 = .ok (.aload_n 2, 1) := dk_44 (dk_at dksX5_size_0 5 rfl rfl)
theorem dX5_size_6 : decode cX5_size 6 = .ok (.instanceof 15, 3) := dk_193 0 15 (dk_at dksX5_size_0 6 rfl rfl)
theorem dX5_size_9 : decode cX5_size 9 = .ok (.ifCond .eq 11, 3) := dk_153 0 11 (dk_at dksX5_size_0 9 rfl rfl)
theorem dX5_size_12 : decode cX5_size 12 = .ok (.aload_n 2, 1) := dk_44 (dk_at dksX5_size_0 12 rfl rfl)
theorem dX5_size_13 : decode cX5_size 13 = .ok (.checkcast 15, 3) := dk_192 0 15 (dk_at dksX5_size_0 13 rfl rfl)
theorem dX5_size_16 : decode cX5_size 16 = .ok (.astore_n 1, 1) := dk_76 (dk_at dksX5_size_0 16 rfl rfl)
theorem dX5_size_17 : decode cX5_size 17 = .ok (.aload_n 1, 1) := dk_43 (dk_at dksX5_size_0 17 rfl rfl)
theorem dX5_size_18 : decode cX5_size 18 = .ok (.arraylength, 1) := dk_190 (dk_at dksX5_size_0 18 rfl rfl)
theorem dX5_size_19 : decode cX5_size 19 = .ok (.ireturn, 1) := dk_172 (dk_at dksX5_size_0 19 rfl rfl)
theorem dX5_size_20 : decode cX5_size 20 = .ok (.aload_n 0, 1) := dk_42 (dk_at dksX5_size_0 20 rfl rfl)
theorem dX5_size_21 : decode cX5_size 21 = .ok (.getfield 9, 3) := dk_180 0 9 (dk_at dksX5_size_0 21 rfl rfl)
theorem dX5_size_24 : decode cX5_size 24 = .ok (.astore_n 2, 1) := dk_77 (dk_at dksX5_size_1 0 rfl rfl)
theorem dX5_size_25 : decode cX5_size 25 = .ok (.aload_n 2, 1) := dk_44 (dk_at dksX5_size_1 1 rfl rfl)
theorem dX5_size_26 : decode cX5_size 26 = .ok (.instanceof 17, 3) := dk_193 0 17 (dk_at dksX5_size_1 2 rfl rfl)
theorem dX5_size_29 : decode cX5_size 29 = .ok (.ifCond .eq 11, 3) := dk_153 0 11 (dk_at dksX5_size_1 5 rfl rfl)
theorem dX5_size_32 : decode cX5_size 32 = .ok (.aload_n 2, 1) := dk_44 (dk_at dksX5_size_1 8 rfl rfl)
theorem dX5_size_33 : decode cX5_size 33 = .ok (.checkcast 17, 3) := dk_192 0 17 (dk_at dksX5_size_1 9 rfl rfl)
theorem dX5_size_36 : decode cX5_size 36 = .ok (.astore_n 1, 1) := dk_76 (dk_at dksX5_size_1 12 rfl rfl)
theorem dX5_size_37 : decode cX5_size 37 = .ok (.aload_n 1, 1) := dk_43 (dk_at dksX5_size_1 13 rfl rfl)
theorem dX5_size_38 : decode cX5_size 38 = .ok (.arraylength, 1) := dk_190 (dk_at dksX5_size_1 14 rfl rfl)
theorem dX5_size_39 : decode cX5_size 39 = .ok (.ireturn, 1) := dk_172 (dk_at dksX5_size_1 15 rfl rfl)
theorem dX5_size_40 : decode cX5_size 40 = .ok (.aload_n 0, 1) := dk_42 (dk_at dksX5_size_1 16 rfl rfl)
theorem dX5_size_41 : decode cX5_size 41 = .ok (.getfield 9, 3) := dk_180 0 9 (dk_at dksX5_size_1 17 rfl rfl)
theorem dX5_size_44 : decode cX5_size 44 = .ok (.astore_n 2, 1) := dk_77 (dk_at dksX5_size_1 20 rfl rfl)
theorem dX5_size_45 : decode cX5_size 45 = .ok (.aload_n 2, 1) := dk_44 (dk_at dksX5_size_1 21 rfl rfl)
theorem dX5_size_46 : decode cX5_size 46 = .ok (.instanceof 19, 3) := dk_193 0 19 (dk_at dksX5_size_2 0 rfl rfl)
theorem dX5_size_49 : decode cX5_size 49 = .ok (.ifCond .eq 11, 3) := dk_153 0 11 (dk_at dksX5_size_2 3 rfl rfl)
theorem dX5_size_52 : decode cX5_size 52 = .ok (.aload_n 2, 1) := dk_44 (dk_at dksX5_size_2 6 rfl rfl)
theorem dX5_size_53 : decode cX5_size 53 = .ok (.checkcast 19, 3) := dk_192 0 19 (dk_at dksX5_size_2 7 rfl rfl)
theorem dX5_size_56 : decode cX5_size 56 = .ok (.astore_n 1, 1) := dk_76 (dk_at dksX5_size_2 10 rfl rfl)
theorem dX5_size_57 : decode cX5_size 57 = .ok (.aload_n 1, 1) := dk_43 (dk_at dksX5_size_2 11 rfl rfl)
theorem dX5_size_58 : decode cX5_size 58 = .ok (.arraylength, 1) := dk_190 (dk_at dksX5_size_2 12 rfl rfl)
theorem dX5_size_59 : decode cX5_size 59 = .ok (.ireturn, 1) := dk_172 (dk_at dksX5_size_2 13 rfl rfl)
theorem dX5_size_60 : decode cX5_size 60 = .ok (.aload_n 0, 1) := dk_42 (dk_at dksX5_size_2 14 rfl rfl)
theorem dX5_size_61 : decode cX5_size 61 = .ok (.getfield 9, 3) := dk_180 0 9 (dk_at dksX5_size_2 15 rfl rfl)
theorem dX5_size_64 : decode cX5_size 64 = .ok (.astore_n 2, 1) := dk_77 (dk_at dksX5_size_2 18 rfl rfl)
theorem dX5_size_65 : decode cX5_size 65 = .ok (.aload_n 2, 1) := dk_44 (dk_at dksX5_size_2 19 rfl rfl)
theorem dX5_size_66 : decode cX5_size 66 = .ok (.instanceof 21, 3) := dk_193 0 21 (dk_at dksX5_size_2 20 rfl rfl)
theorem dX5_size_69 : decode cX5_size 69 = .ok (.ifCond .eq 13, 3) := dk_153 0 13 (dk_at dksX5_size_3 0 rfl rfl)
theorem dX5_size_72 : decode cX5_size 72 = .ok (.aload_n 2, 1) := dk_44 (dk_at dksX5_size_3 3 rfl rfl)
theorem dX5_size_73 : decode cX5_size 73 = .ok (.checkcast 21, 3) := dk_192 0 21 (dk_at dksX5_size_3 4 rfl rfl)
theorem dX5_size_76 : decode cX5_size 76 = .ok (.astore_n 1, 1) := dk_76 (dk_at dksX5_size_3 7 rfl rfl)
theorem dX5_size_77 : decode cX5_size 77 = .ok (.aload_n 1, 1) := dk_43 (dk_at dksX5_size_3 8 rfl rfl)
theorem dX5_size_78 : decode cX5_size 78 = .ok (.arraylength, 1) := dk_190 (dk_at dksX5_size_3 9 rfl rfl)
theorem dX5_size_79 : decode cX5_size 79 = .ok (.goto 11, 3) := dk_167 0 11 (dk_at dksX5_size_3 10 rfl rfl)
theorem dX5_size_82 : decode cX5_size 82 = .ok (.aload_n 0, 1) := dk_42 (dk_at dksX5_size_3 13 rfl rfl)
theorem dX5_size_83 : decode cX5_size 83 = .ok (.getfield 9, 3) := dk_180 0 9 (dk_at dksX5_size_3 14 rfl rfl)
theorem dX5_size_86 : decode cX5_size 86 = .ok (.checkcast 23, 3) := dk_192 0 23 (dk_at dksX5_size_3 17 rfl rfl)
theorem dX5_size_89 : decode cX5_size 89 = .ok (.arraylength, 1) := dk_190 (dk_at dksX5_size_3 20 rfl rfl)
theorem dX5_size_90 : decode cX5_size 90 = .ok (.ireturn, 1) := dk_172 (dk_at dksX5_size_3 21 rfl rfl)
theorem xs_tsize : xV yX5_size "BakedBefore$Tape" cX5_size 3 (some .int) 0 := ⟨q1353, qs42, q95, q1354, ⟨rfl, by decide +kernel, by decide +kernel, by decide +kernel⟩, by decide⟩
theorem ks_tsize (l : Launch) (D : va_G) (T : xT) (q : Nat → Nat) (ω : CS) {i s a : Nat} (hi : i < 6) (hr : ω.1.2 (31 + i) 0 = some a) {x : vp_A} (h : rowE T ω s a x) : XM l D T yX5_size cX5_size 3 (some .int) 1 0 0 [.ref (q (31 + i))] (cw T q ω) (fun v w => v = some (.int (nI x.1)) ∧ w = cw T q ω) := by
  refine XM.start (by decide +kernel) (Nat.le_of_ble_eq_true rfl) (fun Γ G X _ hl_ => ?_)
  subst hl_
  refine K.less [0] (lv' := [(0, .ref (q (31 + i)))]) rfl ?_
  match s, h.1, h with
  | 0, _, h =>
    refine k_aload_n G dX5_size_0 rfl ?_
    refine kc_row G hi (Or.inl q264) dX5_size_1 ?_
    rw [hr]
    refine k_astore_n G [(2, .ref a), (0, .ref (q (31 + i)))] dX5_size_4 rfl (Nat.le_of_ble_eq_true rfl) rfl ?_
    refine k_aload_n G dX5_size_5 rfl ?_
    refine kr_instY G h q1355 dX5_size_6 ?_
    refine k_if_eq G 20 dX5_size_9 (by decide) (fun c9 => absurd c9 (by decide)) (fun _ => ?_)
    refine k_aload_n G dX5_size_12 rfl ?_
    refine kr_cast G h q1355 dX5_size_13 ?_
    refine k_astore_n G [(1, .ref a), (2, .ref a), (0, .ref (q (31 + i)))] dX5_size_16 rfl (Nat.le_of_ble_eq_true rfl) rfl ?_
    refine k_aload_n G dX5_size_17 rfl ?_
    refine kr_len G h dX5_size_18 ?_
    exact k_iret G X dX5_size_19 (Nat.le_refl _) (Nat.le_refl _) ⟨rfl, rfl⟩
  | 1, _, h =>
    refine k_aload_n G dX5_size_0 rfl ?_
    refine kc_row G hi (Or.inl q264) dX5_size_1 ?_
    rw [hr]
    refine k_astore_n G [(2, .ref a), (0, .ref (q (31 + i)))] dX5_size_4 rfl (Nat.le_of_ble_eq_true rfl) rfl ?_
    refine k_aload_n G dX5_size_5 rfl ?_
    refine kr_instN G h q1355 (by decide +kernel) dX5_size_6 ?_
    refine k_if_eq G 20 dX5_size_9 (by decide) (fun _ => ?_) (fun c9 => absurd rfl c9)
    refine k_aload_n G dX5_size_20 rfl ?_
    refine kc_row G hi (Or.inl q264) dX5_size_21 ?_
    rw [hr]
    refine k_astore_n G [(2, .ref a), (0, .ref (q (31 + i)))] dX5_size_24 rfl (Nat.le_of_ble_eq_true rfl) rfl ?_
    refine k_aload_n G dX5_size_25 rfl ?_
    refine kr_instY G h q1356 dX5_size_26 ?_
    refine k_if_eq G 40 dX5_size_29 (by decide) (fun c29 => absurd c29 (by decide)) (fun _ => ?_)
    refine k_aload_n G dX5_size_32 rfl ?_
    refine kr_cast G h q1356 dX5_size_33 ?_
    refine k_astore_n G [(1, .ref a), (2, .ref a), (0, .ref (q (31 + i)))] dX5_size_36 rfl (Nat.le_of_ble_eq_true rfl) rfl ?_
    refine k_aload_n G dX5_size_37 rfl ?_
    refine kr_len G h dX5_size_38 ?_
    exact k_iret G X dX5_size_39 (Nat.le_refl _) (Nat.le_refl _) ⟨rfl, rfl⟩
  | 2, _, h =>
    refine k_aload_n G dX5_size_0 rfl ?_
    refine kc_row G hi (Or.inl q264) dX5_size_1 ?_
    rw [hr]
    refine k_astore_n G [(2, .ref a), (0, .ref (q (31 + i)))] dX5_size_4 rfl (Nat.le_of_ble_eq_true rfl) rfl ?_
    refine k_aload_n G dX5_size_5 rfl ?_
    refine kr_instN G h q1355 (by decide +kernel) dX5_size_6 ?_
    refine k_if_eq G 20 dX5_size_9 (by decide) (fun _ => ?_) (fun c9 => absurd rfl c9)
    refine k_aload_n G dX5_size_20 rfl ?_
    refine kc_row G hi (Or.inl q264) dX5_size_21 ?_
    rw [hr]
    refine k_astore_n G [(2, .ref a), (0, .ref (q (31 + i)))] dX5_size_24 rfl (Nat.le_of_ble_eq_true rfl) rfl ?_
    refine k_aload_n G dX5_size_25 rfl ?_
    refine kr_instN G h q1356 (by decide +kernel) dX5_size_26 ?_
    refine k_if_eq G 40 dX5_size_29 (by decide) (fun _ => ?_) (fun c29 => absurd rfl c29)
    refine k_aload_n G dX5_size_40 rfl ?_
    refine kc_row G hi (Or.inl q264) dX5_size_41 ?_
    rw [hr]
    refine k_astore_n G [(2, .ref a), (0, .ref (q (31 + i)))] dX5_size_44 rfl (Nat.le_of_ble_eq_true rfl) rfl ?_
    refine k_aload_n G dX5_size_45 rfl ?_
    refine kr_instY G h q1357 dX5_size_46 ?_
    refine k_if_eq G 60 dX5_size_49 (by decide) (fun c49 => absurd c49 (by decide)) (fun _ => ?_)
    refine k_aload_n G dX5_size_52 rfl ?_
    refine kr_cast G h q1357 dX5_size_53 ?_
    refine k_astore_n G [(1, .ref a), (2, .ref a), (0, .ref (q (31 + i)))] dX5_size_56 rfl (Nat.le_of_ble_eq_true rfl) rfl ?_
    refine k_aload_n G dX5_size_57 rfl ?_
    refine kr_len G h dX5_size_58 ?_
    exact k_iret G X dX5_size_59 (Nat.le_refl _) (Nat.le_refl _) ⟨rfl, rfl⟩
  | 3, _, h =>
    refine k_aload_n G dX5_size_0 rfl ?_
    refine kc_row G hi (Or.inl q264) dX5_size_1 ?_
    rw [hr]
    refine k_astore_n G [(2, .ref a), (0, .ref (q (31 + i)))] dX5_size_4 rfl (Nat.le_of_ble_eq_true rfl) rfl ?_
    refine k_aload_n G dX5_size_5 rfl ?_
    refine kr_instN G h q1355 (by decide +kernel) dX5_size_6 ?_
    refine k_if_eq G 20 dX5_size_9 (by decide) (fun _ => ?_) (fun c9 => absurd rfl c9)
    refine k_aload_n G dX5_size_20 rfl ?_
    refine kc_row G hi (Or.inl q264) dX5_size_21 ?_
    rw [hr]
    refine k_astore_n G [(2, .ref a), (0, .ref (q (31 + i)))] dX5_size_24 rfl (Nat.le_of_ble_eq_true rfl) rfl ?_
    refine k_aload_n G dX5_size_25 rfl ?_
    refine kr_instN G h q1356 (by decide +kernel) dX5_size_26 ?_
    refine k_if_eq G 40 dX5_size_29 (by decide) (fun _ => ?_) (fun c29 => absurd rfl c29)
    refine k_aload_n G dX5_size_40 rfl ?_
    refine kc_row G hi (Or.inl q264) dX5_size_41 ?_
    rw [hr]
    refine k_astore_n G [(2, .ref a), (0, .ref (q (31 + i)))] dX5_size_44 rfl (Nat.le_of_ble_eq_true rfl) rfl ?_
    refine k_aload_n G dX5_size_45 rfl ?_
    refine kr_instN G h q1357 (by decide +kernel) dX5_size_46 ?_
    refine k_if_eq G 60 dX5_size_49 (by decide) (fun _ => ?_) (fun c49 => absurd rfl c49)
    refine k_aload_n G dX5_size_60 rfl ?_
    refine kc_row G hi (Or.inl q264) dX5_size_61 ?_
    rw [hr]
    refine k_astore_n G [(2, .ref a), (0, .ref (q (31 + i)))] dX5_size_64 rfl (Nat.le_of_ble_eq_true rfl) rfl ?_
    refine k_aload_n G dX5_size_65 rfl ?_
    refine kr_instY G h q1358 dX5_size_66 ?_
    refine k_if_eq G 82 dX5_size_69 (by decide) (fun c69 => absurd c69 (by decide)) (fun _ => ?_)
    refine k_aload_n G dX5_size_72 rfl ?_
    refine kr_cast G h q1358 dX5_size_73 ?_
    refine k_astore_n G [(1, .ref a), (2, .ref a), (0, .ref (q (31 + i)))] dX5_size_76 rfl (Nat.le_of_ble_eq_true rfl) rfl ?_
    refine k_aload_n G dX5_size_77 rfl ?_
    refine kr_len G h dX5_size_78 ?_
    refine k_goto G 90 dX5_size_79 (by decide) ?_
    exact k_iret G X dX5_size_90 (Nat.le_refl _) (Nat.le_refl _) ⟨rfl, rfl⟩
  | 4, _, h =>
    refine k_aload_n G dX5_size_0 rfl ?_
    refine kc_row G hi (Or.inl q264) dX5_size_1 ?_
    rw [hr]
    refine k_astore_n G [(2, .ref a), (0, .ref (q (31 + i)))] dX5_size_4 rfl (Nat.le_of_ble_eq_true rfl) rfl ?_
    refine k_aload_n G dX5_size_5 rfl ?_
    refine kr_instN G h q1355 (by decide +kernel) dX5_size_6 ?_
    refine k_if_eq G 20 dX5_size_9 (by decide) (fun _ => ?_) (fun c9 => absurd rfl c9)
    refine k_aload_n G dX5_size_20 rfl ?_
    refine kc_row G hi (Or.inl q264) dX5_size_21 ?_
    rw [hr]
    refine k_astore_n G [(2, .ref a), (0, .ref (q (31 + i)))] dX5_size_24 rfl (Nat.le_of_ble_eq_true rfl) rfl ?_
    refine k_aload_n G dX5_size_25 rfl ?_
    refine kr_instN G h q1356 (by decide +kernel) dX5_size_26 ?_
    refine k_if_eq G 40 dX5_size_29 (by decide) (fun _ => ?_) (fun c29 => absurd rfl c29)
    refine k_aload_n G dX5_size_40 rfl ?_
    refine kc_row G hi (Or.inl q264) dX5_size_41 ?_
    rw [hr]
    refine k_astore_n G [(2, .ref a), (0, .ref (q (31 + i)))] dX5_size_44 rfl (Nat.le_of_ble_eq_true rfl) rfl ?_
    refine k_aload_n G dX5_size_45 rfl ?_
    refine kr_instN G h q1357 (by decide +kernel) dX5_size_46 ?_
    refine k_if_eq G 60 dX5_size_49 (by decide) (fun _ => ?_) (fun c49 => absurd rfl c49)
    refine k_aload_n G dX5_size_60 rfl ?_
    refine kc_row G hi (Or.inl q264) dX5_size_61 ?_
    rw [hr]
    refine k_astore_n G [(2, .ref a), (0, .ref (q (31 + i)))] dX5_size_64 rfl (Nat.le_of_ble_eq_true rfl) rfl ?_
    refine k_aload_n G dX5_size_65 rfl ?_
    refine kr_instN G h q1358 (by decide +kernel) dX5_size_66 ?_
    refine k_if_eq G 82 dX5_size_69 (by decide) (fun _ => ?_) (fun c69 => absurd rfl c69)
    refine k_aload_n G dX5_size_82 rfl ?_
    refine kc_row G hi (Or.inl q264) dX5_size_83 ?_
    rw [hr]
    refine kr_cast G h q1359 dX5_size_86 ?_
    refine kr_len G h dX5_size_89 ?_
    exact k_iret G X dX5_size_90 (Nat.le_refl _) (Nat.le_refl _) ⟨rfl, rfl⟩
abbrev cX0_read : ByteArray := prog_1_method_66_code
def yX0_read : MethodName := ⟨RX0, "read", "(II)J"⟩
def dkwX0_read_7 : List UInt8 := [192, 1, 138, 28, 51, 153, 0, 7, 10, 167, 0, 4, 9, 173]
abbrev dktX0_read_7 : List UInt8 := dkwX0_read_7 ++ []
def dkwX0_read_6 : List UInt8 := [193, 1, 136, 153, 0, 17, 25, 5, 192, 1, 136, 58, 4, 25, 4, 28, 47, 167, 0, 20, 45, 180, 1, 80]
abbrev dktX0_read_6 : List UInt8 := dkwX0_read_6 ++ dktX0_read_7
def dkwX0_read_5 : List UInt8 := [153, 0, 16, 25, 5, 192, 1, 135, 58, 4, 25, 4, 28, 46, 133, 173, 45, 180, 1, 80, 58, 5, 25, 5]
abbrev dktX0_read_5 : List UInt8 := dkwX0_read_5 ++ dktX0_read_6
def dkwX0_read_4 : List UInt8 := [192, 1, 83, 58, 4, 25, 4, 28, 53, 133, 173, 45, 180, 1, 80, 58, 5, 25, 5, 193, 1, 135]
abbrev dktX0_read_4 : List UInt8 := dkwX0_read_4 ++ dktX0_read_5
def dkwX0_read_3 : List UInt8 := [25, 4, 28, 51, 133, 173, 45, 180, 1, 80, 58, 5, 25, 5, 193, 1, 83, 153, 0, 16, 25, 5]
abbrev dktX0_read_3 : List UInt8 := dkwX0_read_3 ++ dktX0_read_4
def dkwX0_read_2 : List UInt8 := [27, 50, 78, 45, 180, 1, 80, 58, 5, 25, 5, 193, 1, 134, 153, 0, 16, 25, 5, 192, 1, 134, 58, 4]
abbrev dktX0_read_2 : List UInt8 := dkwX0_read_2 ++ dktX0_read_3
def dkwX0_read_1 : List UInt8 := [180, 0, 68, 27, 50, 182, 1, 139, 4, 100, 184, 0, 111, 154, 0, 7, 20, 1, 60, 173, 42, 180, 0, 68]
abbrev dktX0_read_1 : List UInt8 := dkwX0_read_1 ++ dktX0_read_2
def dkwX0_read_0 : List UInt8 := [27, 184, 1, 77, 153, 0, 34, 42, 180, 0, 68, 27, 50, 180, 1, 80, 198, 0, 22, 28, 3, 42]
abbrev dktX0_read_0 : List UInt8 := dkwX0_read_0 ++ dktX0_read_1
theorem dksX0_read_0 : cX0_read.data.toList.drop 0 = dktX0_read_0 := by decide +kernel
theorem dksX0_read_1 : cX0_read.data.toList.drop 22 = dktX0_read_1 := dk_seg dksX0_read_0 22 rfl rfl
theorem dksX0_read_2 : cX0_read.data.toList.drop 46 = dktX0_read_2 := dk_seg dksX0_read_1 24 rfl rfl
theorem dksX0_read_3 : cX0_read.data.toList.drop 70 = dktX0_read_3 := dk_seg dksX0_read_2 24 rfl rfl
theorem dksX0_read_4 : cX0_read.data.toList.drop 92 = dktX0_read_4 := dk_seg dksX0_read_3 22 rfl rfl
theorem dksX0_read_5 : cX0_read.data.toList.drop 114 = dktX0_read_5 := dk_seg dksX0_read_4 22 rfl rfl
theorem dksX0_read_6 : cX0_read.data.toList.drop 138 = dktX0_read_6 := dk_seg dksX0_read_5 24 rfl rfl
theorem dksX0_read_7 : cX0_read.data.toList.drop 162 = dktX0_read_7 := dk_seg dksX0_read_6 24 rfl rfl
theorem dX0_read_0 : decode cX0_read 0 = .ok (.iload_n 1, 1) := dk_27 (dk_at dksX0_read_0 0 rfl rfl)
theorem dX0_read_1 : decode cX0_read 1 = .ok (.invokestatic 333, 3) := dk_184 1 77 (dk_at dksX0_read_0 1 rfl rfl)
theorem dX0_read_4 : decode cX0_read 4 = .ok (.ifCond .eq 34, 3) := dk_153 0 34 (dk_at dksX0_read_0 4 rfl rfl)
theorem dX0_read_7 : decode cX0_read 7 = .ok (.aload_n 0, 1) := dk_42 (dk_at dksX0_read_0 7 rfl rfl)
theorem dX0_read_8 : decode cX0_read 8 = .ok (.getfield 68, 3) := dk_180 0 68 (dk_at dksX0_read_0 8 rfl rfl)
theorem dX0_read_11 : decode cX0_read 11 = .ok (.iload_n 1, 1) := dk_27 (dk_at dksX0_read_0 11 rfl rfl)
theorem dX0_read_12 : decode cX0_read 12 = .ok (.aaload, 1) := dk_50 (dk_at dksX0_read_0 12 rfl rfl)
theorem dX0_read_13 : decode cX0_read 13 = .ok (.getfield 336, 3) := dk_180 1 80 (dk_at dksX0_read_0 13 rfl rfl)
theorem dX0_read_16 : decode cX0_read 16 = .ok (.ifnull 22, 3) := dk_198 0 22 (dk_at dksX0_read_0 16 rfl rfl)
theorem dX0_read_19 : decode cX0_read 19 = .ok (.iload_n 2, 1) := dk_28 (dk_at dksX0_read_0 19 rfl rfl)
theorem dX0_read_20 : decode cX0_read 20 = .ok (.iconst 0, 1) := dk_3 (dk_at dksX0_read_0 20 rfl rfl)
theorem dX0_read_21 : decode cX0_read 21 = .ok (.aload_n 0, 1) := dk_42 (dk_at dksX0_read_0 21 rfl rfl)
theorem dX0_read_22 : decode cX0_read 22 = .ok (.getfield 68, 3) := dk_180 0 68 (dk_at dksX0_read_1 0 rfl rfl)
theorem dX0_read_25 : decode cX0_read 25 = .ok (.iload_n 1, 1) := dk_27 (dk_at dksX0_read_1 3 rfl rfl)
theorem dX0_read_26 : decode cX0_read 26 = .ok (.aaload, 1) := dk_50 (dk_at dksX0_read_1 4 rfl rfl)
theorem dX0_read_27 : decode cX0_read 27 = .ok (.invokevirtual 395, 3) := dk_182 1 139 (dk_at dksX0_read_1 5 rfl rfl)
theorem dX0_read_30 : decode cX0_read 30 = .ok (.iconst 1, 1) := dk_4 (dk_at dksX0_read_1 8 rfl rfl)
theorem dX0_read_31 : decode cX0_read 31 = .ok (.isub, 1) := dk_100 (dk_at dksX0_read_1 9 rfl rfl)
theorem dX0_read_32 : decode cX0_read 32 = .ok (.invokestatic 111, 3) := dk_184 0 111 (dk_at dksX0_read_1 10 rfl rfl)
theorem dX0_read_35 : decode cX0_read 35 = .ok (.ifCond .ne 7, 3) := dk_154 0 7 (dk_at dksX0_read_1 13 rfl rfl)
theorem dX0_read_38 : decode cX0_read 38 = .ok (.ldc2_w 316, 3) := dk_20 1 60 (dk_at dksX0_read_1 16 rfl rfl)
theorem dX0_read_41 : decode cX0_read 41 = .ok (.lreturn, 1) := dk_173 (dk_at dksX0_read_1 19 rfl rfl)
theorem dX0_read_42 : decode cX0_read 42 = .ok (.aload_n 0, 1) := dk_42 (dk_at dksX0_read_1 20 rfl rfl)
theorem dX0_read_43 : decode cX0_read 43 = .ok (.getfield 68, 3) := dk_180 0 68 (dk_at dksX0_read_1 21 rfl rfl)
theorem dX0_read_46 : decode cX0_read 46 = .ok (.iload_n 1, 1) := dk_27 (dk_at dksX0_read_2 0 rfl rfl)
theorem dX0_read_47 : decode cX0_read 47 = .ok (.aaload, 1) := dk_50 (dk_at dksX0_read_2 1 rfl rfl)
theorem dX0_read_48 : decode cX0_read 48 = .ok (.astore_n 3, 1) := dk_78 (dk_at dksX0_read_2 2 rfl rfl)
theorem dX0_read_49 : decode cX0_read 49 = .ok (.aload_n 3, 1) := dk_45 (dk_at dksX0_read_2 3 rfl rfl)
theorem dX0_read_50 : decode cX0_read 50 = .ok (.getfield 336, 3) := dk_180 1 80 (dk_at dksX0_read_2 4 rfl rfl)
theorem dX0_read_53 : decode cX0_read 53 = .ok (.astore 5, 2) := dk_58 5 (dk_at dksX0_read_2 7 rfl rfl)
theorem dX0_read_55 : decode cX0_read 55 = .ok (.aload 5, 2) := dk_25 5 (dk_at dksX0_read_2 9 rfl rfl)
theorem dX0_read_57 : decode cX0_read 57 = .ok (.instanceof 390, 3) := dk_193 1 134 (dk_at dksX0_read_2 11 rfl rfl)
theorem dX0_read_60 : decode cX0_read 60 = .ok (.ifCond .eq 16, 3) := dk_153 0 16 (dk_at dksX0_read_2 14 rfl rfl)
theorem dX0_read_63 : decode cX0_read 63 = .ok (.aload 5, 2) := dk_25 5 (dk_at dksX0_read_2 17 rfl rfl)
theorem dX0_read_65 : decode cX0_read 65 = .ok (.checkcast 390, 3) := dk_192 1 134 (dk_at dksX0_read_2 19 rfl rfl)
theorem dX0_read_68 : decode cX0_read 68 = .ok (.astore 4, 2) := dk_58 4 (dk_at dksX0_read_2 22 rfl rfl)
theorem dX0_read_70 : decode cX0_read 70 = .ok (.aload 4, 2) := dk_25 4 (dk_at dksX0_read_3 0 rfl rfl)
theorem dX0_read_72 : decode cX0_read 72 = .ok (.iload_n 2, 1) := dk_28 (dk_at dksX0_read_3 2 rfl rfl)
theorem dX0_read_73 : decode cX0_read 73 = .ok (.baload, 1) := dk_51 (dk_at dksX0_read_3 3 rfl rfl)
theorem dX0_read_74 : decode cX0_read 74 = .ok (.i2l, 1) := dk_133 (dk_at dksX0_read_3 4 rfl rfl)
theorem dX0_read_75 : decode cX0_read 75 = .ok (.lreturn, 1) := dk_173 (dk_at dksX0_read_3 5 rfl rfl)
theorem dX0_read_76 : decode cX0_read 76 = .ok (.aload_n 3, 1) := dk_45 (dk_at dksX0_read_3 6 rfl rfl)
theorem dX0_read_77 : decode cX0_read 77 = .ok (.getfield 336, 3) := dk_180 1 80 (dk_at dksX0_read_3 7 rfl rfl)
theorem dX0_read_80 : decode cX0_read 80 = .ok (.astore 5, 2) := dk_58 5 (dk_at dksX0_read_3 10 rfl rfl)
theorem dX0_read_82 : decode cX0_read 82 = .ok (.aload 5, 2) := dk_25 5 (dk_at dksX0_read_3 12 rfl rfl)
theorem dX0_read_84 : decode cX0_read 84 = .ok (.instanceof 339, 3) := dk_193 1 83 (dk_at dksX0_read_3 14 rfl rfl)
theorem dX0_read_87 : decode cX0_read 87 = .ok (.ifCond .eq 16, 3) := dk_153 0 16 (dk_at dksX0_read_3 17 rfl rfl)
theorem dX0_read_90 : decode cX0_read 90 = .ok (.aload 5, 2) := dk_25 5 (dk_at dksX0_read_3 20 rfl rfl)
theorem dX0_read_92 : decode cX0_read 92 = .ok (.checkcast 339, 3) := dk_192 1 83 (dk_at dksX0_read_4 0 rfl rfl)
theorem dX0_read_95 : decode cX0_read 95 = .ok (.astore 4, 2) := dk_58 4 (dk_at dksX0_read_4 3 rfl rfl)
theorem dX0_read_97 : decode cX0_read 97 = .ok (.aload 4, 2) := dk_25 4 (dk_at dksX0_read_4 5 rfl rfl)
theorem dX0_read_99 : decode cX0_read 99 = .ok (.iload_n 2, 1) := dk_28 (dk_at dksX0_read_4 7 rfl rfl)
theorem dX0_read_100 : decode cX0_read 100 = .ok (.saload, 1) := dk_53 (dk_at dksX0_read_4 8 rfl rfl)
theorem dX0_read_101 : decode cX0_read 101 = .ok (.i2l, 1) := dk_133 (dk_at dksX0_read_4 9 rfl rfl)
theorem dX0_read_102 : decode cX0_read 102 = .ok (.lreturn, 1) := dk_173 (dk_at dksX0_read_4 10 rfl rfl)
theorem dX0_read_103 : decode cX0_read 103 = .ok (.aload_n 3, 1) := dk_45 (dk_at dksX0_read_4 11 rfl rfl)
theorem dX0_read_104 : decode cX0_read 104 = .ok (.getfield 336, 3) := dk_180 1 80 (dk_at dksX0_read_4 12 rfl rfl)
theorem dX0_read_107 : decode cX0_read 107 = .ok (.astore 5, 2) := dk_58 5 (dk_at dksX0_read_4 15 rfl rfl)
theorem dX0_read_109 : decode cX0_read 109 = .ok (.aload 5, 2) := dk_25 5 (dk_at dksX0_read_4 17 rfl rfl)
theorem dX0_read_111 : decode cX0_read 111 = .ok (.instanceof 391, 3) := dk_193 1 135 (dk_at dksX0_read_4 19 rfl rfl)
theorem dX0_read_114 : decode cX0_read 114 = .ok (.ifCond .eq 16, 3) := dk_153 0 16 (dk_at dksX0_read_5 0 rfl rfl)
theorem dX0_read_117 : decode cX0_read 117 = .ok (.aload 5, 2) := dk_25 5 (dk_at dksX0_read_5 3 rfl rfl)
theorem dX0_read_119 : decode cX0_read 119 = .ok (.checkcast 391, 3) := dk_192 1 135 (dk_at dksX0_read_5 5 rfl rfl)
theorem dX0_read_122 : decode cX0_read 122 = .ok (.astore 4, 2) := dk_58 4 (dk_at dksX0_read_5 8 rfl rfl)
theorem dX0_read_124 : decode cX0_read 124 = .ok (.aload 4, 2) := dk_25 4 (dk_at dksX0_read_5 10 rfl rfl)
theorem dX0_read_126 : decode cX0_read 126 = .ok (.iload_n 2, 1) := dk_28 (dk_at dksX0_read_5 12 rfl rfl)
theorem dX0_read_127 : decode cX0_read 127 = .ok (.iaload, 1) := dk_46 (dk_at dksX0_read_5 13 rfl rfl)
theorem dX0_read_128 : decode cX0_read 128 = .ok (.i2l, 1) := dk_133 (dk_at dksX0_read_5 14 rfl rfl)
theorem dX0_read_129 : decode cX0_read 129 = .ok (.lreturn, 1) := dk_173 (dk_at dksX0_read_5 15 rfl rfl)
theorem dX0_read_130 : decode cX0_read 130 = .ok (.aload_n 3, 1) := dk_45 (dk_at dksX0_read_5 16 rfl rfl)
theorem dX0_read_131 : decode cX0_read 131 = .ok (.getfield 336, 3) := dk_180 1 80 (dk_at dksX0_read_5 17 rfl rfl)
theorem dX0_read_134 : decode cX0_read 134 = .ok (.astore 5, 2) := dk_58 5 (dk_at dksX0_read_5 20 rfl rfl)
theorem dX0_read_136 : decode cX0_read 136 = .ok (.aload 5, 2) := dk_25 5 (dk_at dksX0_read_5 22 rfl rfl)
theorem dX0_read_138 : decode cX0_read 138 = .ok (.instanceof 392, 3) := dk_193 1 136 (dk_at dksX0_read_6 0 rfl rfl)
theorem dX0_read_141 : decode cX0_read 141 = .ok (.ifCond .eq 17, 3) := dk_153 0 17 (dk_at dksX0_read_6 3 rfl rfl)
theorem dX0_read_144 : decode cX0_read 144 = .ok (.aload 5, 2) := dk_25 5 (dk_at dksX0_read_6 6 rfl rfl)
theorem dX0_read_146 : decode cX0_read 146 = .ok (.checkcast 392, 3) := dk_192 1 136 (dk_at dksX0_read_6 8 rfl rfl)
theorem dX0_read_149 : decode cX0_read 149 = .ok (.astore 4, 2) := dk_58 4 (dk_at dksX0_read_6 11 rfl rfl)
theorem dX0_read_151 : decode cX0_read 151 = .ok (.aload 4, 2) := dk_25 4 (dk_at dksX0_read_6 13 rfl rfl)
theorem dX0_read_153 : decode cX0_read 153 = .ok (.iload_n 2, 1) := dk_28 (dk_at dksX0_read_6 15 rfl rfl)
theorem dX0_read_154 : decode cX0_read 154 = .ok (.laload, 1) := dk_47 (dk_at dksX0_read_6 16 rfl rfl)
theorem dX0_read_155 : decode cX0_read 155 = .ok (.goto 20, 3) := dk_167 0 20 (dk_at dksX0_read_6 17 rfl rfl)
theorem dX0_read_158 : decode cX0_read 158 = .ok (.aload_n 3, 1) := dk_45 (dk_at dksX0_read_6 20 rfl rfl)
theorem dX0_read_159 : decode cX0_read 159 = .ok (.getfield 336, 3) := dk_180 1 80 (dk_at dksX0_read_6 21 rfl rfl)
theorem dX0_read_162 : decode cX0_read 162 = .ok (.checkcast 394, 3) := dk_192 1 138 (dk_at dksX0_read_7 0 rfl rfl)
theorem dX0_read_165 : decode cX0_read 165 = .ok (.iload_n 2, 1) := dk_28 (dk_at dksX0_read_7 3 rfl rfl)
theorem dX0_read_166 : decode cX0_read 166 = .ok (.baload, 1) := dk_51 (dk_at dksX0_read_7 4 rfl rfl)
theorem dX0_read_167 : decode cX0_read 167 = .ok (.ifCond .eq 7, 3) := dk_153 0 7 (dk_at dksX0_read_7 5 rfl rfl)
theorem dX0_read_170 : decode cX0_read 170 = .ok (.lconst 1, 1) := dk_10 (dk_at dksX0_read_7 8 rfl rfl)
theorem dX0_read_171 : decode cX0_read 171 = .ok (.goto 4, 3) := dk_167 0 4 (dk_at dksX0_read_7 9 rfl rfl)
theorem dX0_read_174 : decode cX0_read 174 = .ok (.lconst 0, 1) := dk_9 (dk_at dksX0_read_7 12 rfl rfl)
theorem dX0_read_175 : decode cX0_read 175 = .ok (.lreturn, 1) := dk_173 (dk_at dksX0_read_7 13 rfl rfl)
theorem xs_read : xV yX0_read "BakedBefore" cX0_read 6 (some .long) 2 := ⟨q1366, q1367, q87, q1368, ⟨rfl, by decide +kernel, by decide +kernel, by decide +kernel⟩, by decide⟩
def NOv : Int64 := -9223372036854775808
def valR (s : Nat) (x : vp_A) (k : Nat) (v : Int64) : Prop := (s ≤ 2 ∧ ∃ (n : Nat) (f : Nat → Int32), x = (n, .inl f) ∧ v = (f k).toInt64) ∨ (s = 3 ∧ ∃ (n : Nat) (g : Nat → Int64), x = (n, .inr (.inl g)) ∧ v = g k) ∨ (s = 4 ∧ ∃ (n : Nat) (f : Nat → Int32), x = (n, .inl f) ∧ v = if f k = 0 then 0 else 1)
/-- what read answers -/
def readR (T : xT) (ω : CS) (t i : Int32) (v : Int64) : Prop := (¬ (0 ≤ t ∧ t ≤ 5) ∧ v = NOv) ∨ ((0 ≤ t ∧ t ≤ 5) ∧ ω.1.2 (31 + t.toNatClampNeg) 0 = none ∧ v = NOv) ∨ ((0 ≤ t ∧ t ≤ 5) ∧ ∃ (s a : Nat) (x : vp_A), ω.1.2 (31 + t.toNatClampNeg) 0 = some a ∧ rowE T ω s a x ∧ ((¬ (0 ≤ i ∧ i ≤ nI x.1 - 1) ∧ v = NOv) ∨ ((0 ≤ i ∧ i ≤ nI x.1 - 1) ∧ vp_in i x.1 ∧ valR s x i.toNatClampNeg v)))
theorem tp_in {t : Int32} (h : 0 ≤ t ∧ t ≤ 5) : vp_in t 6 ∧ t.toNatClampNeg < 6 := by
  have h1 : (0 : Int) ≤ t.toInt := Int32.le_iff_toInt_le.mp h.1
  have h2 : t.toInt ≤ 5 := Int32.le_iff_toInt_le.mp h.2
  have h3 : t.toNatClampNeg < 6 := by show t.toInt.toNat < 6; omega
  exact ⟨fun z => z.elim (fun z => absurd h.1 (Int32.not_le.mpr z)) (fun z => absurd h3 (Nat.not_lt.mpr z)), h3⟩
theorem ks_read (l : Launch) (D : va_G) (T : xT) (q : Nat → Nat) (ω : CS) {t i : Int32} {z : Int64} (hv : readR T ω t i z) : XM l D T yX0_read cX0_read 6 (some .long) 4 0 0 [.ref (q 0), .int t, .int i] (cw T q ω) (fun v w => v = some (.long z) ∧ w = cw T q ω) := by
  refine XM.start (by decide +kernel) (Nat.le_of_ble_eq_true rfl) (fun Γ G X _ hl_ => ?_)
  subst hl_
  refine K.less [0, 1, 2] (lv' := [(0, .ref (q 0)), (1, .int t), (2, .int i)]) rfl ?_
  rcases hv with ⟨ht, rfl⟩ | ⟨ht, hr, rfl⟩ | ⟨ht, s, a, x, hr, h, ⟨hn, rfl⟩ | ⟨hn, hin, hv⟩⟩
  · refine k_iload_n G dX0_read_0 rfl ?_
    refine k_callPI G (vk_isTape _ D T t (fun r => r = 0) (q_F ht ⟨Or.inl rfl, rfl⟩)) gf_isTape q1183 dX0_read_1 rfl rfl (Nat.le_of_ble_eq_true rfl) (Nat.le_of_ble_eq_true rfl) ⟨(Nat.le_refl _), (Nat.le_refl _)⟩ (fun r h9 => ?_)
    subst h9
    refine k_if_eq G 38 dX0_read_4 (by decide) (fun _ => ?_) (fun c4 => absurd rfl c4)
    refine k_ldc2 G q1129 dX0_read_38 ?_
    exact k_lret G X dX0_read_41 (Nat.le_refl _) (Nat.le_refl _) ⟨rfl, rfl⟩
  · refine k_iload_n G dX0_read_0 rfl ?_
    refine k_callPI G (vk_isTape _ D T t (fun r => r = 1) (q_T ht ⟨Or.inr rfl, rfl⟩)) gf_isTape q1183 dX0_read_1 rfl rfl (Nat.le_of_ble_eq_true rfl) (Nat.le_of_ble_eq_true rfl) ⟨(Nat.le_refl _), (Nat.le_refl _)⟩ (fun r h9 => ?_)
    subst h9
    refine k_if_eq G 38 dX0_read_4 (by decide) (fun c4 => absurd c4 (by decide)) (fun _ => ?_)
    refine k_aload_n G dX0_read_7 rfl ?_
    refine kc_this G (show CF "BakedBefore" 15 68 from ⟨by decide, Or.inl q285, rfl⟩) dX0_read_8 rfl ?_
    refine k_iload_n G dX0_read_11 rfl ?_
    refine kc_aaldB G dX0_read_12 (tp_in ht).1 ?_
    refine kc_row G (tp_in ht).2 (Or.inr (by decide +kernel)) dX0_read_13 ?_
    rw [hr]
    refine k_ifnullN G 38 dX0_read_16 (by decide) ?_
    refine k_ldc2 G q1129 dX0_read_38 ?_
    exact k_lret G X dX0_read_41 (Nat.le_refl _) (Nat.le_refl _) ⟨rfl, rfl⟩
  · refine k_iload_n G dX0_read_0 rfl ?_
    refine k_callPI G (vk_isTape _ D T t (fun r => r = 1) (q_T ht ⟨Or.inr rfl, rfl⟩)) gf_isTape q1183 dX0_read_1 rfl rfl (Nat.le_of_ble_eq_true rfl) (Nat.le_of_ble_eq_true rfl) ⟨(Nat.le_refl _), (Nat.le_refl _)⟩ (fun r h9 => ?_)
    subst h9
    refine k_if_eq G 38 dX0_read_4 (by decide) (fun c4 => absurd c4 (by decide)) (fun _ => ?_)
    refine k_aload_n G dX0_read_7 rfl ?_
    refine kc_this G (show CF "BakedBefore" 15 68 from ⟨by decide, Or.inl q285, rfl⟩) dX0_read_8 rfl ?_
    refine k_iload_n G dX0_read_11 rfl ?_
    refine kc_aaldB G dX0_read_12 (tp_in ht).1 ?_
    refine kc_row G (tp_in ht).2 (Or.inr (by decide +kernel)) dX0_read_13 ?_
    rw [hr]
    refine k_ifnull G dX0_read_16 ?_
    refine k_iload_n G dX0_read_19 rfl ?_
    refine k_iconst G (v := 0) dX0_read_20 (by decide) ?_
    refine k_aload_n G dX0_read_21 rfl ?_
    refine kc_this G (show CF "BakedBefore" 15 68 from ⟨by decide, Or.inl q285, rfl⟩) dX0_read_22 rfl ?_
    refine k_iload_n G dX0_read_25 rfl ?_
    refine kc_aaldB G dX0_read_26 (tp_in ht).1 ?_
    refine k_callVNw G (As := []) (rest := [.int 0, .int i]) (C := RX5) (ks_tsize _ D T q ω (tp_in ht).2 hr h) xs_tsize (by decide +kernel) rfl rfl (Nat.le_of_ble_eq_true rfl) (Nat.le_of_ble_eq_true rfl) ⟨(Nat.le_refl _), (Nat.le_refl _)⟩ ⟨31 + t.toNatClampNeg, 5, _, TX5, 1, cw_at (cB_at (tp_in ht).2 T q ω.1), rfl⟩ dX0_read_27 (fun v9 w9 h9 => ?_)
    obtain ⟨rfl, rfl⟩ := h9
    refine k_iconst G (v := 1) dX0_read_30 (by decide) ?_
    refine k_isub G dX0_read_31 ?_
    refine k_callPI G (vk_in _ D T i 0 (nI x.1 - 1) (fun r => r = 0) (q_F hn rfl)) gf_in q368 dX0_read_32 rfl rfl (Nat.le_of_ble_eq_true rfl) (Nat.le_of_ble_eq_true rfl) ⟨(Nat.le_refl _), (Nat.le_refl _)⟩ (fun r h9 => ?_)
    subst h9
    refine k_if_ne G 42 dX0_read_35 (by decide) (fun c35 => absurd c35 (fun z => z rfl)) (fun _ => ?_)
    refine k_ldc2 G q1129 dX0_read_38 ?_
    exact k_lret G X dX0_read_41 (Nat.le_refl _) (Nat.le_refl _) ⟨rfl, rfl⟩
  · refine k_iload_n G dX0_read_0 rfl ?_
    refine k_callPI G (vk_isTape _ D T t (fun r => r = 1) (q_T ht ⟨Or.inr rfl, rfl⟩)) gf_isTape q1183 dX0_read_1 rfl rfl (Nat.le_of_ble_eq_true rfl) (Nat.le_of_ble_eq_true rfl) ⟨(Nat.le_refl _), (Nat.le_refl _)⟩ (fun r h9 => ?_)
    subst h9
    refine k_if_eq G 38 dX0_read_4 (by decide) (fun c4 => absurd c4 (by decide)) (fun _ => ?_)
    refine k_aload_n G dX0_read_7 rfl ?_
    refine kc_this G (show CF "BakedBefore" 15 68 from ⟨by decide, Or.inl q285, rfl⟩) dX0_read_8 rfl ?_
    refine k_iload_n G dX0_read_11 rfl ?_
    refine kc_aaldB G dX0_read_12 (tp_in ht).1 ?_
    refine kc_row G (tp_in ht).2 (Or.inr (by decide +kernel)) dX0_read_13 ?_
    rw [hr]
    refine k_ifnull G dX0_read_16 ?_
    refine k_iload_n G dX0_read_19 rfl ?_
    refine k_iconst G (v := 0) dX0_read_20 (by decide) ?_
    refine k_aload_n G dX0_read_21 rfl ?_
    refine kc_this G (show CF "BakedBefore" 15 68 from ⟨by decide, Or.inl q285, rfl⟩) dX0_read_22 rfl ?_
    refine k_iload_n G dX0_read_25 rfl ?_
    refine kc_aaldB G dX0_read_26 (tp_in ht).1 ?_
    refine k_callVNw G (As := []) (rest := [.int 0, .int i]) (C := RX5) (ks_tsize _ D T q ω (tp_in ht).2 hr h) xs_tsize (by decide +kernel) rfl rfl (Nat.le_of_ble_eq_true rfl) (Nat.le_of_ble_eq_true rfl) ⟨(Nat.le_refl _), (Nat.le_refl _)⟩ ⟨31 + t.toNatClampNeg, 5, _, TX5, 1, cw_at (cB_at (tp_in ht).2 T q ω.1), rfl⟩ dX0_read_27 (fun v9 w9 h9 => ?_)
    obtain ⟨rfl, rfl⟩ := h9
    refine k_iconst G (v := 1) dX0_read_30 (by decide) ?_
    refine k_isub G dX0_read_31 ?_
    refine k_callPI G (vk_in _ D T i 0 (nI x.1 - 1) (fun r => r = 1) (q_T hn rfl)) gf_in q368 dX0_read_32 rfl rfl (Nat.le_of_ble_eq_true rfl) (Nat.le_of_ble_eq_true rfl) ⟨(Nat.le_refl _), (Nat.le_refl _)⟩ (fun r h9 => ?_)
    subst h9
    refine k_if_ne G 42 dX0_read_35 (by decide) (fun _ => ?_) (fun c35 => absurd c35 (by decide))
    refine k_aload_n G dX0_read_42 rfl ?_
    refine kc_this G (show CF "BakedBefore" 15 68 from ⟨by decide, Or.inl q285, rfl⟩) dX0_read_43 rfl ?_
    refine k_iload_n G dX0_read_46 rfl ?_
    refine kc_aaldB G dX0_read_47 (tp_in ht).1 ?_
    refine k_astore_n G [(3, .ref (q (31 + t.toNatClampNeg))), (0, .ref (q 0)), (1, .int t), (2, .int i)] dX0_read_48 rfl (Nat.le_of_ble_eq_true rfl) rfl ?_
    refine k_aload_n G dX0_read_49 rfl ?_
    match s, h.1, h, hv with
    | 0, _, h, hv =>
      rcases hv with ⟨-, n, f, rfl, rfl⟩ | ⟨z, -⟩ | ⟨z, -⟩
      rotate_left
      · exact absurd z (by decide)
      · exact absurd z (by decide)
      refine kc_row G (tp_in ht).2 (Or.inr (by decide +kernel)) dX0_read_50 ?_
      rw [hr]
      refine k_astore G [(5, .ref a), (3, .ref (q (31 + t.toNatClampNeg))), (0, .ref (q 0)), (1, .int t), (2, .int i)] dX0_read_53 (Nat.le_of_ble_eq_true rfl) rfl ?_
      refine k_aload G dX0_read_55 rfl ?_
      refine kr_instY G h q1361 dX0_read_57 ?_
      refine k_if_eq G 76 dX0_read_60 (by decide) (fun c60 => absurd c60 (by decide)) (fun _ => ?_)
      refine k_aload G dX0_read_63 rfl ?_
      refine kr_cast G h q1361 dX0_read_65 ?_
      refine k_astore G [(4, .ref a), (5, .ref a), (3, .ref (q (31 + t.toNatClampNeg))), (0, .ref (q 0)), (1, .int t), (2, .int i)] dX0_read_68 (Nat.le_of_ble_eq_true rfl) rfl ?_
      refine k_aload G dX0_read_70 rfl ?_
      refine k_iload_n G dX0_read_72 rfl ?_
      refine kr_bald G h dX0_read_73 hin ?_
      refine k_i2l G dX0_read_74 ?_
      exact k_lret G X dX0_read_75 (Nat.le_refl _) (Nat.le_refl _) ⟨rfl, rfl⟩
    | 1, _, h, hv =>
      rcases hv with ⟨-, n, f, rfl, rfl⟩ | ⟨z, -⟩ | ⟨z, -⟩
      rotate_left
      · exact absurd z (by decide)
      · exact absurd z (by decide)
      refine kc_row G (tp_in ht).2 (Or.inr (by decide +kernel)) dX0_read_50 ?_
      rw [hr]
      refine k_astore G [(5, .ref a), (3, .ref (q (31 + t.toNatClampNeg))), (0, .ref (q 0)), (1, .int t), (2, .int i)] dX0_read_53 (Nat.le_of_ble_eq_true rfl) rfl ?_
      refine k_aload G dX0_read_55 rfl ?_
      refine kr_instN G h q1361 (by decide +kernel) dX0_read_57 ?_
      refine k_if_eq G 76 dX0_read_60 (by decide) (fun _ => ?_) (fun c60 => absurd rfl c60)
      refine k_aload_n G dX0_read_76 rfl ?_
      refine kc_row G (tp_in ht).2 (Or.inr (by decide +kernel)) dX0_read_77 ?_
      rw [hr]
      refine k_astore G [(5, .ref a), (3, .ref (q (31 + t.toNatClampNeg))), (0, .ref (q 0)), (1, .int t), (2, .int i)] dX0_read_80 (Nat.le_of_ble_eq_true rfl) rfl ?_
      refine k_aload G dX0_read_82 rfl ?_
      refine kr_instY G h q1186 dX0_read_84 ?_
      refine k_if_eq G 103 dX0_read_87 (by decide) (fun c87 => absurd c87 (by decide)) (fun _ => ?_)
      refine k_aload G dX0_read_90 rfl ?_
      refine kr_cast G h q1186 dX0_read_92 ?_
      refine k_astore G [(4, .ref a), (5, .ref a), (3, .ref (q (31 + t.toNatClampNeg))), (0, .ref (q 0)), (1, .int t), (2, .int i)] dX0_read_95 (Nat.le_of_ble_eq_true rfl) rfl ?_
      refine k_aload G dX0_read_97 rfl ?_
      refine k_iload_n G dX0_read_99 rfl ?_
      refine kr_sald G h dX0_read_100 hin ?_
      refine k_i2l G dX0_read_101 ?_
      exact k_lret G X dX0_read_102 (Nat.le_refl _) (Nat.le_refl _) ⟨rfl, rfl⟩
    | 2, _, h, hv =>
      rcases hv with ⟨-, n, f, rfl, rfl⟩ | ⟨z, -⟩ | ⟨z, -⟩
      rotate_left
      · exact absurd z (by decide)
      · exact absurd z (by decide)
      refine kc_row G (tp_in ht).2 (Or.inr (by decide +kernel)) dX0_read_50 ?_
      rw [hr]
      refine k_astore G [(5, .ref a), (3, .ref (q (31 + t.toNatClampNeg))), (0, .ref (q 0)), (1, .int t), (2, .int i)] dX0_read_53 (Nat.le_of_ble_eq_true rfl) rfl ?_
      refine k_aload G dX0_read_55 rfl ?_
      refine kr_instN G h q1361 (by decide +kernel) dX0_read_57 ?_
      refine k_if_eq G 76 dX0_read_60 (by decide) (fun _ => ?_) (fun c60 => absurd rfl c60)
      refine k_aload_n G dX0_read_76 rfl ?_
      refine kc_row G (tp_in ht).2 (Or.inr (by decide +kernel)) dX0_read_77 ?_
      rw [hr]
      refine k_astore G [(5, .ref a), (3, .ref (q (31 + t.toNatClampNeg))), (0, .ref (q 0)), (1, .int t), (2, .int i)] dX0_read_80 (Nat.le_of_ble_eq_true rfl) rfl ?_
      refine k_aload G dX0_read_82 rfl ?_
      refine kr_instN G h q1186 (by decide +kernel) dX0_read_84 ?_
      refine k_if_eq G 103 dX0_read_87 (by decide) (fun _ => ?_) (fun c87 => absurd rfl c87)
      refine k_aload_n G dX0_read_103 rfl ?_
      refine kc_row G (tp_in ht).2 (Or.inr (by decide +kernel)) dX0_read_104 ?_
      rw [hr]
      refine k_astore G [(5, .ref a), (3, .ref (q (31 + t.toNatClampNeg))), (0, .ref (q 0)), (1, .int t), (2, .int i)] dX0_read_107 (Nat.le_of_ble_eq_true rfl) rfl ?_
      refine k_aload G dX0_read_109 rfl ?_
      refine kr_instY G h q1362 dX0_read_111 ?_
      refine k_if_eq G 130 dX0_read_114 (by decide) (fun c114 => absurd c114 (by decide)) (fun _ => ?_)
      refine k_aload G dX0_read_117 rfl ?_
      refine kr_cast G h q1362 dX0_read_119 ?_
      refine k_astore G [(4, .ref a), (5, .ref a), (3, .ref (q (31 + t.toNatClampNeg))), (0, .ref (q 0)), (1, .int t), (2, .int i)] dX0_read_122 (Nat.le_of_ble_eq_true rfl) rfl ?_
      refine k_aload G dX0_read_124 rfl ?_
      refine k_iload_n G dX0_read_126 rfl ?_
      refine kr_iald G h dX0_read_127 hin ?_
      refine k_i2l G dX0_read_128 ?_
      exact k_lret G X dX0_read_129 (Nat.le_refl _) (Nat.le_refl _) ⟨rfl, rfl⟩
    | 3, _, h, hv =>
      rcases hv with ⟨z, -⟩ | ⟨-, n, f, rfl, rfl⟩ | ⟨z, -⟩
      · exact absurd z (by decide)
      rotate_left
      · exact absurd z (by decide)
      refine kc_row G (tp_in ht).2 (Or.inr (by decide +kernel)) dX0_read_50 ?_
      rw [hr]
      refine k_astore G [(5, .ref a), (3, .ref (q (31 + t.toNatClampNeg))), (0, .ref (q 0)), (1, .int t), (2, .int i)] dX0_read_53 (Nat.le_of_ble_eq_true rfl) rfl ?_
      refine k_aload G dX0_read_55 rfl ?_
      refine kr_instN G h q1361 (by decide +kernel) dX0_read_57 ?_
      refine k_if_eq G 76 dX0_read_60 (by decide) (fun _ => ?_) (fun c60 => absurd rfl c60)
      refine k_aload_n G dX0_read_76 rfl ?_
      refine kc_row G (tp_in ht).2 (Or.inr (by decide +kernel)) dX0_read_77 ?_
      rw [hr]
      refine k_astore G [(5, .ref a), (3, .ref (q (31 + t.toNatClampNeg))), (0, .ref (q 0)), (1, .int t), (2, .int i)] dX0_read_80 (Nat.le_of_ble_eq_true rfl) rfl ?_
      refine k_aload G dX0_read_82 rfl ?_
      refine kr_instN G h q1186 (by decide +kernel) dX0_read_84 ?_
      refine k_if_eq G 103 dX0_read_87 (by decide) (fun _ => ?_) (fun c87 => absurd rfl c87)
      refine k_aload_n G dX0_read_103 rfl ?_
      refine kc_row G (tp_in ht).2 (Or.inr (by decide +kernel)) dX0_read_104 ?_
      rw [hr]
      refine k_astore G [(5, .ref a), (3, .ref (q (31 + t.toNatClampNeg))), (0, .ref (q 0)), (1, .int t), (2, .int i)] dX0_read_107 (Nat.le_of_ble_eq_true rfl) rfl ?_
      refine k_aload G dX0_read_109 rfl ?_
      refine kr_instN G h q1362 (by decide +kernel) dX0_read_111 ?_
      refine k_if_eq G 130 dX0_read_114 (by decide) (fun _ => ?_) (fun c114 => absurd rfl c114)
      refine k_aload_n G dX0_read_130 rfl ?_
      refine kc_row G (tp_in ht).2 (Or.inr (by decide +kernel)) dX0_read_131 ?_
      rw [hr]
      refine k_astore G [(5, .ref a), (3, .ref (q (31 + t.toNatClampNeg))), (0, .ref (q 0)), (1, .int t), (2, .int i)] dX0_read_134 (Nat.le_of_ble_eq_true rfl) rfl ?_
      refine k_aload G dX0_read_136 rfl ?_
      refine kr_instY G h q1363 dX0_read_138 ?_
      refine k_if_eq G 158 dX0_read_141 (by decide) (fun c141 => absurd c141 (by decide)) (fun _ => ?_)
      refine k_aload G dX0_read_144 rfl ?_
      refine kr_cast G h q1363 dX0_read_146 ?_
      refine k_astore G [(4, .ref a), (5, .ref a), (3, .ref (q (31 + t.toNatClampNeg))), (0, .ref (q 0)), (1, .int t), (2, .int i)] dX0_read_149 (Nat.le_of_ble_eq_true rfl) rfl ?_
      refine k_aload G dX0_read_151 rfl ?_
      refine k_iload_n G dX0_read_153 rfl ?_
      refine kr_lald G h dX0_read_154 hin ?_
      refine k_goto G 175 dX0_read_155 (by decide) ?_
      exact k_lret G X dX0_read_175 (Nat.le_refl _) (Nat.le_refl _) ⟨rfl, rfl⟩
    | 4, _, h, hv =>
      rcases hv with ⟨z, -⟩ | ⟨z, -⟩ | ⟨-, n, f, rfl, rfl⟩
      · exact absurd z (by decide)
      · exact absurd z (by decide)
      refine kc_row G (tp_in ht).2 (Or.inr (by decide +kernel)) dX0_read_50 ?_
      rw [hr]
      refine k_astore G [(5, .ref a), (3, .ref (q (31 + t.toNatClampNeg))), (0, .ref (q 0)), (1, .int t), (2, .int i)] dX0_read_53 (Nat.le_of_ble_eq_true rfl) rfl ?_
      refine k_aload G dX0_read_55 rfl ?_
      refine kr_instN G h q1361 (by decide +kernel) dX0_read_57 ?_
      refine k_if_eq G 76 dX0_read_60 (by decide) (fun _ => ?_) (fun c60 => absurd rfl c60)
      refine k_aload_n G dX0_read_76 rfl ?_
      refine kc_row G (tp_in ht).2 (Or.inr (by decide +kernel)) dX0_read_77 ?_
      rw [hr]
      refine k_astore G [(5, .ref a), (3, .ref (q (31 + t.toNatClampNeg))), (0, .ref (q 0)), (1, .int t), (2, .int i)] dX0_read_80 (Nat.le_of_ble_eq_true rfl) rfl ?_
      refine k_aload G dX0_read_82 rfl ?_
      refine kr_instN G h q1186 (by decide +kernel) dX0_read_84 ?_
      refine k_if_eq G 103 dX0_read_87 (by decide) (fun _ => ?_) (fun c87 => absurd rfl c87)
      refine k_aload_n G dX0_read_103 rfl ?_
      refine kc_row G (tp_in ht).2 (Or.inr (by decide +kernel)) dX0_read_104 ?_
      rw [hr]
      refine k_astore G [(5, .ref a), (3, .ref (q (31 + t.toNatClampNeg))), (0, .ref (q 0)), (1, .int t), (2, .int i)] dX0_read_107 (Nat.le_of_ble_eq_true rfl) rfl ?_
      refine k_aload G dX0_read_109 rfl ?_
      refine kr_instN G h q1362 (by decide +kernel) dX0_read_111 ?_
      refine k_if_eq G 130 dX0_read_114 (by decide) (fun _ => ?_) (fun c114 => absurd rfl c114)
      refine k_aload_n G dX0_read_130 rfl ?_
      refine kc_row G (tp_in ht).2 (Or.inr (by decide +kernel)) dX0_read_131 ?_
      rw [hr]
      refine k_astore G [(5, .ref a), (3, .ref (q (31 + t.toNatClampNeg))), (0, .ref (q 0)), (1, .int t), (2, .int i)] dX0_read_134 (Nat.le_of_ble_eq_true rfl) rfl ?_
      refine k_aload G dX0_read_136 rfl ?_
      refine kr_instN G h q1363 (by decide +kernel) dX0_read_138 ?_
      refine k_if_eq G 158 dX0_read_141 (by decide) (fun _ => ?_) (fun c141 => absurd rfl c141)
      refine k_aload_n G dX0_read_158 rfl ?_
      refine kc_row G (tp_in ht).2 (Or.inr (by decide +kernel)) dX0_read_159 ?_
      rw [hr]
      refine kr_cast G h q1364 dX0_read_162 ?_
      refine k_iload_n G dX0_read_165 rfl ?_
      refine kr_zald G h dX0_read_166 hin ?_
      refine k_if_eq G 174 dX0_read_167 (by decide) (fun c167 => ?_) (fun c167 => ?_)
      · refine k_lconst G (v := 0) dX0_read_174 (by decide) ?_
        exact k_lret G X dX0_read_175 (Nat.le_refl _) (Nat.le_refl _) ⟨by rw [if_pos c167], rfl⟩
      · refine k_lconst G (v := 1) dX0_read_170 (by decide) ?_
        refine k_goto G 175 dX0_read_171 (by decide) ?_
        exact k_lret G X dX0_read_175 (Nat.le_refl _) (Nat.le_refl _) ⟨by rw [if_neg c167], rfl⟩
