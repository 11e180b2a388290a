/-! rowOf, tape; takenFor, taken -/
set_option maxRecDepth 100000
section KVR
variable {D : va_G} {T : xT} {Γ : xE} {cc : ByteArray} {own : String} {nL lev mc ms : Nat} {ret : Option FieldType} {cells slots pc : Nat} {lv : List (Nat × Value)} {st rest : List Value} {wl wc wr ws : va_W} {post : Option Value → va_W → Prop} {xp : String → Nat → va_W → Prop} {y : MethodName} {code' : ByteArray} {nL' lev' mcc msc n idx b : Nat} {ret' : Option FieldType} {As : List Value} {hh : List (Nat × Nat × Nat × Nat)}
/-- what a call of a method with handlers asks of the words -/
def xVW (y : MethodName) (C : String) (code : ByteArray) (nL : Nat) (ret : Option FieldType) (hh : List (Nat × Nat × Nat × Nat)) (n : Nat) : Prop := Cond.instanceMethod y ∈ lw_all ∧ Cond.selects C y y ∈ lw_all ∧ Cond.initialized C ∈ lw_all ∧ Cond.codeWith y code nL ret hh ∈ lw_all ∧ (y.cls = C ∧ y.cls ≠ "java/lang/invoke/MethodHandle" ∧ y.cls ≠ "java/lang/invoke/VarHandle" ∧ (parseMethodDescriptor y.desc).map (fun d => d.parameters.length) = some n) ∧ nL ≤ 45
theorem K.drop {N : va_W} (k : K D Γ cells slots pc lv st ws) : K D Γ cells slots pc lv st (ws ++ N) := fun H locs ls hP hD hS hl => k H locs ls (x_pa.mp hP).1 (x_da.mp hD).1 hS hl
theorem KX.drop {N : va_W} {E : String} {q : Nat} (k : KX D Γ cells slots pc lv st ws E q) : KX D Γ cells slots pc lv st (ws ++ N) E q := fun H locs ls ce hP hD hS hl => k H locs ls ce (x_pa.mp hP).1 (x_da.mp hD).1 hS hl
theorem k_callVW (G : xG D T Γ cc own nL ret lev mc ms) {C : String} (hM : XMW Γ.1.2.1 D T y code' nL' ret' hh lev' mcc msc (.ref b :: As) ws post) (f : xVW y C code' nL' ret' hh n) (hlink : Cond.methodLink own idx y ∈ lw_all) (hn : As.length = n) (hst : st = As.reverse ++ .ref b :: rest) (hcat : (rest.map fun v => v.category).sum ≤ 8) (hlev : lev' + 1 ≤ lev) (hroom : cells + mcc ≤ mc ∧ slots + msc ≤ ms)
    (hrecv : ∃ (q0 ci : Nat) (fs : List Value) (TT : u_T) (N : Nat), ws[q0]? = some (b, .inr (ci, fs)) ∧ xcl[ci]? = some (C, TT, N)) (d : decode cc pc = .ok (.invokevirtual idx, 3))
    (kk : ∀ (v : Option Value) (wc' : va_W), post v wc' → K D Γ (cells + mcc) (slots + msc) (pc + 3) lv (v.toList ++ rest) wc') : K D Γ cells slots pc lv st ws := by
  obtain ⟨f1, f2, f3, f4, f5, f6⟩ := f
  obtain ⟨q0, ci, fs, TT, N, r1, r2⟩ := hrecv
  have hR : Γ.1.2.2.2 = xrm lev mc ms := G.2.2.2.2.2.2.2.2.2
  have h := k_run G (wl := []) (wc := ws) (wr := []) (rest := rest) (post := post) (mcc := mcc) (msc := msc) (st := st) (pc := pc) (lv := lv) (cells := cells) (slots := slots) (a := (Value.ref b :: As).toArray) (fun H locs ls hP hD hS hl => by
    have hPc := (x_pa.mp (x_pa.mp hP).2).1
    have hDc := (x_da.mp (x_da.mp hD).2.1).1
    exact vx_runVW (As := As) (rest := rest) ⟨G.1, G.2.1, G.2.2.1, G.2.2.2.2.2.1, G.2.2.2.2.2.2.1⟩ (hM H.size) (vx_cwVW n G.2.2.2.2.2.2.1 (lw_VW hlink f1 f2 f3 f4) rfl rfl rfl f5 (by rw [hR]; exact ⟨hlev, by show 8 + (nL' + 11) + 64 * lev' ≤ 64 * lev; omega⟩))
      ⟨x_blind, va_recv G.2.2.2.2.2.2.2.2.1.1 hPc r2 r1, fun U hU hW => ⟨rfl, by rw [hU], by rw [hU]; exact hPc, G.2.2.2.2.2.2.2.2.1.next hW (fun a ha hb => by rw [hU]; exact hS.2.1 a ha hb) (x_free hD hS G.2.2.2.2.2.2.2.1), hDc.weaken (fun _ _ _ _ => trivial)⟩⟩ rfl hn (hl.1.trans G.2.2.1) hst (lv_room hcat) d (by rw [hR]; exact hroom)) (fun v wc' hp => by simpa using kk v wc' hp)
  simpa using h
/-- a static method that may throw, called with nothing of the world -/
theorem k_callSX0 (G : xG D T Γ cc own nL ret lev mc ms) (hM : XMX Γ.1.2.1 D T y code' nL' ret' lev' mcc msc As [] post xp) (f : xS y code' nL' ret' n) (hlink : Cond.methodLink own idx y ∈ lw_all) (hn : As.length = n) (hst : st = As.reverse ++ rest) (hcat : (rest.map fun v => v.category).sum ≤ 8) (hlev : lev' + 1 ≤ lev) (hroom : cells + mcc ≤ mc ∧ slots + msc ≤ ms)
    (d : decode cc pc = .ok (.invokestatic idx, 3))
    (kk : ∀ (v : Option Value) (wc' : va_W), post v wc' → K D Γ (cells + mcc) (slots + msc) (pc + 3) lv (v.toList ++ rest) (ws ++ wc'))
    (kx : ∀ (E : String) (q : Nat) (wc' : va_W), xp E q wc' → KX D Γ (cells + mcc) (slots + msc) pc lv rest (ws ++ wc') E q) : K D Γ cells slots pc lv st ws := by
  have h := k_callSX G (wl := ws) (wc := []) (wr := []) (rest := rest) (st := st) (lv := lv) (cells := cells) (slots := slots) (pc := pc) hM f hlink hn hst hcat hlev hroom d (fun v wc' hp => by simpa using kk v wc' hp) (fun E q wc' hp => by simpa using kx E q wc' hp)
  simpa using h
/-- .. called with the whole world -/
theorem k_callSXw (G : xG D T Γ cc own nL ret lev mc ms) (hM : XMX Γ.1.2.1 D T y code' nL' ret' lev' mcc msc As ws post xp) (f : xS y code' nL' ret' n) (hlink : Cond.methodLink own idx y ∈ lw_all) (hn : As.length = n) (hst : st = As.reverse ++ rest) (hcat : (rest.map fun v => v.category).sum ≤ 8) (hlev : lev' + 1 ≤ lev) (hroom : cells + mcc ≤ mc ∧ slots + msc ≤ ms)
    (d : decode cc pc = .ok (.invokestatic idx, 3))
    (kk : ∀ (v : Option Value) (wc' : va_W), post v wc' → K D Γ (cells + mcc) (slots + msc) (pc + 3) lv (v.toList ++ rest) wc')
    (kx : ∀ (E : String) (q : Nat) (wc' : va_W), xp E q wc' → KX D Γ (cells + mcc) (slots + msc) pc lv rest wc' E q) : K D Γ cells slots pc lv st ws := by
  have h := k_callSX G (wl := []) (wc := ws) (wr := []) (rest := rest) (st := st) (lv := lv) (cells := cells) (slots := slots) (pc := pc) hM f hlink hn hst hcat hlev hroom d (fun v wc' hp => by simpa using kk v wc' hp) (fun E q wc' hp => by simpa using kx E q wc' hp)
  simpa using h
/-- a method of ours that may throw, called with the whole world -/
theorem k_callVXw (G : xG D T Γ cc own nL ret lev mc ms) {C : String} (hM : XMX Γ.1.2.1 D T y code' nL' ret' lev' mcc msc (.ref b :: As) ws post xp) (f : xV y C code' nL' ret' n) (hlink : Cond.methodLink own idx y ∈ lw_all) (hn : As.length = n) (hst : st = As.reverse ++ .ref b :: rest) (hcat : (rest.map fun v => v.category).sum ≤ 8) (hlev : lev' + 1 ≤ lev) (hroom : cells + mcc ≤ mc ∧ slots + msc ≤ ms)
    (hrecv : ∃ (q0 ci : Nat) (fs : List Value) (TT : u_T) (N : Nat), ws[q0]? = some (b, .inr (ci, fs)) ∧ xcl[ci]? = some (C, TT, N)) (d : decode cc pc = .ok (.invokevirtual idx, 3))
    (kk : ∀ (v : Option Value) (wc' : va_W), post v wc' → K D Γ (cells + mcc) (slots + msc) (pc + 3) lv (v.toList ++ rest) wc')
    (kx : ∀ (E : String) (q : Nat) (wc' : va_W), xp E q wc' → KX D Γ (cells + mcc) (slots + msc) pc lv rest wc' E q) : K D Γ cells slots pc lv st ws := by
  have h := k_callVX G (wl := []) (wc := ws) (wr := []) (rest := rest) (st := st) (lv := lv) (cells := cells) (slots := slots) (pc := pc) hM f hlink hn hst hcat hlev hroom (by simpa using hrecv) d (fun v wc' hp => by simpa using kk v wc' hp) (fun E q wc' hp => by simpa using kx E q wc' hp)
  simpa using h
theorem k_callVNXw (G : xG D T Γ cc own nL ret lev mc ms) {C : String} (hM : XMX Γ.1.2.1 D T y code' nL' ret' lev' mcc msc (.ref b :: As) ws post xp) (f : xV y C code' nL' ret' n) (hlink : (own, idx, y) ∈ xmln) (hn : As.length = n) (hst : st = As.reverse ++ .ref b :: rest) (hcat : (rest.map fun v => v.category).sum ≤ 8) (hlev : lev' + 1 ≤ lev) (hroom : cells + mcc ≤ mc ∧ slots + msc ≤ ms)
    (hrecv : ∃ (q0 ci : Nat) (fs : List Value) (TT : u_T) (N : Nat), ws[q0]? = some (b, .inr (ci, fs)) ∧ xcl[ci]? = some (C, TT, N)) (d : decode cc pc = .ok (.invokevirtual idx, 3))
    (kk : ∀ (v : Option Value) (wc' : va_W), post v wc' → K D Γ (cells + mcc) (slots + msc) (pc + 3) lv (v.toList ++ rest) wc')
    (kx : ∀ (E : String) (q : Nat) (wc' : va_W), xp E q wc' → KX D Γ (cells + mcc) (slots + msc) pc lv rest wc' E q) : K D Γ cells slots pc lv st ws := by
  have h := k_callVNX G (wl := []) (wc := ws) (wr := []) (rest := rest) (st := st) (lv := lv) (cells := cells) (slots := slots) (pc := pc) hM f hlink hn hst hcat hlev hroom (by simpa using hrecv) d (fun v wc' hp => by simpa using kk v wc' hp) (fun E q wc' hp => by simpa using kx E q wc' hp)
  simpa using h
end KVR
def zeroV : Nat → Nat → vp_A
  | 3, N => (N, .inr (.inl fun _ => 0))
  | _, N => (N, .inl fun _ => 0)
abbrev cX0_rowOf : ByteArray := prog_1_method_62_code
def yX0_rowOf : MethodName := ⟨RX0, "rowOf", "(II)Ljava/lang/Object;"⟩
def dkwX0_rowOf_2 : List UInt8 := [27, 188, 8, 176, 27, 188, 9, 176, 27, 188, 10, 176, 27, 188, 11, 176, 27, 188, 4, 176]
abbrev dktX0_rowOf_2 : List UInt8 := dkwX0_rowOf_2 ++ []
def dkwX0_rowOf_1 : List UInt8 := [170, 0, 0, 0, 0, 0, 47, 0, 0, 0, 0, 0, 0, 0, 3, 0, 0, 0, 31, 0, 0, 0, 35, 0, 0, 0, 39, 0, 0, 0, 43]
abbrev dktX0_rowOf_1 : List UInt8 := dkwX0_rowOf_1 ++ dktX0_rowOf_2
def dkwX0_rowOf_0 : List UInt8 := [26]
abbrev dktX0_rowOf_0 : List UInt8 := dkwX0_rowOf_0 ++ dktX0_rowOf_1
theorem dksX0_rowOf_0 : cX0_rowOf.data.toList.drop 0 = dktX0_rowOf_0 := by decide +kernel
theorem dksX0_rowOf_1 : cX0_rowOf.data.toList.drop 1 = dktX0_rowOf_1 := dk_seg dksX0_rowOf_0 1 rfl rfl
theorem dksX0_rowOf_2 : cX0_rowOf.data.toList.drop 32 = dktX0_rowOf_2 := dk_seg dksX0_rowOf_1 31 rfl rfl
theorem dX0_rowOf_0 : decode cX0_rowOf 0 = .ok (.iload_n 0, 1) := dk_26 (dk_at dksX0_rowOf_0 0 rfl rfl)
theorem dX0_rowOf_1 : decode cX0_rowOf 1 = .ok (.tableswitch 47 0 3 #[31, 35, 39, 43], 31) := by decide +kernel
theorem dX0_rowOf_32 : decode cX0_rowOf 32 = .ok (.iload_n 1, 1) := dk_27 (dk_at dksX0_rowOf_2 0 rfl rfl)
theorem dX0_rowOf_33 : decode cX0_rowOf 33 = .ok (.newarray .byte, 2) := dk_188_8 (dk_at dksX0_rowOf_2 1 rfl rfl)
theorem dX0_rowOf_35 : decode cX0_rowOf 35 = .ok (.areturn, 1) := dk_176 (dk_at dksX0_rowOf_2 3 rfl rfl)
theorem dX0_rowOf_36 : decode cX0_rowOf 36 = .ok (.iload_n 1, 1) := dk_27 (dk_at dksX0_rowOf_2 4 rfl rfl)
theorem dX0_rowOf_37 : decode cX0_rowOf 37 = .ok (.newarray .short, 2) := dk_188_9 (dk_at dksX0_rowOf_2 5 rfl rfl)
theorem dX0_rowOf_39 : decode cX0_rowOf 39 = .ok (.areturn, 1) := dk_176 (dk_at dksX0_rowOf_2 7 rfl rfl)
theorem dX0_rowOf_40 : decode cX0_rowOf 40 = .ok (.iload_n 1, 1) := dk_27 (dk_at dksX0_rowOf_2 8 rfl rfl)
theorem dX0_rowOf_41 : decode cX0_rowOf 41 = .ok (.newarray .int, 2) := dk_188_10 (dk_at dksX0_rowOf_2 9 rfl rfl)
theorem dX0_rowOf_43 : decode cX0_rowOf 43 = .ok (.areturn, 1) := dk_176 (dk_at dksX0_rowOf_2 11 rfl rfl)
theorem dX0_rowOf_44 : decode cX0_rowOf 44 = .ok (.iload_n 1, 1) := dk_27 (dk_at dksX0_rowOf_2 12 rfl rfl)
theorem dX0_rowOf_45 : decode cX0_rowOf 45 = .ok (.newarray .long, 2) := dk_188_11 (dk_at dksX0_rowOf_2 13 rfl rfl)
theorem dX0_rowOf_47 : decode cX0_rowOf 47 = .ok (.areturn, 1) := dk_176 (dk_at dksX0_rowOf_2 15 rfl rfl)
theorem dX0_rowOf_48 : decode cX0_rowOf 48 = .ok (.iload_n 1, 1) := dk_27 (dk_at dksX0_rowOf_2 16 rfl rfl)
theorem dX0_rowOf_49 : decode cX0_rowOf 49 = .ok (.newarray .boolean, 2) := dk_188_4 (dk_at dksX0_rowOf_2 17 rfl rfl)
theorem dX0_rowOf_51 : decode cX0_rowOf 51 = .ok (.areturn, 1) := dk_176 (dk_at dksX0_rowOf_2 19 rfl rfl)
abbrev cX0_tape : ByteArray := prog_1_method_64_code
def yX0_tape : MethodName := ⟨RX0, "tape", "(III)I"⟩
def dkwX0_tape_2 : List UInt8 := [29, 184, 1, 125, 181, 1, 80, 4, 172, 58, 4, 16, 242, 172]
abbrev dktX0_tape_2 : List UInt8 := dkwX0_tape_2 ++ []
def dkwX0_tape_1 : List UInt8 := [16, 60, 164, 0, 6, 16, 254, 172, 42, 180, 0, 68, 27, 50, 28, 2, 160, 0, 7, 1, 167, 0, 8, 28]
abbrev dktX0_tape_1 : List UInt8 := dkwX0_tape_1 ++ dktX0_tape_2
def dkwX0_tape_0 : List UInt8 := [27, 184, 1, 77, 154, 0, 5, 2, 172, 28, 2, 7, 184, 0, 111, 153, 0, 14, 28, 2, 159, 0, 12, 29]
abbrev dktX0_tape_0 : List UInt8 := dkwX0_tape_0 ++ dktX0_tape_1
theorem dksX0_tape_0 : cX0_tape.data.toList.drop 0 = dktX0_tape_0 := by decide +kernel
theorem dksX0_tape_1 : cX0_tape.data.toList.drop 24 = dktX0_tape_1 := dk_seg dksX0_tape_0 24 rfl rfl
theorem dksX0_tape_2 : cX0_tape.data.toList.drop 48 = dktX0_tape_2 := dk_seg dksX0_tape_1 24 rfl rfl
theorem dX0_tape_0 : decode cX0_tape 0 = .ok (.iload_n 1, 1) := dk_27 (dk_at dksX0_tape_0 0 rfl rfl)
theorem dX0_tape_1 : decode cX0_tape 1 = .ok (.invokestatic 333, 3) := dk_184 1 77 (dk_at dksX0_tape_0 1 rfl rfl)
theorem dX0_tape_4 : decode cX0_tape 4 = .ok (.ifCond .ne 5, 3) := dk_154 0 5 (dk_at dksX0_tape_0 4 rfl rfl)
theorem dX0_tape_7 : decode cX0_tape 7 = .ok (.iconst (-1), 1) := dk_2 (dk_at dksX0_tape_0 7 rfl rfl)
theorem dX0_tape_8 : decode cX0_tape 8 = .ok (.ireturn, 1) := dk_172 (dk_at dksX0_tape_0 8 rfl rfl)
theorem dX0_tape_9 : decode cX0_tape 9 = .ok (.iload_n 2, 1) := dk_28 (dk_at dksX0_tape_0 9 rfl rfl)
theorem dX0_tape_10 : decode cX0_tape 10 = .ok (.iconst (-1), 1) := dk_2 (dk_at dksX0_tape_0 10 rfl rfl)
theorem dX0_tape_11 : decode cX0_tape 11 = .ok (.iconst 4, 1) := dk_7 (dk_at dksX0_tape_0 11 rfl rfl)
theorem dX0_tape_12 : decode cX0_tape 12 = .ok (.invokestatic 111, 3) := dk_184 0 111 (dk_at dksX0_tape_0 12 rfl rfl)
theorem dX0_tape_15 : decode cX0_tape 15 = .ok (.ifCond .eq 14, 3) := dk_153 0 14 (dk_at dksX0_tape_0 15 rfl rfl)
theorem dX0_tape_18 : decode cX0_tape 18 = .ok (.iload_n 2, 1) := dk_28 (dk_at dksX0_tape_0 18 rfl rfl)
theorem dX0_tape_19 : decode cX0_tape 19 = .ok (.iconst (-1), 1) := dk_2 (dk_at dksX0_tape_0 19 rfl rfl)
theorem dX0_tape_20 : decode cX0_tape 20 = .ok (.if_icmp .eq 12, 3) := dk_159 0 12 (dk_at dksX0_tape_0 20 rfl rfl)
theorem dX0_tape_23 : decode cX0_tape 23 = .ok (.iload_n 3, 1) := dk_29 (dk_at dksX0_tape_0 23 rfl rfl)
theorem dX0_tape_24 : decode cX0_tape 24 = .ok (.bipush 60, 2) := dk_16 60 (dk_at dksX0_tape_1 0 rfl rfl)
theorem dX0_tape_26 : decode cX0_tape 26 = .ok (.if_icmp .le 6, 3) := dk_164 0 6 (dk_at dksX0_tape_1 2 rfl rfl)
theorem dX0_tape_29 : decode cX0_tape 29 = .ok (.bipush (-2), 2) := dk_16 254 (dk_at dksX0_tape_1 5 rfl rfl)
theorem dX0_tape_31 : decode cX0_tape 31 = .ok (.ireturn, 1) := dk_172 (dk_at dksX0_tape_1 7 rfl rfl)
theorem dX0_tape_32 : decode cX0_tape 32 = .ok (.aload_n 0, 1) := dk_42 (dk_at dksX0_tape_1 8 rfl rfl)
theorem dX0_tape_33 : decode cX0_tape 33 = .ok (.getfield 68, 3) := dk_180 0 68 (dk_at dksX0_tape_1 9 rfl rfl)
theorem dX0_tape_36 : decode cX0_tape 36 = .ok (.iload_n 1, 1) := dk_27 (dk_at dksX0_tape_1 12 rfl rfl)
theorem dX0_tape_37 : decode cX0_tape 37 = .ok (.aaload, 1) := dk_50 (dk_at dksX0_tape_1 13 rfl rfl)
theorem dX0_tape_38 : decode cX0_tape 38 = .ok (.iload_n 2, 1) := dk_28 (dk_at dksX0_tape_1 14 rfl rfl)
theorem dX0_tape_39 : decode cX0_tape 39 = .ok (.iconst (-1), 1) := dk_2 (dk_at dksX0_tape_1 15 rfl rfl)
theorem dX0_tape_40 : decode cX0_tape 40 = .ok (.if_icmp .ne 7, 3) := dk_160 0 7 (dk_at dksX0_tape_1 16 rfl rfl)
theorem dX0_tape_43 : decode cX0_tape 43 = .ok (.aconst_null, 1) := dk_1 (dk_at dksX0_tape_1 19 rfl rfl)
theorem dX0_tape_44 : decode cX0_tape 44 = .ok (.goto 8, 3) := dk_167 0 8 (dk_at dksX0_tape_1 20 rfl rfl)
theorem dX0_tape_47 : decode cX0_tape 47 = .ok (.iload_n 2, 1) := dk_28 (dk_at dksX0_tape_1 23 rfl rfl)
theorem dX0_tape_48 : decode cX0_tape 48 = .ok (.iload_n 3, 1) := dk_29 (dk_at dksX0_tape_2 0 rfl rfl)
theorem dX0_tape_49 : decode cX0_tape 49 = .ok (.invokestatic 381, 3) := dk_184 1 125 (dk_at dksX0_tape_2 1 rfl rfl)
theorem dX0_tape_52 : decode cX0_tape 52 = .ok (.putfield 336, 3) := dk_181 1 80 (dk_at dksX0_tape_2 4 rfl rfl)
theorem dX0_tape_55 : decode cX0_tape 55 = .ok (.iconst 1, 1) := dk_4 (dk_at dksX0_tape_2 7 rfl rfl)
theorem dX0_tape_56 : decode cX0_tape 56 = .ok (.ireturn, 1) := dk_172 (dk_at dksX0_tape_2 8 rfl rfl)
theorem dX0_tape_57 : decode cX0_tape 57 = .ok (.astore 4, 2) := dk_58 4 (dk_at dksX0_tape_2 9 rfl rfl)
theorem dX0_tape_59 : decode cX0_tape 59 = .ok (.bipush (-14), 2) := dk_16 242 (dk_at dksX0_tape_2 11 rfl rfl)
theorem dX0_tape_61 : decode cX0_tape 61 = .ok (.ireturn, 1) := dk_172 (dk_at dksX0_tape_2 13 rfl rfl)
theorem xs_rowOf : xS yX0_rowOf cX0_rowOf 2 (some (.object "java/lang/Object")) 2 := ⟨q1337, q87, q1338, ⟨by decide +kernel, by decide +kernel, by decide +kernel⟩, by decide⟩
theorem xs_tape : xVW yX0_tape "BakedBefore" cX0_tape 5 (some .int) [(32, 56, 57, 385)] 3 := ⟨q1319, q1320, q87, q1321, ⟨rfl, by decide +kernel, by decide +kernel, by decide +kernel⟩, by decide⟩
theorem ks_rowOf (l : Launch) (hlt : l.stackTraces = false) (D : va_G) (T : xT) {j : Nat} (hj : j ≤ 4) {n : Int32} (hn : n ≤ 60) : XMX l D T yX0_rowOf cX0_rowOf 2 (some (.object "java/lang/Object")) 200 3 110 [.int (nI j), .int n] [] (fun v w => 0 ≤ n ∧ ∃ a : Nat, v = some (.ref a) ∧ w = [(a, .inl (T.1 (sortT j), zeroV j n.toNatClampNeg))]) (fun E _ w => n < 0 ∧ E = "java/lang/NegativeArraySizeException" ∧ w = []) := by
  refine XMX.start (by decide +kernel) (Nat.le_of_ble_eq_true rfl) (fun Γ G X htab hl_ => ?_)
  subst hl_
  refine K.less [0, 1] (lv' := [(0, .int (nI j)), (1, .int n)]) rfl ?_
  have hN : ¬ n < 0 → n.toNatClampNeg ≤ 60 := fun h0 => by
    have h1 : n.toInt ≤ 60 := Int32.le_iff_toInt_le.mp hn
    show n.toInt.toNat ≤ 60
    omega
  match j, hj with
  | 0, _ =>
    refine k_iload_n G dX0_rowOf_0 rfl ?_
    refine k_tswIn G 0 rfl 32 dX0_rowOf_1 (by decide +kernel) (by decide +kernel) rfl (by decide) ?_
    refine k_iload_n G dX0_rowOf_32 rfl ?_
    by_cases h0 : n < 0
    · exact kx_newaZ G hlt (Nat.le_refl _) h0 (Nat.le_of_ble_eq_true rfl) ⟨Nat.le_refl _, Nat.le_refl _⟩ dX0_rowOf_33 (fun q9 => kx_out G X htab (Nat.le_refl _) (Nat.le_refl _) ⟨h0, rfl, rfl⟩) (tx_int n)
    · refine k_newa G (atype := .byte) (t := sortT 0) (N := n.toNatClampNeg) (a0 := zeroV 0 n.toNatClampNeg) q188 rfl rfl (fun _ => rfl) h0 rfl (Nat.le_trans (Nat.mul_le_mul_right _ (hN h0)) (by decide)) ⟨by omega, by have := hN h0; omega⟩ dX0_rowOf_33 (fun a => ?_)
      exact kx_ret X (k_aret (xEr.G G) xEr.X (Or.inl ⟨_, rfl⟩) (r := some a) dX0_rowOf_35 (by omega) (by have := hN h0; omega) ⟨Int32.not_lt.mp h0, a, rfl, rfl⟩)
  | 1, _ =>
    refine k_iload_n G dX0_rowOf_0 rfl ?_
    refine k_tswIn G 1 rfl 36 dX0_rowOf_1 (by decide +kernel) (by decide +kernel) rfl (by decide) ?_
    refine k_iload_n G dX0_rowOf_36 rfl ?_
    by_cases h0 : n < 0
    · exact kx_newaZ G hlt (Nat.le_refl _) h0 (Nat.le_of_ble_eq_true rfl) ⟨Nat.le_refl _, Nat.le_refl _⟩ dX0_rowOf_37 (fun q9 => kx_out G X htab (Nat.le_refl _) (Nat.le_refl _) ⟨h0, rfl, rfl⟩) (tx_int n)
    · refine k_newa G (atype := .short) (t := sortT 1) (N := n.toNatClampNeg) (a0 := zeroV 1 n.toNatClampNeg) q1339 rfl rfl (fun _ => rfl) h0 rfl (Nat.le_trans (Nat.mul_le_mul_right _ (hN h0)) (by decide)) ⟨by omega, by have := hN h0; omega⟩ dX0_rowOf_37 (fun a => ?_)
      exact kx_ret X (k_aret (xEr.G G) xEr.X (Or.inl ⟨_, rfl⟩) (r := some a) dX0_rowOf_39 (by omega) (by have := hN h0; omega) ⟨Int32.not_lt.mp h0, a, rfl, rfl⟩)
  | 2, _ =>
    refine k_iload_n G dX0_rowOf_0 rfl ?_
    refine k_tswIn G 2 rfl 40 dX0_rowOf_1 (by decide +kernel) (by decide +kernel) rfl (by decide) ?_
    refine k_iload_n G dX0_rowOf_40 rfl ?_
    by_cases h0 : n < 0
    · exact kx_newaZ G hlt (Nat.le_refl _) h0 (Nat.le_of_ble_eq_true rfl) ⟨Nat.le_refl _, Nat.le_refl _⟩ dX0_rowOf_41 (fun q9 => kx_out G X htab (Nat.le_refl _) (Nat.le_refl _) ⟨h0, rfl, rfl⟩) (tx_int n)
    · refine k_newa G (atype := .int) (t := sortT 2) (N := n.toNatClampNeg) (a0 := zeroV 2 n.toNatClampNeg) q155 rfl rfl (fun _ => rfl) h0 rfl (Nat.le_trans (Nat.mul_le_mul_right _ (hN h0)) (by decide)) ⟨by omega, by have := hN h0; omega⟩ dX0_rowOf_41 (fun a => ?_)
      exact kx_ret X (k_aret (xEr.G G) xEr.X (Or.inl ⟨_, rfl⟩) (r := some a) dX0_rowOf_43 (by omega) (by have := hN h0; omega) ⟨Int32.not_lt.mp h0, a, rfl, rfl⟩)
  | 3, _ =>
    refine k_iload_n G dX0_rowOf_0 rfl ?_
    refine k_tswIn G 3 rfl 44 dX0_rowOf_1 (by decide +kernel) (by decide +kernel) rfl (by decide) ?_
    refine k_iload_n G dX0_rowOf_44 rfl ?_
    by_cases h0 : n < 0
    · exact kx_newaZ G hlt (Nat.le_refl _) h0 (Nat.le_of_ble_eq_true rfl) ⟨Nat.le_refl _, Nat.le_refl _⟩ dX0_rowOf_45 (fun q9 => kx_out G X htab (Nat.le_refl _) (Nat.le_refl _) ⟨h0, rfl, rfl⟩) (tx_int n)
    · refine k_newa G (atype := .long) (t := sortT 3) (N := n.toNatClampNeg) (a0 := zeroV 3 n.toNatClampNeg) q1340 rfl rfl (fun _ => rfl) h0 rfl (Nat.le_trans (Nat.mul_le_mul_right _ (hN h0)) (by decide)) ⟨by omega, by have := hN h0; omega⟩ dX0_rowOf_45 (fun a => ?_)
      exact kx_ret X (k_aret (xEr.G G) xEr.X (Or.inl ⟨_, rfl⟩) (r := some a) dX0_rowOf_47 (by omega) (by have := hN h0; omega) ⟨Int32.not_lt.mp h0, a, rfl, rfl⟩)
  | 4, _ =>
    refine k_iload_n G dX0_rowOf_0 rfl ?_
    refine k_tswD G [0, 1, 2, 3] 48 dX0_rowOf_1 (by decide +kernel) (by decide) (by decide) (by decide) ?_
    refine k_iload_n G dX0_rowOf_48 rfl ?_
    by_cases h0 : n < 0
    · exact kx_newaZ G hlt (Nat.le_refl _) h0 (Nat.le_of_ble_eq_true rfl) ⟨Nat.le_refl _, Nat.le_refl _⟩ dX0_rowOf_49 (fun q9 => kx_out G X htab (Nat.le_refl _) (Nat.le_refl _) ⟨h0, rfl, rfl⟩) (tx_int n)
    · refine k_newa G (atype := .boolean) (t := sortT 4) (N := n.toNatClampNeg) (a0 := zeroV 4 n.toNatClampNeg) q269 rfl rfl (fun _ => rfl) h0 rfl (Nat.le_trans (Nat.mul_le_mul_right _ (hN h0)) (by decide)) ⟨by omega, by have := hN h0; omega⟩ dX0_rowOf_49 (fun a => ?_)
      exact kx_ret X (k_aret (xEr.G G) xEr.X (Or.inl ⟨_, rfl⟩) (r := some a) dX0_rowOf_51 (by omega) (by have := hN h0; omega) ⟨Int32.not_lt.mp h0, a, rfl, rfl⟩)
/-- what tape does -/
def tapeO (T : xT) (ω : CS) (t s n r : Int32) (ω' : CS) : Prop := (¬ (0 ≤ t ∧ t ≤ 5) ∧ r = -1 ∧ ω' = ω) ∨ ((0 ≤ t ∧ t ≤ 5) ∧ (¬ (-1 ≤ s ∧ s ≤ 4) ∨ (¬ s = -1 ∧ ¬ n ≤ 60)) ∧ r = -2 ∧ ω' = ω) ∨ ((0 ≤ t ∧ t ≤ 5) ∧ s = -1 ∧ r = 1 ∧ ω' = cR ω (31 + t.toNatClampNeg) 0 none) ∨ ((0 ≤ t ∧ t ≤ 5) ∧ (∃ j : Nat, j ≤ 4 ∧ s = nI j) ∧ n ≤ 60 ∧ n < 0 ∧ r = -14 ∧ ω' = ω) ∨ ((0 ≤ t ∧ t ≤ 5) ∧ n ≤ 60 ∧ 0 ≤ n ∧ r = 1 ∧ ∃ j a : Nat, j ≤ 4 ∧ s = nI j ∧ a ∉ ω.2.1 ∧ ω' = cR (cNew ω a (.inl (T.1 (sortT j), zeroV j n.toNatClampNeg))) (31 + t.toNatClampNeg) 0 (some a))
theorem sort_of {s : Int32} (h : -1 ≤ s ∧ s ≤ 4) (h1 : ¬ s = -1) : ∃ j : Nat, j ≤ 4 ∧ s = nI j := by
  have a1 : -1 ≤ s.toInt := Int32.le_iff_toInt_le.mp h.1
  have a2 : s.toInt ≤ 4 := Int32.le_iff_toInt_le.mp h.2
  have a3 : ¬ s.toInt = -1 := fun z => h1 (Int32.toInt_inj.mp z)
  refine ⟨s.toInt.toNat, by omega, ?_⟩
  rw [← Int32.toInt_inj, xnI_toInt (by omega)]
  omega
theorem ks_tape (l : Launch) (hlt : l.stackTraces = false) (D : va_G) (T : xT) (q : Nat → Nat) (ω : CS) (t s n : Int32) : XMW l D T yX0_tape cX0_tape 5 (some .int) [(32, 56, 57, 385)] 201 3 110 [.ref (q 0), .int t, .int s, .int n] (cw T q ω) (fun v w => ∃ (r : Int32) (ω' : CS), v = some (.int r) ∧ w = cw T q ω' ∧ tapeO T ω t s n r ω') := by
  refine XMW.start (by decide +kernel) (Nat.le_of_ble_eq_true rfl) (fun Γ G X htab hl_ => ?_)
  subst hl_
  refine K.less [0, 1, 2, 3] (lv' := [(0, .ref (q 0)), (1, .int t), (2, .int s), (3, .int n)]) rfl ?_
  by_cases ht : 0 ≤ t ∧ t ≤ 5
  rotate_left
  · refine k_iload_n G dX0_tape_0 rfl ?_
    refine k_callPI G (vk_isTape _ D T t (fun r => r = 0) (q_F ht ⟨Or.inl rfl, rfl⟩)) gf_isTape q1183 dX0_tape_1 rfl rfl (Nat.le_of_ble_eq_true rfl) (Nat.le_of_ble_eq_true rfl) ⟨Nat.zero_le _, Nat.zero_le _⟩ (fun r h9 => ?_)
    subst h9
    refine k_if_ne G 9 dX0_tape_4 (by decide) (fun c4 => absurd c4 (fun z => z rfl)) (fun _ => ?_)
    refine k_iconst G (v := -1) dX0_tape_7 (by decide) ?_
    exact k_iret G X dX0_tape_8 (by omega) (by omega) ⟨_, _, rfl, rfl, Or.inl ⟨ht, rfl, rfl⟩⟩
  refine k_iload_n G dX0_tape_0 rfl ?_
  refine k_callPI G (vk_isTape _ D T t (fun r => r = 1) (q_T ht ⟨Or.inr rfl, rfl⟩)) gf_isTape q1183 dX0_tape_1 rfl rfl (Nat.le_of_ble_eq_true rfl) (Nat.le_of_ble_eq_true rfl) ⟨Nat.zero_le _, Nat.zero_le _⟩ (fun r h9 => ?_)
  subst h9
  refine k_if_ne G 9 dX0_tape_4 (by decide) (fun _ => ?_) (fun c4 => absurd c4 (by decide))
  refine k_iload_n G dX0_tape_9 rfl ?_
  refine k_iconst G (v := -1) dX0_tape_10 (by decide) ?_
  refine k_iconst G (v := 4) dX0_tape_11 (by decide) ?_
  by_cases hs : -1 ≤ s ∧ s ≤ 4
  rotate_left
  · refine k_callPI G (vk_in _ D T s (-1) 4 (fun r => r = 0) (q_F hs rfl)) gf_in q368 dX0_tape_12 rfl rfl (Nat.le_of_ble_eq_true rfl) (Nat.le_of_ble_eq_true rfl) ⟨(Nat.zero_le _), (Nat.zero_le _)⟩ (fun r h9 => ?_)
    subst h9
    refine k_if_eq G 29 dX0_tape_15 (by decide) (fun _ => ?_) (fun c15 => absurd rfl c15)
    refine k_bipush G (v := -2) dX0_tape_29 (by decide) ?_
    exact k_iret G X dX0_tape_31 (by omega) (by omega) ⟨_, _, rfl, rfl, Or.inr (Or.inl ⟨ht, Or.inl hs, rfl, rfl⟩)⟩
  refine k_callPI G (vk_in _ D T s (-1) 4 (fun r => r = 1) (q_T hs rfl)) gf_in q368 dX0_tape_12 rfl rfl (Nat.le_of_ble_eq_true rfl) (Nat.le_of_ble_eq_true rfl) ⟨(Nat.zero_le _), (Nat.zero_le _)⟩ (fun r h9 => ?_)
  subst h9
  refine k_if_eq G 29 dX0_tape_15 (by decide) (fun c15 => absurd c15 (by decide)) (fun _ => ?_)
  refine k_iload_n G dX0_tape_18 rfl ?_
  refine k_iconst G (v := -1) dX0_tape_19 (by decide) ?_
  refine k_icmp_eq G 32 dX0_tape_20 (by decide) (fun c20 => ?_) (fun c20 => ?_)
  · refine k_aload_n G dX0_tape_32 rfl ?_
    refine kc_this G (show CF "BakedBefore" 15 68 from ⟨by decide, Or.inl q285, rfl⟩) dX0_tape_33 rfl ?_
    refine k_iload_n G dX0_tape_36 rfl ?_
    refine kc_aaldB G dX0_tape_37 (tp_in ht).1 ?_
    refine k_iload_n G dX0_tape_38 rfl ?_
    refine k_iconst G (v := -1) dX0_tape_39 (by decide) ?_
    refine k_icmp_ne G 47 dX0_tape_40 (by decide) (fun c40 => ?_) (fun c40 => ?_)
    · exact absurd c20 c40
    · refine k_null G dX0_tape_43 ?_
      refine k_goto G 52 dX0_tape_44 (by decide) ?_
      refine kc_putRow G (r := none) (tp_in ht).2 (Or.inr (by decide +kernel)) dX0_tape_52 ?_
      refine k_iconst G (v := 1) dX0_tape_55 (by decide) ?_
      exact k_iret G X dX0_tape_56 (by omega) (by omega) ⟨_, _, rfl, rfl, Or.inr (Or.inr (Or.inl ⟨ht, c20, rfl, rfl⟩))⟩
  · refine k_iload_n G dX0_tape_23 rfl ?_
    refine k_bipush G (v := 60) dX0_tape_24 (by decide) ?_
    refine k_icmp_le G 32 dX0_tape_26 (by decide) (fun c26 => ?_) (fun c26 => ?_)
    · obtain ⟨j, hj, ej⟩ := sort_of hs c20
      refine k_aload_n G dX0_tape_32 rfl ?_
      refine kc_this G (show CF "BakedBefore" 15 68 from ⟨by decide, Or.inl q285, rfl⟩) dX0_tape_33 rfl ?_
      refine k_iload_n G dX0_tape_36 rfl ?_
      refine kc_aaldB G dX0_tape_37 (tp_in ht).1 ?_
      refine k_iload_n G dX0_tape_38 rfl ?_
      refine k_iconst G (v := -1) dX0_tape_39 (by decide) ?_
      refine k_icmp_ne G 47 dX0_tape_40 (by decide) (fun c40 => ?_) (fun c40 => ?_)
      · subst ej
        refine k_iload_n G dX0_tape_47 rfl ?_
        refine k_iload_n G dX0_tape_48 rfl ?_
        refine k_callSX0 G (As := [.int (nI j), .int n]) (rest := [.ref (q (31 + t.toNatClampNeg))]) (ks_rowOf _ hlt D T hj c26) xs_rowOf q1336 rfl rfl (Nat.le_of_ble_eq_true rfl) (Nat.le_refl _) ⟨Nat.le_refl _, Nat.le_refl _⟩ dX0_tape_49 (fun v w hp => ?_) (fun E q9 w hp => ?_)
        · obtain ⟨h0, a, rfl, rfl⟩ := hp
          refine kc_pool (fun hna => ?_)
          refine kc_putRow G (r := some a) (tp_in ht).2 (Or.inr (by decide +kernel)) dX0_tape_52 ?_
          refine k_iconst G (v := 1) dX0_tape_55 (by decide) ?_
          exact k_iret G X dX0_tape_56 (by omega) (by omega) ⟨_, _, rfl, rfl, Or.inr (Or.inr (Or.inr (Or.inr ⟨ht, c26, h0, rfl, j, a, hj, rfl, hna, rfl⟩)))⟩
        · obtain ⟨h0, rfl, rfl⟩ := hp
          rw [List.append_nil]
          refine kx_catch G (name := "java/lang/NegativeArraySizeException") [] ⟨32, 56, 57, 385⟩ [] (by rw [htab]; rfl) (fun z hz => nomatch hz) rfl (by decide) q1322 (by decide +kernel) rfl ?_
          refine k_astore G [(4, .ref q9), (0, .ref (q 0)), (1, .int t), (2, .int (nI j)), (3, .int n)] dX0_tape_57 (Nat.le_of_ble_eq_true rfl) rfl ?_
          refine k_bipush G (v := -14) dX0_tape_59 (by decide) ?_
          exact k_iret G X dX0_tape_61 (by omega) (by omega) ⟨_, _, rfl, rfl, Or.inr (Or.inr (Or.inr (Or.inl ⟨ht, ⟨j, hj, rfl⟩, c26, h0, rfl, rfl⟩)))⟩
      · exact absurd c40 c20
    · refine k_bipush G (v := -2) dX0_tape_29 (by decide) ?_
      exact k_iret G X dX0_tape_31 (by omega) (by omega) ⟨_, _, rfl, rfl, Or.inr (Or.inl ⟨ht, Or.inr ⟨c20, c26⟩, rfl, rfl⟩)⟩
