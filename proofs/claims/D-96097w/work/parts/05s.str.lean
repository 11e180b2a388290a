/-! constant strings: ldc, length, charAt -/
set_option maxRecDepth 100000
abbrev cJ6_length : ByteArray := prog_39_method_54_code
def yJ6_length : MethodName := ⟨RJ6, "length", "()I"⟩
def dkwJ6_length_0 : List UInt8 := [42, 180, 0, 9, 190, 42, 182, 1, 79, 122, 172]
abbrev dktJ6_length_0 : List UInt8 := dkwJ6_length_0 ++ []
theorem dksJ6_length_0 : cJ6_length.data.toList.drop 0 = dktJ6_length_0 := by decide +kernel
theorem dJ6_length_0 : decode cJ6_length 0 = .ok (.aload_n 0, 1) := dk_42 (dk_at dksJ6_length_0 0 rfl rfl)
theorem dJ6_length_1 : decode cJ6_length 1 = .ok (.getfield 9, 3) := dk_180 0 9 (dk_at dksJ6_length_0 1 rfl rfl)
theorem dJ6_length_4 : decode cJ6_length 4 = .ok (.arraylength, 1) := dk_190 (dk_at dksJ6_length_0 4 rfl rfl)
theorem dJ6_length_5 : decode cJ6_length 5 = .ok (.aload_n 0, 1) := dk_42 (dk_at dksJ6_length_0 5 rfl rfl)
theorem dJ6_length_6 : decode cJ6_length 6 = .ok (.invokevirtual 335, 3) := dk_182 1 79 (dk_at dksJ6_length_0 6 rfl rfl)
theorem dJ6_length_9 : decode cJ6_length 9 = .ok (.ishr, 1) := dk_122 (dk_at dksJ6_length_0 9 rfl rfl)
theorem dJ6_length_10 : decode cJ6_length 10 = .ok (.ireturn, 1) := dk_172 (dk_at dksJ6_length_0 10 rfl rfl)
abbrev cJ6_coder : ByteArray := prog_39_method_152_code
def yJ6_coder : MethodName := ⟨RJ6, "coder", "()B"⟩
def dkwJ6_coder_0 : List UInt8 := [178, 0, 38, 153, 0, 10, 42, 180, 0, 15, 167, 0, 4, 4, 172]
abbrev dktJ6_coder_0 : List UInt8 := dkwJ6_coder_0 ++ []
theorem dksJ6_coder_0 : cJ6_coder.data.toList.drop 0 = dktJ6_coder_0 := by decide +kernel
theorem dJ6_coder_0 : decode cJ6_coder 0 = .ok (.getstatic 38, 3) := dk_178 0 38 (dk_at dksJ6_coder_0 0 rfl rfl)
theorem dJ6_coder_3 : decode cJ6_coder 3 = .ok (.ifCond .eq 10, 3) := dk_153 0 10 (dk_at dksJ6_coder_0 3 rfl rfl)
theorem dJ6_coder_6 : decode cJ6_coder 6 = .ok (.aload_n 0, 1) := dk_42 (dk_at dksJ6_coder_0 6 rfl rfl)
theorem dJ6_coder_7 : decode cJ6_coder 7 = .ok (.getfield 15, 3) := dk_180 0 15 (dk_at dksJ6_coder_0 7 rfl rfl)
theorem dJ6_coder_10 : decode cJ6_coder 10 = .ok (.goto 4, 3) := dk_167 0 4 (dk_at dksJ6_coder_0 10 rfl rfl)
theorem dJ6_coder_13 : decode cJ6_coder 13 = .ok (.iconst 1, 1) := dk_4 (dk_at dksJ6_coder_0 13 rfl rfl)
theorem dJ6_coder_14 : decode cJ6_coder 14 = .ok (.ireturn, 1) := dk_172 (dk_at dksJ6_coder_0 14 rfl rfl)
abbrev cJ6_isLatin1 : ByteArray := prog_39_method_154_code
def yJ6_isLatin1 : MethodName := ⟨RJ6, "isLatin1", "()Z"⟩
def dkwJ6_isLatin1_0 : List UInt8 := [178, 0, 38, 153, 0, 14, 42, 180, 0, 15, 154, 0, 7, 4, 167, 0, 4, 3, 172]
abbrev dktJ6_isLatin1_0 : List UInt8 := dkwJ6_isLatin1_0 ++ []
theorem dksJ6_isLatin1_0 : cJ6_isLatin1.data.toList.drop 0 = dktJ6_isLatin1_0 := by decide +kernel
theorem dJ6_isLatin1_0 : decode cJ6_isLatin1 0 = .ok (.getstatic 38, 3) := dk_178 0 38 (dk_at dksJ6_isLatin1_0 0 rfl rfl)
theorem dJ6_isLatin1_3 : decode cJ6_isLatin1 3 = .ok (.ifCond .eq 14, 3) := dk_153 0 14 (dk_at dksJ6_isLatin1_0 3 rfl rfl)
theorem dJ6_isLatin1_6 : decode cJ6_isLatin1 6 = .ok (.aload_n 0, 1) := dk_42 (dk_at dksJ6_isLatin1_0 6 rfl rfl)
theorem dJ6_isLatin1_7 : decode cJ6_isLatin1 7 = .ok (.getfield 15, 3) := dk_180 0 15 (dk_at dksJ6_isLatin1_0 7 rfl rfl)
theorem dJ6_isLatin1_10 : decode cJ6_isLatin1 10 = .ok (.ifCond .ne 7, 3) := dk_154 0 7 (dk_at dksJ6_isLatin1_0 10 rfl rfl)
theorem dJ6_isLatin1_13 : decode cJ6_isLatin1 13 = .ok (.iconst 1, 1) := dk_4 (dk_at dksJ6_isLatin1_0 13 rfl rfl)
theorem dJ6_isLatin1_14 : decode cJ6_isLatin1 14 = .ok (.goto 4, 3) := dk_167 0 4 (dk_at dksJ6_isLatin1_0 14 rfl rfl)
theorem dJ6_isLatin1_17 : decode cJ6_isLatin1 17 = .ok (.iconst 0, 1) := dk_3 (dk_at dksJ6_isLatin1_0 17 rfl rfl)
theorem dJ6_isLatin1_18 : decode cJ6_isLatin1 18 = .ok (.ireturn, 1) := dk_172 (dk_at dksJ6_isLatin1_0 18 rfl rfl)
abbrev cJ6_charAt : ByteArray := prog_39_method_56_code
def yJ6_charAt : MethodName := ⟨RJ6, "charAt", "(I)C"⟩
def dkwJ6_charAt_1 : List UInt8 := [172]
abbrev dktJ6_charAt_1 : List UInt8 := dkwJ6_charAt_1 ++ []
def dkwJ6_charAt_0 : List UInt8 := [42, 182, 1, 236, 153, 0, 12, 42, 180, 0, 9, 27, 184, 1, 239, 172, 42, 180, 0, 9, 27, 184, 1, 242]
abbrev dktJ6_charAt_0 : List UInt8 := dkwJ6_charAt_0 ++ dktJ6_charAt_1
theorem dksJ6_charAt_0 : cJ6_charAt.data.toList.drop 0 = dktJ6_charAt_0 := by decide +kernel
theorem dksJ6_charAt_1 : cJ6_charAt.data.toList.drop 24 = dktJ6_charAt_1 := dk_seg dksJ6_charAt_0 24 rfl rfl
theorem dJ6_charAt_0 : decode cJ6_charAt 0 = .ok (.aload_n 0, 1) := dk_42 (dk_at dksJ6_charAt_0 0 rfl rfl)
theorem dJ6_charAt_1 : decode cJ6_charAt 1 = .ok (.invokevirtual 492, 3) := dk_182 1 236 (dk_at dksJ6_charAt_0 1 rfl rfl)
theorem dJ6_charAt_4 : decode cJ6_charAt 4 = .ok (.ifCond .eq 12, 3) := dk_153 0 12 (dk_at dksJ6_charAt_0 4 rfl rfl)
theorem dJ6_charAt_7 : decode cJ6_charAt 7 = .ok (.aload_n 0, 1) := dk_42 (dk_at dksJ6_charAt_0 7 rfl rfl)
theorem dJ6_charAt_8 : decode cJ6_charAt 8 = .ok (.getfield 9, 3) := dk_180 0 9 (dk_at dksJ6_charAt_0 8 rfl rfl)
theorem dJ6_charAt_11 : decode cJ6_charAt 11 = .ok (.iload_n 1, 1) := dk_27 (dk_at dksJ6_charAt_0 11 rfl rfl)
theorem dJ6_charAt_12 : decode cJ6_charAt 12 = .ok (.invokestatic 495, 3) := dk_184 1 239 (dk_at dksJ6_charAt_0 12 rfl rfl)
theorem dJ6_charAt_15 : decode cJ6_charAt 15 = .ok (.ireturn, 1) := dk_172 (dk_at dksJ6_charAt_0 15 rfl rfl)
theorem dJ6_charAt_16 : decode cJ6_charAt 16 = .ok (.aload_n 0, 1) := dk_42 (dk_at dksJ6_charAt_0 16 rfl rfl)
theorem dJ6_charAt_17 : decode cJ6_charAt 17 = .ok (.getfield 9, 3) := dk_180 0 9 (dk_at dksJ6_charAt_0 17 rfl rfl)
theorem dJ6_charAt_20 : decode cJ6_charAt 20 = .ok (.iload_n 1, 1) := dk_27 (dk_at dksJ6_charAt_0 20 rfl rfl)
theorem dJ6_charAt_21 : decode cJ6_charAt 21 = .ok (.invokestatic 498, 3) := dk_184 1 242 (dk_at dksJ6_charAt_0 21 rfl rfl)
theorem dJ6_charAt_24 : decode cJ6_charAt 24 = .ok (.ireturn, 1) := dk_172 (dk_at dksJ6_charAt_1 0 rfl rfl)
abbrev cJ6_checkIndex : ByteArray := prog_39_method_155_code
def yJ6_checkIndex : MethodName := ⟨RJ6, "checkIndex", "(II)V"⟩
def dkwJ6_checkIndex_0 : List UInt8 := [26, 27, 178, 4, 29, 184, 4, 35, 87, 177]
abbrev dktJ6_checkIndex_0 : List UInt8 := dkwJ6_checkIndex_0 ++ []
theorem dksJ6_checkIndex_0 : cJ6_checkIndex.data.toList.drop 0 = dktJ6_checkIndex_0 := by decide +kernel
theorem dJ6_checkIndex_0 : decode cJ6_checkIndex 0 = .ok (.iload_n 0, 1) := dk_26 (dk_at dksJ6_checkIndex_0 0 rfl rfl)
theorem dJ6_checkIndex_1 : decode cJ6_checkIndex 1 = .ok (.iload_n 1, 1) := dk_27 (dk_at dksJ6_checkIndex_0 1 rfl rfl)
theorem dJ6_checkIndex_2 : decode cJ6_checkIndex 2 = .ok (.getstatic 1053, 3) := dk_178 4 29 (dk_at dksJ6_checkIndex_0 2 rfl rfl)
theorem dJ6_checkIndex_5 : decode cJ6_checkIndex 5 = .ok (.invokestatic 1059, 3) := dk_184 4 35 (dk_at dksJ6_checkIndex_0 5 rfl rfl)
theorem dJ6_checkIndex_8 : decode cJ6_checkIndex 8 = .ok (.pop, 1) := dk_87 (dk_at dksJ6_checkIndex_0 8 rfl rfl)
theorem dJ6_checkIndex_9 : decode cJ6_checkIndex 9 = .ok (.return_, 1) := dk_177 (dk_at dksJ6_checkIndex_0 9 rfl rfl)
abbrev cJ7_charAt : ByteArray := prog_40_method_2_code
def yJ7_charAt : MethodName := ⟨RJ7, "charAt", "([BI)C"⟩
def dkwJ7_charAt_0 : List UInt8 := [27, 42, 190, 184, 0, 9, 42, 27, 51, 17, 0, 255, 126, 146, 172]
abbrev dktJ7_charAt_0 : List UInt8 := dkwJ7_charAt_0 ++ []
theorem dksJ7_charAt_0 : cJ7_charAt.data.toList.drop 0 = dktJ7_charAt_0 := by decide +kernel
theorem dJ7_charAt_0 : decode cJ7_charAt 0 = .ok (.iload_n 1, 1) := dk_27 (dk_at dksJ7_charAt_0 0 rfl rfl)
theorem dJ7_charAt_1 : decode cJ7_charAt 1 = .ok (.aload_n 0, 1) := dk_42 (dk_at dksJ7_charAt_0 1 rfl rfl)
theorem dJ7_charAt_2 : decode cJ7_charAt 2 = .ok (.arraylength, 1) := dk_190 (dk_at dksJ7_charAt_0 2 rfl rfl)
theorem dJ7_charAt_3 : decode cJ7_charAt 3 = .ok (.invokestatic 9, 3) := dk_184 0 9 (dk_at dksJ7_charAt_0 3 rfl rfl)
theorem dJ7_charAt_6 : decode cJ7_charAt 6 = .ok (.aload_n 0, 1) := dk_42 (dk_at dksJ7_charAt_0 6 rfl rfl)
theorem dJ7_charAt_7 : decode cJ7_charAt 7 = .ok (.iload_n 1, 1) := dk_27 (dk_at dksJ7_charAt_0 7 rfl rfl)
theorem dJ7_charAt_8 : decode cJ7_charAt 8 = .ok (.baload, 1) := dk_51 (dk_at dksJ7_charAt_0 8 rfl rfl)
theorem dJ7_charAt_9 : decode cJ7_charAt 9 = .ok (.sipush 255, 3) := dk_17 0 255 (dk_at dksJ7_charAt_0 9 rfl rfl)
theorem dJ7_charAt_12 : decode cJ7_charAt 12 = .ok (.iand, 1) := dk_126 (dk_at dksJ7_charAt_0 12 rfl rfl)
theorem dJ7_charAt_13 : decode cJ7_charAt 13 = .ok (.i2c, 1) := dk_146 (dk_at dksJ7_charAt_0 13 rfl rfl)
theorem dJ7_charAt_14 : decode cJ7_charAt 14 = .ok (.ireturn, 1) := dk_172 (dk_at dksJ7_charAt_0 14 rfl rfl)
abbrev cJ4_checkIndex : ByteArray := prog_56_method_11_code
def yJ4_checkIndex : MethodName := ⟨RJ4, "checkIndex", "(IILjava/util/function/BiFunction;)I"⟩
def dkwJ4_checkIndex_0 : List UInt8 := [26, 155, 0, 8, 26, 27, 161, 0, 10, 44, 26, 27, 184, 0, 95, 191, 26, 172]
abbrev dktJ4_checkIndex_0 : List UInt8 := dkwJ4_checkIndex_0 ++ []
theorem dksJ4_checkIndex_0 : cJ4_checkIndex.data.toList.drop 0 = dktJ4_checkIndex_0 := by decide +kernel
theorem dJ4_checkIndex_0 : decode cJ4_checkIndex 0 = .ok (.iload_n 0, 1) := dk_26 (dk_at dksJ4_checkIndex_0 0 rfl rfl)
theorem dJ4_checkIndex_1 : decode cJ4_checkIndex 1 = .ok (.ifCond .lt 8, 3) := dk_155 0 8 (dk_at dksJ4_checkIndex_0 1 rfl rfl)
theorem dJ4_checkIndex_4 : decode cJ4_checkIndex 4 = .ok (.iload_n 0, 1) := dk_26 (dk_at dksJ4_checkIndex_0 4 rfl rfl)
theorem dJ4_checkIndex_5 : decode cJ4_checkIndex 5 = .ok (.iload_n 1, 1) := dk_27 (dk_at dksJ4_checkIndex_0 5 rfl rfl)
theorem dJ4_checkIndex_6 : decode cJ4_checkIndex 6 = .ok (.if_icmp .lt 10, 3) := dk_161 0 10 (dk_at dksJ4_checkIndex_0 6 rfl rfl)
theorem dJ4_checkIndex_9 : decode cJ4_checkIndex 9 = .ok (.aload_n 2, 1) := dk_44 (dk_at dksJ4_checkIndex_0 9 rfl rfl)
theorem dJ4_checkIndex_10 : decode cJ4_checkIndex 10 = .ok (.iload_n 0, 1) := dk_26 (dk_at dksJ4_checkIndex_0 10 rfl rfl)
theorem dJ4_checkIndex_11 : decode cJ4_checkIndex 11 = .ok (.iload_n 1, 1) := dk_27 (dk_at dksJ4_checkIndex_0 11 rfl rfl)
theorem dJ4_checkIndex_12 : decode cJ4_checkIndex 12 = .ok (.invokestatic 95, 3) := dk_184 0 95 (dk_at dksJ4_checkIndex_0 12 rfl rfl)
theorem dJ4_checkIndex_15 : decode cJ4_checkIndex 15 = .ok (.athrow, 1) := dk_191 (dk_at dksJ4_checkIndex_0 15 rfl rfl)
theorem dJ4_checkIndex_16 : decode cJ4_checkIndex 16 = .ok (.iload_n 0, 1) := dk_26 (dk_at dksJ4_checkIndex_0 16 rfl rfl)
theorem dJ4_checkIndex_17 : decode cJ4_checkIndex 17 = .ok (.ireturn, 1) := dk_172 (dk_at dksJ4_checkIndex_0 17 rfl rfl)
def xtl (t : Nat) : Int32 := Int32.ofNat (xslen.getD t 0)
def xtn (t : Nat) : Nat := xslen.getD t 0
def xtc (t i : Nat) : Int32 := (xsbyt.getD t []).getD i 0
section KX
variable {D : va_G} {T : xT} {Γ : xE} {cc : ByteArray} {own : String} {nL lev mc ms : Nat} {ret : Option FieldType} {cells slots pc : Nat} {lv : List (Nat × Value)} {st : List Value} {ws : va_W} {post : Option Value → va_W → Prop}
theorem x_H (G : xG D T Γ cc own nL ret lev mc ms) : xH T Γ.2.2.2.2.2 Γ.2.1.1 := G.2.2.2.2.2.2.2.2.1.2.2
theorem kx_ldc (G : xG D T Γ cc own nL ret lev mc ms) {idx i j : Nat} {tx : String} (h : xstr[j]? = some (own, idx, tx, i)) (d : decode cc pc = .ok (.ldc idx, 2)) (k : K D Γ cells slots (pc + 2) lv (.ref (T.2.1 i) :: st) ws) : K D Γ cells slots pc lv st ws := by
  intro H locs ls hP hD hS hl
  exact va_ldcS G.1 G.2.1 G.2.2.2.2.2.1 ((x_H G).2.1 _ (List.mem_of_getElem? h)) d (k H locs ls hP hD hS hl)
theorem kx_compact (G : xG D T Γ cc own nL ret lev mc ms) {idx : Nat} (hlink : Cond.fieldLink own idx "java/lang/String" "COMPACT_STRINGS" "Z" ∈ lw_all) (d : decode cc pc = .ok (.getstatic idx, 3)) (k : K D Γ cells slots (pc + 3) lv (.int 1 :: st) ws) : K D Γ cells slots pc lv st ws := by
  intro H locs ls hP hD hS hl
  exact va_gets G.1 G.2.1 (x_H G).2.2.1 hS G.2.2.2.2.2.1 (G.2.2.2.2.2.2.1 _ hlink) (fun _ h => h) d (k H locs ls hP hD hS hl)
theorem kx_sioobe (G : xG D T Γ cc own nL ret lev mc ms) {idx : Nat} (hlink : Cond.fieldLink own idx "jdk/internal/util/Preconditions" "SIOOBE_FORMATTER" "Ljava/util/function/BiFunction;" ∈ lw_all) (d : decode cc pc = .ok (.getstatic idx, 3)) (k : ∀ r : Option Nat, K D Γ cells slots (pc + 3) lv (va_rf r :: st) ws) : K D Γ cells slots pc lv st ws := by
  intro H locs ls hP hD hS hl
  rcases (x_H G).2.2.2.2.2.2.2.1 with h | ⟨t, h⟩
  · exact va_gets G.1 G.2.1 h hS G.2.2.2.2.2.1 (G.2.2.2.2.2.2.1 _ hlink) (fun _ h => h) d (k none H locs ls hP hD hS hl)
  · exact va_gets G.1 G.2.1 h hS G.2.2.2.2.2.1 (G.2.2.2.2.2.2.1 _ hlink) (fun _ h => h) d (k (some t) H locs ls hP hD hS hl)
theorem kx_coderF (G : xG D T Γ cc own nL ret lev mc ms) {t idx : Nat} (ht : t < 4) (hlink : Cond.fieldLink own idx "java/lang/String" "coder" "B" ∈ lw_all) (d : decode cc pc = .ok (.getfield idx, 3)) (k : K D Γ cells slots (pc + 3) lv (.int 0 :: st) ws) : K D Γ cells slots pc lv (.ref (T.2.1 t) :: st) ws := by
  intro H locs ls hP hD hS hl
  exact vk_getf G.1 G.2.1 ((x_H G).1.1 t ht).2.1 hS G.2.2.2.2.2.1 (G.2.2.2.2.2.2.1 _ hlink) (fun _ h => h) d (k H locs ls hP hD hS hl)
theorem kx_valueF (G : xG D T Γ cc own nL ret lev mc ms) {t idx : Nat} (ht : t < 4) (hlink : Cond.fieldLink own idx "java/lang/String" "value" "[B" ∈ lw_all) (d : decode cc pc = .ok (.getfield idx, 3)) (k : K D Γ cells slots (pc + 3) lv (.ref (T.2.2.1 t) :: st) ws) : K D Γ cells slots pc lv (.ref (T.2.1 t) :: st) ws := by
  intro H locs ls hP hD hS hl
  exact vk_getf G.1 G.2.1 ((x_H G).1.1 t ht).2.2.1 hS G.2.2.2.2.2.1 (G.2.2.2.2.2.2.1 _ hlink) (fun _ h => h) d (k H locs ls hP hD hS hl)
theorem kx_bylen (G : xG D T Γ cc own nL ret lev mc ms) {t : Nat} (ht : t < 4) (d : decode cc pc = .ok (.arraylength, 1)) (k : K D Γ cells slots (pc + 1) lv (.int (xtl t) :: st) ws) : K D Γ cells slots pc lv (.ref (T.2.2.1 t) :: st) ws := by
  intro H locs ls hP hD hS hl
  exact va_tlen G.1 G.2.1 ((x_H G).1.1 t ht).2.2.2 hS rfl d (k H locs ls hP hD hS hl)
theorem kx_byld (G : xG D T Γ cc own nL ret lev mc ms) {t : Nat} (ht : t < 4) {i : Int32} (hi : vp_in i (xtn t)) (d : decode cc pc = .ok (.baload, 1)) (k : K D Γ cells slots (pc + 1) lv (.int (xtc t i.toNatClampNeg) :: st) ws) : K D Γ cells slots pc lv (.int i :: .ref (T.2.2.1 t) :: st) ws := by
  intro H locs ls hP hD hS hl
  exact va_tb G.1 G.2.1 ((x_H G).1.1 t ht).2.2.2 hS hi rfl d (k H locs ls hP hD hS hl)
theorem k_i2c (G : xG D T Γ cc own nL ret lev mc ms) {x v : Int32} (hv : (x.toUInt32 % 65536).toInt32 = v) (d : decode cc pc = .ok (.i2c, 1)) (k : K D Γ cells slots (pc + 1) lv (.int v :: st) ws) : K D Γ cells slots pc lv (.int x :: st) ws := fun H locs ls hP hD hS hl => lv_i2c G.1 G.2.1 d hv (k H locs ls hP hD hS hl)
theorem k_nret {ty : FieldType} (G : xG D T Γ cc own nL (some ty) lev mc ms) (X : xX D Γ mc ms post) {x : Int32} (hx : narrow ty (.int x) = .int x) (d : decode cc pc = .ok (.ireturn, 1)) (hc : cells ≤ mc) (hs : slots ≤ ms) (h : post (some (.int x)) ws) : K D Γ cells slots pc lv [.int x] ws := by
  intro H locs ls hP hD hS hl
  unfold xw
  rw [X]
  refine W.widen hc hs ?_
  exact W.zret G.1 G.2.1 G.2.2.2.1 hx (fun t ht hW => ⟨⟨_, ws, rfl, h, by rw [ht]; exact hP, hD⟩, hS.F ht⟩) hS.2.2 d G.2.2.2.2.1
/-- a call on a text: its method sees no world -/
theorem k_callT (G : xG D T Γ cc own nL ret lev mc ms) {y : MethodName} {code' : ByteArray} {nL' lev' n idx t : Nat} {ret' : Option FieldType} {As rest : List Value} {r : Value} (ht : t < 4) (hM : XM Γ.1.2.1 D T y code' nL' ret' lev' 0 0 (.ref (T.2.1 t) :: As) [] (fun v w => v = some r ∧ w = [])) (f : xV y "java/lang/String" code' nL' ret' n) (hlink : Cond.methodLink own idx y ∈ lw_all) (hn : As.length = n) (hst : st = As.reverse ++ .ref (T.2.1 t) :: rest) (hcat : (rest.map fun v => v.category).sum ≤ 8) (hlev : lev' + 1 ≤ lev) (hroom : cells ≤ mc ∧ slots ≤ ms) (d : decode cc pc = .ok (.invokevirtual idx, 3)) (kk : K D Γ cells slots (pc + 3) lv (r :: rest) ws) : K D Γ cells slots pc lv st ws := by
  obtain ⟨f1, f2, f3, f4, f5, f6⟩ := f
  have hR : Γ.1.2.2.2 = xrm lev mc ms := G.2.2.2.2.2.2.2.2.2
  have h := k_run G (wl := []) (wc := []) (wr := ws) (cells := cells) (slots := slots) (mcc := 0) (msc := 0) (pc := pc) (lv := lv) (st := st) (rest := rest) (post := fun v w => v = some r ∧ w = []) (a := (Value.ref (T.2.1 t) :: As).toArray) (fun H locs ls hP hD hS hl => by
    have hPc := (x_pa.mp (x_pa.mp hP).2).1
    have hDc := (x_da.mp (x_da.mp hD).2.1).1
    exact va_runV (As := As) (rest := rest) ⟨G.1, G.2.1, G.2.2.1, G.2.2.2.2.2.1, G.2.2.2.2.2.2.1⟩ (hM H.size) (cwV n G.2.2.2.2.2.2.1 (lw_V hlink f1 f2 f3 f4) rfl rfl rfl f5 (by rw [hR]; exact ⟨hlev, by show 8 + (nL' + 11) + 64 * lev' ≤ 64 * lev; omega⟩))
      ⟨x_blind, vk_recv (x_H G).1 ht hS, fun U hU hW => ⟨rfl, by rw [hU], by rw [hU]; exact hPc, G.2.2.2.2.2.2.2.2.1.next hW (fun a ha hb => by rw [hU]; exact hS.2.1 a ha hb) (x_free hD hS G.2.2.2.2.2.2.2.1), hDc.weaken (fun _ _ _ _ => trivial)⟩⟩ rfl hn (hl.1.trans G.2.2.1) hst (lv_room hcat) d (by rw [hR]; exact hroom)) (fun v wc' hp => by obtain ⟨rfl, rfl⟩ := hp; exact kk)
  exact h
end KX
theorem xs_length : xV yJ6_length "java/lang/String" cJ6_length 1 (some .int) 0 := ⟨q705, q706, q107, q707, ⟨rfl, by decide +kernel, by decide +kernel, by decide +kernel⟩, by decide⟩
theorem xs_coder : xV yJ6_coder "java/lang/String" cJ6_coder 1 (some .byte) 0 := ⟨q709, q710, q107, q711, ⟨rfl, by decide +kernel, by decide +kernel, by decide +kernel⟩, by decide⟩
theorem xs_isLatin1 : xV yJ6_isLatin1 "java/lang/String" cJ6_isLatin1 1 (some .boolean) 0 := ⟨q719, q720, q107, q721, ⟨rfl, by decide +kernel, by decide +kernel, by decide +kernel⟩, by decide⟩
theorem xs_charAt : xV yJ6_charAt "java/lang/String" cJ6_charAt 2 (some .char) 1 := ⟨q715, q716, q107, q717, ⟨rfl, by decide +kernel, by decide +kernel, by decide +kernel⟩, by decide⟩
theorem xs_checkIndex : xS yJ6_checkIndex cJ6_checkIndex 2 none 2 := ⟨q726, q107, q727, ⟨by decide +kernel, by decide +kernel, by decide +kernel⟩, by decide⟩
theorem xs_latin : xS yJ7_charAt cJ7_charAt 2 (some .char) 2 := ⟨q723, q108, q724, ⟨by decide +kernel, by decide +kernel, by decide +kernel⟩, by decide⟩
theorem xs_pre : xS yJ4_checkIndex cJ4_checkIndex 3 (some .int) 3 := ⟨q536, q105, q537, ⟨by decide +kernel, by decide +kernel, by decide +kernel⟩, by decide⟩
theorem st_coder (l : Launch) (D : va_G) (T : xT) {t : Nat} (ht : t < 4) : XM l D T yJ6_coder cJ6_coder 1 (some .byte) 2 0 0 [.ref (T.2.1 t)] [] (fun v w => v = some (.int 0) ∧ w = []) := by
  refine XM.start (by decide +kernel) (Nat.le_of_ble_eq_true rfl) (fun Γ G X _ hl_ => ?_)
  subst hl_
  refine K.less [0] (lv' := [(0, .ref (T.2.1 t))]) rfl ?_
  refine kx_compact G q712 dJ6_coder_0 ?_
  refine k_if_eq G 13 dJ6_coder_3 (by decide) (fun c3 => absurd c3 (by decide)) (fun _ => ?_)
  refine k_aload_n G dJ6_coder_6 rfl ?_
  refine kx_coderF G ht q1918 dJ6_coder_7 ?_
  refine k_goto G 14 dJ6_coder_10 (by decide) ?_
  exact k_nret G X rfl dJ6_coder_14 (Nat.le_refl _) (Nat.le_refl _) ⟨rfl, rfl⟩
theorem st_isLatin1 (l : Launch) (D : va_G) (T : xT) {t : Nat} (ht : t < 4) : XM l D T yJ6_isLatin1 cJ6_isLatin1 1 (some .boolean) 2 0 0 [.ref (T.2.1 t)] [] (fun v w => v = some (.int 1) ∧ w = []) := by
  refine XM.start (by decide +kernel) (Nat.le_of_ble_eq_true rfl) (fun Γ G X _ hl_ => ?_)
  subst hl_
  refine K.less [0] (lv' := [(0, .ref (T.2.1 t))]) rfl ?_
  refine kx_compact G q712 dJ6_isLatin1_0 ?_
  refine k_if_eq G 17 dJ6_isLatin1_3 (by decide) (fun c3 => absurd c3 (by decide)) (fun _ => ?_)
  refine k_aload_n G dJ6_isLatin1_6 rfl ?_
  refine kx_coderF G ht q1918 dJ6_isLatin1_7 ?_
  refine k_if_ne G 17 dJ6_isLatin1_10 (by decide) (fun c10 => absurd c10 (fun h => h rfl)) (fun _ => ?_)
  refine k_iconst G (v := 1) dJ6_isLatin1_13 (by decide) ?_
  refine k_goto G 18 dJ6_isLatin1_14 (by decide) ?_
  exact k_nret G X rfl dJ6_isLatin1_18 (Nat.le_refl _) (Nat.le_refl _) ⟨rfl, rfl⟩
theorem st_length (l : Launch) (D : va_G) (T : xT) {t : Nat} (ht : t < 4) : XM l D T yJ6_length cJ6_length 1 (some .int) 3 0 0 [.ref (T.2.1 t)] [] (fun v w => v = some (.int (xtl t)) ∧ w = []) := by
  refine XM.start (by decide +kernel) (Nat.le_of_ble_eq_true rfl) (fun Γ G X _ hl_ => ?_)
  subst hl_
  refine K.less [0] (lv' := [(0, .ref (T.2.1 t))]) rfl ?_
  refine k_aload_n G dJ6_length_0 rfl ?_
  refine kx_valueF G ht q1917 dJ6_length_1 ?_
  refine kx_bylen G ht dJ6_length_4 ?_
  refine k_aload_n G dJ6_length_5 rfl ?_
  refine k_callT G ht (As := []) (st_coder _ D T ht) xs_coder q708 rfl rfl (Nat.le_of_ble_eq_true rfl) (Nat.le_of_ble_eq_true rfl) ⟨Nat.le_refl _, Nat.le_refl _⟩ dJ6_length_6 ?_
  refine k_ishr G dJ6_length_9 ?_
  rw [show xtl t >>> ((0 : Int32) &&& 31) = xtl t by match t, ht with | 0, _ => decide | 1, _ => decide | 2, _ => decide | 3, _ => decide]
  exact k_iret G X dJ6_length_10 (Nat.le_refl _) (Nat.le_refl _) ⟨rfl, rfl⟩
theorem st_pre (l : Launch) (D : va_G) (T : xT) {i n : Int32} {r : Option Nat} (h0 : 0 ≤ i) (h1 : i < n) : XS0 l D T yJ4_checkIndex cJ4_checkIndex 3 (some .int) 1 [.int i, .int n, va_rf r] (.int i) := by
  cases r with
  | none =>
    refine XM.start (by decide +kernel) (Nat.le_of_ble_eq_true rfl) (fun Γ G X _ hl_ => ?_)
    subst hl_
    refine K.less [0, 1, 2] (lv' := [(0, .int i), (1, .int n), (2, .null)]) rfl ?_
    refine k_iload_n G dJ4_checkIndex_0 rfl ?_
    refine k_if_lt G 9 dJ4_checkIndex_1 (by decide) (fun c1 => absurd c1 (Int32.not_lt.mpr h0)) (fun _ => ?_)
    refine k_iload_n G dJ4_checkIndex_4 rfl ?_
    refine k_iload_n G dJ4_checkIndex_5 rfl ?_
    refine k_icmp_lt G 16 dJ4_checkIndex_6 (by decide) (fun _ => ?_) (fun c6 => absurd h1 c6)
    refine k_iload_n G dJ4_checkIndex_16 rfl ?_
    exact k_iret G X dJ4_checkIndex_17 (Nat.le_refl _) (Nat.le_refl _) ⟨rfl, rfl⟩
  | some a =>
    refine XM.start (by decide +kernel) (Nat.le_of_ble_eq_true rfl) (fun Γ G X _ hl_ => ?_)
    subst hl_
    refine K.less [0, 1, 2] (lv' := [(0, .int i), (1, .int n), (2, .ref a)]) rfl ?_
    refine k_iload_n G dJ4_checkIndex_0 rfl ?_
    refine k_if_lt G 9 dJ4_checkIndex_1 (by decide) (fun c1 => absurd c1 (Int32.not_lt.mpr h0)) (fun _ => ?_)
    refine k_iload_n G dJ4_checkIndex_4 rfl ?_
    refine k_iload_n G dJ4_checkIndex_5 rfl ?_
    refine k_icmp_lt G 16 dJ4_checkIndex_6 (by decide) (fun _ => ?_) (fun c6 => absurd h1 c6)
    refine k_iload_n G dJ4_checkIndex_16 rfl ?_
    exact k_iret G X dJ4_checkIndex_17 (Nat.le_refl _) (Nat.le_refl _) ⟨rfl, rfl⟩
theorem st_checkIndex (l : Launch) (D : va_G) (T : xT) {i n : Int32} (h0 : 0 ≤ i) (h1 : i < n) : XM l D T yJ6_checkIndex cJ6_checkIndex 2 none 2 0 0 [.int i, .int n] [] (fun v w => v = none ∧ w = []) := by
  refine XM.start (by decide +kernel) (Nat.le_of_ble_eq_true rfl) (fun Γ G X _ hl_ => ?_)
  subst hl_
  refine K.less [0, 1] (lv' := [(0, .int i), (1, .int n)]) rfl ?_
  refine k_iload_n G dJ6_checkIndex_0 rfl ?_
  refine k_iload_n G dJ6_checkIndex_1 rfl ?_
  refine kx_sioobe G q728 dJ6_checkIndex_2 (fun r => ?_)
  refine k_callSp G (As := [.int i, .int n, va_rf r]) (rest := []) (st_pre _ D T h0 h1) xs_pre q730 rfl rfl (Nat.le_of_ble_eq_true rfl) (Nat.le_of_ble_eq_true rfl) ⟨Nat.le_refl _, Nat.le_refl _⟩ dJ6_checkIndex_5 ?_
  refine k_pop G dJ6_checkIndex_8 rfl ?_
  exact k_vret G X dJ6_checkIndex_9 (Nat.le_refl _) (Nat.le_refl _) ⟨rfl, rfl⟩
theorem st_in {i : Int32} {t : Nat} (ht : t < 4) (hi : vp_in i (xtn t)) : 0 ≤ i ∧ i < xtl t := by
  have h0 : 0 ≤ i := Int32.not_lt.mp fun h => hi (Or.inl h)
  have h1 : i.toNatClampNeg < xtn t := Nat.not_le.mp fun h => hi (Or.inr h)
  refine ⟨h0, Int32.lt_iff_toInt_lt.mpr ?_⟩
  have h2 : (0 : Int) ≤ i.toInt := Int32.le_iff_toInt_le.mp h0
  have h3 : i.toInt = (i.toNatClampNeg : Int) := by show i.toInt = ((i.toInt.toNat : Nat) : Int); omega
  have h4 : (xtl t).toInt = (xtn t : Int) := by match t, ht with | 0, _ => decide | 1, _ => decide | 2, _ => decide | 3, _ => decide
  omega
theorem st_ch {t j : Nat} (ht : t < 4) (hj : j < xtn t) : ((xtc t j &&& 255).toUInt32 % 65536).toInt32 = xtc t j ∧ narrow .char (.int (xtc t j)) = .int (xtc t j) := by
  have key : ∀ t, t < 4 → ∀ j, j < xtn t → ((xtc t j &&& 255).toUInt32 % 65536).toInt32 = xtc t j ∧ narrow .char (.int (xtc t j)) = .int (xtc t j) := by decide
  exact key t ht j hj
theorem st_latin (l : Launch) (D : va_G) (T : xT) {t : Nat} {i : Int32} (ht : t < 4) (hi : vp_in i (xtn t)) : XM l D T yJ7_charAt cJ7_charAt 2 (some .char) 3 0 0 [.ref (T.2.2.1 t), .int i] [] (fun v w => v = some (.int (xtc t i.toNatClampNeg)) ∧ w = []) := by
  refine XM.start (by decide +kernel) (Nat.le_of_ble_eq_true rfl) (fun Γ G X _ hl_ => ?_)
  subst hl_
  refine K.less [0, 1] (lv' := [(0, .ref (T.2.2.1 t)), (1, .int i)]) rfl ?_
  refine k_iload_n G dJ7_charAt_0 rfl ?_
  refine k_aload_n G dJ7_charAt_1 rfl ?_
  refine kx_bylen G ht dJ7_charAt_2 ?_
  refine k_callS G (wl := []) (wc := []) (wr := []) (mcc := 0) (msc := 0) (As := [.int i, .int (xtl t)]) (rest := []) (st_checkIndex _ D T (st_in ht hi).1 (st_in ht hi).2) xs_checkIndex q725 rfl rfl (Nat.le_of_ble_eq_true rfl) (Nat.le_of_ble_eq_true rfl) ⟨Nat.le_refl _, Nat.le_refl _⟩ dJ7_charAt_3 (fun v w hp => ?_)
  obtain ⟨rfl, rfl⟩ := hp
  refine k_aload_n G dJ7_charAt_6 rfl ?_
  refine k_iload_n G dJ7_charAt_7 rfl ?_
  refine kx_byld G ht hi dJ7_charAt_8 ?_
  refine k_sipush G (v := 255) dJ7_charAt_9 (by decide) ?_
  refine k_iand G dJ7_charAt_12 ?_
  refine k_i2c G (st_ch ht (Nat.not_le.mp fun q => hi (Or.inr q))).1 dJ7_charAt_13 ?_
  exact k_nret G X (st_ch ht (Nat.not_le.mp fun q => hi (Or.inr q))).2 dJ7_charAt_14 (Nat.le_refl _) (Nat.le_refl _) ⟨rfl, rfl⟩
theorem st_charAt (l : Launch) (D : va_G) (T : xT) {t : Nat} {i : Int32} (ht : t < 4) (hi : vp_in i (xtn t)) : XM l D T yJ6_charAt cJ6_charAt 2 (some .char) 4 0 0 [.ref (T.2.1 t), .int i] [] (fun v w => v = some (.int (xtc t i.toNatClampNeg)) ∧ w = []) := by
  refine XM.start (by decide +kernel) (Nat.le_of_ble_eq_true rfl) (fun Γ G X _ hl_ => ?_)
  subst hl_
  refine K.less [0, 1] (lv' := [(0, .ref (T.2.1 t)), (1, .int i)]) rfl ?_
  refine k_aload_n G dJ6_charAt_0 rfl ?_
  refine k_callT G ht (As := []) (st_isLatin1 _ D T ht) xs_isLatin1 q718 rfl rfl (Nat.le_of_ble_eq_true rfl) (Nat.le_of_ble_eq_true rfl) ⟨Nat.le_refl _, Nat.le_refl _⟩ dJ6_charAt_1 ?_
  refine k_if_eq G 16 dJ6_charAt_4 (by decide) (fun c4 => absurd c4 (by decide)) (fun _ => ?_)
  refine k_aload_n G dJ6_charAt_7 rfl ?_
  refine kx_valueF G ht q1917 dJ6_charAt_8 ?_
  refine k_iload_n G dJ6_charAt_11 rfl ?_
  refine k_callS G (wl := []) (wc := []) (wr := []) (mcc := 0) (msc := 0) (As := [.ref (T.2.2.1 t), .int i]) (rest := []) (st_latin _ D T ht hi) xs_latin q722 rfl rfl (Nat.le_of_ble_eq_true rfl) (Nat.le_of_ble_eq_true rfl) ⟨Nat.le_refl _, Nat.le_refl _⟩ dJ6_charAt_12 (fun v w hp => ?_)
  obtain ⟨rfl, rfl⟩ := hp
  exact k_nret G X (st_ch ht (Nat.not_le.mp fun q => hi (Or.inr q))).2 dJ6_charAt_15 (Nat.le_refl _) (Nat.le_refl _) ⟨rfl, rfl⟩
section KX2
variable {D : va_G} {T : xT} {Γ : xE} {cc : ByteArray} {own : String} {nL lev mc ms : Nat} {ret : Option FieldType} {cells slots pc : Nat} {lv : List (Nat × Value)} {st : List Value} {ws : va_W}
theorem kx_length (G : xG D T Γ cc own nL ret lev mc ms) {t idx : Nat} (ht : t < 4) (hlink : Cond.methodLink own idx ⟨"java/lang/String", "length", "()I"⟩ ∈ lw_all) (d : decode cc pc = .ok (.invokevirtual idx, 3)) (hcat : (st.map fun v => v.category).sum ≤ 8) (hlev : 4 ≤ lev) (hroom : cells ≤ mc ∧ slots ≤ ms) (k : K D Γ cells slots (pc + 3) lv (.int (xtl t) :: st) ws) : K D Γ cells slots pc lv (.ref (T.2.1 t) :: st) ws :=
  k_callT G ht (As := []) (st_length _ D T ht) xs_length hlink rfl rfl hcat (by omega) hroom d k
theorem kx_charAt (G : xG D T Γ cc own nL ret lev mc ms) {t idx : Nat} {i : Int32} (ht : t < 4) (hi : vp_in i (xtn t)) (hlink : Cond.methodLink own idx ⟨"java/lang/String", "charAt", "(I)C"⟩ ∈ lw_all) (d : decode cc pc = .ok (.invokevirtual idx, 3)) (hcat : (st.map fun v => v.category).sum ≤ 8) (hlev : 8 ≤ lev) (hroom : cells ≤ mc ∧ slots ≤ ms) (k : K D Γ cells slots (pc + 3) lv (.int (xtc t i.toNatClampNeg) :: st) ws) : K D Γ cells slots pc lv (.int i :: .ref (T.2.1 t) :: st) ws :=
  k_callT G ht (As := [.int i]) (st_charAt _ D T ht hi) xs_charAt hlink rfl rfl hcat (by omega) hroom d k
end KX2
