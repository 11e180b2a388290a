/-! System.arraycopy beyond a row -/
set_option maxRecDepth 100000
theorem int_print {z : Int} (h0 : 0 ≤ z) (h1 : z < 10 ^ 10) : (toString z).toList.length ≤ 10 := by
  obtain ⟨k, rfl⟩ := Int.eq_ofNat_of_zero_le h0
  show (toString k).toList.length ≤ 10
  exact nat_print (by omega)
def arr_tx (s n : Nat) : String := toString (kn s) ++ toString "[" ++ toString n ++ toString "]"
theorem arr_len {s n : Nat} (hs : s ≤ 4) (hn : n ≤ 60) : (arr_tx s n).toList.length ≤ 20 := by
  unfold arr_tx
  simp only [String.toList_append, List.length_append]
  have l1 : (kn s).toList.length ≤ 7 := kn_len s hs
  have l2 := nat_print (n := n) (by omega)
  have a1 : (toString "[").toList.length = 1 := by decide
  have a2 : (toString "]").toList.length = 1 := by decide
  show (kn s).toList.length + _ + _ + _ ≤ 20
  omega
theorem txt_fault {s n0 n1 : Nat} {sp dp len : Int32} {what : String} (hs : s ≤ 4) (h0 : n0 ≤ 60) (h1 : n1 ≤ 60) (h : copyFault (sortF s) (sortF s) n0 n1 sp dp len = some what) : what.toList.length ≤ 90 := by
  have b0 : (toString " out of bounds for ").toList.length = 19 := by decide
  have p1 := int32_print sp
  have p2 := int32_print dp
  have p3 := int32_print len
  have q1 := arr_len (n := n0) hs h0
  have q2 := arr_len (n := n1) hs h1
  have u1 := Int32.toInt_lt sp
  have u2 := Int32.toInt_lt dp
  have u3 := Int32.toInt_lt len
  unfold copyFault at h
  by_cases c1 : sp < 0
  · rw [if_pos c1] at h
    cases h
    show (toString "source index " ++ toString sp ++ toString " out of bounds for " ++ toString (arr_tx s n0)).toList.length ≤ 90
    simp only [String.toList_append, List.length_append]
    have a1 : (toString "source index ").toList.length = 13 := by decide
    show _ + _ + _ + (arr_tx s n0).toList.length ≤ 90
    omega
  rw [if_neg c1] at h
  have d1 : (0 : Int) ≤ sp.toInt := Int32.le_iff_toInt_le.mp (Int32.not_lt.mp c1)
  by_cases c2 : dp < 0
  · rw [if_pos c2] at h
    cases h
    show (toString "destination index " ++ toString dp ++ toString " out of bounds for " ++ toString (arr_tx s n1)).toList.length ≤ 90
    simp only [String.toList_append, List.length_append]
    have a1 : (toString "destination index ").toList.length = 18 := by decide
    show _ + _ + _ + (arr_tx s n1).toList.length ≤ 90
    omega
  rw [if_neg c2] at h
  have d2 : (0 : Int) ≤ dp.toInt := Int32.le_iff_toInt_le.mp (Int32.not_lt.mp c2)
  by_cases c3 : len < 0
  · rw [if_pos c3] at h
    cases h
    show (toString "length " ++ toString len ++ toString " is negative").toList.length ≤ 90
    simp only [String.toList_append, List.length_append]
    have a1 : (toString "length ").toList.length = 7 := by decide
    have a2 : (toString " is negative").toList.length = 12 := by decide
    omega
  rw [if_neg c3] at h
  have d3 : (0 : Int) ≤ len.toInt := Int32.le_iff_toInt_le.mp (Int32.not_lt.mp c3)
  by_cases c4 : sp.toInt + len.toInt > n0
  · rw [if_pos c4] at h
    cases h
    show (toString "last source index " ++ toString (sp.toInt + len.toInt) ++ toString " out of bounds for " ++ toString (arr_tx s n0)).toList.length ≤ 90
    simp only [String.toList_append, List.length_append]
    have a1 : (toString "last source index ").toList.length = 18 := by decide
    have a2 := int_print (z := sp.toInt + len.toInt) (by omega) (by omega)
    show _ + _ + _ + (arr_tx s n0).toList.length ≤ 90
    omega
  rw [if_neg c4] at h
  by_cases c5 : dp.toInt + len.toInt > n1
  · rw [if_pos c5] at h
    cases h
    show (toString "last destination index " ++ toString (dp.toInt + len.toInt) ++ toString " out of bounds for " ++ toString (arr_tx s n1)).toList.length ≤ 90
    simp only [String.toList_append, List.length_append]
    have a1 : (toString "last destination index ").toList.length = 23 := by decide
    have a2 := int_print (z := dp.toInt + len.toInt) (by omega) (by omega)
    show _ + _ + _ + (arr_tx s n1).toList.length ≤ 90
    omega
  rw [if_neg c5] at h
  cases h
/-- where the machine finds fault, and where not -/
theorem fault_iff {st : FieldType} {n0 n1 : Nat} {sp dp len : Int32} (hf : ¬ (0 ≤ sp.toInt ∧ 0 ≤ dp.toInt ∧ 0 ≤ len.toInt ∧ sp.toInt + len.toInt ≤ (n0 : Int) ∧ dp.toInt + len.toInt ≤ (n1 : Int))) : ∃ what : String, copyFault st st n0 n1 sp dp len = some what := by
  unfold copyFault
  have e : ∀ z : Int32, z < 0 ↔ z.toInt < 0 := fun z => Int32.lt_iff_toInt_lt
  by_cases c1 : sp < 0
  · exact ⟨_, if_pos c1⟩
  rw [if_neg c1]
  by_cases c2 : dp < 0
  · exact ⟨_, if_pos c2⟩
  rw [if_neg c2]
  by_cases c3 : len < 0
  · exact ⟨_, if_pos c3⟩
  rw [if_neg c3]
  by_cases c4 : sp.toInt + len.toInt > n0
  · exact ⟨_, if_pos c4⟩
  rw [if_neg c4]
  by_cases c5 : dp.toInt + len.toInt > n1
  · exact ⟨_, if_pos c5⟩
  exfalso
  rw [e] at c1 c2 c3
  apply hf
  refine ⟨?_, ?_, ?_, ?_, ?_⟩ <;> omega
theorem txt_bounds {s n0 n1 : Nat} {sp dp len : Int32} {what : String} (hs : s ≤ 4) (h0 : n0 ≤ 60) (h1 : n1 ≤ 60) (h : copyFault (sortF s) (sortF s) n0 n1 sp dp len = some what) : (("arraycopy: " ++ what) == notModelled) = false ∧ (stringBytes (stringToUtf16 ("arraycopy: " ++ what))).size ≤ 990 := by
  have e0 : "arraycopy: ".toList = 'a' :: "rraycopy: ".toList := by decide
  have l0 : "arraycopy: ".toList.length = 11 := by decide
  have l1 := txt_fault hs h0 h1 h
  refine ⟨tx_mod (Or.inr (Or.inr ?_)), ?_⟩
  · rw [String.toList_append, e0]
    rfl
  · have b := tx_bytes ("arraycopy: " ++ what)
    have l2 : ("arraycopy: " ++ what).toList.length ≤ 101 := by
      rw [String.toList_append, List.length_append]
      omega
    omega
theorem cell_size {cA : ClassId} {x : vp_A} : (vp_cell cA x).slots.size = x.1 := by
  obtain ⟨n, f | f | f | f | f⟩ := x <;> exact arrV_size _ _ _
section KB2
variable {D : va_G} {T : xT} {Γ : xE} {cc : ByteArray} {own : String} {nL lev mc ms : Nat} {ret : Option FieldType} {cells slots pc : Nat} {lv : List (Nat × Value)} {rest : List Value} {q : Nat → Nat} {ω : CS}
theorem kx_acB (G : xG D T Γ cc own nL ret lev mc ms) (hlt : Γ.1.2.1.stackTraces = false) (hlev : 200 ≤ lev) {idx s a a2 : Nat} {x x2 : vp_A} (h : rowE T ω s a x) (h2 : rowE T ω s a2 x2) (hx : x.1 ≤ 60) (hx2 : x2.1 ≤ 60) {n sp dp : Int32} (hf : ¬ (0 ≤ sp.toInt ∧ 0 ≤ dp.toInt ∧ 0 ≤ n.toInt ∧ sp.toInt + n.toInt ≤ (x.1 : Int) ∧ dp.toInt + n.toInt ≤ (x2.1 : Int))) (hlink : Cond.methodLink own idx arraycopyName ∈ lw_all) (hnat : Cond.native arraycopyName ∈ lw_all) (hstat : Cond.static arraycopyName ∈ lw_all) (hinit : Cond.initialized "java/lang/System" ∈ lw_all) (hcat : (rest.map fun v => v.category).sum ≤ 8) (hroom : cells + 3 ≤ mc ∧ slots + 1000 ≤ ms) (d : decode cc pc = .ok (.invokestatic idx, 3)) (k : ∀ q9 : Nat, KX D Γ (cells + 3) (slots + 1000) pc lv rest (cw T q ω) "java/lang/ArrayIndexOutOfBoundsException" q9) : K D Γ cells slots pc lv (.int n :: .int dp :: .ref a2 :: .int sp :: .ref a :: rest) (cw T q ω) := by
  intro H locs ls hP hD hS hl
  have hR : Γ.1.2.2.2 = xrm lev mc ms := G.2.2.2.2.2.2.2.2.2
  have w := G.2.2.2.2.2.2.1
  have N := G.2.2.2.2.2.2.2.2.1.2.1
  have he : ("java/lang/ArrayIndexOutOfBoundsException", ["java/lang/IndexOutOfBoundsException", "java/lang/RuntimeException", "java/lang/Exception"]) ∈ xM := by decide
  have h3 := List.all_eq_true.mp xw_M _ he
  have h4 := List.all_eq_true.mp xw_M2 _ he
  simp only [Bool.and_eq_true, Bool.not_eq_true', decide_eq_true_eq] at h4
  obtain ⟨⟨⟨⟨⟨a1, a2'⟩, a3⟩, a4⟩, a5⟩, a6⟩ := h4
  obtain ⟨what, hw⟩ := fault_iff (st := sortF s) hf
  have htx := txt_bounds h.1 hx hx2 hw
  refine vx_acM G.1 G.2.1 hlt (names := ["java/lang/IndexOutOfBoundsException", "java/lang/RuntimeException", "java/lang/Exception"]) (nb := 990) (text := "arraycopy: " ++ what) G.2.2.2.2.2.1 (w _ hlink) (w _ hnat) (w _ hstat) (w _ hinit) a2' (fun n hn => List.all_eq_true.mp a3 n hn) a4 a5 (xw_memC h3 w N) (fun z hz => List.all_eq_true.mp a1 z hz) (x_H G).2.2.2.1 (x_H G).2.2.2.2.1 hS hl.1 htx.1 htx.2 (by decide) (by rw [hR]; show 3 + 5 < lev; omega) (by rw [hR]; show _ ≤ 64 * lev; omega) (by decide) (by rw [hR]; exact hroom.1) (by rw [hR]; exact hroom.2) rfl rfl d (fun U hU hW fs E hE => ?_) (fun H1 q9 ce hz hk hS1 hce hv hcl => ?_)
  · obtain ⟨k1, c1, g1, g2, g3, g4⟩ := kr_cell G h hP hU hW
    obtain ⟨k2, c2, y1, y2, y3, y4⟩ := kr_cell G h2 hP hU hW
    exact W.arraycopy_bounds (s := U.setFrames fs) g1 y1 g2 y2 g3 y3 g4 y4 (sortF_eq s (by have := h.1; omega)) (by rw [cell_size, cell_size]; exact hw) (hE _)
  · exact k q9 H1 locs ls ce (hP.kept (fun i x hx => hk x.1 ((hP i x hx).lt))) hD hS1 hl hce hv hcl
end KB2
