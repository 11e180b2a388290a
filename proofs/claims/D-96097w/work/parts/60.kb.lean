/-! System.arraycopy over rows of the pool: where it throws with a message -/
set_option maxRecDepth 100000
theorem kn_len : ∀ s, s ≤ 4 → (Native.java_lang_System.arraycopy.kindName (sortF s)).toList.length ≤ 7 := by
  intro s hs
  match s, hs with
  | 0, _ => decide
  | 1, _ => decide
  | 2, _ => decide
  | 3, _ => decide
  | 4, _ => decide
def kn (s : Nat) : String := Native.java_lang_System.arraycopy.kindName (sortF s)
def txT (s s2 : Nat) : String := toString "arraycopy: type mismatch: can not copy " ++ toString (kn s) ++ toString "[] into " ++ toString (kn s2) ++ toString "[]"
theorem txt_types {s s2 : Nat} (hs : s ≤ 4) (hs2 : s2 ≤ 4) : (txT s s2 == notModelled) = false ∧ (stringBytes (stringToUtf16 (txT s s2))).size ≤ 990 := by
  have e0 : (toString "arraycopy: type mismatch: can not copy ").toList = 'a' :: "rraycopy: type mismatch: can not copy ".toList := by decide
  refine ⟨tx_mod (Or.inr (Or.inr ?_)), ?_⟩
  · unfold txT
    simp only [String.toList_append, e0]
    rfl
  · have b := tx_bytes (txT s s2)
    have l1 : (kn s).toList.length ≤ 7 := kn_len s hs
    have l2 : (kn s2).toList.length ≤ 7 := kn_len s2 hs2
    have l : (txT s s2).toList.length ≤ 80 := by
      unfold txT
      simp only [String.toList_append, List.length_append]
      have a1 : (toString "arraycopy: type mismatch: can not copy ").toList.length = 39 := by decide
      have a2 : (toString "[] into ").toList.length = 8 := by decide
      have a3 : (toString "[]").toList.length = 2 := by decide
      show _ + (kn s).toList.length + _ + (kn s2).toList.length + _ ≤ 80
      omega
    omega
section KB1
variable {D : va_G} {T : xT} {Γ : xE} {cc : ByteArray} {own : String} {nL lev mc ms : Nat} {ret : Option FieldType} {cells slots pc : Nat} {lv : List (Nat × Value)} {rest : List Value} {q : Nat → Nat} {ω : CS}
/-- a row's cell and its class -/
theorem kr_cell (G : xG D T Γ cc own nL ret lev mc ms) {s a : Nat} {x : vp_A} (h : rowE T ω s a x) {H : Heap} (hP : va_P D xcl (cw T q ω) H) {U : State} (hU : U.heap = H) (hW : Γ.2.1.1.WarmedH U.vm) : ∃ (k : Class) (cm : ClassId), U.heap[a]? = some (vp_cell (T.1 (sortT s)) x) ∧ (∀ k, (vp_cell (T.1 (sortT s)) x).vm ≠ .statics k) ∧ U.vm.classes[(vp_cell (T.1 (sortT s)) x).cls]? = some k ∧ k.kind = .array cm (sortF s) := by
  obtain ⟨p, hp⟩ := h.at (q := q)
  have hvm0 : (vp_cell (T.1 (sortT s)) x).vm = .none := by
    obtain ⟨n, f | f | f | f | f⟩ := x <;> rfl
  have hcl0 : (vp_cell (T.1 (sortT s)) x).cls = T.1 (sortT s) := by
    obtain ⟨n, f | f | f | f | f⟩ := x <;> rfl
  obtain ⟨-, k0, hk0, cm0, hkk0⟩ := (G.2.2.2.2.2.2.2.2.1.1.2 _ _ (sort_ty h.1)).1 0 (fun _ => .int 0)
  obtain ⟨k', hk', ek⟩ := hW.alike.2.2 _ _ hk0
  refine ⟨k', cm0, by rw [hU]; exact hP p _ hp, fun k z => (by rw [hvm0] at z; cases z), ?_, ?_⟩
  · rw [hcl0]; exact hk'
  · rw [ek]; exact hkk0
theorem sortF_ne : ∀ s, s < 5 → ∀ s2, s2 < 5 → ¬ s = s2 → ((refKind (sortF s) != refKind (sortF s2)) || (!refKind (sortF s) && sortF s != sortF s2)) = true := by decide
theorem sortF_eq : ∀ s, s < 5 → ((refKind (sortF s) != refKind (sortF s)) || (!refKind (sortF s) && sortF s != sortF s)) = false := by decide
/-- rows of two sorts -/
theorem kx_acT (G : xG D T Γ cc own nL ret lev mc ms) (hlt : Γ.1.2.1.stackTraces = false) (hlev : 200 ≤ lev) {idx s s2 a a2 : Nat} {x x2 : vp_A} (h : rowE T ω s a x) (h2 : rowE T ω s2 a2 x2) (hne : ¬ s = s2) (hlink : Cond.methodLink own idx arraycopyName ∈ lw_all) (hnat : Cond.native arraycopyName ∈ lw_all) (hstat : Cond.static arraycopyName ∈ lw_all) (hinit : Cond.initialized "java/lang/System" ∈ lw_all) {n sp dp : Int32} (hcat : (rest.map fun v => v.category).sum ≤ 8) (hroom : cells + 3 ≤ mc ∧ slots + 1000 ≤ ms) (d : decode cc pc = .ok (.invokestatic idx, 3)) (k : ∀ q9 : Nat, KX D Γ (cells + 3) (slots + 1000) pc lv rest (cw T q ω) "java/lang/ArrayStoreException" q9) : K D Γ cells slots pc lv (.int n :: .int dp :: .ref a2 :: .int sp :: .ref a :: rest) (cw T q ω) := by
  intro H locs ls hP hD hS hl
  have hR : Γ.1.2.2.2 = xrm lev mc ms := G.2.2.2.2.2.2.2.2.2
  have w := G.2.2.2.2.2.2.1
  have N := G.2.2.2.2.2.2.2.2.1.2.1
  have he : ("java/lang/ArrayStoreException", ["java/lang/RuntimeException", "java/lang/Exception"]) ∈ xM := by decide
  have h3 := List.all_eq_true.mp xw_M _ he
  have h4 := List.all_eq_true.mp xw_M2 _ he
  simp only [Bool.and_eq_true, Bool.not_eq_true', decide_eq_true_eq] at h4
  obtain ⟨⟨⟨⟨⟨a1, a2'⟩, a3⟩, a4⟩, a5⟩, a6⟩ := h4
  have htx := txt_types h.1 h2.1
  refine vx_acM G.1 G.2.1 hlt (names := ["java/lang/RuntimeException", "java/lang/Exception"]) (nb := 990) (text := txT s s2) G.2.2.2.2.2.1 (w _ hlink) (w _ hnat) (w _ hstat) (w _ hinit) a2' (fun n hn => List.all_eq_true.mp a3 n hn) a4 a5 (xw_memC h3 w N) (fun z hz => List.all_eq_true.mp a1 z hz) (x_H G).2.2.2.1 (x_H G).2.2.2.2.1 hS hl.1 htx.1 htx.2 (by decide) (by rw [hR]; show 2 + 5 < lev; omega) (by rw [hR]; show _ ≤ 64 * lev; omega) (by decide) (by rw [hR]; exact hroom.1) (by rw [hR]; exact hroom.2) rfl rfl d (fun U hU hW fs E hE => ?_) (fun H1 q9 ce hz hk hS1 hce hv hcl => ?_)
  · obtain ⟨k1, c1, g1, g2, g3, g4⟩ := kr_cell G h hP hU hW
    obtain ⟨k2, c2, y1, y2, y3, y4⟩ := kr_cell G h2 hP hU hW
    exact W.arraycopy_types (s := U.setFrames fs) g1 y1 g2 y2 g3 y3 g4 y4 (sortF_ne s (by have := h.1; omega) s2 (by have := h2.1; omega) hne) (hE _)
  · exact k q9 H1 locs ls ce (hP.kept (fun i x hx => hk x.1 ((hP i x hx).lt))) hD hS1 hl hce hv hcl
end KB1
