/-! THE TWIN's WORLD: its object (cell 0) and its arrays (cells 1 to 13) -/
set_option maxRecDepth 100000
/-- contents: cell 0's places are the object's fields, cell c's the array c's; the longs of 'item' -/
abbrev TS : Type := (Nat → Nat → Int32) × (Nat → Int64)
def tlen (c : Nat) : Nat := match c with
  | 1 => 92
  | 2 => 92
  | 3 => 92
  | 4 => 100
  | 5 => 600
  | 6 => 6
  | 7 => 4
  | 8 => 6
  | 9 => 6
  | 10 => 6
  | 11 => 6
  | 12 => 360
  | _ => 20
def sA (σ : TS) (c i : Nat) (v : Int32) : TS := (fun a => if a = c then upd (σ.1 c) i v else σ.1 a, σ.2)
def sL (σ : TS) (i : Nat) (v : Int64) : TS := (σ.1, vp_updL σ.2 i v)
def twF (q : Nat → Nat) (σ : TS) : List Value := [.ref (q 1), .ref (q 2), .ref (q 3), .int (σ.1 0 3), .ref (q 4), .ref (q 5), .ref (q 6), .int (σ.1 0 7), .int (σ.1 0 8), .int (σ.1 0 9), .int (σ.1 0 10), .int (σ.1 0 11), .int (σ.1 0 12), .int (σ.1 0 13), .int (σ.1 0 14), .int (σ.1 0 15), .int (σ.1 0 16), .int (σ.1 0 17), .int (σ.1 0 18), .int (σ.1 0 19), .int (σ.1 0 20), .ref (q 7), .ref (q 8), .ref (q 9), .int (σ.1 0 24), .ref (q 10), .ref (q 11), .ref (q 12), .ref (q 13), .int (σ.1 0 29), .int (σ.1 0 30)]
def tw (T : xT) (q : Nat → Nat) (σ : TS) : va_W := [(q 0, .inr (6, twF q σ)), (q 1, .inl (T.1 0, 92, .inl (σ.1 1))), (q 2, .inl (T.1 0, 92, .inl (σ.1 2))), (q 3, .inl (T.1 0, 92, .inl (σ.1 3))), (q 4, .inl (T.1 0, 100, .inl (σ.1 4))), (q 5, .inl (T.1 0, 600, .inl (σ.1 5))), (q 6, .inl (T.1 0, 6, .inl (σ.1 6))), (q 7, .inl (T.1 0, 4, .inl (σ.1 7))), (q 8, .inl (T.1 0, 6, .inl (σ.1 8))), (q 9, .inl (T.1 0, 6, .inl (σ.1 9))), (q 10, .inl (T.1 0, 6, .inl (σ.1 10))), (q 11, .inl (T.1 0, 6, .inl (σ.1 11))), (q 12, .inl (T.1 1, 360, .inr (.inl σ.2))), (q 13, .inl (T.1 0, 20, .inl (σ.1 13)))]
/-- a field of the twin: place k, pool index i -/
def TF (k i : Nat) : Prop := k < 31 ∧ Cond.fieldLink RX6 i RX6 (TX6 k).2.1 (TX6 k).2.2.1 ∈ lw_all ∧ (TX6 k).1 = RX6
/-- an int field, not final -/
def TP (k i : Nat) (ty : FieldType) : Prop := TF k i ∧ (TX6 k).2.2.2 = false ∧ parseFieldDescriptor (TX6 k).2.2.1 = some ty ∧ ∀ (q : Nat → Nat) (σ : TS) (x : Int32), (twF q σ).set k (.int x) = twF q (sA σ 0 k x)
theorem tf_s : TF 0 11 := ⟨by decide, q1413, rfl⟩
theorem tf_image : TF 1 15 := ⟨by decide, q1414, rfl⟩
theorem tf_mind : TF 2 18 := ⟨by decide, q1415, rfl⟩
theorem tf_hasImage : TF 3 278 := ⟨by decide, q1416, rfl⟩
theorem tp_hasImage : TP 3 278 .boolean := ⟨tf_hasImage, rfl, by decide +kernel, fun _ _ _ => rfl⟩
theorem tf_text : TF 4 21 := ⟨by decide, q1417, rfl⟩
theorem tf_kilnText : TF 5 24 := ⟨by decide, q1418, rfl⟩
theorem tf_kilnLong : TF 6 27 := ⟨by decide, q1419, rfl⟩
theorem tf_texted : TF 7 64 := ⟨by decide, q1420, rfl⟩
theorem tp_texted : TP 7 64 .int := ⟨tf_texted, rfl, by decide +kernel, fun _ _ _ => rfl⟩
theorem tf_kilns : TF 8 173 := ⟨by decide, q1421, rfl⟩
theorem tp_kilns : TP 8 173 .int := ⟨tf_kilns, rfl, by decide +kernel, fun _ _ _ => rfl⟩
theorem tf_base : TF 9 74 := ⟨by decide, q1422, rfl⟩
theorem tp_base : TP 9 74 .int := ⟨tf_base, rfl, by decide +kernel, fun _ _ _ => rfl⟩
theorem tf_end : TF 10 71 := ⟨by decide, q1423, rfl⟩
theorem tp_end : TP 10 71 .int := ⟨tf_end, rfl, by decide +kernel, fun _ _ _ => rfl⟩
theorem tf_at : TF 11 68 := ⟨by decide, q1424, rfl⟩
theorem tp_at : TP 11 68 .int := ⟨tf_at, rfl, by decide +kernel, fun _ _ _ => rfl⟩
theorem tf_loaf : TF 12 89 := ⟨by decide, q1425, rfl⟩
theorem tp_loaf : TP 12 89 .int := ⟨tf_loaf, rfl, by decide +kernel, fun _ _ _ => rfl⟩
theorem tf_taste : TF 13 99 := ⟨by decide, q1426, rfl⟩
theorem tp_taste : TP 13 99 .int := ⟨tf_taste, rfl, by decide +kernel, fun _ _ _ => rfl⟩
theorem tf_wrong : TF 14 77 := ⟨by decide, q1427, rfl⟩
theorem tp_wrong : TP 14 77 .boolean := ⟨tf_wrong, rfl, by decide +kernel, fun _ _ _ => rfl⟩
theorem tf_isFee : TF 15 96 := ⟨by decide, q1428, rfl⟩
theorem tp_isFee : TP 15 96 .boolean := ⟨tf_isFee, rfl, by decide +kernel, fun _ _ _ => rfl⟩
theorem tf_part : TF 16 157 := ⟨by decide, q1429, rfl⟩
theorem tp_part : TP 16 157 .int := ⟨tf_part, rfl, by decide +kernel, fun _ _ _ => rfl⟩
theorem tf_parts : TF 17 154 := ⟨by decide, q1430, rfl⟩
theorem tp_parts : TP 17 154 .int := ⟨tf_parts, rfl, by decide +kernel, fun _ _ _ => rfl⟩
theorem tf_more : TF 18 160 := ⟨by decide, q1431, rfl⟩
theorem tp_more : TP 18 160 .int := ⟨tf_more, rfl, by decide +kernel, fun _ _ _ => rfl⟩
theorem tf_cold : TF 19 151 := ⟨by decide, q1432, rfl⟩
theorem tp_cold : TP 19 151 .int := ⟨tf_cold, rfl, by decide +kernel, fun _ _ _ => rfl⟩
theorem tf_fee : TF 20 163 := ⟨by decide, q1433, rfl⟩
theorem tp_fee : TP 20 163 .int := ⟨tf_fee, rfl, by decide +kernel, fun _ _ _ => rfl⟩
theorem tf_held : TF 21 30 := ⟨by decide, q1434, rfl⟩
theorem tf_line : TF 22 33 := ⟨by decide, q1435, rfl⟩
theorem tf_best : TF 23 36 := ⟨by decide, q1436, rfl⟩
theorem tf_fewest : TF 24 223 := ⟨by decide, q1437, rfl⟩
theorem tp_fewest : TP 24 223 .int := ⟨tf_fewest, rfl, by decide +kernel, fun _ _ _ => rfl⟩
theorem tf_tapeSort : TF 25 39 := ⟨by decide, q1438, rfl⟩
theorem tf_tapeLong : TF 26 42 := ⟨by decide, q1439, rfl⟩
theorem tf_item : TF 27 45 := ⟨by decide, q1440, rfl⟩
theorem tf_trace : TF 28 49 := ⟨by decide, q1441, rfl⟩
theorem tf_ran : TF 29 281 := ⟨by decide, q1442, rfl⟩
theorem tp_ran : TP 29 281 .int := ⟨tf_ran, rfl, by decide +kernel, fun _ _ _ => rfl⟩
theorem tf_own : TF 30 291 := ⟨by decide, q1443, rfl⟩
theorem tp_own : TP 30 291 .int := ⟨tf_own, rfl, by decide +kernel, fun _ _ _ => rfl⟩
def tA (c : Nat) : Prop := (1 ≤ c ∧ c ≤ 11) ∨ c = 13
theorem tA_at {c : Nat} (hc : tA c) (T : xT) (q : Nat → Nat) (σ : TS) : (tw T q σ)[c]? = some (q c, .inl (T.1 0, tlen c, .inl (σ.1 c))) := by
  rcases hc with ⟨h1, h2⟩ | rfl
  · match c, h1, h2 with
    | 1, _, _ => rfl
    | 2, _, _ => rfl
    | 3, _, _ => rfl
    | 4, _, _ => rfl
    | 5, _, _ => rfl
    | 6, _, _ => rfl
    | 7, _, _ => rfl
    | 8, _, _ => rfl
    | 9, _, _ => rfl
    | 10, _, _ => rfl
    | 11, _, _ => rfl
  · rfl
theorem tA_set {c : Nat} (hc : tA c) (T : xT) (q : Nat → Nat) (σ : TS) (i : Nat) (v : Int32) : (tw T q σ).set c (q c, .inl (T.1 0, tlen c, .inl (upd (σ.1 c) i v))) = tw T q (sA σ c i v) := by
  rcases hc with ⟨h1, h2⟩ | rfl
  · match c, h1, h2 with
    | 1, _, _ => rfl
    | 2, _, _ => rfl
    | 3, _, _ => rfl
    | 4, _, _ => rfl
    | 5, _, _ => rfl
    | 6, _, _ => rfl
    | 7, _, _ => rfl
    | 8, _, _ => rfl
    | 9, _, _ => rfl
    | 10, _, _ => rfl
    | 11, _, _ => rfl
  · rfl
section KT
variable {D : va_G} {T : xT} {Γ : xE} {cc : ByteArray} {own : String} {nL lev mc ms : Nat} {ret : Option FieldType} {cells slots pc : Nat} {lv : List (Nat × Value)} {st : List Value} {ws : va_W} {post : Option Value → va_W → Prop} {q : Nat → Nat} {σ : TS}
theorem kt_get (G : xG D T Γ cc own nL ret lev mc ms) {k i : Nat} (f : TF k i) (ho : own = RX6) {v : Value} (d : decode cc pc = .ok (.getfield i, 3)) (hv : (twF q σ)[k]? = some v) (kk : K D Γ cells slots (pc + 3) lv (v :: st) (tw T q σ)) : K D Γ cells slots pc lv (.ref (q 0) :: st) (tw T q σ) := by
  intro H locs ls hP hD hS hl
  subst ho
  exact va_get (D := D) (ci := 6) (C := RX6) (T := TX6) (N := 31) G.1 G.2.1 G.2.2.2.2.2.2.1 in_X6 G.2.2.2.2.2.1 G.2.2.2.2.2.2.2.2.1.1 hP 0 rfl rfl k f.1 (G.2.2.2.2.2.2.1 _ f.2.1) (by rw [f.2.2]; exact fun _ h => h) hv d (kk H locs ls hP hD hS hl)
theorem kt_put (G : xG D T Γ cc own nL ret lev mc ms) {k i : Nat} (f : TP k i .int) (ho : own = RX6) {x : Int32} (d : decode cc pc = .ok (.putfield i, 3)) (kk : K D Γ cells slots (pc + 3) lv st (tw T q (sA σ 0 k x))) : K D Γ cells slots pc lv (.int x :: .ref (q 0) :: st) (tw T q σ) := by
  intro H locs ls hP hD hS hl
  subst ho
  exact va_put (D := D) (ci := 6) (v := .int x) (ty := .int) (C := RX6) (T := TX6) (N := 31) G.1 G.2.1 G.2.2.2.2.2.2.1 in_X6 tyX6 tyX6_ok nmX6 G.2.2.2.2.2.1 G.2.2.2.2.2.2.2.2.1.1 hP hD hS 0 rfl rfl k f.1.1 (G.2.2.2.2.2.2.1 _ f.1.2.1) (by rw [f.1.2.2]; exact fun _ h => h) f.2.1 f.2.2.1 rfl rfl f.1.1 d
    (fun H1 locs1 hP1 hD1 hS1 => by
      rw [f.2.2.2] at hP1 hD1
      exact kk H1 locs1 ls hP1 hD1 hS1 hl)
theorem kt_putZ (G : xG D T Γ cc own nL ret lev mc ms) {k i : Nat} (f : TP k i .boolean) (ho : own = RX6) {x : Int32} (hx : x = 0 ∨ x = 1) (d : decode cc pc = .ok (.putfield i, 3)) (kk : K D Γ cells slots (pc + 3) lv st (tw T q (sA σ 0 k x))) : K D Γ cells slots pc lv (.int x :: .ref (q 0) :: st) (tw T q σ) := by
  intro H locs ls hP hD hS hl
  subst ho
  exact va_put (D := D) (ci := 6) (v := .int x) (ty := .boolean) (C := RX6) (T := TX6) (N := 31) G.1 G.2.1 G.2.2.2.2.2.2.1 in_X6 tyX6 tyX6_ok nmX6 G.2.2.2.2.2.1 G.2.2.2.2.2.2.2.2.1.1 hP hD hS 0 rfl rfl k f.1.1 (G.2.2.2.2.2.2.1 _ f.1.2.1) (by rw [f.1.2.2]; exact fun _ h => h) f.2.1 f.2.2.1 (by rcases hx with rfl | rfl <;> rfl) (by rcases hx with rfl | rfl <;> rfl) f.1.1 d
    (fun H1 locs1 hP1 hD1 hS1 => by
      rw [f.2.2.2] at hP1 hD1
      exact kk H1 locs1 ls hP1 hD1 hS1 hl)
theorem kt_iald (G : xG D T Γ cc own nL ret lev mc ms) {c : Nat} (hc : tA c) {i : Int32} (d : decode cc pc = .ok (.iaload, 1)) (hin : vp_in i (tlen c)) (kk : K D Γ cells slots (pc + 1) lv (.int (σ.1 c i.toNatClampNeg) :: st) (tw T q σ)) : K D Γ cells slots pc lv (.int i :: .ref (q c) :: st) (tw T q σ) := fun H locs ls hP hD hS hl => va_iald G.1 G.2.1 G.2.2.2.2.2.2.2.2.1.1 hP c 0 (tA_at hc T q σ) rfl hin d (kk H locs ls hP hD hS hl)
theorem kt_iast (G : xG D T Γ cc own nL ret lev mc ms) {c : Nat} (hc : tA c) {i x : Int32} (d : decode cc pc = .ok (.iastore, 1)) (hin : vp_in i (tlen c)) (kk : K D Γ cells slots (pc + 1) lv st (tw T q (sA σ c i.toNatClampNeg x))) : K D Γ cells slots pc lv (.int x :: .int i :: .ref (q c) :: st) (tw T q σ) := fun H locs ls hP hD hS hl => va_iast G.1 G.2.1 G.2.2.2.2.2.2.2.2.1.1 hP hD hS c 0 (tA_at hc T q σ) rfl hin d (fun H1 locs1 hP1 hD1 hS1 => by
  rw [tA_set hc] at hP1 hD1
  exact kk H1 locs1 ls hP1 hD1 hS1 hl)
theorem kt_lald (G : xG D T Γ cc own nL ret lev mc ms) {i : Int32} (d : decode cc pc = .ok (.laload, 1)) (hin : vp_in i 360) (kk : K D Γ cells slots (pc + 1) lv (.long (σ.2 i.toNatClampNeg) :: st) (tw T q σ)) : K D Γ cells slots pc lv (.int i :: .ref (q 12) :: st) (tw T q σ) := fun H locs ls hP hD hS hl => va_lald G.1 G.2.1 G.2.2.2.2.2.2.2.2.1.1 hP 12 1 (f := σ.2) (n := 360) rfl rfl hin d (kk H locs ls hP hD hS hl)
theorem kt_last (G : xG D T Γ cc own nL ret lev mc ms) {i : Int32} {x : Int64} (d : decode cc pc = .ok (.lastore, 1)) (hin : vp_in i 360) (kk : K D Γ cells slots (pc + 1) lv st (tw T q (sL σ i.toNatClampNeg x))) : K D Γ cells slots pc lv (.long x :: .int i :: .ref (q 12) :: st) (tw T q σ) := fun H locs ls hP hD hS hl => va_last G.1 G.2.1 G.2.2.2.2.2.2.2.2.1.1 hP hD hS 12 1 (f := σ.2) (n := 360) rfl rfl hin d (fun H1 locs1 hP1 hD1 hS1 => kk H1 locs1 ls hP1 hD1 hS1 hl)
end KT
/-- the twin's contracts: from contents σ; k says what is owed of the answer and the contents behind -/
def tpostI (T : xT) (q : Nat → Nat) (k : Int32 → TS → Prop) : Option Value → va_W → Prop := fun v w => ∃ (r : Int32) (σ : TS), v = some (.int r) ∧ w = tw T q σ ∧ k r σ
def tpostL (T : xT) (q : Nat → Nat) (k : Int64 → TS → Prop) : Option Value → va_W → Prop := fun v w => ∃ (r : Int64) (σ : TS), v = some (.long r) ∧ w = tw T q σ ∧ k r σ
def tpostV (T : xT) (q : Nat → Nat) (k : TS → Prop) : Option Value → va_W → Prop := fun v w => ∃ σ : TS, v = none ∧ w = tw T q σ ∧ k σ
section KTC
variable {D : va_G} {T : xT} {Γ : xE} {cc : ByteArray} {own : String} {nL lev mc ms : Nat} {ret : Option FieldType} {cells slots pc : Nat} {lv : List (Nat × Value)} {st : List Value} {ws : va_W} {q : Nat → Nat} {σ : TS}
theorem kt_recv (T : xT) (q : Nat → Nat) (σ : TS) : ∃ (q0 ci : Nat) (fs : List Value) (TT : u_T) (N : Nat), (tw T q σ)[q0]? = some (q 0, .inr (ci, fs)) ∧ xcl[ci]? = some (RX6, TT, N) := ⟨0, 6, _, TX6, 31, rfl, rfl⟩
theorem kt_callI (G : xG D T Γ cc own nL ret lev mc ms) {y : MethodName} {code' : ByteArray} {nL' lev' n idx : Nat} {ret' : Option FieldType} {As rest : List Value} {k : Int32 → TS → Prop} (hM : XM Γ.1.2.1 D T y code' nL' ret' lev' 0 0 (.ref (q 0) :: As) (tw T q σ) (tpostI T q k)) (f : xV y RX6 code' nL' ret' n) (hlink : Cond.methodLink own idx y ∈ lw_all) (d : decode cc pc = .ok (.invokevirtual idx, 3)) (hn : As.length = n) (hst : st = As.reverse ++ .ref (q 0) :: rest) (hcat : (rest.map fun v => v.category).sum ≤ 8) (hlev : lev' + 1 ≤ lev)
    (kk : ∀ (r : Int32) (σ1 : TS), k r σ1 → K D Γ 0 0 (pc + 3) lv (.int r :: rest) (tw T q σ1)) : K D Γ 0 0 pc lv st (tw T q σ) :=
  k_callVw G hM f hlink hn hst hcat hlev ⟨Nat.zero_le _, Nat.zero_le _⟩ (kt_recv T q σ) d (fun v w hp => by
    obtain ⟨r, σ1, rfl, rfl, h⟩ := hp
    exact kk r σ1 h)
theorem kt_callsI (G : xG D T Γ cc own nL ret lev mc ms) {y : MethodName} {code' : ByteArray} {nL' lev' n idx : Nat} {ret' : Option FieldType} {As rest : List Value} {k : Int32 → TS → Prop} (hM : XM Γ.1.2.1 D T y code' nL' ret' lev' 0 0 As (tw T q σ) (tpostI T q k)) (f : xS y code' nL' ret' n) (hlink : Cond.methodLink own idx y ∈ lw_all) (d : decode cc pc = .ok (.invokestatic idx, 3)) (hn : As.length = n) (hst : st = As.reverse ++ rest) (hcat : (rest.map fun v => v.category).sum ≤ 8) (hlev : lev' + 1 ≤ lev)
    (kk : ∀ (r : Int32) (σ1 : TS), k r σ1 → K D Γ 0 0 (pc + 3) lv (.int r :: rest) (tw T q σ1)) : K D Γ 0 0 pc lv st (tw T q σ) :=
  k_callSw G hM f hlink hn hst hcat hlev ⟨Nat.zero_le _, Nat.zero_le _⟩ d (fun v w hp => by
    obtain ⟨r, σ1, rfl, rfl, h⟩ := hp
    exact kk r σ1 h)
theorem kt_callL (G : xG D T Γ cc own nL ret lev mc ms) {y : MethodName} {code' : ByteArray} {nL' lev' n idx : Nat} {ret' : Option FieldType} {As rest : List Value} {k : Int64 → TS → Prop} (hM : XM Γ.1.2.1 D T y code' nL' ret' lev' 0 0 (.ref (q 0) :: As) (tw T q σ) (tpostL T q k)) (f : xV y RX6 code' nL' ret' n) (hlink : Cond.methodLink own idx y ∈ lw_all) (d : decode cc pc = .ok (.invokevirtual idx, 3)) (hn : As.length = n) (hst : st = As.reverse ++ .ref (q 0) :: rest) (hcat : (rest.map fun v => v.category).sum ≤ 8) (hlev : lev' + 1 ≤ lev)
    (kk : ∀ (r : Int64) (σ1 : TS), k r σ1 → K D Γ 0 0 (pc + 3) lv (.long r :: rest) (tw T q σ1)) : K D Γ 0 0 pc lv st (tw T q σ) :=
  k_callVw G hM f hlink hn hst hcat hlev ⟨Nat.zero_le _, Nat.zero_le _⟩ (kt_recv T q σ) d (fun v w hp => by
    obtain ⟨r, σ1, rfl, rfl, h⟩ := hp
    exact kk r σ1 h)
theorem kt_callsL (G : xG D T Γ cc own nL ret lev mc ms) {y : MethodName} {code' : ByteArray} {nL' lev' n idx : Nat} {ret' : Option FieldType} {As rest : List Value} {k : Int64 → TS → Prop} (hM : XM Γ.1.2.1 D T y code' nL' ret' lev' 0 0 As (tw T q σ) (tpostL T q k)) (f : xS y code' nL' ret' n) (hlink : Cond.methodLink own idx y ∈ lw_all) (d : decode cc pc = .ok (.invokestatic idx, 3)) (hn : As.length = n) (hst : st = As.reverse ++ rest) (hcat : (rest.map fun v => v.category).sum ≤ 8) (hlev : lev' + 1 ≤ lev)
    (kk : ∀ (r : Int64) (σ1 : TS), k r σ1 → K D Γ 0 0 (pc + 3) lv (.long r :: rest) (tw T q σ1)) : K D Γ 0 0 pc lv st (tw T q σ) :=
  k_callSw G hM f hlink hn hst hcat hlev ⟨Nat.zero_le _, Nat.zero_le _⟩ d (fun v w hp => by
    obtain ⟨r, σ1, rfl, rfl, h⟩ := hp
    exact kk r σ1 h)
theorem kt_callV (G : xG D T Γ cc own nL ret lev mc ms) {y : MethodName} {code' : ByteArray} {nL' lev' n idx : Nat} {ret' : Option FieldType} {As rest : List Value} {k : TS → Prop} (hM : XM Γ.1.2.1 D T y code' nL' ret' lev' 0 0 (.ref (q 0) :: As) (tw T q σ) (tpostV T q k)) (f : xV y RX6 code' nL' ret' n) (hlink : Cond.methodLink own idx y ∈ lw_all) (d : decode cc pc = .ok (.invokevirtual idx, 3)) (hn : As.length = n) (hst : st = As.reverse ++ .ref (q 0) :: rest) (hcat : (rest.map fun v => v.category).sum ≤ 8) (hlev : lev' + 1 ≤ lev)
    (kk : ∀ (σ1 : TS), k σ1 → K D Γ 0 0 (pc + 3) lv rest (tw T q σ1)) : K D Γ 0 0 pc lv st (tw T q σ) :=
  k_callVw G hM f hlink hn hst hcat hlev ⟨Nat.zero_le _, Nat.zero_le _⟩ (kt_recv T q σ) d (fun v w hp => by
    obtain ⟨σ1, rfl, rfl, h⟩ := hp
    exact kk σ1 h)
theorem kt_callsV (G : xG D T Γ cc own nL ret lev mc ms) {y : MethodName} {code' : ByteArray} {nL' lev' n idx : Nat} {ret' : Option FieldType} {As rest : List Value} {k : TS → Prop} (hM : XM Γ.1.2.1 D T y code' nL' ret' lev' 0 0 As (tw T q σ) (tpostV T q k)) (f : xS y code' nL' ret' n) (hlink : Cond.methodLink own idx y ∈ lw_all) (d : decode cc pc = .ok (.invokestatic idx, 3)) (hn : As.length = n) (hst : st = As.reverse ++ rest) (hcat : (rest.map fun v => v.category).sum ≤ 8) (hlev : lev' + 1 ≤ lev)
    (kk : ∀ (σ1 : TS), k σ1 → K D Γ 0 0 (pc + 3) lv rest (tw T q σ1)) : K D Γ 0 0 pc lv st (tw T q σ) :=
  k_callSw G hM f hlink hn hst hcat hlev ⟨Nat.zero_le _, Nat.zero_le _⟩ d (fun v w hp => by
    obtain ⟨σ1, rfl, rfl, h⟩ := hp
    exact kk σ1 h)
theorem kt_nmW {cells slots : Nat} (k : ∀ σ' : TS, σ' = σ → K D Γ cells slots pc lv st (tw T q σ')) : K D Γ cells slots pc lv st (tw T q σ) := k σ rfl
end KTC
/-- a static method that sees no heap -/
def ppostI (k : Int32 → Prop) : Option Value → va_W → Prop := fun v w => ∃ r : Int32, v = some (.int r) ∧ w = [] ∧ k r
def ppostL (k : Int64 → Prop) : Option Value → va_W → Prop := fun v w => ∃ r : Int64, v = some (.long r) ∧ w = [] ∧ k r
section KPC
variable {D : va_G} {T : xT} {Γ : xE} {cc : ByteArray} {own : String} {nL lev mc ms : Nat} {ret : Option FieldType} {cells slots pc : Nat} {lv : List (Nat × Value)} {st : List Value} {ws : va_W}
theorem k_callPI (G : xG D T Γ cc own nL ret lev mc ms) {y : MethodName} {code' : ByteArray} {nL' lev' n idx : Nat} {ret' : Option FieldType} {As rest : List Value} {k : Int32 → Prop} (hM : XM Γ.1.2.1 D T y code' nL' ret' lev' 0 0 As [] (ppostI k)) (f : xS y code' nL' ret' n) (hlink : Cond.methodLink own idx y ∈ lw_all) (d : decode cc pc = .ok (.invokestatic idx, 3)) (hn : As.length = n) (hst : st = As.reverse ++ rest) (hcat : (rest.map fun v => v.category).sum ≤ 8) (hlev : lev' + 1 ≤ lev) (hroom : cells ≤ mc ∧ slots ≤ ms)
    (kk : ∀ r : Int32, k r → K D Γ cells slots (pc + 3) lv (.int r :: rest) ws) : K D Γ cells slots pc lv st ws :=
  k_callS G (wl := []) (wc := []) (wr := ws) hM f hlink hn hst hcat hlev hroom d (fun v w hp => by
    obtain ⟨r, rfl, rfl, h⟩ := hp
    exact kk r h)
theorem k_callPL (G : xG D T Γ cc own nL ret lev mc ms) {y : MethodName} {code' : ByteArray} {nL' lev' n idx : Nat} {ret' : Option FieldType} {As rest : List Value} {k : Int64 → Prop} (hM : XM Γ.1.2.1 D T y code' nL' ret' lev' 0 0 As [] (ppostL k)) (f : xS y code' nL' ret' n) (hlink : Cond.methodLink own idx y ∈ lw_all) (d : decode cc pc = .ok (.invokestatic idx, 3)) (hn : As.length = n) (hst : st = As.reverse ++ rest) (hcat : (rest.map fun v => v.category).sum ≤ 8) (hlev : lev' + 1 ≤ lev) (hroom : cells ≤ mc ∧ slots ≤ ms)
    (kk : ∀ r : Int64, k r → K D Γ cells slots (pc + 3) lv (.long r :: rest) ws) : K D Γ cells slots pc lv st ws :=
  k_callS G (wl := []) (wc := []) (wr := ws) hM f hlink hn hst hcat hlev hroom d (fun v w hp => by
    obtain ⟨r, rfl, rfl, h⟩ := hp
    exact kk r h)
end KPC
