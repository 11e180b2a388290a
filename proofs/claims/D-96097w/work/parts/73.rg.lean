/-! the reader: factor -/
set_option maxRecDepth 100000
section RFL
variable {D : va_G} {T : xT} {Γ : xE} {cc : ByteArray} {nL lev mc ms : Nat} {ret : Option FieldType} {cells slots pc : Nat} {lv : List (Nat × Value)} {st : List Value} {R tx kl n : Nat} {g : Nat → Int32}  
set_option maxHeartbeats 1000000 in
theorem rf_letter (G : xG D T Γ cX14_factor "BakedBefore$Reader" 3 (some (.object "BakedBefore$Test")) lev mc ms) (hlt : Γ.1.2.1.stackTraces = false) (hn : n ≤ 100) {a x : Nat} {d : Nat} {res : PR TF1} (X : xXX D Γ mc ms (rdP T R tx kl g n x res (d + 1)) (rdE T R tx kl g n res)) (htab : ∀ x ∈ Γ.2.2.2.1.exceptionTable.toList, False) (hlev : 15 ≤ lev) (hmc : 3 ≤ mc) (hms : 20 ≤ ms) (ha : a < n) (hl : isLet (hereS g n a) = true) (hres : res = pTest g n a) : K D Γ 0 0 135 [(0, .ref R)] [] (rdW T R tx kl g n (nI a) (nI x) ++ []) := by
  have e0 : g a = hereS g n a := (if_pos ha).symm
  have u : pTest g n a = (if hereS g n (a + 1) = 60 ∨ hereS g n (a + 1) = 61 ∨ hereS g n (a + 1) = 62 then
      (match pNum g n (a + 2) with
        | .inl p => (.inl p : PR TF1)
        | .inr q => .inr (q.1, agF (hereS g n a) (hereS g n (a + 1)) q.2))
     else .inl (a + 1)) := by unfold pTest; rw [if_pos hl]
  refine k_aload_n G dX14_factor_135 rfl ?_
  refine rg_text G dX14_factor_136 ?_
  refine k_aload_n G dX14_factor_139 rfl ?_
  refine k_dup G dX14_factor_140 rfl ?_
  refine rg_at G dX14_factor_141 ?_
  refine k_dup_x1 G dX14_factor_144 rfl rfl ?_
  refine k_iconst G (v := 1) dX14_factor_145 (by decide) ?_
  refine k_iadd G dX14_factor_146 ?_
  rw [nI_1]
  refine rp_at G dX14_factor_147 ?_
  refine k_bald G (p := 1) (n := 100) rfl (nI_in (by omega) (by omega)) dX14_factor_150 ?_
  rw [nI_clamp (by omega), e0]
  refine k_istore_n G [(1, .int (hereS g n a)), (0, .ref R)] dX14_factor_151 rfl (Nat.le_of_ble_eq_true rfl) rfl ?_
  refine k_aload_n G dX14_factor_152 rfl ?_
  refine kk_here G hn (by omega) dX14_factor_153 (Nat.le_of_ble_eq_true rfl) (by omega) ⟨by omega, by omega⟩ ?_
  refine k_istore_n G [(2, .int (hereS g n (a + 1))), (1, .int (hereS g n a)), (0, .ref R)] dX14_factor_156 rfl (Nat.le_of_ble_eq_true rfl) rfl ?_
  refine k_iload_n G dX14_factor_157 rfl ?_
  refine k_bipush G (v := 60) dX14_factor_158 (by decide) ?_
  have good : (hereS g n (a + 1) = 60 ∨ hereS g n (a + 1) = 61 ∨ hereS g n (a + 1) = 62) → K D Γ 0 0 180 [(2, .int (hereS g n (a + 1))), (1, .int (hereS g n a)), (0, .ref R)] [] (rdW T R tx kl g n (nI (a + 1)) (nI x) ++ []) := by
    intro hs
    have l2 := hereS_sg hs
    rw [if_pos hs] at u
    refine k_aload_n G dX14_factor_180 rfl ?_
    refine k_dup G dX14_factor_181 rfl ?_
    refine rg_at G dX14_factor_182 ?_
    refine k_iconst G (v := 1) dX14_factor_185 (by decide) ?_
    refine k_iadd G dX14_factor_186 ?_
    rw [nI_1]
    refine rp_at G dX14_factor_187 ?_
    refine k_new G (fs := [.int 0, .int 0, .int 0]) ci_X20 q894 q895 q119 (fun j hj => by match j, hj with | 0, _ => rfl | 1, _ => rfl | 2, _ => rfl) ⟨by omega, by omega⟩ dX14_factor_190 (fun s => ?_)
    refine k_dup G dX14_factor_193 rfl ?_
    refine k_iload_n G dX14_factor_194 rfl ?_
    refine k_iload_n G dX14_factor_195 rfl ?_
    refine k_aload_n G dX14_factor_196 rfl ?_
    refine K.nf (ws' := ((rdW T R tx kl g n (nI (a + 1 + 1)) (nI x)) ++ [(s, .inr (19, [.int 0, .int 0, .int 0]))])) rfl rfl rfl rfl ?_
    refine k_callVXw G (As := []) (rest := [.int (hereS g n (a + 1)), .int (hereS g n a), .ref s, .ref s]) (C := RX14) (rk_number _ hlt D T R tx kl n g (a := a + 2) [(s, .inr (19, [.int 0, .int 0, .int 0]))] hn (by omega)) xr_number q842 rfl rfl (Nat.le_of_ble_eq_true rfl) (by omega) ⟨by omega, by omega⟩ ⟨0, 14, _, TX14, 5, rfl, rfl⟩ dX14_factor_197 (fun v w hq => ?_) (fun E q w hq => ?_)
    · obtain ⟨e, z, rfl, hr, rfl⟩ := hq
      rw [hr] at u
      refine k_ctor G (ws := (rdW T R tx kl g n (nI e) (nI x))) (As := [.int (hereS g n a), .int (hereS g n (a + 1)), .int z]) (rest := [.ref s]) (ct_Against _ D T s (hereS g n a) (hereS g n (a + 1)) z) xi_Against q896 rfl rfl (Nat.le_of_ble_eq_true rfl) (by omega) ⟨by omega, by omega⟩ dX14_factor_200 (fun v w hq => ?_)
      obtain ⟨rfl, rfl⟩ := hq
      exact kx_ret X (k_aret (xEr.G G) xEr.X (Or.inl ⟨_, rfl⟩) (r := some s) dX14_factor_203 (by omega) (by omega) ⟨e, _, s, _, hres.trans u, rfl, rfl, Or.inr (Or.inl ⟨_, _, _, List.mem_cons_self, fun e => rfl⟩)⟩)
    · obtain ⟨hr, rfl, y9, x9, N, fs, rfl, hm, h6⟩ := hq
      rw [hr] at u
      exact kx_out G X htab (by omega) (by omega) ⟨a + 2, hres.trans u, rfl, y9, x9, [(s, .inr (19, [.int 0, .int 0, .int 0]))] ++ N, fs, rfl, List.mem_append_right _ hm, h6⟩
  refine k_icmp_eq G 180 dX14_factor_160 (by decide) (fun c160 => good (Or.inl c160)) (fun c160 => ?_)
  refine k_iload_n G dX14_factor_163 rfl ?_
  refine k_bipush G (v := 61) dX14_factor_164 (by decide) ?_
  refine k_icmp_eq G 180 dX14_factor_166 (by decide) (fun c166 => good (Or.inr (Or.inl c166))) (fun c166 => ?_)
  refine k_iload_n G dX14_factor_169 rfl ?_
  refine k_bipush G (v := 62) dX14_factor_170 (by decide) ?_
  refine k_icmp_eq G 180 dX14_factor_172 (by decide) (fun c172 => good (Or.inr (Or.inr c172))) (fun c172 => ?_)
  rw [if_neg (fun z => z.elim c160 (fun z => z.elim c166 c172))] at u
  refine k_aload_n G dX14_factor_175 rfl ?_
  refine kk_throw G hlt (Nat.le_of_ble_eq_true rfl) (by omega) ⟨by omega, by omega⟩ dX14_factor_176 dX14_factor_179 (fun b fs h6 => ?_)
  exact kx_out G X htab (by omega) (by omega) ⟨a + 1, hres.trans u, rfl, nI (a + 1), nI x, [(b, .inr (15, fs))], fs, rfl, List.mem_cons_self, h6⟩
end RFL
theorem pClose_le {f : SS} {n : Nat} {r : PR TF1} : endP r ≤ endP (pClose f n r) := by
  cases r with
  | inl p => exact Nat.le_refl _
  | inr q =>
    show q.1 ≤ endP (if hereS f n q.1 = 41 then (.inr (q.1 + 1, q.2) : PR TF1) else .inl q.1)
    by_cases h : hereS f n q.1 = 41
    · rw [if_pos h]; exact Nat.le_succ _
    · rw [if_neg h]; exact Nat.le_refl _
theorem isLet_or {c : Int32} (h : isLet c = true) : c = 108 ∨ c = 107 ∨ c = 116 ∨ c = 118 ∨ c = 104 ∨ c = 111 := of_decide_eq_true h
theorem rk_factor0 (l : Launch) (hlt : l.stackTraces = false) (D : va_G) (T : xT) (n : Nat) (g : Nat → Int32) (hn : n ≤ 100) : kdF l D T n g 0 := by
  intro R tx kl a ha
  obtain ⟨res, hres⟩ : ∃ z, z = pF g n 0 a := ⟨_, rfl⟩
  have hE : pEn n a res := by rw [hres]; exact pF_en _ a
  have hE1 := hE.1
  rw [← hres]
  refine XMX.start (by decide +kernel) (Nat.le_of_ble_eq_true rfl) (fun Γ G X htab hl_ => ?_)
  subst hl_
  refine K.less [0] (lv' := [(0, .ref R)]) rfl ?_
  refine K.nf (ws' := ((rdW T R tx kl g n (nI a) (nI (4 - 0))) ++ [])) rfl rfl rfl (List.append_nil _).symm ?_
  refine k_aload_n G dX14_factor_0 rfl ?_
  refine kk_here G hn (by omega) dX14_factor_1 (Nat.le_of_ble_eq_true rfl) (by omega) ⟨by omega, by omega⟩ ?_
  by_cases h33 : hereS g n a = 33
  · have ha1 := hereS_eq h33 (by decide)
    unfold pF at hres
    rw [if_pos h33] at hres
    refine k_lswIn G 33 h33 80 dX14_factor_4 (by decide +kernel) rfl (by decide) ?_
    refine k_aload_n G dX14_factor_80 rfl ?_
    refine k_callVXw G (As := []) (rest := []) (C := RX14) (rk_deeper _ hlt D T R tx kl n g (dp := 4 - 0) [] (by omega)) xr_deeper q880 rfl rfl (Nat.le_of_ble_eq_true rfl) (by omega) ⟨by omega, by omega⟩ ⟨0, 14, _, TX14, 5, rfl, rfl⟩ dX14_factor_81 (fun v w hq => ?_) (fun E q w hq => ?_)
    · exact absurd rfl hq.2.1
    · obtain ⟨-, hq⟩ := hq
      exact kx_out G X htab (by omega) (by omega) ⟨a, hres, hq⟩
  by_cases h40 : hereS g n a = 40
  · have ha1 := hereS_eq h40 (by decide)
    unfold pF at hres
    rw [if_neg h33, if_pos h40] at hres
    refine k_lswIn G 40 h40 108 dX14_factor_4 (by decide +kernel) rfl (by decide) ?_
    refine k_aload_n G dX14_factor_108 rfl ?_
    refine k_callVXw G (As := []) (rest := []) (C := RX14) (rk_deeper _ hlt D T R tx kl n g (dp := 4 - 0) [] (by omega)) xr_deeper q880 rfl rfl (Nat.le_of_ble_eq_true rfl) (by omega) ⟨by omega, by omega⟩ ⟨0, 14, _, TX14, 5, rfl, rfl⟩ dX14_factor_109 (fun v w hq => ?_) (fun E q w hq => ?_)
    · exact absurd rfl hq.2.1
    · obtain ⟨-, hq⟩ := hq
      exact kx_out G X htab (by omega) (by omega) ⟨a, hres, hq⟩
  unfold pF at hres
  rw [if_neg h33, if_neg h40] at hres
  by_cases hl : isLet (hereS g n a) = true
  · have ha1 := hereS_let hl
    rcases isLet_or hl with c108 | c107 | c116 | c118 | c104 | c111
    · refine k_lswIn G 108 c108 135 dX14_factor_4 (by decide +kernel) rfl (by decide) ?_
      exact rf_letter G hlt hn X htab (by omega) (by omega) (by omega) ha1 hl hres
    · refine k_lswIn G 107 c107 135 dX14_factor_4 (by decide +kernel) rfl (by decide) ?_
      exact rf_letter G hlt hn X htab (by omega) (by omega) (by omega) ha1 hl hres
    · refine k_lswIn G 116 c116 135 dX14_factor_4 (by decide +kernel) rfl (by decide) ?_
      exact rf_letter G hlt hn X htab (by omega) (by omega) (by omega) ha1 hl hres
    · refine k_lswIn G 118 c118 135 dX14_factor_4 (by decide +kernel) rfl (by decide) ?_
      exact rf_letter G hlt hn X htab (by omega) (by omega) (by omega) ha1 hl hres
    · refine k_lswIn G 104 c104 135 dX14_factor_4 (by decide +kernel) rfl (by decide) ?_
      exact rf_letter G hlt hn X htab (by omega) (by omega) (by omega) ha1 hl hres
    · refine k_lswIn G 111 c111 135 dX14_factor_4 (by decide +kernel) rfl (by decide) ?_
      exact rf_letter G hlt hn X htab (by omega) (by omega) (by omega) ha1 hl hres
  refine k_lswD G [33, 40, 104, 107, 108, 111, 116, 118] 204 dX14_factor_4 (by decide +kernel) (by decide +kernel) (fun v hv z => ?_) (by decide) ?_
  · simp only [List.mem_cons, List.not_mem_nil, or_false] at hv
    rcases hv with rfl | rfl | rfl | rfl | rfl | rfl | rfl | rfl
    · exact h33 z
    · exact h40 z
    · exact hl (by rw [z]; decide)
    · exact hl (by rw [z]; decide)
    · exact hl (by rw [z]; decide)
    · exact hl (by rw [z]; decide)
    · exact hl (by rw [z]; decide)
    · exact hl (by rw [z]; decide)
  refine k_aload_n G dX14_factor_204 rfl ?_
  refine kk_throw G hlt (Nat.le_of_ble_eq_true rfl) (by omega) ⟨by omega, by omega⟩ dX14_factor_205 dX14_factor_208 (fun b fs h6 => ?_)
  have u : pTest g n a = .inl a := by unfold pTest; rw [if_neg hl]
  exact kx_out G X htab (by omega) (by omega) ⟨a, hres.trans u, rfl, nI a, _, [(b, .inr (15, fs))], fs, rfl, List.mem_cons_self, h6⟩
set_option maxHeartbeats 1000000 in
theorem rk_factorS (l : Launch) (hlt : l.stackTraces = false) (D : va_G) (T : xT) (n : Nat) (g : Nat → Int32) (hn : n ≤ 100) (r : Nat) (hr4 : r + 1 ≤ 4) (hF : kdF l D T n g r) (hS : kdS l D T n g r) : kdF l D T n g (r + 1) := by
  intro R tx kl a ha
  obtain ⟨res, hres⟩ : ∃ z, z = pF g n (r + 1) a := ⟨_, rfl⟩
  have hE : pEn n a res := by rw [hres]; exact pF_en _ a
  have hE1 := hE.1
  rw [← hres]
  refine XMX.start (by decide +kernel) (Nat.le_of_ble_eq_true rfl) (fun Γ G X htab hl_ => ?_)
  subst hl_
  refine K.less [0] (lv' := [(0, .ref R)]) rfl ?_
  refine K.nf (ws' := ((rdW T R tx kl g n (nI a) (nI (4 - (r + 1)))) ++ [])) rfl rfl rfl (List.append_nil _).symm ?_
  refine k_aload_n G dX14_factor_0 rfl ?_
  refine kk_here G hn (by omega) dX14_factor_1 (Nat.le_of_ble_eq_true rfl) (by omega) ⟨by omega, by omega⟩ ?_
  by_cases h33 : hereS g n a = 33
  · have ha1 := hereS_eq h33 (by decide)
    unfold pF at hres
    rw [if_pos h33] at hres
    refine k_lswIn G 33 h33 80 dX14_factor_4 (by decide +kernel) rfl (by decide) ?_
    refine k_aload_n G dX14_factor_80 rfl ?_
    refine k_callVXw G (As := []) (rest := []) (C := RX14) (rk_deeper _ hlt D T R tx kl n g (dp := 4 - (r + 1)) [] (by omega)) xr_deeper q880 rfl rfl (Nat.le_of_ble_eq_true rfl) (by omega) ⟨by omega, by omega⟩ ⟨0, 14, _, TX14, 5, rfl, rfl⟩ dX14_factor_81 (fun v w hq => ?_) (fun E q w hq => ?_)
    · obtain ⟨rfl, -, rfl⟩ := hq
      rw [show 4 - (r + 1) + 1 = 4 - r by omega]
      refine k_new G (fs := [.null]) ci_X19 q884 q885 q118 (fun j hj => by match j, hj with | 0, _ => rfl) ⟨by omega, by omega⟩ dX14_factor_84 (fun s => ?_)
      refine k_dup G dX14_factor_87 rfl ?_
      refine k_aload_n G dX14_factor_88 rfl ?_
      refine K.nf (ws' := ([] ++ ((rdW T R tx kl g n (nI (a + 1)) (nI (4 - r))) ++ [(s, .inr (18, [.null]))]))) rfl rfl rfl rfl ?_
      have hb := pF_en (f := g) (n := n) r (a + 1)
      have hb0 := hb.1
      have hb1 := hb.2 (by omega)
      have hER : endP (pF g n r (a + 1)) ≤ endP res := by rw [hres]; cases pF g n r (a + 1) <;> exact Nat.le_refl _
      refine k_callVX G (wl := []) (wc := (rdW T R tx kl g n (nI (a + 1)) (nI (4 - r)))) (wr := [(s, .inr (18, [.null]))]) (As := []) (rest := [.ref s, .ref s]) (hF R tx kl (a + 1) (by omega)) xr_factor q876 rfl rfl (Nat.le_of_ble_eq_true rfl) (by omega) ⟨by omega, by omega⟩ ⟨0, 14, _, TX14, 5, rfl, rfl⟩ dX14_factor_89 (fun v wc hq => ?_) (fun E q wc hq => ?_)
      · obtain ⟨e2, φ2, b, N, hr, rfl, rfl, ht⟩ := hq
        rw [hr] at hER hb0 hb1 hres
        change e2 ≤ endP res at hER
        change a + 1 ≤ e2 at hb0
        rw [hr]
        show K D Γ (0 + 1 + 1 + (8 * (e2 - (a + 1)) + 3)) (0 + 7 + 1 + (430 * (e2 - (a + 1)) + 20)) _ _ _ _
        refine k_ctor G (ws := (rdW T R tx kl g n (nI e2) (nI (4 - r))) ++ N) (As := [.ref b]) (rest := [.ref s]) (ct_Not _ D T s b) xi_Not q886 rfl rfl (Nat.le_of_ble_eq_true rfl) (by omega) ⟨by omega, by omega⟩ dX14_factor_92 (fun v w hq => ?_)
        obtain ⟨rfl, rfl⟩ := hq
        refine k_astore_n G [(1, .ref s), (0, .ref R)] dX14_factor_95 rfl (Nat.le_of_ble_eq_true rfl) rfl ?_
        refine k_aload_n G dX14_factor_96 rfl ?_
        refine K.nf (ws' := ((rdW T R tx kl g n (nI e2) (nI (4 - r))) ++ (N ++ [(s, .inr (18, [.ref b]))]))) rfl rfl rfl (List.append_assoc _ _ _) ?_
        refine k_dup G dX14_factor_97 rfl ?_
        refine rg_deep G dX14_factor_98 ?_
        refine k_iconst G (v := 1) dX14_factor_101 (by decide) ?_
        refine k_isub G dX14_factor_102 ?_
        rw [show 4 - r = 4 - (r + 1) + 1 by omega, nI_pred]
        refine rp_deep G dX14_factor_103 ?_
        refine k_aload_n G dX14_factor_106 rfl ?_
        exact kx_ret X (k_aret (xEr.G G) xEr.X (Or.inl ⟨_, rfl⟩) (r := some s) dX14_factor_107 (by omega) (by omega) ⟨e2, _, s, _, hres, rfl, rfl, Or.inl ⟨b, φ2, List.mem_append_right _ List.mem_cons_self, ((ht.mono (fun z hz => List.mem_append_left _ hz)).to (by omega)), fun e => rfl⟩⟩)
      · obtain ⟨p, hr, rfl, y9, x9, N, fs, rfl, hm, h6⟩ := hq
        rw [hr] at hER hb0 hres
        change p ≤ endP res at hER
        change a + 1 ≤ p at hb0
        rw [hr]
        refine kx_out G X htab (by show 0 + 1 + 1 + (8 * (p - (a + 1)) + 3) ≤ _; omega) (by show 0 + 7 + 1 + (430 * (p - (a + 1)) + 20) ≤ _; omega) ⟨p, hres, rfl, y9, x9, N ++ [(s, .inr (18, [.null]))], fs, by simp only [List.append_assoc, List.nil_append], List.mem_append_left _ hm, h6⟩
    · exact absurd hq.1 (by omega)
  by_cases h40 : hereS g n a = 40
  · have ha1 := hereS_eq h40 (by decide)
    unfold pF at hres
    rw [if_neg h33, if_pos h40] at hres
    refine k_lswIn G 40 h40 108 dX14_factor_4 (by decide +kernel) rfl (by decide) ?_
    refine k_aload_n G dX14_factor_108 rfl ?_
    refine k_callVXw G (As := []) (rest := []) (C := RX14) (rk_deeper _ hlt D T R tx kl n g (dp := 4 - (r + 1)) [] (by omega)) xr_deeper q880 rfl rfl (Nat.le_of_ble_eq_true rfl) (by omega) ⟨by omega, by omega⟩ ⟨0, 14, _, TX14, 5, rfl, rfl⟩ dX14_factor_109 (fun v w hq => ?_) (fun E q w hq => ?_)
    · obtain ⟨rfl, -, rfl⟩ := hq
      rw [show 4 - (r + 1) + 1 = 4 - r by omega]
      refine K.nf (ws' := ([] ++ ((rdW T R tx kl g n (nI (a + 1)) (nI (4 - r))) ++ []))) rfl rfl rfl rfl ?_
      refine k_aload_n G dX14_factor_112 rfl ?_
      have hen := pEof_en (pF_en (f := g) (n := n) r) (a + 1)
      have hb0 := hen.1
      have hb1 := hen.2 (by omega)
      have hER : endP (pEof g n (pF g n r) (a + 1)) ≤ endP res := by rw [hres]; exact pClose_le
      unfold pEof at hb0 hb1 hER hres
      refine k_callVX G (wl := []) (wc := (rdW T R tx kl g n (nI (a + 1)) (nI (4 - r)))) (wr := []) (As := []) (rest := []) (hS R tx kl (a + 1) (by omega)) xr_some q849 rfl rfl (Nat.le_of_ble_eq_true rfl) (by omega) ⟨by omega, by omega⟩ ⟨0, 14, _, TX14, 5, rfl, rfl⟩ dX14_factor_113 (fun v wc hq => ?_) (fun E q wc hq => ?_)
      · obtain ⟨e2, φ2, b, N, hr, rfl, rfl, ht⟩ := hq
        rw [hr] at hER hb0 hb1 hres
        change e2 ≤ endP res at hER
        change a + 1 ≤ e2 at hb0
        change e2 ≤ n at hb1
        rw [hr]
        show K D Γ (0 + 1 + (8 * (e2 - (a + 1)) + 9)) (0 + 7 + (430 * (e2 - (a + 1)) + 430)) _ _ _ _
        refine K.nf (ws' := ((rdW T R tx kl g n (nI e2) (nI (4 - r))) ++ N)) rfl rfl rfl (List.append_nil _) ?_
        refine k_astore_n G [(1, .ref b), (0, .ref R)] dX14_factor_116 rfl (Nat.le_of_ble_eq_true rfl) rfl ?_
        refine k_aload_n G dX14_factor_117 rfl ?_
        refine k_bipush G (v := 41) dX14_factor_118 (by decide) ?_
        change res = (if hereS g n e2 = 41 then (.inr (e2 + 1, φ2) : PR TF1) else .inl e2) at hres
        refine k_callVXw G (As := [.int 41]) (rest := []) (C := RX14) (rk_must _ hlt D T R tx kl n g N hn (by omega)) xr_must q750 rfl rfl (Nat.le_of_ble_eq_true rfl) (by omega) ⟨by omega, by omega⟩ ⟨0, 14, _, TX14, 5, rfl, rfl⟩ dX14_factor_120 (fun v w hq => ?_) (fun E q w hq => ?_)
        · obtain ⟨rfl, h41, rfl⟩ := hq
          rw [if_pos h41] at hres
          have hR2 : endP res = e2 + 1 := by rw [hres]; rfl
          refine k_aload_n G dX14_factor_123 rfl ?_
          refine k_dup G dX14_factor_124 rfl ?_
          refine rg_deep G dX14_factor_125 ?_
          refine k_iconst G (v := 1) dX14_factor_128 (by decide) ?_
          refine k_isub G dX14_factor_129 ?_
          rw [show 4 - r = 4 - (r + 1) + 1 by omega, nI_pred]
          refine rp_deep G dX14_factor_130 ?_
          refine k_aload_n G dX14_factor_133 rfl ?_
          exact kx_ret X (k_aret (xEr.G G) xEr.X (Or.inl ⟨_, rfl⟩) (r := some b) dX14_factor_134 (by omega) (by omega) ⟨e2 + 1, _, b, N, hres, rfl, rfl, ht.to (by omega)⟩)
        · obtain ⟨h41, rfl, y9, x9, N2, fs, rfl, hm, h6⟩ := hq
          rw [if_neg h41] at hres
          have hR2 : endP res = e2 := by rw [hres]; rfl
          exact kx_out G X htab (by omega) (by omega) ⟨e2, hres, rfl, y9, x9, N ++ N2, fs, rfl, List.mem_append_right _ hm, h6⟩
      · obtain ⟨p, hr, rfl, y9, x9, N, fs, rfl, hm, h6⟩ := hq
        rw [hr] at hER hb0 hres
        change p ≤ endP res at hER
        change a + 1 ≤ p at hb0
        rw [hr]
        refine kx_out G X htab (by show 0 + 1 + (8 * (p - (a + 1)) + 9) ≤ _; omega) (by show 0 + 7 + (430 * (p - (a + 1)) + 430) ≤ _; omega) ⟨p, hres, rfl, y9, x9, N, fs, by simp only [List.append_assoc, List.nil_append, List.append_nil], hm, h6⟩
    · exact absurd hq.1 (by omega)
  unfold pF at hres
  rw [if_neg h33, if_neg h40] at hres
  by_cases hl : isLet (hereS g n a) = true
  · have ha1 := hereS_let hl
    rcases isLet_or hl with c108 | c107 | c116 | c118 | c104 | c111
    · refine k_lswIn G 108 c108 135 dX14_factor_4 (by decide +kernel) rfl (by decide) ?_
      exact rf_letter G hlt hn X htab (by omega) (by omega) (by omega) ha1 hl hres
    · refine k_lswIn G 107 c107 135 dX14_factor_4 (by decide +kernel) rfl (by decide) ?_
      exact rf_letter G hlt hn X htab (by omega) (by omega) (by omega) ha1 hl hres
    · refine k_lswIn G 116 c116 135 dX14_factor_4 (by decide +kernel) rfl (by decide) ?_
      exact rf_letter G hlt hn X htab (by omega) (by omega) (by omega) ha1 hl hres
    · refine k_lswIn G 118 c118 135 dX14_factor_4 (by decide +kernel) rfl (by decide) ?_
      exact rf_letter G hlt hn X htab (by omega) (by omega) (by omega) ha1 hl hres
    · refine k_lswIn G 104 c104 135 dX14_factor_4 (by decide +kernel) rfl (by decide) ?_
      exact rf_letter G hlt hn X htab (by omega) (by omega) (by omega) ha1 hl hres
    · refine k_lswIn G 111 c111 135 dX14_factor_4 (by decide +kernel) rfl (by decide) ?_
      exact rf_letter G hlt hn X htab (by omega) (by omega) (by omega) ha1 hl hres
  refine k_lswD G [33, 40, 104, 107, 108, 111, 116, 118] 204 dX14_factor_4 (by decide +kernel) (by decide +kernel) (fun v hv z => ?_) (by decide) ?_
  · simp only [List.mem_cons, List.not_mem_nil, or_false] at hv
    rcases hv with rfl | rfl | rfl | rfl | rfl | rfl | rfl | rfl
    · exact h33 z
    · exact h40 z
    · exact hl (by rw [z]; decide)
    · exact hl (by rw [z]; decide)
    · exact hl (by rw [z]; decide)
    · exact hl (by rw [z]; decide)
    · exact hl (by rw [z]; decide)
    · exact hl (by rw [z]; decide)
  refine k_aload_n G dX14_factor_204 rfl ?_
  refine kk_throw G hlt (Nat.le_of_ble_eq_true rfl) (by omega) ⟨by omega, by omega⟩ dX14_factor_205 dX14_factor_208 (fun b fs h6 => ?_)
  have u : pTest g n a = .inl a := by unfold pTest; rw [if_neg hl]
  exact kx_out G X htab (by omega) (by omega) ⟨a, hres.trans u, rfl, nI a, _, [(b, .inr (15, fs))], fs, rfl, List.mem_cons_self, h6⟩
theorem rk_all3 (l : Launch) (hlt : l.stackTraces = false) (D : va_G) (T : xT) (n : Nat) (g : Nat → Int32) (hn : n ≤ 100) : ∀ r, r ≤ 4 → kdF l D T n g r ∧ kdS l D T n g r
  | 0, _ => by
    have hF := rk_factor0 l hlt D T n g hn
    exact ⟨hF, rk_some l hlt D T n g hn 0 (rk_all l hlt D T n g hn 0 hF)⟩
  | r + 1, h => by
    obtain ⟨hF, hS⟩ := rk_all3 l hlt D T n g hn r (by omega)
    have hF' := rk_factorS l hlt D T n g hn r h hF hS
    exact ⟨hF', rk_some l hlt D T n g hn (r + 1) (rk_all l hlt D T n g hn (r + 1) hF')⟩
