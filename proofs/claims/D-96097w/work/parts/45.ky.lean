/-! the words of the machine's own throws -/
set_option maxRecDepth 100000
theorem xw_mem {L : List Cond} (h : L.all (fun w => lw_tbl.any (fun z => decide (z = w))) = true) (hg : L.all goodWord = true) : ∀ w ∈ L, w ∈ lw_all := by
  intro w hw
  obtain ⟨z, hz, e⟩ := List.any_eq_true.mp (List.all_eq_true.mp h w hw)
  have e1 := of_decide_eq_true e
  subst e1
  exact List.mem_filter.mpr ⟨hz, List.all_eq_true.mp hg _ hw⟩
set_option maxHeartbeats 4000000 in
theorem xw_npe : ∀ w ∈ (vx_atN 8).filter goodWord, w ∈ lw_all := xw_mem (by decide +kernel) (by decide +kernel)
set_option maxHeartbeats 4000000 in
theorem xw_npe2 : ((vx_atN 8).all vx_ot) = true ∧ ((vx_atN 8).filter (fun w => !goodWord w)).all (fun w => (xcast.any (fun q => decide (w = Cond.castable q.1 q.2)) || xdecl.any (fun q => decide (w = Cond.declares q)))) = true := by decide +kernel
section KXN
variable {D : va_G} {T : xT} {Γ : xE} {cc : ByteArray} {own : String} {nL lev mc ms : Nat} {ret : Option FieldType} {cells slots pc : Nat} {lv : List (Nat × Value)} {st rest : List Value} {ws : va_W}
theorem kx_npe (G : xG D T Γ cc own nL ret lev mc ms) (hlt : Γ.1.2.1.stackTraces = false) (hlev : 170 ≤ lev) (hcat : (rest.map fun v => v.category).sum ≤ 8) (hroom : cells + 1 ≤ mc ∧ slots + 8 ≤ ms) (k : ∀ q : Nat, KX D Γ (cells + 1) (slots + 8) pc lv rest ws "java/lang/NullPointerException" q) {H : Heap} {locs : List Loc} {ls : Array Slot} (hP : va_P D xcl ws H) (hD : va_D Γ.2.2.2.2.2 ws) (hS : va_S Γ.2.2.2.2.2 Γ.2.1.1.heap H locs) (hl : lv_has ls Γ.2.2.2.1.maxLocals lv) : vx_NoteN Γ.1.1 Γ.1.2.1 Γ.1.2.2.1 Γ.1.2.2.2 Γ.2.1.1 Γ.2.1.2.1 Γ.2.1.2.2.1 Γ.2.1.2.2.2 Γ.2.2.1 Γ.2.2.2.1 H locs cells slots Γ.2.2.2.2.1 (F0 Γ.2.1.2.1 pc ls rest) := by
  have hR : Γ.1.2.2.2 = xrm lev mc ms := G.2.2.2.2.2.2.2.2.2
  have w := G.2.2.2.2.2.2.1
  have N := G.2.2.2.2.2.2.2.2.1.2.1
  have hat : ∀ z ∈ vx_atN 8, z.before Γ.2.1.2.2.1 Γ.2.1.1 = true := by
    intro z hz
    by_cases g : goodWord z = true
    · exact w _ (xw_npe z (List.mem_filter.mpr ⟨hz, g⟩))
    · have h1 := List.all_eq_true.mp xw_npe2.2 z (List.mem_filter.mpr ⟨hz, by cases hg : goodWord z; rfl; exact absurd hg g⟩)
      rcases Bool.or_eq_true _ _ ▸ h1 with h1 | h1
      · obtain ⟨q, hq, e⟩ := List.any_eq_true.mp h1
        rw [of_decide_eq_true e]
        exact va_Nw.use rfl (N.1 _ hq)
      · obtain ⟨q, hq, e⟩ := List.any_eq_true.mp h1
        rw [of_decide_eq_true e]
        exact va_Nw.use rfl (N.2.1 _ hq)
  refine vx_npe (nb := 8) G.1 hlt hat (fun z hz => List.all_eq_true.mp xw_npe2.1 z hz) (x_H G).2.2.2.1 (x_H G).2.2.2.2.1 hS hl.1 (by rw [hR]; show 7 < lev; omega) (by rw [hR]; show _ ≤ 64 * lev; omega) (by rw [hR]; exact hroom.1) (by rw [hR]; exact hroom.2) G.2.2.2.2.1 (fun H1 q9 ce hz hk hS1 hce hv hcl => ?_)
  exact k q9 H1 locs ls ce (hP.kept (fun i x hx => hk x.1 ((hP i x hx).lt))) hD hS1 hl hce hv hcl
/-- the length of null -/
theorem kx_lenN (G : xG D T Γ cc own nL ret lev mc ms) (hlt : Γ.1.2.1.stackTraces = false) (hlev : 170 ≤ lev) (hcat : (rest.map fun v => v.category).sum ≤ 8) (hroom : cells + 1 ≤ mc ∧ slots + 8 ≤ ms) (d : decode cc pc = .ok (.arraylength, 1)) (k : ∀ q : Nat, KX D Γ (cells + 1) (slots + 8) pc lv rest ws "java/lang/NullPointerException" q) : K D Γ cells slots pc lv (.null :: rest) ws := fun H locs ls hP hD hS hl => vx_arraylengthN G.1 G.2.1 d (kx_npe G hlt hlev hcat hroom k hP hD hS hl)
end KXN
