/-! OPERATIONS: image, undo -/
set_option maxRecDepth 100000
theorem imgM {τ : Mem} {N : Nat} (hN : 300000 ≤ N) : fX5_image N τ = some (nI 1, wI (wI τ 2 (fil (gI τ 1) (gI τ 2) 919)) 0 (upd (gI τ 0) 2 (nI 1))) := by
  unfold fX5_image
  have key := lp_fun (b := bX5_image_2 N τ) (fun k => (wI τ 2 (fil (gI τ 1) (gI τ 2) k), nI k)) 919 (N := N) (by omega) (r := some (nI 1, wI (wI τ 2 (fil (gI τ 1) (gI τ 2) 919)) 0 (upd (gI τ 0) 2 (nI 1)))) (fun k rec hk => ?_) (fun rec => ?_)
  · rw [fil_0, wI_id] at key
    exact key
  · unfold bX5_image_2
    simp (disch := first | omega | decide) only [lt_d, gbT, Option.bind_some, cT2_l, cT2_r, mO_n, mO_s, lit, litL, nb_t, nb_f, need_1, need_0, ix_n, inb_T, le_T, le_F, l_T, l_F, e_F, e_R, if_true, if_false, n_add, n_mul, n_sub, n_l, fM_1, fM_2, fM_3, fM_4, fM_6, fM_7, pI_w, pL_w, pR_w, pC_w, nC_w, gI_wI, gI_wIn, gI_wL, gI_wR, gI_wC, gL_wL, gL_wLn, gL_wI, gL_wR, gL_wC, gR_wR, gR_wRn, gR_wI, gR_wL, gR_wC, gC_wI, gC_wL, gC_wR, gC_wC, gN_wI, gN_wL, gN_wR, gN_wC, wI_wI, wL_wL, wR_wR, wC_wC, up_s, up_n]
    rw [fil_s rfl]
  · unfold bX5_image_2
    simp (disch := first | omega | decide) only [lt_d, gbT, Option.bind_some, cT2_l, cT2_r, mO_n, mO_s, lit, litL, nb_t, nb_f, need_1, need_0, ix_n, inb_T, le_T, le_F, l_T, l_F, e_F, e_R, if_true, if_false, n_add, n_mul, n_sub, n_l, fM_1, fM_2, fM_3, fM_4, fM_6, fM_7, pI_w, pL_w, pR_w, pC_w, nC_w, gI_wI, gI_wIn, gI_wL, gI_wR, gI_wC, gL_wL, gL_wLn, gL_wI, gL_wR, gL_wC, gR_wR, gR_wRn, gR_wI, gR_wL, gR_wC, gC_wI, gC_wL, gC_wR, gC_wC, gN_wI, gN_wL, gN_wR, gN_wC, wI_wI, wL_wL, wR_wR, wC_wC, up_s, up_n]
theorem undM {τ : Mem} {N : Nat} (hN : 300000 ≤ N) : lp (bX5_undo_16 N τ) N (τ, nI 0) = some (gI τ 2 1, wI (wI τ 1 (fil (gI τ 2) (gI τ 1) 919)) 0 (upd (upd (gI τ 0) 18 (nI 1)) 19 (nI 1))) := by
  have key := lp_fun (b := bX5_undo_16 N τ) (fun k => (wI τ 1 (fil (gI τ 2) (gI τ 1) k), nI k)) 919 (N := N) (by omega) (r := some (gI τ 2 1, wI (wI τ 1 (fil (gI τ 2) (gI τ 1) 919)) 0 (upd (upd (gI τ 0) 18 (nI 1)) 19 (nI 1)))) (fun k rec hk => ?_) (fun rec => ?_)
  · rw [fil_0, wI_id] at key
    exact key
  · unfold bX5_undo_16
    simp (disch := first | omega | decide) only [lt_d, gbT, Option.bind_some, cT2_l, cT2_r, mO_n, mO_s, lit, litL, nb_t, nb_f, need_1, need_0, ix_n, inb_T, le_T, le_F, l_T, l_F, e_F, e_R, if_true, if_false, n_add, n_mul, n_sub, n_l, fM_1, fM_2, fM_3, fM_4, fM_6, fM_7, pI_w, pL_w, pR_w, pC_w, nC_w, gI_wI, gI_wIn, gI_wL, gI_wR, gI_wC, gL_wL, gL_wLn, gL_wI, gL_wR, gL_wC, gR_wR, gR_wRn, gR_wI, gR_wL, gR_wC, gC_wI, gC_wL, gC_wR, gC_wC, gN_wI, gN_wL, gN_wR, gN_wC, wI_wI, wL_wL, wR_wR, wC_wC, up_s, up_n]
    rw [fil_s rfl]
  · unfold bX5_undo_16
    simp (disch := first | omega | decide) only [lt_d, gbT, Option.bind_some, cT2_l, cT2_r, mO_n, mO_s, lit, litL, nb_t, nb_f, need_1, need_0, ix_n, inb_T, le_T, le_F, l_T, l_F, e_F, e_R, if_true, if_false, n_add, n_mul, n_sub, n_l, fM_1, fM_2, fM_3, fM_4, fM_6, fM_7, pI_w, pL_w, pR_w, pC_w, nC_w, gI_wI, gI_wIn, gI_wL, gI_wR, gI_wC, gL_wL, gL_wLn, gL_wI, gL_wR, gL_wC, gR_wR, gR_wRn, gR_wI, gR_wL, gR_wC, gC_wI, gC_wL, gC_wR, gC_wC, gN_wI, gN_wL, gN_wR, gN_wC, wI_wI, wL_wL, wR_wR, wC_wC, up_s, up_n, fil_in]
theorem cp_num {g g' s : Nat → Int32} {p w b : Nat} (h : Num g s p w b) (hk : ∀ k, k < 4 → g' k = g k) : Num g' s p w b := by
  obtain ⟨n1, n2, n3, n4, n5, n6, n7, n8, n9, n10⟩ := h
  exact ⟨n1, n2, n3, (hk 0 (by omega)).trans n4, n5, (hk 1 (by omega)).trans n6, n7, (hk 2 (by omega)).trans n8, n9, (hk 3 (by omega)).trans n10⟩
theorem cp_bok {bk bk' : Nat → Nat → Int32} {s : Nat → Int32} {w : Nat} (h : Bok bk s w) (hk : ∀ k, k < 8 → bk' k = bk k) : Bok bk' s w := fun v hv => ⟨fun k h8 => by rw [hk k h8]; exact (h v hv).1 k h8, by rw [hk 3 (by omega)]; exact (h v hv).2⟩
set_option maxHeartbeats 4000000 in
theorem op_image {σ τ : Mem} (h : R σ τ) {N : Nat} (hN : 300000 ≤ N) : Op σ τ (fX0_image N σ) (fX5_image N τ) := by
  have h' := h
  obtain ⟨a, ⟨p, w, b, hn, hru, hg, hap, hl, hh, hb⟩, c, d, e, f, g, i, j, k⟩ := h'
  obtain ⟨σ', z1, z2, z3, z4, z5, z6, z7, z8, z9, z10, z11, z12, z13⟩ := become28 hN hn.1 hn.2.2.2.1 hg j
  have n4 := hn.2.2.2.1
  have hG : Gm (gI σ' 28) (gI σ' 29) (pk12 (gR σ' 31 0) (gR σ' 32 0) (gR σ' 33 0) (gR σ' 34 0) (gR σ' 35 0) (gR σ' 36 0) (gR σ' 37 0) (gR σ' 38 0) (gR σ' 39 0) (gR σ' 40 0) (gR σ' 41 0) (gR σ' 42 0)) (gR σ' 43 0) (gI σ' 44) (gI σ' 45) (pk8 (gI σ' 47) (gI σ' 48) (gI σ' 49) (gI σ' 50) (gI σ' 51) (gI σ' 52) (gI σ' 53) (gI σ' 54)) (gC σ') (gI τ 1) := by
    refine ⟨p, w, b, cp_num hn z2, by rw [z3]; exact hru, fun q hq => ?_, fun q r hq hr => ?_, by rw [z4]; exact hl.ext z11.T, by rw [z5, z6]; exact hh, cp_bok hb (fun k hk => by rw [bk_28 σ' hk, bk_1 σ hk]; exact z7 k hk)⟩
    · have hp := hn.1
      obtain ⟨f1, k', m', f2, f3, f4, f5⟩ := z13 q hq
      rw [gr_28 _ (by omega)]
      exact ⟨_, k', m', f1, f2, f3, f4, f5⟩
    · have hp := hn.1
      rw [gr_28 _ (by omega), gr_28 _ (by omega), (z13 q hq).1, (z13 r hr).1]
      intro z
      cases Nat.add_left_cancel (Option.some.inj z)
      rfl
  have kX : fX0_image N σ = some (nI 1, wI σ' 0 (upd (gI σ' 0) 2 (nI 1))) := by
    unfold fX0_image
    rw [z1, Option.bind_some, lt_d, pI_w]; rfl
  refine ⟨_, _, _, kX, imgM hN, ?_⟩
  unfold R Kpt
  simp (disch := first | omega | decide) only [pI_w, pL_w, pR_w, pC_w, nC_w, gI_wI, gI_wIn, gI_wL, gI_wR, gI_wC, gL_wL, gL_wLn, gL_wI, gL_wR, gL_wC, gR_wR, gR_wRn, gR_wI, gR_wL, gR_wC, gC_wI, gC_wL, gC_wR, gC_wC, gN_wI, gN_wL, gN_wR, gN_wC, wI_wI, wL_wL, wR_wR, wC_wC, up_s, up_n, z8, z9, z10]
  refine ⟨a, ?_, ⟨trivial, Or.inr ⟨trivial, hG.c (fun i hi => fil_in hi), ?_⟩⟩, d, e.ext z11, f, g, i, z12, k⟩
  · exact ⟨p, w, b, hn, hru, hg.ext z11, hap, hl.ext z11.T, hh, hb⟩
  · have hp := hn.1
    have e1 : ix (gI σ 1 0) = p := by rw [n4, ix_n (by omega)]
    have e2 : ix (gI σ' 28 0) = p := by rw [z2 0 (by omega), n4, ix_n (by omega)]
    rw [e1, e2]
    intro q r hq hr
    rw [gr_28 _ (by omega), (z13 r hr).1]
    intro z
    have := hg.lt j q _ hq z
    omega
set_option maxHeartbeats 4000000 in
theorem op_undo {σ τ : Mem} (h : R σ τ) {N : Nat} (hN : 300000 ≤ N) : Op σ τ (fX0_undo N σ) (fX5_undo N τ) := by
  have h' := h
  obtain ⟨a, b, ⟨c1, c2⟩, d, e, f, g, i, j, k⟩ := h'
  unfold fX0_undo fX5_undo
  rw [c1]
  rcases c2 with c2 | ⟨c2, ⟨p, w, bb, hn, hru, hg, hap, hl, hh, hb⟩, hd⟩
  · rw [c2]
    simp (disch := first | omega | decide) only [lt_d, gbT, Option.bind_some, cT2_l, cT2_r, mO_n, mO_s, lit, litL, nb_t, nb_f, need_1, need_0, ix_n, inb_T, le_T, le_F, l_T, l_F, e_F, e_R, if_true, if_false, n_add, n_mul, n_sub, n_l, fM_1, fM_2, fM_3, fM_4, fM_6, fM_7]
    exact Op.err h (by decide) (finds_n N σ (by decide)) rfl
  · rw [c2]
    obtain ⟨σ', z1, z2, z3, z4, z5, z6, z7, z8, z9, z10, z11, z12, z13⟩ := become1 hN hn.1 hn.2.2.2.1 hg j
    have n4 := hn.2.2.2.1
    have hG : Gm (gI σ' 1) (gI σ' 2) (pk12 (gR σ' 4 0) (gR σ' 5 0) (gR σ' 6 0) (gR σ' 7 0) (gR σ' 8 0) (gR σ' 9 0) (gR σ' 10 0) (gR σ' 11 0) (gR σ' 12 0) (gR σ' 13 0) (gR σ' 14 0) (gR σ' 15 0)) (gR σ' 16 0) (gI σ' 17) (gI σ' 18) (pk8 (gI σ' 20) (gI σ' 21) (gI σ' 22) (gI σ' 23) (gI σ' 24) (gI σ' 25) (gI σ' 26) (gI σ' 27)) (gC σ') (gI τ 2) := by
      refine ⟨p, w, bb, cp_num hn z2, by rw [z3]; exact hru, fun q hq => ?_, fun q r hq hr => ?_, by rw [z4]; exact hl.ext z11.T, by rw [z5, z6]; exact hh, cp_bok hb (fun k hk => by rw [bk_1 σ' hk, bk_28 σ hk]; exact z7 k hk)⟩
      · have hp := hn.1
        obtain ⟨f1, k', m', f2, f3, f4, f5⟩ := z13 q hq
        rw [gr_1 _ (by omega)]
        exact ⟨_, k', m', f1, f2, f3, f4, f5⟩
      · have hp := hn.1
        rw [gr_1 _ (by omega), gr_1 _ (by omega), (z13 q hq).1, (z13 r hr).1]
        intro z
        cases Nat.add_left_cancel (Option.some.inj z)
        rfl
    have hw : gI σ' 1 1 = gI τ 2 1 := by rw [z2 1 (by omega), hn.2.2.2.2.2.1, hn.2.2.2.2.2.2.1]
    simp (disch := first | omega | decide) only [lt_d, gbT, Option.bind_some, cT2_l, cT2_r, mO_n, mO_s, lit, litL, nb_t, nb_f, need_1, need_0, ix_n, inb_T, le_T, le_F, l_T, l_F, e_F, e_R, if_true, if_false, n_add, n_mul, n_sub, n_l, fM_1, fM_2, fM_3, fM_4, fM_6, fM_7, pI_w, pL_w, pR_w, pC_w, nC_w, gI_wI, gI_wIn, gI_wL, gI_wR, gI_wC, gL_wL, gL_wLn, gL_wI, gL_wR, gL_wC, gR_wR, gR_wRn, gR_wI, gR_wL, gR_wC, gC_wI, gC_wL, gC_wR, gC_wC, gN_wI, gN_wL, gN_wR, gN_wC, wI_wI, wL_wL, wR_wR, wC_wC, up_s, up_n, z1, undM hN, hw]
    refine ⟨_, _, _, rfl, rfl, ?_⟩
    unfold R Kpt
    simp (disch := first | omega | decide) only [pI_w, pL_w, pR_w, pC_w, nC_w, gI_wI, gI_wIn, gI_wL, gI_wR, gI_wC, gL_wL, gL_wLn, gL_wI, gL_wR, gL_wC, gR_wR, gR_wRn, gR_wI, gR_wL, gR_wC, gC_wI, gC_wL, gC_wR, gC_wC, gN_wI, gN_wL, gN_wR, gN_wC, wI_wI, wL_wL, wR_wR, wC_wC, up_s, up_n, z8, z9, z10]
    refine ⟨a, hG.c (fun i hi => fil_in hi), ⟨c1, Or.inr ⟨c2, ?_, ?_⟩⟩, d, e.ext z11, f, Or.inl rfl, ⟨Or.inr rfl, Or.inr rfl, fun q => absurd q ne_01, fun q => absurd q ne_01⟩, z12, k⟩
    · exact ⟨p, w, bb, hn, hru, hg.ext z11, hap, hl.ext z11.T, hh, hb⟩
    · have hp := hn.1
      have e1 : ix (gI σ 28 0) = p := by rw [n4, ix_n (by omega)]
      have e2 : ix (gI σ' 1 0) = p := by rw [z2 0 (by omega), n4, ix_n (by omega)]
      rw [e1, e2]
      intro q r hq hr
      rw [gr_1 _ (by omega), (z13 q hq).1]
      intro z
      have := hg.lt j r _ hr z.symm
      omega
