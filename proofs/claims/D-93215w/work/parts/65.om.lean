/-! TOLD -/
set_option maxRecDepth 100000
theorem op_told {σ τ : Mem} (h : R σ τ) {N : Nat} (hN : 300000 ≤ N) (x : Int32) : Op σ τ (fX0_told N σ x) (fX5_told N τ x) := by
  have a := h.1
  have h' := h
  obtain ⟨-, ⟨p, w, b, hn, -⟩, -⟩ := h'
  obtain ⟨n1, n2, n3, n4, n5, n6, n7, n8, n9, n10⟩ := hn
  unfold fX0_told fX5_told
  rw [rowX]
  rcases pk_ix x (n := 4096) (by decide) with hx | hx | ⟨r, hr, rfl⟩
  · have e : isRw x = false := by
      have : inP x 4096 = false := by unfold inP; rw [decide_eq_true (show x < nI 0 from hx)]; rfl
      unfold isRw; rw [this]; rfl
    rw [e, if_pos hx]
    simp (disch := first | omega | decide) only [lt_d, gbT, Option.bind_some, cT2_l, cT2_r, mO_n, mO_s, lit, litL, nb_t, nb_f, need_1, need_0, ix_n, inb_T, le_T, le_F, l_T, l_F, e_F, e_R, if_true, if_false, n_add, n_mul, n_sub, n_l, fM_1, fM_2, fM_3, fM_4, fM_6, fM_7]
    exact Op.err h (by decide) (finds_n N σ (by decide)) rfl
  · have e : isRw x = false := by
      have : inP x 4096 = false := by unfold inP; rw [decide_eq_false (Int32.not_lt.mpr hx)]; exact Bool.and_false _
      unfold isRw; rw [this]; rfl
    have h1 : ¬ x < 0 := by
      intro q
      exact absurd (Int32.lt_of_le_of_lt hx q) (by decide)
    have h2 : (4095 : Int32) < x := Int32.lt_of_lt_of_le (show (4095 : Int32) < nI 4096 by decide) hx
    rw [e, if_neg h1, if_pos h2]
    simp (disch := first | omega | decide) only [lt_d, gbT, Option.bind_some, cT2_l, cT2_r, mO_n, mO_s, lit, litL, nb_t, nb_f, need_1, need_0, ix_n, inb_T, le_T, le_F, l_T, l_F, e_F, e_R, if_true, if_false, n_add, n_mul, n_sub, n_l, fM_1, fM_2, fM_3, fM_4, fM_6, fM_7]
    exact Op.err h (by decide) (finds_n N σ (by decide)) rfl
  · have hpl := plM a.2.2.1 hr
    have hi : inP (nI r) 4096 = true := by
      unfold inP
      simp only [l_F (Nat.zero_le r) (by omega : r < 2147483648), l_T hr (by omega)]
      rfl
    by_cases h4 : pcn r = 4
    · have e : isRw (nI r) = true := by unfold isRw; rw [hi, ix_n (by omega), decide_eq_true h4]; rfl
      have hc := cnt_lt hr h4
      rw [e]
      by_cases hw : w = 40
      · subst hw
        simp (disch := first | omega | decide) only [lt_d, gbT, Option.bind_some, cT2_l, cT2_r, mO_n, mO_s, lit, litL, nb_t, nb_f, need_1, need_0, ix_n, inb_T, le_T, le_F, l_T, l_F, e_F, e_R, if_true, if_false, n_add, n_mul, n_sub, n_l, fM_1, fM_2, fM_3, fM_4, fM_6, fM_7, hpl.1 h4, n6, n7]
        exact Op.err h (by decide) (finds_n N σ (by decide)) rfl
      · obtain ⟨c, σ', τ', k1, k2, k3, k4, k5⟩ := play h hN (m := r) (w := w) (by omega) n7
        simp (disch := first | omega | decide) only [lt_d, gbT, Option.bind_some, cT2_l, cT2_r, mO_n, mO_s, lit, litL, nb_t, nb_f, need_1, need_0, ix_n, inb_T, le_T, le_F, l_T, l_F, e_F, e_R, if_true, if_false, n_add, n_mul, n_sub, n_l, fM_1, fM_2, fM_3, fM_4, fM_6, fM_7, hpl.1 h4, n6, n7, k1, k2, k4]
        rw [show w + 1 - 1 = w from by omega]
        simp (disch := first | omega | decide) only [lt_d, gbT, Option.bind_some, cT2_l, cT2_r, mO_n, mO_s, lit, litL, nb_t, nb_f, need_1, need_0, ix_n, inb_T, le_T, le_F, l_T, l_F, e_F, e_R, if_true, if_false, n_add, n_mul, n_sub, n_l, fM_1, fM_2, fM_3, fM_4, fM_6, fM_7, k5]
        exact ⟨_, σ', τ', rfl, rfl, k3⟩
    · have e : isRw (nI r) = false := by unfold isRw; rw [hi, ix_n (by omega), decide_eq_false h4]; rfl
      have hm : (nI 0 ≤ -nI 1) = False := eq_false (by decide)
      rw [e]
      simp (disch := first | omega | decide) only [lt_d, gbT, Option.bind_some, cT2_l, cT2_r, mO_n, mO_s, lit, litL, nb_t, nb_f, need_1, need_0, ix_n, inb_T, le_T, le_F, l_T, l_F, e_F, e_R, if_true, if_false, n_add, n_mul, n_sub, n_l, fM_1, fM_2, fM_3, fM_4, fM_6, fM_7, hpl.2 h4, hm]
      exact Op.err h (by decide) (finds_n N σ (by decide)) rfl
