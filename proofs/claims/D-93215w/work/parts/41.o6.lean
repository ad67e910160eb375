/-! OPERATIONS: what is bought, the tape -/
set_option maxRecDepth 100000
/-- what was bought of a row, by the list -/
def FB (pl mn : Nat → Nat) : Nat → Nat → Nat
  | 0 => fun _ => 0
  | b + 1 => fun r => if r = pl b then mn b else FB pl mn b r
theorem FB_out {pl mn : Nat → Nat} {r : Nat} : ∀ {b : Nat}, (∀ k, k < b → pl k ≠ r) → FB pl mn b r = 0
  | 0, _ => rfl
  | b + 1, h => by
    show (if r = pl b then mn b else FB pl mn b r) = 0
    rw [if_neg (fun e => h b (by omega) e.symm)]
    exact FB_out (fun k hk => h k (by omega))
theorem FB_in {pl mn : Nat → Nat} {k : Nat} : ∀ {b : Nat}, (∀ i j, i < b → j < b → pl i = pl j → i = j) → k < b → FB pl mn b (pl k) = mn k
  | b + 1, h, hk => by
    show (if pl k = pl b then mn b else FB pl mn b (pl k)) = mn k
    by_cases e : k = b
    · subst e; rw [if_pos rfl]
    · rw [if_neg (fun z => e (h k b hk (by omega) z))]
      exact FB_in (fun i j hi hj => h i j (by omega) (by omega)) (by omega)
theorem FB_sum {pl mn : Nat → Nat} : ∀ {b : Nat}, (∀ k, k < b → pl k < 495) → (∀ i j, i < b → j < b → pl i = pl j → i = j) → sN (FB pl mn b) 495 = sN mn b
  | 0, _, _ => by
    have := sN_b (f := FB pl mn 0) (c := 0) (n := 495) (fun _ _ => Nat.le_refl _)
    show _ = 0
    omega
  | b + 1, h, hi => by
    have h1 := FB_sum (mn := mn) (b := b) (fun k hk => h k (by omega)) (fun i j hi' hj => hi i j (by omega) (by omega))
    have h2 := sN_upd (f := FB pl mn b) (i := pl b) (v := mn b) (n := 495) (h b (by omega))
    rw [FB_out (fun k hk z => absurd (hi k b (by omega) (by omega) z) (by omega))] at h2
    show sN (fun r => if r = pl b then mn b else FB pl mn b r) 495 = sN mn b + mn b
    omega
theorem Hnd.fb {bp bm s : Nat → Int32} {b : Nat} {pl mn : Nat → Nat} (h1 : ∀ k, k < b → pl k < 495 ∧ bp k = nI (pl k) ∧ bm k = nI (mn k) ∧ 1 ≤ mn k ∧ mn k ≤ 99999 ∧ s (424 + pl k) = nI (mn k)) (h2 : ∀ i j, i < b → j < b → pl i = pl j → i = j) (h3 : ∀ r, r < 495 → (∀ k, k < b → pl k ≠ r) → s (424 + r) = nI 0) {r : Nat} (hr : r < 495) : s (424 + r) = nI (FB pl mn b r) ∧ FB pl mn b r ≤ 99999 := by
  by_cases e : ∃ k, k < b ∧ pl k = r
  · obtain ⟨k, hk, rfl⟩ := e
    rw [FB_in h2 hk]
    obtain ⟨q1, q2, q3, q4, q5, q6⟩ := h1 k hk
    exact ⟨q6, q5⟩
  · have e' : ∀ k, k < b → pl k ≠ r := fun k hk z => e ⟨k, hk, z⟩
    rw [FB_out e']
    exact ⟨h3 r hr e', by omega⟩
/-- all that was bought by hand -/
theorem Hnd.sum {bp bm s : Nat → Int32} {b : Nat} (h : Hnd bp bm s b) (hb : b ≤ 40) : sN (fun r => ix (s (424 + r))) 495 ≤ 3999960 := by
  obtain ⟨pl, mn, h1, h2, h3⟩ := h
  rw [sN_c (g := FB pl mn b) (fun r hr => by
    have q := Hnd.fb h1 h2 h3 hr
    rw [q.1, ix_n (by omega)]), FB_sum (fun k hk => (h1 k hk).1) h2]
  have := sN_b (f := mn) (c := 99999) (n := b) (fun k hk => (h1 k hk).2.2.2.2.1)
  omega
def zr (s : Nat → Int32) (k : Nat) : Nat → Int32 := fun i => if 424 ≤ i ∧ i < 424 + k then nI 0 else s i
theorem zr_s (s : Nat → Int32) (k : Nat) : upd (zr s k) (424 + k) (nI 0) = zr s (k + 1) := by
  funext i
  unfold zr
  by_cases e : i = 424 + k
  · subst e; rw [up_s, if_pos (by omega)]
  · rw [up_n e]
    by_cases q : 424 ≤ i ∧ i < 424 + k
    · rw [if_pos q, if_pos (by omega)]
    · rw [if_neg q, if_neg (by omega)]
theorem zr_0 (s : Nat → Int32) : zr s 0 = s := by funext i; unfold zr; rw [if_neg (by omega)]
theorem zr_lo (s : Nat → Int32) {k i : Nat} (h : i < 424) : zr s k i = s i := by unfold zr; rw [if_neg (by omega)]
theorem zr_hi (s : Nat → Int32) {k i : Nat} (h : k ≤ i) : zr s k (424 + i) = s (424 + i) := by unfold zr; rw [if_neg (by omega)]
theorem zr_in (s : Nat → Int32) {k i : Nat} (h : i < k) : zr s k (424 + i) = nI 0 := by unfold zr; rw [if_pos (by omega)]
theorem Lik.z {li : Option Nat} {C : Cel} {s : Nat → Int32} (h : Lik li C s) : s 3 = nI 0 ∨ ix (s 4) ≤ 60 := by
  rcases h with h | ⟨h1, a, z, h2, h3, h4, h5⟩
  · exact Or.inl h.1
  · exact Or.inr (by rw [h4, ix_n (by omega)]; exact h3)
theorem Lik.c {li : Option Nat} {C : Cel} {s s' : Nat → Int32} (q : Lik li C s) (h : ∀ i, i < 424 → s' i = s i) : Lik li C s' := by
  unfold Lik at q ⊢
  rw [h 3 (by omega), h 4 (by omega)]
  rcases q with q | ⟨h1, a, z, h2, h3, h4, h5⟩
  · exact Or.inl q
  · refine Or.inr ⟨h1, a, z, h2, h3, h4, ?_⟩
    rw [whole_c (b := byS s) (b' := byS s') (fun k hk => h (44 + k) (by omega))]
    exact h5
theorem Num.w {g s : Nat → Int32} {p w b : Nat} (h : Num g s p w b) : ix (s 1) ≤ 40 := by
  obtain ⟨n1, n2, n3, n4, n5, n6, n7, n8, n9, n10⟩ := h
  rw [n7, ix_n (by omega)]; exact n2
theorem Grp.c {G : Nat → Option Nat} {C : Cel} {s s' : Nat → Int32} {p : Nat} (q : Grp G C s p) (hp : p ≤ 12) (h : ∀ i, i < 424 → s' i = s i) : Grp G C s' p := fun j hj => by
  rw [h (20 + j) (by omega), h (32 + j) (by omega)]; exact q j hj
theorem Bok.c {bk : Nat → Nat → Int32} {s s' : Nat → Int32} {w : Nat} (q : Bok bk s w) (hw : w ≤ 40) (h : ∀ i, i < 424 → s' i = s i) : Bok bk s' w := fun u hu => ⟨fun k hk => by rw [h (104 + 8 * u + k) (by omega)]; exact (q u hu).1 k hk, (q u hu).2⟩
theorem op_returned {σ τ : Mem} (h : R σ τ) {N : Nat} (hN : 300000 ≤ N) : Op σ τ (fX0_returned N σ) (fX5_returned N τ) := by
  have h' := h
  obtain ⟨a, ⟨p, w, b, hn, hru, hg, hap, hl, hh, hb⟩, c, d, e, f, g, i, j, k⟩ := h'
  have hn' := hn
  obtain ⟨n1, n2, n3, n4, n5, n6, n7, n8, n9, n10⟩ := hn'
  obtain ⟨pl, mn, h1, h2, h3⟩ := hh
  have kX : fX0_returned N σ = some (nI (sN mn b), wI (wI σ 1 (upd (gI σ 1) 2 (nI 0))) 0 (upd (gI σ 0) 10 (nI 0))) := by
    unfold fX0_returned
    refine lp_fun (fun k => (nI (sN mn k), nI k)) b (by omega) (fun k rec hk => ?_) (fun rec => ?_)
    · unfold bX0_returned_4
      simp (disch := first | omega | decide) only [lt_d, gbT, Option.bind_some, cT2_l, cT2_r, mO_n, mO_s, lit, litL, nb_t, nb_f, need_1, need_0, ix_n, inb_T, le_T, le_F, l_T, l_F, e_F, e_R, if_true, if_false, n_add, n_mul, n_sub, n_l, fM_1, fM_2, fM_3, fM_4, fM_6, fM_7, n8, (h1 k hk).2.2.1]
      rfl
    · unfold bX0_returned_4
      simp (disch := first | omega | decide) only [lt_d, gbT, Option.bind_some, cT2_l, cT2_r, mO_n, mO_s, lit, litL, nb_t, nb_f, need_1, need_0, ix_n, inb_T, le_T, le_F, l_T, l_F, e_F, e_R, if_true, if_false, n_add, n_mul, n_sub, n_l, fM_1, fM_2, fM_3, fM_4, fM_6, fM_7, pI_w, pL_w, pR_w, pC_w, nC_w, gI_wI, gI_wIn, gI_wL, gI_wR, gI_wC, gL_wL, gL_wLn, gL_wI, gL_wR, gL_wC, gR_wR, gR_wRn, gR_wI, gR_wL, gR_wC, gC_wI, gC_wL, gC_wR, gC_wC, gN_wI, gN_wL, gN_wR, gN_wC, wI_wI, wL_wL, wR_wR, wC_wC, up_s, up_n, n8]
  have kM : fX5_returned N τ = some (nI (sN (FB pl mn b) 495), wI (wI τ 1 (upd (zr (gI τ 1) 495) 5 (nI 0))) 0 (upd (gI τ 0) 18 (nI 1))) := by
    unfold fX5_returned
    have key := lp_fun (b := bX5_returned_4 N τ) (fun k => (wI τ 1 (zr (gI τ 1) k), nI (sN (FB pl mn b) k), nI k)) 495 (N := N) (by omega) (r := some (nI (sN (FB pl mn b) 495), wI (wI τ 1 (upd (zr (gI τ 1) 495) 5 (nI 0))) 0 (upd (gI τ 0) 18 (nI 1)))) (fun k rec hk => ?_) (fun rec => ?_)
    · rw [zr_0, wI_id] at key
      exact key
    · unfold bX5_returned_4
      have q := Hnd.fb h1 h2 h3 hk
      simp (disch := first | omega | decide) only [lt_d, gbT, Option.bind_some, cT2_l, cT2_r, mO_n, mO_s, lit, litL, nb_t, nb_f, need_1, need_0, ix_n, inb_T, le_T, le_F, l_T, l_F, e_F, e_R, if_true, if_false, n_add, n_mul, n_sub, n_l, fM_1, fM_2, fM_3, fM_4, fM_6, fM_7, pI_w, pL_w, pR_w, pC_w, nC_w, gI_wI, gI_wIn, gI_wL, gI_wR, gI_wC, gL_wL, gL_wLn, gL_wI, gL_wR, gL_wC, gR_wR, gR_wRn, gR_wI, gR_wL, gR_wC, gC_wI, gC_wL, gC_wR, gC_wC, gN_wI, gN_wL, gN_wR, gN_wC, wI_wI, wL_wL, wR_wR, wC_wC, up_s, up_n, zr_hi, q.1, zr_s]
      rfl
    · unfold bX5_returned_4
      simp (disch := first | omega | decide) only [lt_d, gbT, Option.bind_some, cT2_l, cT2_r, mO_n, mO_s, lit, litL, nb_t, nb_f, need_1, need_0, ix_n, inb_T, le_T, le_F, l_T, l_F, e_F, e_R, if_true, if_false, n_add, n_mul, n_sub, n_l, fM_1, fM_2, fM_3, fM_4, fM_6, fM_7, pI_w, pL_w, pR_w, pC_w, nC_w, gI_wI, gI_wIn, gI_wL, gI_wR, gI_wC, gL_wL, gL_wLn, gL_wI, gL_wR, gL_wC, gR_wR, gR_wRn, gR_wI, gR_wL, gR_wC, gC_wI, gC_wL, gC_wR, gC_wC, gN_wI, gN_wL, gN_wR, gN_wC, wI_wI, wL_wL, wR_wR, wC_wC, up_s, up_n]
  rw [FB_sum (fun k hk => (h1 k hk).1) h2] at kM
  have hlo : ∀ i, i < 424 → i ≠ 5 → upd (zr (gI τ 1) 495) 5 (nI 0) i = gI τ 1 i := fun i hi h5 => by rw [up_n h5, zr_lo _ hi]
  have hlo2 : ∀ i, i < 424 → zr (gI τ 1) 495 i = gI τ 1 i := fun i hi => zr_lo _ hi
  refine ⟨_, _, _, kX, kM, a, ⟨p, w, 0, ?_, (show Rul (gI σ 2) (upd (zr (gI τ 1) 495) 5 (nI 0)) from fun k hk => by rw [hlo _ (by omega) (by omega)]; exact hru k hk), (hg.c n1 hlo2).irr (by omega) n1, hap, (hl.c hlo2).irr (by omega) (by omega) (by omega), ?_, (hb.c n2 hlo2).irr (by omega)⟩, c, d, e, f, Or.inl rfl, i.new ?_, j, k⟩
  · exact ⟨n1, n2, by omega, n4, (hlo 0 (by omega) (by omega)).trans n5, n6, (hlo 1 (by omega) (by omega)).trans n7, rfl, rfl, n10.trans (hlo 2 (by omega) (by omega)).symm⟩
  · refine ⟨pl, mn, fun k hk => by omega, fun i j hi => by omega, fun r hr _ => ?_⟩
    show upd (zr (gI τ 1) 495) 5 (nI 0) (424 + r) = nI 0
    rw [up_n (by omega), zr_in _ hr]
  · show sayN (upd (zr (gI τ 1) 495) 5 (nI 0)) = sayN (gI τ 1)
    rw [sayN_i (by omega) (by omega) (by omega) (by omega)]
    exact sayN_c hlo2 hn.w hl.z
/-! bought by hand -/
theorem findX {σ : Mem} {N b r : Nat} {pl : Nat → Nat} {n : Int32} (hN : 300000 ≤ N) (hb : b ≤ 40) (hr : r < 495) (n8 : gI σ 1 2 = nI b) (h1 : ∀ k, k < b → pl k < 495 ∧ gI σ 17 k = nI (pl k)) (h2 : ∀ i j, i < b → j < b → pl i = pl j → i = j) {k0 : Nat} (hk0 : (k0 < b ∧ pl k0 = r) ∨ (k0 = b ∧ ∀ k, k < b → pl k ≠ r)) : lp (bX0_buys_30 N σ (nI r) n) N (nI 0) = jX0_buys_60 N σ (nI r) n (nI k0) := by
  have hle : k0 ≤ b := by rcases hk0 with q | q <;> omega
  refine lp_fun (fun k => nI k) k0 (by omega) (fun k rec hk => ?_) (fun rec => ?_)
  · unfold bX0_buys_30
    have hkb : k < b := by omega
    have q := h1 k hkb
    have q1 := q.1
    have hne : pl k ≠ r := by
      rcases hk0 with ⟨a1, a2⟩ | ⟨a1, a2⟩
      · intro z; exact absurd (h2 k k0 hkb a1 (z.trans a2.symm)) (by omega)
      · exact a2 k hkb
    simp (disch := first | omega | decide) only [lt_d, gbT, Option.bind_some, cT2_l, cT2_r, mO_n, mO_s, lit, litL, nb_t, nb_f, need_1, need_0, ix_n, inb_T, le_T, le_F, l_T, l_F, e_F, e_R, if_true, if_false, n_add, n_mul, n_sub, n_l, fM_1, fM_2, fM_3, fM_4, fM_6, fM_7, n8, q.2]
  · unfold bX0_buys_30
    rcases hk0 with ⟨a1, a2⟩ | ⟨a1, a2⟩
    · have q := h1 k0 a1
      simp (disch := first | omega | decide) only [lt_d, gbT, Option.bind_some, cT2_l, cT2_r, mO_n, mO_s, lit, litL, nb_t, nb_f, need_1, need_0, ix_n, inb_T, le_T, le_F, l_T, l_F, e_F, e_R, if_true, if_false, n_add, n_mul, n_sub, n_l, fM_1, fM_2, fM_3, fM_4, fM_6, fM_7, n8, q.2, a2]
    · subst a1
      simp (disch := first | omega | decide) only [lt_d, gbT, Option.bind_some, cT2_l, cT2_r, mO_n, mO_s, lit, litL, nb_t, nb_f, need_1, need_0, ix_n, inb_T, le_T, le_F, l_T, l_F, e_F, e_R, if_true, if_false, n_add, n_mul, n_sub, n_l, fM_1, fM_2, fM_3, fM_4, fM_6, fM_7, n8]
set_option maxHeartbeats 4000000 in
theorem op_buys {σ τ : Mem} (h : R σ τ) {N : Nat} (hN : 300000 ≤ N) (x y : Int32) : Op σ τ (fX0_buys N σ x y) (fX5_buys N τ x y) := by
  have h' := h
  obtain ⟨a, ⟨p, w, b, hn, hru, hg, hap, hl, hh, hb⟩, c, d, e, f, g, i, j, k⟩ := h'
  have hn' := hn
  obtain ⟨n1, n2, n3, n4, n5, n6, n7, n8, n9, n10⟩ := hn'
  obtain ⟨pl, mn, h1, h2, h3⟩ := hh
  unfold fX0_buys fX5_buys
  rw [isPlX, isPlM]
  cases hx : inP x 495 with
  | false =>
    simp (disch := first | omega | decide) only [lt_d, gbT, Option.bind_some, cT2_l, cT2_r, mO_n, mO_s, lit, litL, nb_t, nb_f, need_1, need_0, ix_n, inb_T, le_T, le_F, l_T, l_F, e_F, e_R, if_true, if_false, n_add, n_mul, n_sub, n_l, fM_1, fM_2, fM_3, fM_4, fM_6, fM_7]
    exact Op.err h (by decide) (finds_n N σ (by decide)) rfl
  | true =>
    obtain ⟨r, hr, rfl⟩ := inP_T (by decide) hx
    simp (disch := first | omega | decide) only [lt_d, gbT, Option.bind_some, cT2_l, cT2_r, mO_n, mO_s, lit, litL, nb_t, nb_f, need_1, need_0, ix_n, inb_T, le_T, le_F, l_T, l_F, e_F, e_R, if_true, if_false, n_add, n_mul, n_sub, n_l, fM_1, fM_2, fM_3, fM_4, fM_6, fM_7, in_R, isIn_R]
    cases hy : inR y 1 9999 with
    | false =>
      simp (disch := first | omega | decide) only [lt_d, gbT, Option.bind_some, cT2_l, cT2_r, mO_n, mO_s, lit, litL, nb_t, nb_f, need_1, need_0, ix_n, inb_T, le_T, le_F, l_T, l_F, e_F, e_R, if_true, if_false, n_add, n_mul, n_sub, n_l, fM_1, fM_2, fM_3, fM_4, fM_6, fM_7]
      exact Op.err h (by decide) (finds_n N σ (by decide)) rfl
    | true =>
      obtain ⟨n, hn1, hn2, rfl⟩ := inR_T (by decide) (by decide) hy
      have hfb := Hnd.fb h1 h2 h3 hr
      have hfb1 := hfb.2
      have hbd : ∀ k, k < b → pl k < 495 ∧ gI σ 17 k = nI (pl k) := fun k hk => ⟨(h1 k hk).1, (h1 k hk).2.1⟩
      by_cases ex : ∃ k, k < b ∧ pl k = r
      · obtain ⟨k0, hk0, hpk⟩ := ex
        have q := h1 k0 hk0
        obtain ⟨q1, q2, q3, q4, q5, q6⟩ := q
        rw [hpk] at q6
        simp (disch := first | omega | decide) only [lt_d, gbT, Option.bind_some, cT2_l, cT2_r, mO_n, mO_s, lit, litL, nb_t, nb_f, need_1, need_0, ix_n, inb_T, le_T, le_F, l_T, l_F, e_F, e_R, if_true, if_false, n_add, n_mul, n_sub, n_l, fM_1, fM_2, fM_3, fM_4, fM_6, fM_7, findX hN n3 hr n8 hbd h2 (Or.inl ⟨hk0, hpk⟩), q6, jX0_buys_60, n8, q3]
        by_cases hf : 99999 < mn k0 + n
        · simp (disch := first | omega | decide) only [lt_d, gbT, Option.bind_some, cT2_l, cT2_r, mO_n, mO_s, lit, litL, nb_t, nb_f, need_1, need_0, ix_n, inb_T, le_T, le_F, l_T, l_F, e_F, e_R, if_true, if_false, n_add, n_mul, n_sub, n_l, fM_1, fM_2, fM_3, fM_4, fM_6, fM_7, jX0_buys_107, jX5_buys_52]
          exact Op.err h (by decide) (finds_n N σ (by decide)) rfl
        · simp (disch := first | omega | decide) only [lt_d, gbT, Option.bind_some, cT2_l, cT2_r, mO_n, mO_s, lit, litL, nb_t, nb_f, need_1, need_0, ix_n, inb_T, le_T, le_F, l_T, l_F, e_F, e_R, if_true, if_false, n_add, n_mul, n_sub, n_l, fM_1, fM_2, fM_3, fM_4, fM_6, fM_7, pI_w, pL_w, pR_w, pC_w, nC_w, gI_wI, gI_wIn, gI_wL, gI_wR, gI_wC, gL_wL, gL_wLn, gL_wI, gL_wR, gL_wC, gR_wR, gR_wRn, gR_wI, gR_wL, gR_wC, gC_wI, gC_wL, gC_wR, gC_wC, gN_wI, gN_wL, gN_wR, gN_wC, wI_wI, wL_wL, wR_wR, wC_wC, up_s, up_n, jX0_buys_107, jX5_buys_52, n8, jX0_buys_155, q3, n9]
          have hlo : ∀ i, i < 424 → upd (upd (gI τ 1) 5 (nI (b + 0))) (424 + r) (nI (mn k0 + n)) i = gI τ 1 i := fun i hi => by
            rw [up_n (by omega)]
            by_cases e5 : i = 5
            · subst e5; rw [up_s, n9]; rfl
            · rw [up_n e5]
          refine ⟨_, _, _, rfl, rfl, a, ⟨p, w, b, ?_, ?_, hg.c n1 hlo, hap, hl.c hlo, ?_, hb.c n2 hlo⟩, c, d, e, f, Or.inl rfl, i.new (sayN_c hlo hn.w hl.z), j, k⟩
          · exact ⟨n1, n2, n3, n4, (hlo 0 (by omega)).trans n5, n6, (hlo 1 (by omega)).trans n7, n8, (hlo 5 (by omega)).trans n9, n10.trans (hlo 2 (by omega)).symm⟩
          · exact fun q hq => ⟨(hru q hq).1.trans (hlo (10 + q) (by omega)).symm, by obtain ⟨n, h1, h2⟩ := (hru q hq).2; exact ⟨n, h1, (hlo (10 + q) (by omega)).trans h2⟩⟩
          · refine ⟨pl, fun q => if q = k0 then mn k0 + n else mn q, fun q hq => ?_, h2, fun q hq hne => ?_⟩
            · obtain ⟨z1, z2, z3, z4, z5, z6⟩ := h1 q hq
              show pl q < 495 ∧ gI σ 17 q = nI (pl q) ∧ upd (gI σ 18) k0 (nI (mn k0 + n)) q = nI (if q = k0 then mn k0 + n else mn q) ∧ 1 ≤ (if q = k0 then mn k0 + n else mn q) ∧ (if q = k0 then mn k0 + n else mn q) ≤ 99999 ∧ upd (upd (gI τ 1) 5 (nI (b + 0))) (424 + r) (nI (mn k0 + n)) (424 + pl q) = nI (if q = k0 then mn k0 + n else mn q)
              by_cases eq : q = k0
              · subst eq
                simp only [if_true]
                rw [hpk]
                exact ⟨hr, by rw [z2, hpk], up_s, by omega, by omega, up_s⟩
              · have hpn : pl q ≠ r := fun z => eq (h2 q k0 hq hk0 (z.trans hpk.symm))
                simp only [eq, if_false]
                exact ⟨z1, z2, by rw [up_n eq]; exact z3, z4, z5, by rw [up_n (by omega), up_n (by omega)]; exact z6⟩
            · show upd (upd (gI τ 1) 5 (nI (b + 0))) (424 + r) (nI (mn k0 + n)) (424 + q) = nI 0
              have : q ≠ r := fun z => hne k0 hk0 (hpk.trans z.symm)
              rw [up_n (by omega), up_n (by omega)]
              exact h3 q hq hne
      · have ex' : ∀ k, k < b → pl k ≠ r := fun k hk z => ex ⟨k, hk, z⟩
        have hs0 := h3 r hr ex'
        simp (disch := first | omega | decide) only [lt_d, gbT, Option.bind_some, cT2_l, cT2_r, mO_n, mO_s, lit, litL, nb_t, nb_f, need_1, need_0, ix_n, inb_T, le_T, le_F, l_T, l_F, e_F, e_R, if_true, if_false, n_add, n_mul, n_sub, n_l, fM_1, fM_2, fM_3, fM_4, fM_6, fM_7, findX hN n3 hr n8 hbd h2 (Or.inr ⟨rfl, ex'⟩), hs0, jX0_buys_60, n8, n9]
        by_cases hf : b = 40
        · subst hf
          simp (disch := first | omega | decide) only [lt_d, gbT, Option.bind_some, cT2_l, cT2_r, mO_n, mO_s, lit, litL, nb_t, nb_f, need_1, need_0, ix_n, inb_T, le_T, le_F, l_T, l_F, e_F, e_R, if_true, if_false, n_add, n_mul, n_sub, n_l, fM_1, fM_2, fM_3, fM_4, fM_6, fM_7, jX0_buys_107]
          exact Op.err h (by decide) (finds_n N σ (by decide)) rfl
        · have hb40 : b < 40 := by omega
          simp (disch := first | omega | decide) only [lt_d, gbT, Option.bind_some, cT2_l, cT2_r, mO_n, mO_s, lit, litL, nb_t, nb_f, need_1, need_0, ix_n, inb_T, le_T, le_F, l_T, l_F, e_F, e_R, if_true, if_false, n_add, n_mul, n_sub, n_l, fM_1, fM_2, fM_3, fM_4, fM_6, fM_7, pI_w, pL_w, pR_w, pC_w, nC_w, gI_wI, gI_wIn, gI_wL, gI_wR, gI_wC, gL_wL, gL_wLn, gL_wI, gL_wR, gL_wC, gR_wR, gR_wRn, gR_wI, gR_wL, gR_wC, gC_wI, gC_wL, gC_wR, gC_wC, gN_wI, gN_wL, gN_wR, gN_wC, wI_wI, wL_wL, wR_wR, wC_wC, up_s, up_n, jX0_buys_107, jX5_buys_52, n8, jX0_buys_155, n9]
          have hlo : ∀ i, i < 424 → i ≠ 5 → upd (upd (gI τ 1) 5 (nI (b + 1))) (424 + r) (nI (0 + n)) i = gI τ 1 i := fun i hi h5 => by
            rw [up_n (by omega), up_n h5]
          have hlo2 : ∀ i, i < 424 → upd (gI τ 1) (424 + r) (nI (0 + n)) i = gI τ 1 i := fun i hi => by rw [up_n (by omega)]
          have hsw : upd (upd (gI τ 1) 5 (nI (b + 1))) (424 + r) (nI (0 + n)) = upd (upd (gI τ 1) (424 + r) (nI (0 + n))) 5 (nI (b + 1)) := by
            funext q
            by_cases e1 : q = 5
            · subst e1; rw [up_n (by omega), up_s, up_s]
            · by_cases e2 : q = 424 + r
              · subst e2; rw [up_s, up_n (by omega), up_s]
              · rw [up_n e2, up_n e1, up_n e1, up_n e2]
          refine ⟨_, _, _, rfl, rfl, ?_⟩
          rw [hsw]
          refine ⟨a, ⟨p, w, b + 1, ?_, ?_, (hg.c n1 hlo2).irr (by omega) n1, hap, (hl.c hlo2).irr (by omega) (by omega) (by omega), ?_, (hb.c n2 hlo2).irr (by omega)⟩, c, d, e, f, Or.inl rfl, i.new ?_, j, k⟩
          · rw [← hsw]
            exact ⟨n1, n2, by omega, n4, (hlo 0 (by omega) (by omega)).trans n5, n6, (hlo 1 (by omega) (by omega)).trans n7, rfl, by show upd (upd (gI τ 1) 5 (nI (b + 1))) (424 + r) _ 5 = _; rw [up_n (by omega), up_s], n10.trans (hlo 2 (by omega) (by omega)).symm⟩
          · rw [← hsw]
            exact fun q hq => ⟨(hru q hq).1.trans (hlo (10 + q) (by omega) (by omega)).symm, by obtain ⟨n, h1, h2⟩ := (hru q hq).2; exact ⟨n, h1, (hlo (10 + q) (by omega) (by omega)).trans h2⟩⟩
          · rw [← hsw]
            refine ⟨fun q => if q = b then r else pl q, fun q => if q = b then n else mn q, fun q hq => ?_, fun i j hi hj => ?_, fun q hq hne => ?_⟩
            · show (if q = b then r else pl q) < 495 ∧ upd (gI σ 17) b (nI r) q = nI (if q = b then r else pl q) ∧ upd (upd (gI σ 18) b (nI 0)) b (nI (0 + n)) q = nI (if q = b then n else mn q) ∧ 1 ≤ (if q = b then n else mn q) ∧ (if q = b then n else mn q) ≤ 99999 ∧ upd (upd (gI τ 1) 5 (nI (b + 1))) (424 + r) (nI (0 + n)) (424 + (if q = b then r else pl q)) = nI (if q = b then n else mn q)
              by_cases eq : q = b
              · subst eq
                simp only [if_true]
                rw [Nat.zero_add]
                exact ⟨hr, up_s, up_s, by omega, by omega, up_s⟩
              · obtain ⟨z1, z2, z3, z4, z5, z6⟩ := h1 q (by omega)
                have hpn : pl q ≠ r := ex' q (by omega)
                simp only [eq, if_false]
                exact ⟨z1, by rw [up_n eq]; exact z2, by rw [up_n eq, up_n eq]; exact z3, z4, z5, by rw [up_n (by omega), up_n (by omega)]; exact z6⟩
            · show (if i = b then r else pl i) = (if j = b then r else pl j) → i = j
              by_cases e1 : i = b
              · by_cases e2 : j = b
                · intro _; omega
                · rw [if_pos e1, if_neg e2]
                  intro z
                  exact absurd z.symm (ex' j (by omega))
              · by_cases e2 : j = b
                · rw [if_neg e1, if_pos e2]
                  intro z
                  exact absurd z (ex' i (by omega))
                · rw [if_neg e1, if_neg e2]
                  exact h2 i j (by omega) (by omega)
            · show upd (upd (gI τ 1) 5 (nI (b + 1))) (424 + r) (nI (0 + n)) (424 + q) = nI 0
              have hqr : q ≠ r := by
                have := hne b (by omega)
                simp only [if_true] at this
                exact fun z => this z.symm
              rw [up_n (by omega), up_n (by omega)]
              refine h3 q hq (fun k hk => ?_)
              have := hne k (by omega)
              have hkb : ¬ k = b := by omega
              simp only [hkb, if_false] at this
              exact this
          · show sayN (upd (upd (gI τ 1) (424 + r) (nI (0 + n))) 5 (nI (b + 1))) = sayN (gI τ 1)
            rw [sayN_i (by omega) (by omega) (by omega) (by omega)]
            exact sayN_c hlo2 hn.w hl.z
/-! the tape -/
theorem fa_byte_low (x : Int32) : (x &&& 255).toInt8 = x.toInt8 := by
  apply Int8.toBitVec_inj.1
  apply BitVec.eq_of_getLsbD_eq
  intro i hi
  have h2 : (255 : Int32).toBitVec.getLsbD i = true := by
    have : ∀ j : Fin 8, (255 : Int32).toBitVec.getLsbD j.val = true := by decide +kernel
    exact this ⟨i, hi⟩
  have h4 : (x &&& 255).toBitVec.getLsbD i = x.toBitVec.getLsbD i := by
    show (x.toBitVec &&& (255 : Int32).toBitVec).getLsbD i = _
    rw [BitVec.getLsbD_and, h2, Bool.and_true]
  have h3 : i < 32 := by omega
  first
    | (show (((x &&& 255).toBitVec).signExtend 8).getLsbD i = (x.toBitVec.signExtend 8).getLsbD i; rw [BitVec.getLsbD_signExtend, BitVec.getLsbD_signExtend, if_pos h3, if_pos h3, h4])
    | (show (((x &&& 255).toBitVec).setWidth 8).getLsbD i = (x.toBitVec.setWidth 8).getLsbD i; rw [BitVec.getLsbD_setWidth, BitVec.getLsbD_setWidth, h4])
    | (simp [hi, h3, h4]; done)
theorem byte_n (z : Int32) : ∃ b, b < 256 ∧ z &&& nI 255 = nI b ∧ z.toInt8.toInt32 = (nI b).toInt8.toInt32 := by
  obtain ⟨b, h1, h2⟩ := pk_andE z (m := nI 255) 8 rfl
  refine ⟨b, h1, h2, ?_⟩
  have h3 := fa_byte_low z
  have h4 : z &&& (255 : Int32) = nI b := h2
  rw [h4] at h3
  rw [h3]
/-- a byte more -/
theorem R.byte {σ τ : Mem} (h : R σ τ) {t : Nat} (ht : gI τ 0 9 = nI t) (hlt : t < 60) (z : Int32) : gI σ 0 4 = nI t ∧ R (wI (wI σ 55 (upd (gI σ 55) t z.toInt8.toInt32)) 0 (upd (gI σ 0) 4 (nI (t + 1)))) (wI (wI τ 8 (upd (gI τ 8) t (z &&& nI 255))) 0 (upd (gI τ 0) 9 (nI (t + 1)))) := by
  obtain ⟨a, b, c, ⟨t', t1, t2, t3, t4⟩, e, f, g, i, j, k⟩ := h
  have : t' = t := by
    rw [ht] at t3
    exact ((nI_eq (by omega) (by omega)).mp t3).symm
  subst this
  refine ⟨t2, a, b, c, ⟨t' + 1, by omega, rfl, rfl, fun q hq => ?_⟩, e, f, g, i, j, k⟩
  show ∃ b, b < 256 ∧ upd (gI τ 8) t' (z &&& nI 255) q = nI b ∧ upd (gI σ 55) t' z.toInt8.toInt32 q = (nI b).toInt8.toInt32
  by_cases e1 : q = t'
  · subst e1
    rw [up_s, up_s]
    exact byte_n z
  · rw [up_n e1, up_n e1]
    exact t4 q (by omega)
theorem m1s (a : Nat) : nI a + -nI 1 = nI a - nI 1 := (Int32.sub_eq_add_neg (nI a) (nI 1)).symm
theorem op_feed {σ τ : Mem} (h : R σ τ) {N : Nat} (hN : 300000 ≤ N) (x y : Int32) : Op σ τ (fX0_feed N σ x y) (fX5_feed N τ x y) := by
  have h' := h
  obtain ⟨a, b, c, ⟨t, t1, t2, t3, t4⟩, e, f, g, i, j, k⟩ := h'
  unfold fX0_feed fX5_feed
  simp (disch := first | omega | decide) only [lt_d, gbT, Option.bind_some, cT2_l, cT2_r, mO_n, mO_s, lit, litL, nb_t, nb_f, need_1, need_0, ix_n, inb_T, le_T, le_F, l_T, l_F, e_F, e_R, if_true, if_false, n_add, n_mul, n_sub, n_l, fM_1, fM_2, fM_3, fM_4, fM_6, fM_7, in_R, isIn_R]
  cases hy : inR y 1 4 with
  | false =>
    simp (disch := first | omega | decide) only [lt_d, gbT, Option.bind_some, cT2_l, cT2_r, mO_n, mO_s, lit, litL, nb_t, nb_f, need_1, need_0, ix_n, inb_T, le_T, le_F, l_T, l_F, e_F, e_R, if_true, if_false, n_add, n_mul, n_sub, n_l, fM_1, fM_2, fM_3, fM_4, fM_6, fM_7]
    exact Op.err h (by decide) (finds_n N σ (by decide)) rfl
  | true =>
    obtain ⟨n, hn1, hn2, rfl⟩ := inR_T (by decide) (by decide) hy
    simp (disch := first | omega | decide) only [lt_d, gbT, Option.bind_some, cT2_l, cT2_r, mO_n, mO_s, lit, litL, nb_t, nb_f, need_1, need_0, ix_n, inb_T, le_T, le_F, l_T, l_F, e_F, e_R, if_true, if_false, n_add, n_mul, n_sub, n_l, fM_1, fM_2, fM_3, fM_4, fM_6, fM_7, t2, t3]
    by_cases hf : 60 < t + n
    · simp (disch := first | omega | decide) only [lt_d, gbT, Option.bind_some, cT2_l, cT2_r, mO_n, mO_s, lit, litL, nb_t, nb_f, need_1, need_0, ix_n, inb_T, le_T, le_F, l_T, l_F, e_F, e_R, if_true, if_false, n_add, n_mul, n_sub, n_l, fM_1, fM_2, fM_3, fM_4, fM_6, fM_7]
      exact Op.err h (by decide) (finds_n N σ (by decide)) rfl
    · simp (disch := first | omega | decide) only [lt_d, gbT, Option.bind_some, cT2_l, cT2_r, mO_n, mO_s, lit, litL, nb_t, nb_f, need_1, need_0, ix_n, inb_T, le_T, le_F, l_T, l_F, e_F, e_R, if_true, if_false, n_add, n_mul, n_sub, n_l, fM_1, fM_2, fM_3, fM_4, fM_6, fM_7]
      refine lp_two (P := fun (s s' : Mem × Int32) => s.2 = s'.2 ∧ R s.1 s'.1 ∧ ∃ k u, s.2 = nI k - nI 1 ∧ k ≤ 4 ∧ gI s'.1 0 9 = nI u ∧ u + k ≤ 60) (μ := fun s => ix (s.2 + 1)) (Q := fun F G => Op σ τ F G) ?_ N (σ, nI (n - 1)) (τ, nI (n - 1)) ?_ ⟨rfl, h, n, t, by rw [n_sub hn1], by omega, t3, by omega⟩
      · rintro ⟨σ1, s2⟩ ⟨τ1, s2'⟩ ⟨e1, hR, k, u, e2, hk, hu, huk⟩
        simp only at e1 e2 hR hu
        subst e1
        subst e2
        cases k with
        | zero =>
          left
          intro rec rec'
          unfold bX0_feed_37 bX5_feed_41
          have hm : (nI 0 - nI 1 < nI 0) = True := eq_true (by decide)
          have hb := hR.2.2.2.1
          obtain ⟨t', r1, r2, r3, r4⟩ := hb
          simp (disch := first | omega | decide) only [lt_d, gbT, Option.bind_some, cT2_l, cT2_r, mO_n, mO_s, lit, litL, nb_t, nb_f, need_1, need_0, ix_n, inb_T, le_T, le_F, l_T, l_F, e_F, e_R, if_true, if_false, n_add, n_mul, n_sub, n_l, fM_1, fM_2, fM_3, fM_4, fM_6, fM_7, hm]
          exact ⟨gI σ1 0 4, σ1, τ1, rfl, by rw [r2, r3], hR⟩
        | succ k =>
          right
          have hb := hR.byte hu (by omega) (x >>> (nI (8 * k) &&& 31))
          refine ⟨(wI (wI σ1 55 (upd (gI σ1 55) u (x >>> (nI (8 * k) &&& 31)).toInt8.toInt32)) 0 (upd (gI σ1 0) 4 (nI (u + 1))), nI k - nI 1), (wI (wI τ1 8 (upd (gI τ1 8) u (x >>> (nI (8 * k) &&& 31) &&& nI 255))) 0 (upd (gI τ1 0) 9 (nI (u + 1))), nI k - nI 1), ⟨rfl, hb.2, k, u + 1, rfl, by omega, ?_, by omega⟩, ?_, fun rec => ?_, fun rec => ?_⟩
          · rfl
          · show ix (nI k - nI 1 + nI 1) < ix (nI (k + 1) - nI 1 + nI 1)
            rw [Int32.sub_add_cancel, Int32.sub_add_cancel, ix_n (by omega), ix_n (by omega)]; omega
          · unfold bX0_feed_37
            simp (disch := first | omega | decide) only [lt_d, gbT, Option.bind_some, cT2_l, cT2_r, mO_n, mO_s, lit, litL, nb_t, nb_f, need_1, need_0, ix_n, inb_T, le_T, le_F, l_T, l_F, e_F, e_R, if_true, if_false, n_add, n_mul, n_sub, n_l, fM_1, fM_2, fM_3, fM_4, fM_6, fM_7, pI_w, pL_w, pR_w, pC_w, nC_w, gI_wI, gI_wIn, gI_wL, gI_wR, gI_wC, gL_wL, gL_wLn, gL_wI, gL_wR, gL_wC, gR_wR, gR_wRn, gR_wI, gR_wL, gR_wC, gC_wI, gC_wL, gC_wR, gC_wC, gN_wI, gN_wL, gN_wR, gN_wC, wI_wI, wL_wL, wR_wR, wC_wC, up_s, up_n, hb.1, Nat.add_sub_cancel, m1s]
          · unfold bX5_feed_41
            simp (disch := first | omega | decide) only [lt_d, gbT, Option.bind_some, cT2_l, cT2_r, mO_n, mO_s, lit, litL, nb_t, nb_f, need_1, need_0, ix_n, inb_T, le_T, le_F, l_T, l_F, e_F, e_R, if_true, if_false, n_add, n_mul, n_sub, n_l, fM_1, fM_2, fM_3, fM_4, fM_6, fM_7, pI_w, pL_w, pR_w, pC_w, nC_w, gI_wI, gI_wIn, gI_wL, gI_wR, gI_wC, gL_wL, gL_wLn, gL_wI, gL_wR, gL_wC, gR_wR, gR_wRn, gR_wI, gR_wL, gR_wC, gC_wI, gC_wL, gC_wR, gC_wC, gN_wI, gN_wL, gN_wR, gN_wC, wI_wI, wL_wL, wR_wR, wC_wC, up_s, up_n, hu, Nat.add_sub_cancel, m1s]
      · show ix (nI (n - 1) + 1) < N
        rw [show nI (n - 1) + 1 = nI (n - 1 + 1) from nI_1 _, ix_n (by omega)]; omega
