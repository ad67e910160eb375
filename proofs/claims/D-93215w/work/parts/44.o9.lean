/-! OPERATIONS: images -/
set_option maxRecDepth 100000
theorem cpI_w (σ : Mem) (a b : Nat) : cpI σ a b = wI σ b (gI σ a) := by
  have : (fun c i => if c = b then σ.1 a i else σ.1 c i) = (fun c => if c = b then gI σ a else σ.1 c) := by
    funext c i
    by_cases h : c = b
    · rw [if_pos h, if_pos h]; rfl
    · rw [if_neg h, if_neg h]
  exact congrArg (fun f => ((f, σ.2) : Mem)) this
theorem copy_n {σ : Mem} {a k : Nat} {m : Int32} (N : Nat) (h : gC σ a = some (.inr (8 + k, [.int m]))) (hk : k < 8) (hne : a ≠ gN σ) : dX_copy N σ a = some (some (gN σ), wC σ (updC (gC σ) (gN σ) (.inr (8 + k, [.int m]))) (gN σ + 1)) := by
  have hd : ∀ c, dI 8 16 (nC σ (.inr (c, [.int (nI 0)]))) a 0 = some m := by
    intro c
    have : gC (nC σ (.inr (c, [.int (nI 0)]))) a = some (.inr (8 + k, [.int m])) := (upC_n hne).trans h
    exact dI_n this hk
  unfold dX_copy
  rw [dC_n h hk, Option.bind_some]
  have h8 : k = 0 ∨ k = 1 ∨ k = 2 ∨ k = 3 ∨ k = 4 ∨ k = 5 ∨ k = 6 ∨ k = 7 := by omega
  rcases h8 with rfl | rfl | rfl | rfl | rfl | rfl | rfl | rfl
  · rw [if_pos rfl]; unfold fX7_copy; simp (disch := first | omega | decide) only [lt_d, gbT, Option.bind_some, cT2_l, cT2_r, mO_n, mO_s, lit, litL, nb_t, nb_f, need_1, need_0, ix_n, inb_T, le_T, le_F, l_T, l_F, e_F, e_R, if_true, if_false, n_add, n_mul, n_sub, n_l, fM_1, fM_2, fM_3, fM_4, fM_6, fM_7, hd, ini_n N σ (c := 8) m (by decide)]
  · rw [if_neg (by decide), if_pos rfl]; unfold fX8_copy fX8_init; simp (disch := first | omega | decide) only [lt_d, gbT, Option.bind_some, cT2_l, cT2_r, mO_n, mO_s, lit, litL, nb_t, nb_f, need_1, need_0, ix_n, inb_T, le_T, le_F, l_T, l_F, e_F, e_R, if_true, if_false, n_add, n_mul, n_sub, n_l, fM_1, fM_2, fM_3, fM_4, fM_6, fM_7, hd, ini_n N σ (c := 9) m (by decide)]
  · rw [if_neg (by decide), if_neg (by decide), if_pos rfl]; unfold fX9_copy fX9_init; simp (disch := first | omega | decide) only [lt_d, gbT, Option.bind_some, cT2_l, cT2_r, mO_n, mO_s, lit, litL, nb_t, nb_f, need_1, need_0, ix_n, inb_T, le_T, le_F, l_T, l_F, e_F, e_R, if_true, if_false, n_add, n_mul, n_sub, n_l, fM_1, fM_2, fM_3, fM_4, fM_6, fM_7, hd, ini_n N σ (c := 10) m (by decide)]
  · rw [if_neg (by decide), if_neg (by decide), if_neg (by decide), if_pos rfl]; unfold fX10_copy fX10_init; simp (disch := first | omega | decide) only [lt_d, gbT, Option.bind_some, cT2_l, cT2_r, mO_n, mO_s, lit, litL, nb_t, nb_f, need_1, need_0, ix_n, inb_T, le_T, le_F, l_T, l_F, e_F, e_R, if_true, if_false, n_add, n_mul, n_sub, n_l, fM_1, fM_2, fM_3, fM_4, fM_6, fM_7, hd, ini_n N σ (c := 11) m (by decide)]
  · rw [if_neg (by decide), if_neg (by decide), if_neg (by decide), if_neg (by decide), if_pos rfl]; unfold fX11_copy fX11_init; simp (disch := first | omega | decide) only [lt_d, gbT, Option.bind_some, cT2_l, cT2_r, mO_n, mO_s, lit, litL, nb_t, nb_f, need_1, need_0, ix_n, inb_T, le_T, le_F, l_T, l_F, e_F, e_R, if_true, if_false, n_add, n_mul, n_sub, n_l, fM_1, fM_2, fM_3, fM_4, fM_6, fM_7, hd, ini_n N σ (c := 12) m (by decide)]
  · rw [if_neg (by decide), if_neg (by decide), if_neg (by decide), if_neg (by decide), if_neg (by decide), if_pos rfl]; unfold fX12_copy fX12_init fX8_init; simp (disch := first | omega | decide) only [lt_d, gbT, Option.bind_some, cT2_l, cT2_r, mO_n, mO_s, lit, litL, nb_t, nb_f, need_1, need_0, ix_n, inb_T, le_T, le_F, l_T, l_F, e_F, e_R, if_true, if_false, n_add, n_mul, n_sub, n_l, fM_1, fM_2, fM_3, fM_4, fM_6, fM_7, hd, ini_n N σ (c := 13) m (by decide)]
  · rw [if_neg (by decide), if_neg (by decide), if_neg (by decide), if_neg (by decide), if_neg (by decide), if_neg (by decide), if_pos rfl]; unfold fX13_copy fX13_init fX10_init; simp (disch := first | omega | decide) only [lt_d, gbT, Option.bind_some, cT2_l, cT2_r, mO_n, mO_s, lit, litL, nb_t, nb_f, need_1, need_0, ix_n, inb_T, le_T, le_F, l_T, l_F, e_F, e_R, if_true, if_false, n_add, n_mul, n_sub, n_l, fM_1, fM_2, fM_3, fM_4, fM_6, fM_7, hd, ini_n N σ (c := 14) m (by decide)]
  · rw [if_neg (by decide), if_neg (by decide), if_neg (by decide), if_neg (by decide), if_neg (by decide), if_neg (by decide), if_neg (by decide), if_pos rfl]; unfold fX14_copy fX14_init fX13_init fX10_init; simp (disch := first | omega | decide) only [lt_d, gbT, Option.bind_some, cT2_l, cT2_r, mO_n, mO_s, lit, litL, nb_t, nb_f, need_1, need_0, ix_n, inb_T, le_T, le_F, l_T, l_F, e_F, e_R, if_true, if_false, n_add, n_mul, n_sub, n_l, fM_1, fM_2, fM_3, fM_4, fM_6, fM_7, hd, ini_n N σ (c := 15) m (by decide)]
/-- a row of numbers by its first 919 -/
theorem Gm.c {g ru : Nat → Int32} {G : Nat → Option Nat} {li : Option Nat} {bp bm : Nat → Int32} {bk : Nat → Nat → Int32} {C : Cel} {s s' : Nat → Int32} (q : Gm g ru G li bp bm bk C s) (h : ∀ i, i < 919 → s' i = s i) : Gm g ru G li bp bm bk C s' := by
  obtain ⟨p, w, b, h1, h2, h3, h4, h5, h6, h7⟩ := q
  have hl : ∀ i, i < 424 → s' i = s i := fun i hi => h i (by omega)
  refine ⟨p, w, b, ?_, fun k hk => by rw [h (10 + k) (by omega)]; exact h2 k hk, h3.c h1.1 hl, h4, h5.c hl, ?_, h7.c h1.2.1 hl⟩
  · obtain ⟨n1, n2, n3, n4, n5, n6, n7, n8, n9, n10⟩ := h1
    exact ⟨n1, n2, n3, n4, (h 0 (by omega)).trans n5, n6, (h 1 (by omega)).trans n7, n8, (h 5 (by omega)).trans n9, n10.trans (h 2 (by omega)).symm⟩
  · obtain ⟨pl, mn, q1, q2, q3⟩ := h6
    exact ⟨pl, mn, fun k hk => by rw [h _ (by have := (q1 k hk).1; omega)]; exact q1 k hk, q2, fun r hr q => by rw [h _ (by omega)]; exact q3 r hr q⟩
theorem bk28_lp {N : Nat} (hN : 300000 ≤ N) (σ : Mem) : lp (bX1_become_28_1_114 N σ) N (σ, (0 : Int32)) = some ((), wI (wI (wI (wI (wI (wI (wI (wI (σ) (47 + 0) (gI (σ) (20 + 0))) (47 + 1) (gI (wI (σ) (47 + 0) (gI (σ) (20 + 0))) (20 + 1))) (47 + 2) (gI (wI (wI (σ) (47 + 0) (gI (σ) (20 + 0))) (47 + 1) (gI (wI (σ) (47 + 0) (gI (σ) (20 + 0))) (20 + 1))) (20 + 2))) (47 + 3) (gI (wI (wI (wI (σ) (47 + 0) (gI (σ) (20 + 0))) (47 + 1) (gI (wI (σ) (47 + 0) (gI (σ) (20 + 0))) (20 + 1))) (47 + 2) (gI (wI (wI (σ) (47 + 0) (gI (σ) (20 + 0))) (47 + 1) (gI (wI (σ) (47 + 0) (gI (σ) (20 + 0))) (20 + 1))) (20 + 2))) (20 + 3))) (47 + 4) (gI (wI (wI (wI (wI (σ) (47 + 0) (gI (σ) (20 + 0))) (47 + 1) (gI (wI (σ) (47 + 0) (gI (σ) (20 + 0))) (20 + 1))) (47 + 2) (gI (wI (wI (σ) (47 + 0) (gI (σ) (20 + 0))) (47 + 1) (gI (wI (σ) (47 + 0) (gI (σ) (20 + 0))) (20 + 1))) (20 + 2))) (47 + 3) (gI (wI (wI (wI (σ) (47 + 0) (gI (σ) (20 + 0))) (47 + 1) (gI (wI (σ) (47 + 0) (gI (σ) (20 + 0))) (20 + 1))) (47 + 2) (gI (wI (wI (σ) (47 + 0) (gI (σ) (20 + 0))) (47 + 1) (gI (wI (σ) (47 + 0) (gI (σ) (20 + 0))) (20 + 1))) (20 + 2))) (20 + 3))) (20 + 4))) (47 + 5) (gI (wI (wI (wI (wI (wI (σ) (47 + 0) (gI (σ) (20 + 0))) (47 + 1) (gI (wI (σ) (47 + 0) (gI (σ) (20 + 0))) (20 + 1))) (47 + 2) (gI (wI (wI (σ) (47 + 0) (gI (σ) (20 + 0))) (47 + 1) (gI (wI (σ) (47 + 0) (gI (σ) (20 + 0))) (20 + 1))) (20 + 2))) (47 + 3) (gI (wI (wI (wI (σ) (47 + 0) (gI (σ) (20 + 0))) (47 + 1) (gI (wI (σ) (47 + 0) (gI (σ) (20 + 0))) (20 + 1))) (47 + 2) (gI (wI (wI (σ) (47 + 0) (gI (σ) (20 + 0))) (47 + 1) (gI (wI (σ) (47 + 0) (gI (σ) (20 + 0))) (20 + 1))) (20 + 2))) (20 + 3))) (47 + 4) (gI (wI (wI (wI (wI (σ) (47 + 0) (gI (σ) (20 + 0))) (47 + 1) (gI (wI (σ) (47 + 0) (gI (σ) (20 + 0))) (20 + 1))) (47 + 2) (gI (wI (wI (σ) (47 + 0) (gI (σ) (20 + 0))) (47 + 1) (gI (wI (σ) (47 + 0) (gI (σ) (20 + 0))) (20 + 1))) (20 + 2))) (47 + 3) (gI (wI (wI (wI (σ) (47 + 0) (gI (σ) (20 + 0))) (47 + 1) (gI (wI (σ) (47 + 0) (gI (σ) (20 + 0))) (20 + 1))) (47 + 2) (gI (wI (wI (σ) (47 + 0) (gI (σ) (20 + 0))) (47 + 1) (gI (wI (σ) (47 + 0) (gI (σ) (20 + 0))) (20 + 1))) (20 + 2))) (20 + 3))) (20 + 4))) (20 + 5))) (47 + 6) (gI (wI (wI (wI (wI (wI (wI (σ) (47 + 0) (gI (σ) (20 + 0))) (47 + 1) (gI (wI (σ) (47 + 0) (gI (σ) (20 + 0))) (20 + 1))) (47 + 2) (gI (wI (wI (σ) (47 + 0) (gI (σ) (20 + 0))) (47 + 1) (gI (wI (σ) (47 + 0) (gI (σ) (20 + 0))) (20 + 1))) (20 + 2))) (47 + 3) (gI (wI (wI (wI (σ) (47 + 0) (gI (σ) (20 + 0))) (47 + 1) (gI (wI (σ) (47 + 0) (gI (σ) (20 + 0))) (20 + 1))) (47 + 2) (gI (wI (wI (σ) (47 + 0) (gI (σ) (20 + 0))) (47 + 1) (gI (wI (σ) (47 + 0) (gI (σ) (20 + 0))) (20 + 1))) (20 + 2))) (20 + 3))) (47 + 4) (gI (wI (wI (wI (wI (σ) (47 + 0) (gI (σ) (20 + 0))) (47 + 1) (gI (wI (σ) (47 + 0) (gI (σ) (20 + 0))) (20 + 1))) (47 + 2) (gI (wI (wI (σ) (47 + 0) (gI (σ) (20 + 0))) (47 + 1) (gI (wI (σ) (47 + 0) (gI (σ) (20 + 0))) (20 + 1))) (20 + 2))) (47 + 3) (gI (wI (wI (wI (σ) (47 + 0) (gI (σ) (20 + 0))) (47 + 1) (gI (wI (σ) (47 + 0) (gI (σ) (20 + 0))) (20 + 1))) (47 + 2) (gI (wI (wI (σ) (47 + 0) (gI (σ) (20 + 0))) (47 + 1) (gI (wI (σ) (47 + 0) (gI (σ) (20 + 0))) (20 + 1))) (20 + 2))) (20 + 3))) (20 + 4))) (47 + 5) (gI (wI (wI (wI (wI (wI (σ) (47 + 0) (gI (σ) (20 + 0))) (47 + 1) (gI (wI (σ) (47 + 0) (gI (σ) (20 + 0))) (20 + 1))) (47 + 2) (gI (wI (wI (σ) (47 + 0) (gI (σ) (20 + 0))) (47 + 1) (gI (wI (σ) (47 + 0) (gI (σ) (20 + 0))) (20 + 1))) (20 + 2))) (47 + 3) (gI (wI (wI (wI (σ) (47 + 0) (gI (σ) (20 + 0))) (47 + 1) (gI (wI (σ) (47 + 0) (gI (σ) (20 + 0))) (20 + 1))) (47 + 2) (gI (wI (wI (σ) (47 + 0) (gI (σ) (20 + 0))) (47 + 1) (gI (wI (σ) (47 + 0) (gI (σ) (20 + 0))) (20 + 1))) (20 + 2))) (20 + 3))) (47 + 4) (gI (wI (wI (wI (wI (σ) (47 + 0) (gI (σ) (20 + 0))) (47 + 1) (gI (wI (σ) (47 + 0) (gI (σ) (20 + 0))) (20 + 1))) (47 + 2) (gI (wI (wI (σ) (47 + 0) (gI (σ) (20 + 0))) (47 + 1) (gI (wI (σ) (47 + 0) (gI (σ) (20 + 0))) (20 + 1))) (20 + 2))) (47 + 3) (gI (wI (wI (wI (σ) (47 + 0) (gI (σ) (20 + 0))) (47 + 1) (gI (wI (σ) (47 + 0) (gI (σ) (20 + 0))) (20 + 1))) (47 + 2) (gI (wI (wI (σ) (47 + 0) (gI (σ) (20 + 0))) (47 + 1) (gI (wI (σ) (47 + 0) (gI (σ) (20 + 0))) (20 + 1))) (20 + 2))) (20 + 3))) (20 + 4))) (20 + 5))) (20 + 6))) (47 + 7) (gI (wI (wI (wI (wI (wI (wI (wI (σ) (47 + 0) (gI (σ) (20 + 0))) (47 + 1) (gI (wI (σ) (47 + 0) (gI (σ) (20 + 0))) (20 + 1))) (47 + 2) (gI (wI (wI (σ) (47 + 0) (gI (σ) (20 + 0))) (47 + 1) (gI (wI (σ) (47 + 0) (gI (σ) (20 + 0))) (20 + 1))) (20 + 2))) (47 + 3) (gI (wI (wI (wI (σ) (47 + 0) (gI (σ) (20 + 0))) (47 + 1) (gI (wI (σ) (47 + 0) (gI (σ) (20 + 0))) (20 + 1))) (47 + 2) (gI (wI (wI (σ) (47 + 0) (gI (σ) (20 + 0))) (47 + 1) (gI (wI (σ) (47 + 0) (gI (σ) (20 + 0))) (20 + 1))) (20 + 2))) (20 + 3))) (47 + 4) (gI (wI (wI (wI (wI (σ) (47 + 0) (gI (σ) (20 + 0))) (47 + 1) (gI (wI (σ) (47 + 0) (gI (σ) (20 + 0))) (20 + 1))) (47 + 2) (gI (wI (wI (σ) (47 + 0) (gI (σ) (20 + 0))) (47 + 1) (gI (wI (σ) (47 + 0) (gI (σ) (20 + 0))) (20 + 1))) (20 + 2))) (47 + 3) (gI (wI (wI (wI (σ) (47 + 0) (gI (σ) (20 + 0))) (47 + 1) (gI (wI (σ) (47 + 0) (gI (σ) (20 + 0))) (20 + 1))) (47 + 2) (gI (wI (wI (σ) (47 + 0) (gI (σ) (20 + 0))) (47 + 1) (gI (wI (σ) (47 + 0) (gI (σ) (20 + 0))) (20 + 1))) (20 + 2))) (20 + 3))) (20 + 4))) (47 + 5) (gI (wI (wI (wI (wI (wI (σ) (47 + 0) (gI (σ) (20 + 0))) (47 + 1) (gI (wI (σ) (47 + 0) (gI (σ) (20 + 0))) (20 + 1))) (47 + 2) (gI (wI (wI (σ) (47 + 0) (gI (σ) (20 + 0))) (47 + 1) (gI (wI (σ) (47 + 0) (gI (σ) (20 + 0))) (20 + 1))) (20 + 2))) (47 + 3) (gI (wI (wI (wI (σ) (47 + 0) (gI (σ) (20 + 0))) (47 + 1) (gI (wI (σ) (47 + 0) (gI (σ) (20 + 0))) (20 + 1))) (47 + 2) (gI (wI (wI (σ) (47 + 0) (gI (σ) (20 + 0))) (47 + 1) (gI (wI (σ) (47 + 0) (gI (σ) (20 + 0))) (20 + 1))) (20 + 2))) (20 + 3))) (47 + 4) (gI (wI (wI (wI (wI (σ) (47 + 0) (gI (σ) (20 + 0))) (47 + 1) (gI (wI (σ) (47 + 0) (gI (σ) (20 + 0))) (20 + 1))) (47 + 2) (gI (wI (wI (σ) (47 + 0) (gI (σ) (20 + 0))) (47 + 1) (gI (wI (σ) (47 + 0) (gI (σ) (20 + 0))) (20 + 1))) (20 + 2))) (47 + 3) (gI (wI (wI (wI (σ) (47 + 0) (gI (σ) (20 + 0))) (47 + 1) (gI (wI (σ) (47 + 0) (gI (σ) (20 + 0))) (20 + 1))) (47 + 2) (gI (wI (wI (σ) (47 + 0) (gI (σ) (20 + 0))) (47 + 1) (gI (wI (σ) (47 + 0) (gI (σ) (20 + 0))) (20 + 1))) (20 + 2))) (20 + 3))) (20 + 4))) (20 + 5))) (47 + 6) (gI (wI (wI (wI (wI (wI (wI (σ) (47 + 0) (gI (σ) (20 + 0))) (47 + 1) (gI (wI (σ) (47 + 0) (gI (σ) (20 + 0))) (20 + 1))) (47 + 2) (gI (wI (wI (σ) (47 + 0) (gI (σ) (20 + 0))) (47 + 1) (gI (wI (σ) (47 + 0) (gI (σ) (20 + 0))) (20 + 1))) (20 + 2))) (47 + 3) (gI (wI (wI (wI (σ) (47 + 0) (gI (σ) (20 + 0))) (47 + 1) (gI (wI (σ) (47 + 0) (gI (σ) (20 + 0))) (20 + 1))) (47 + 2) (gI (wI (wI (σ) (47 + 0) (gI (σ) (20 + 0))) (47 + 1) (gI (wI (σ) (47 + 0) (gI (σ) (20 + 0))) (20 + 1))) (20 + 2))) (20 + 3))) (47 + 4) (gI (wI (wI (wI (wI (σ) (47 + 0) (gI (σ) (20 + 0))) (47 + 1) (gI (wI (σ) (47 + 0) (gI (σ) (20 + 0))) (20 + 1))) (47 + 2) (gI (wI (wI (σ) (47 + 0) (gI (σ) (20 + 0))) (47 + 1) (gI (wI (σ) (47 + 0) (gI (σ) (20 + 0))) (20 + 1))) (20 + 2))) (47 + 3) (gI (wI (wI (wI (σ) (47 + 0) (gI (σ) (20 + 0))) (47 + 1) (gI (wI (σ) (47 + 0) (gI (σ) (20 + 0))) (20 + 1))) (47 + 2) (gI (wI (wI (σ) (47 + 0) (gI (σ) (20 + 0))) (47 + 1) (gI (wI (σ) (47 + 0) (gI (σ) (20 + 0))) (20 + 1))) (20 + 2))) (20 + 3))) (20 + 4))) (47 + 5) (gI (wI (wI (wI (wI (wI (σ) (47 + 0) (gI (σ) (20 + 0))) (47 + 1) (gI (wI (σ) (47 + 0) (gI (σ) (20 + 0))) (20 + 1))) (47 + 2) (gI (wI (wI (σ) (47 + 0) (gI (σ) (20 + 0))) (47 + 1) (gI (wI (σ) (47 + 0) (gI (σ) (20 + 0))) (20 + 1))) (20 + 2))) (47 + 3) (gI (wI (wI (wI (σ) (47 + 0) (gI (σ) (20 + 0))) (47 + 1) (gI (wI (σ) (47 + 0) (gI (σ) (20 + 0))) (20 + 1))) (47 + 2) (gI (wI (wI (σ) (47 + 0) (gI (σ) (20 + 0))) (47 + 1) (gI (wI (σ) (47 + 0) (gI (σ) (20 + 0))) (20 + 1))) (20 + 2))) (20 + 3))) (47 + 4) (gI (wI (wI (wI (wI (σ) (47 + 0) (gI (σ) (20 + 0))) (47 + 1) (gI (wI (σ) (47 + 0) (gI (σ) (20 + 0))) (20 + 1))) (47 + 2) (gI (wI (wI (σ) (47 + 0) (gI (σ) (20 + 0))) (47 + 1) (gI (wI (σ) (47 + 0) (gI (σ) (20 + 0))) (20 + 1))) (20 + 2))) (47 + 3) (gI (wI (wI (wI (σ) (47 + 0) (gI (σ) (20 + 0))) (47 + 1) (gI (wI (σ) (47 + 0) (gI (σ) (20 + 0))) (20 + 1))) (47 + 2) (gI (wI (wI (σ) (47 + 0) (gI (σ) (20 + 0))) (47 + 1) (gI (wI (σ) (47 + 0) (gI (σ) (20 + 0))) (20 + 1))) (20 + 2))) (20 + 3))) (20 + 4))) (20 + 5))) (20 + 6))) (20 + 7))) := by
  obtain ⟨M, hM⟩ : ∃ M, N = M + 9 := ⟨N - 9, by omega⟩
  have st : ∀ (n : Nat) (k : Nat) (σ1 : Mem), k < 8 → lp (bX1_become_28_1_114 N σ) (n + 1) (σ1, nI k) = lp (bX1_become_28_1_114 N σ) n (wI σ1 (47 + k) (gI σ1 (20 + k)), nI (k + 1)) := by
    intro n k σ1 hk
    show bX1_become_28_1_114 N σ _ (σ1, nI k) = _
    unfold bX1_become_28_1_114
    simp (disch := first | omega | decide) only [lt_d, gbT, Option.bind_some, cT2_l, cT2_r, mO_n, mO_s, lit, litL, nb_t, nb_f, need_1, need_0, ix_n, inb_T, le_T, le_F, l_T, l_F, e_F, e_R, if_true, if_false, n_add, n_mul, n_sub, n_l, fM_1, fM_2, fM_3, fM_4, fM_6, fM_7, cpI_w]
  have en : ∀ (n : Nat) (σ1 : Mem), lp (bX1_become_28_1_114 N σ) (n + 1) (σ1, nI 8) = some ((), σ1) := by
    intro n σ1
    show bX1_become_28_1_114 N σ _ (σ1, nI 8) = _
    unfold bX1_become_28_1_114
    simp (disch := first | omega | decide) only [lt_d, gbT, Option.bind_some, cT2_l, cT2_r, mO_n, mO_s, lit, litL, nb_t, nb_f, need_1, need_0, ix_n, inb_T, le_T, le_F, l_T, l_F, e_F, e_R, if_true, if_false, n_add, n_mul, n_sub, n_l, fM_1, fM_2, fM_3, fM_4, fM_6, fM_7]
  have e0 : lp (bX1_become_28_1_114 N σ) N (σ, (0 : Int32)) = lp (bX1_become_28_1_114 N σ) (M + 8 + 1) (σ, nI 0) := by
    rw [show M + 8 + 1 = N by omega]; rfl
  rw [e0, st (M + 8) 0 _ (by omega), st (M + 7) 1 _ (by omega), st (M + 6) 2 _ (by omega), st (M + 5) 3 _ (by omega), st (M + 4) 4 _ (by omega), st (M + 3) 5 _ (by omega), st (M + 2) 6 _ (by omega), st (M + 1) 7 _ (by omega), en]
theorem become28 {N : Nat} (hN : 300000 ≤ N) {σ : Mem} {s : Nat → Int32} {p : Nat} (hp : p ≤ 12) (hp0 : gI σ 1 0 = nI p) (hg : Grp (pk12 (gR σ 4 0) (gR σ 5 0) (gR σ 6 0) (gR σ 7 0) (gR σ 8 0) (gR σ 9 0) (gR σ 10 0) (gR σ 11 0) (gR σ 12 0) (gR σ 13 0) (gR σ 14 0) (gR σ 15 0)) (gC σ) s p) (j : Siz (gC σ) (gN σ)) :
    ∃ σ', fX1_become_28_1 N σ = some ((), σ') ∧ (∀ k, k < 4 → gI σ' 28 k = gI σ 1 k) ∧ gI σ' 29 = gI σ 2 ∧ gR σ' 43 0 = gR σ 16 0 ∧ gI σ' 44 = gI σ 17 ∧ gI σ' 45 = gI σ 18 ∧ (∀ k, k < 8 → gI σ' (47 + k) = gI σ (20 + k)) ∧ (∀ c, (c < 28 ∨ 55 ≤ c) → gI σ' c = gI σ c) ∧ (∀ c, (c < 28 ∨ 55 ≤ c) → gR σ' c = gR σ c) ∧ gL σ' = gL σ ∧ Ext (gC σ) (gC σ') ∧ Siz (gC σ') (gN σ') ∧ ∀ k, k < p → gR σ' (31 + k) 0 = some (gN σ + k) ∧ ∃ q m, q < 8 ∧ m ≤ 99999 ∧ gC σ' (gN σ + k) = some (.inr (8 + q, [.int (nI m)])) ∧ s (20 + k) = nI q ∧ s (32 + k) = nI m := by
  unfold fX1_become_28_1
  simp only [lt_d, pI_w, cpI_w]
  simp (disch := first | omega | decide) only [pI_w, pL_w, pR_w, pC_w, nC_w, gI_wI, gI_wIn, gI_wL, gI_wR, gI_wC, gL_wL, gL_wLn, gL_wI, gL_wR, gL_wC, gR_wR, gR_wRn, gR_wI, gR_wL, gR_wC, gC_wI, gC_wL, gC_wR, gC_wC, gN_wI, gN_wL, gN_wR, gN_wC, wI_wI, wL_wL, wR_wR, wC_wC, up_s, up_n]
  generalize h5' : wI (wI σ 28 (upd (upd (upd (upd (gI σ 28) 0 (gI σ 1 0)) 1 (gI σ 1 1)) 2 (gI σ 1 2)) 3 (gI σ 1 3))) 29 (gI σ 2) = σ5
  have h5 := h5'.symm
  refine lp_inv (N := N) (Q := fun (F : Option (Unit × Mem)) => ∃ σ', F = some ((), σ') ∧ (∀ k, k < 4 → gI σ' 28 k = gI σ 1 k) ∧ gI σ' 29 = gI σ 2 ∧ gR σ' 43 0 = gR σ 16 0 ∧ gI σ' 44 = gI σ 17 ∧ gI σ' 45 = gI σ 18 ∧ (∀ k, k < 8 → gI σ' (47 + k) = gI σ (20 + k)) ∧ (∀ c, (c < 28 ∨ 55 ≤ c) → gI σ' c = gI σ c) ∧ (∀ c, (c < 28 ∨ 55 ≤ c) → gR σ' c = gR σ c) ∧ gL σ' = gL σ ∧ Ext (gC σ) (gC σ') ∧ Siz (gC σ') (gN σ') ∧ ∀ k, k < p → gR σ' (31 + k) 0 = some (gN σ + k) ∧ ∃ q m, q < 8 ∧ m ≤ 99999 ∧ gC σ' (gN σ + k) = some (.inr (8 + q, [.int (nI m)])) ∧ s (20 + k) = nI q ∧ s (32 + k) = nI m) (b := bX1_become_28_1_45 N σ5) (P := fun k (y : Mem × Int32) => y.2 = nI k ∧ gI y.1 = gI σ5 ∧ gL y.1 = gL σ ∧ (∀ c, (c < 31 ∨ 31 + k ≤ c) → gR y.1 c = gR σ c) ∧ gN y.1 = gN σ + k ∧ Ext (gC σ) (gC y.1) ∧ Siz (gC y.1) (gN σ + k) ∧ ∀ i, i < k → gR y.1 (31 + i) 0 = some (gN σ + i) ∧ ∃ q m, q < 8 ∧ m ≤ 99999 ∧ gC y.1 (gN σ + i) = some (.inr (8 + q, [.int (nI m)])) ∧ s (20 + i) = nI q ∧ s (32 + i) = nI m) p (by omega) ?_ ?_ (σ5, nI 0) ⟨rfl, rfl, by rw [h5]; rfl, fun c _ => by rw [h5]; rfl, by rw [h5]; rfl, by rw [h5]; exact Ext.rf _, by rw [h5]; exact j, fun i hi => by omega⟩
  · rintro k ⟨σ1, y⟩ hk ⟨e1, e2, e3, e4, e5, e6, e7, e8⟩
    simp only at e1 e2 e3 e4 e5 e6 e7 e8
    subst e1
    obtain ⟨ad, q, m, g1, g2, g3, g4, g5, g6⟩ := hg k hk
    rw [gr_1 _ (by omega)] at g1
    have g1' : gR σ1 (4 + k) 0 = some ad := by rw [e4 _ (by omega)]; exact g1
    have g4' := e6 _ _ g4
    have hne : ad ≠ gN σ1 := by have := j.lt _ _ g4; omega
    have hD0 : gI σ1 28 0 = nI p := by rw [e2, h5]; exact hp0
    refine ⟨(wR (wC σ1 (updC (gC σ1) (gN σ1) (.inr (8 + q, [.int (nI m)]))) (gN σ1 + 1)) (31 + k) (updR (gR σ1 (31 + k)) 0 (some (gN σ1))), nI (k + 1)), ⟨rfl, e2, e3, fun c hc => ?_, by show gN σ1 + 1 = _; omega, ?_, ?_, fun i hi => ?_⟩, fun rec => ?_⟩
    · show gR (wR _ (31 + k) _) c = _
      rw [gR_wRn _ _ (by omega), gR_wC]
      exact e4 c (by omega)
    · exact e6.tr (Ext.new (by rw [e5]; exact e7.lt) _)
    · show Siz (updC (gC σ1) (gN σ1) _) (gN σ + (k + 1))
      rw [e5, ← Nat.add_assoc]
      exact e7.new _
    · by_cases ei : i = k
      · subst ei
        refine ⟨?_, q, m, g2, g3, ?_, g5, g6⟩
        · show gR (wR _ (31 + i) _) (31 + i) 0 = _
          rw [gR_wR, upR_s, e5]
        · show updC (gC σ1) (gN σ1) _ (gN σ + i) = _
          rw [← e5, upC_s]
      · obtain ⟨f1, q', m', f2, f3, f4, f5⟩ := e8 i (by omega)
        refine ⟨?_, q', m', f2, f3, ?_, f5⟩
        · show gR (wR _ (31 + k) _) (31 + i) 0 = _
          rw [gR_wRn _ _ (by omega), gR_wC]; exact f1
        · show updC (gC σ1) (gN σ1) _ (gN σ + i) = _
          rw [upC_n (by omega)]; exact f4
    · unfold bX1_become_28_1_45
      simp (disch := first | omega | decide) only [lt_d, gbT, Option.bind_some, cT2_l, cT2_r, mO_n, mO_s, lit, litL, nb_t, nb_f, need_1, need_0, ix_n, inb_T, le_T, le_F, l_T, l_F, e_F, e_R, if_true, if_false, n_add, n_mul, n_sub, n_l, fM_1, fM_2, fM_3, fM_4, fM_6, fM_7, pI_w, pL_w, pR_w, pC_w, nC_w, gI_wI, gI_wIn, gI_wL, gI_wR, gI_wC, gL_wL, gL_wLn, gL_wI, gL_wR, gL_wC, gR_wR, gR_wRn, gR_wI, gR_wL, gR_wC, gC_wI, gC_wL, gC_wR, gC_wC, gN_wI, gN_wL, gN_wR, gN_wC, wI_wI, wL_wL, wR_wR, wC_wC, up_s, up_n, hD0, fX1_group_1, g1', dC_n g4' g2, copy_n N g4' g2 hne]
  · rintro ⟨σ1, y⟩ ⟨e1, e2, e3, e4, e5, e6, e7, e8⟩ rec
    simp only at e1 e2 e3 e4 e5 e6 e7 e8
    subst e1
    have hD0 : gI σ1 28 0 = nI p := by rw [e2, h5]; exact hp0
    have hend : bX1_become_28_1_45 N σ5 rec (σ1, nI p) = lp (bX1_become_28_1_114 N (wI (wI (wR σ1 43 (updR (gR σ1 43) 0 (gR σ1 16 0))) 44 (gI σ1 17)) 45 (gI σ1 18))) N (wI (wI (wR σ1 43 (updR (gR σ1 43) 0 (gR σ1 16 0))) 44 (gI σ1 17)) 45 (gI σ1 18), (0 : Int32)) := by
      unfold bX1_become_28_1_45
      have hle : decide (p ≤ 12) = true := decide_eq_true hp
      cases hr : gR σ1 16 0 with
      | none => simp (disch := first | omega | decide) only [lt_d, gbT, Option.bind_some, cT2_l, cT2_r, mO_n, mO_s, lit, litL, nb_t, nb_f, need_1, need_0, ix_n, inb_T, le_T, le_F, l_T, l_F, e_F, e_R, if_true, if_false, n_add, n_mul, n_sub, n_l, fM_1, fM_2, fM_3, fM_4, fM_6, fM_7, pI_w, pL_w, pR_w, pC_w, nC_w, gI_wI, gI_wIn, gI_wL, gI_wR, gI_wC, gL_wL, gL_wLn, gL_wI, gL_wR, gL_wC, gR_wR, gR_wRn, gR_wI, gR_wL, gR_wC, gC_wI, gC_wL, gC_wR, gC_wC, gN_wI, gN_wL, gN_wR, gN_wC, wI_wI, wL_wL, wR_wR, wC_wC, up_s, up_n, hD0, hle, cpI_w, hr]
      | some ad => simp (disch := first | omega | decide) only [lt_d, gbT, Option.bind_some, cT2_l, cT2_r, mO_n, mO_s, lit, litL, nb_t, nb_f, need_1, need_0, ix_n, inb_T, le_T, le_F, l_T, l_F, e_F, e_R, if_true, if_false, n_add, n_mul, n_sub, n_l, fM_1, fM_2, fM_3, fM_4, fM_6, fM_7, pI_w, pL_w, pR_w, pC_w, nC_w, gI_wI, gI_wIn, gI_wL, gI_wR, gI_wC, gL_wL, gL_wLn, gL_wI, gL_wR, gL_wC, gR_wR, gR_wRn, gR_wI, gR_wL, gR_wC, gC_wI, gC_wL, gC_wR, gC_wC, gN_wI, gN_wL, gN_wR, gN_wC, wI_wI, wL_wL, wR_wR, wC_wC, up_s, up_n, hD0, hle, cpI_w, hr]
    rw [hend, bk28_lp hN]
    refine ⟨_, rfl, ?_, ?_, ?_, ?_, ?_, ?_, ?_, ?_, e3, e6, ?_, ?_⟩
    · intro k hk
      show gI σ1 28 k = _
      rw [e2, h5]
      show upd (upd (upd (upd (gI σ 28) 0 (gI σ 1 0)) 1 (gI σ 1 1)) 2 (gI σ 1 2)) 3 (gI σ 1 3) k = _
      have hk4 : k = 0 ∨ k = 1 ∨ k = 2 ∨ k = 3 := by omega
      rcases hk4 with rfl | rfl | rfl | rfl <;> rfl
    · show gI σ1 29 = _
      rw [e2, h5]; rfl
    · show gR σ1 16 0 = _
      rw [e4 _ (by omega)]
    · show gI σ1 17 = _
      rw [e2, h5]; rfl
    · show gI σ1 18 = _
      rw [e2, h5]; rfl
    · intro k hk
      have hk8 : k = 0 ∨ k = 1 ∨ k = 2 ∨ k = 3 ∨ k = 4 ∨ k = 5 ∨ k = 6 ∨ k = 7 := by omega
      have hs : ∀ c, c ≠ 28 → c ≠ 29 → gI σ1 c = gI σ c := fun c h1 h2 => by rw [e2, h5, gI_wIn _ _ h2, gI_wIn _ _ h1]
      rcases hk8 with rfl | rfl | rfl | rfl | rfl | rfl | rfl | rfl
      · exact hs 20 (by decide) (by decide)
      · exact hs 21 (by decide) (by decide)
      · exact hs 22 (by decide) (by decide)
      · exact hs 23 (by decide) (by decide)
      · exact hs 24 (by decide) (by decide)
      · exact hs 25 (by decide) (by decide)
      · exact hs 26 (by decide) (by decide)
      · exact hs 27 (by decide) (by decide)
    · intro c hc
      simp (disch := first | omega | decide) only [pI_w, pL_w, pR_w, pC_w, nC_w, gI_wI, gI_wIn, gI_wL, gI_wR, gI_wC, gL_wL, gL_wLn, gL_wI, gL_wR, gL_wC, gR_wR, gR_wRn, gR_wI, gR_wL, gR_wC, gC_wI, gC_wL, gC_wR, gC_wC, gN_wI, gN_wL, gN_wR, gN_wC, wI_wI, wL_wL, wR_wR, wC_wC, up_s, up_n]
      rw [e2, h5]
      simp (disch := first | omega | decide) only [pI_w, pL_w, pR_w, pC_w, nC_w, gI_wI, gI_wIn, gI_wL, gI_wR, gI_wC, gL_wL, gL_wLn, gL_wI, gL_wR, gL_wC, gR_wR, gR_wRn, gR_wI, gR_wL, gR_wC, gC_wI, gC_wL, gC_wR, gC_wC, gN_wI, gN_wL, gN_wR, gN_wC, wI_wI, wL_wL, wR_wR, wC_wC, up_s, up_n]
    · intro c hc
      simp (disch := first | omega | decide) only [pI_w, pL_w, pR_w, pC_w, nC_w, gI_wI, gI_wIn, gI_wL, gI_wR, gI_wC, gL_wL, gL_wLn, gL_wI, gL_wR, gL_wC, gR_wR, gR_wRn, gR_wI, gR_wL, gR_wC, gC_wI, gC_wL, gC_wR, gC_wC, gN_wI, gN_wL, gN_wR, gN_wC, wI_wI, wL_wL, wR_wR, wC_wC, up_s, up_n]
      exact e4 c (by omega)
    · show Siz (gC σ1) (gN σ1)
      rw [e5]; exact e7
    · intro k hk
      obtain ⟨f1, q', m', f2, f3, f4, f5⟩ := e8 k hk
      refine ⟨?_, q', m', f2, f3, f4, f5⟩
      simp (disch := first | omega | decide) only [pI_w, pL_w, pR_w, pC_w, nC_w, gI_wI, gI_wIn, gI_wL, gI_wR, gI_wC, gL_wL, gL_wLn, gL_wI, gL_wR, gL_wC, gR_wR, gR_wRn, gR_wI, gR_wL, gR_wC, gC_wI, gC_wL, gC_wR, gC_wC, gN_wI, gN_wL, gN_wR, gN_wC, wI_wI, wL_wL, wR_wR, wC_wC, up_s, up_n, f1]
theorem bk1_lp {N : Nat} (hN : 300000 ≤ N) (σ : Mem) : lp (bX1_become_1_28_114 N σ) N (σ, (0 : Int32)) = some ((), wI (wI (wI (wI (wI (wI (wI (wI (σ) (20 + 0) (gI (σ) (47 + 0))) (20 + 1) (gI (wI (σ) (20 + 0) (gI (σ) (47 + 0))) (47 + 1))) (20 + 2) (gI (wI (wI (σ) (20 + 0) (gI (σ) (47 + 0))) (20 + 1) (gI (wI (σ) (20 + 0) (gI (σ) (47 + 0))) (47 + 1))) (47 + 2))) (20 + 3) (gI (wI (wI (wI (σ) (20 + 0) (gI (σ) (47 + 0))) (20 + 1) (gI (wI (σ) (20 + 0) (gI (σ) (47 + 0))) (47 + 1))) (20 + 2) (gI (wI (wI (σ) (20 + 0) (gI (σ) (47 + 0))) (20 + 1) (gI (wI (σ) (20 + 0) (gI (σ) (47 + 0))) (47 + 1))) (47 + 2))) (47 + 3))) (20 + 4) (gI (wI (wI (wI (wI (σ) (20 + 0) (gI (σ) (47 + 0))) (20 + 1) (gI (wI (σ) (20 + 0) (gI (σ) (47 + 0))) (47 + 1))) (20 + 2) (gI (wI (wI (σ) (20 + 0) (gI (σ) (47 + 0))) (20 + 1) (gI (wI (σ) (20 + 0) (gI (σ) (47 + 0))) (47 + 1))) (47 + 2))) (20 + 3) (gI (wI (wI (wI (σ) (20 + 0) (gI (σ) (47 + 0))) (20 + 1) (gI (wI (σ) (20 + 0) (gI (σ) (47 + 0))) (47 + 1))) (20 + 2) (gI (wI (wI (σ) (20 + 0) (gI (σ) (47 + 0))) (20 + 1) (gI (wI (σ) (20 + 0) (gI (σ) (47 + 0))) (47 + 1))) (47 + 2))) (47 + 3))) (47 + 4))) (20 + 5) (gI (wI (wI (wI (wI (wI (σ) (20 + 0) (gI (σ) (47 + 0))) (20 + 1) (gI (wI (σ) (20 + 0) (gI (σ) (47 + 0))) (47 + 1))) (20 + 2) (gI (wI (wI (σ) (20 + 0) (gI (σ) (47 + 0))) (20 + 1) (gI (wI (σ) (20 + 0) (gI (σ) (47 + 0))) (47 + 1))) (47 + 2))) (20 + 3) (gI (wI (wI (wI (σ) (20 + 0) (gI (σ) (47 + 0))) (20 + 1) (gI (wI (σ) (20 + 0) (gI (σ) (47 + 0))) (47 + 1))) (20 + 2) (gI (wI (wI (σ) (20 + 0) (gI (σ) (47 + 0))) (20 + 1) (gI (wI (σ) (20 + 0) (gI (σ) (47 + 0))) (47 + 1))) (47 + 2))) (47 + 3))) (20 + 4) (gI (wI (wI (wI (wI (σ) (20 + 0) (gI (σ) (47 + 0))) (20 + 1) (gI (wI (σ) (20 + 0) (gI (σ) (47 + 0))) (47 + 1))) (20 + 2) (gI (wI (wI (σ) (20 + 0) (gI (σ) (47 + 0))) (20 + 1) (gI (wI (σ) (20 + 0) (gI (σ) (47 + 0))) (47 + 1))) (47 + 2))) (20 + 3) (gI (wI (wI (wI (σ) (20 + 0) (gI (σ) (47 + 0))) (20 + 1) (gI (wI (σ) (20 + 0) (gI (σ) (47 + 0))) (47 + 1))) (20 + 2) (gI (wI (wI (σ) (20 + 0) (gI (σ) (47 + 0))) (20 + 1) (gI (wI (σ) (20 + 0) (gI (σ) (47 + 0))) (47 + 1))) (47 + 2))) (47 + 3))) (47 + 4))) (47 + 5))) (20 + 6) (gI (wI (wI (wI (wI (wI (wI (σ) (20 + 0) (gI (σ) (47 + 0))) (20 + 1) (gI (wI (σ) (20 + 0) (gI (σ) (47 + 0))) (47 + 1))) (20 + 2) (gI (wI (wI (σ) (20 + 0) (gI (σ) (47 + 0))) (20 + 1) (gI (wI (σ) (20 + 0) (gI (σ) (47 + 0))) (47 + 1))) (47 + 2))) (20 + 3) (gI (wI (wI (wI (σ) (20 + 0) (gI (σ) (47 + 0))) (20 + 1) (gI (wI (σ) (20 + 0) (gI (σ) (47 + 0))) (47 + 1))) (20 + 2) (gI (wI (wI (σ) (20 + 0) (gI (σ) (47 + 0))) (20 + 1) (gI (wI (σ) (20 + 0) (gI (σ) (47 + 0))) (47 + 1))) (47 + 2))) (47 + 3))) (20 + 4) (gI (wI (wI (wI (wI (σ) (20 + 0) (gI (σ) (47 + 0))) (20 + 1) (gI (wI (σ) (20 + 0) (gI (σ) (47 + 0))) (47 + 1))) (20 + 2) (gI (wI (wI (σ) (20 + 0) (gI (σ) (47 + 0))) (20 + 1) (gI (wI (σ) (20 + 0) (gI (σ) (47 + 0))) (47 + 1))) (47 + 2))) (20 + 3) (gI (wI (wI (wI (σ) (20 + 0) (gI (σ) (47 + 0))) (20 + 1) (gI (wI (σ) (20 + 0) (gI (σ) (47 + 0))) (47 + 1))) (20 + 2) (gI (wI (wI (σ) (20 + 0) (gI (σ) (47 + 0))) (20 + 1) (gI (wI (σ) (20 + 0) (gI (σ) (47 + 0))) (47 + 1))) (47 + 2))) (47 + 3))) (47 + 4))) (20 + 5) (gI (wI (wI (wI (wI (wI (σ) (20 + 0) (gI (σ) (47 + 0))) (20 + 1) (gI (wI (σ) (20 + 0) (gI (σ) (47 + 0))) (47 + 1))) (20 + 2) (gI (wI (wI (σ) (20 + 0) (gI (σ) (47 + 0))) (20 + 1) (gI (wI (σ) (20 + 0) (gI (σ) (47 + 0))) (47 + 1))) (47 + 2))) (20 + 3) (gI (wI (wI (wI (σ) (20 + 0) (gI (σ) (47 + 0))) (20 + 1) (gI (wI (σ) (20 + 0) (gI (σ) (47 + 0))) (47 + 1))) (20 + 2) (gI (wI (wI (σ) (20 + 0) (gI (σ) (47 + 0))) (20 + 1) (gI (wI (σ) (20 + 0) (gI (σ) (47 + 0))) (47 + 1))) (47 + 2))) (47 + 3))) (20 + 4) (gI (wI (wI (wI (wI (σ) (20 + 0) (gI (σ) (47 + 0))) (20 + 1) (gI (wI (σ) (20 + 0) (gI (σ) (47 + 0))) (47 + 1))) (20 + 2) (gI (wI (wI (σ) (20 + 0) (gI (σ) (47 + 0))) (20 + 1) (gI (wI (σ) (20 + 0) (gI (σ) (47 + 0))) (47 + 1))) (47 + 2))) (20 + 3) (gI (wI (wI (wI (σ) (20 + 0) (gI (σ) (47 + 0))) (20 + 1) (gI (wI (σ) (20 + 0) (gI (σ) (47 + 0))) (47 + 1))) (20 + 2) (gI (wI (wI (σ) (20 + 0) (gI (σ) (47 + 0))) (20 + 1) (gI (wI (σ) (20 + 0) (gI (σ) (47 + 0))) (47 + 1))) (47 + 2))) (47 + 3))) (47 + 4))) (47 + 5))) (47 + 6))) (20 + 7) (gI (wI (wI (wI (wI (wI (wI (wI (σ) (20 + 0) (gI (σ) (47 + 0))) (20 + 1) (gI (wI (σ) (20 + 0) (gI (σ) (47 + 0))) (47 + 1))) (20 + 2) (gI (wI (wI (σ) (20 + 0) (gI (σ) (47 + 0))) (20 + 1) (gI (wI (σ) (20 + 0) (gI (σ) (47 + 0))) (47 + 1))) (47 + 2))) (20 + 3) (gI (wI (wI (wI (σ) (20 + 0) (gI (σ) (47 + 0))) (20 + 1) (gI (wI (σ) (20 + 0) (gI (σ) (47 + 0))) (47 + 1))) (20 + 2) (gI (wI (wI (σ) (20 + 0) (gI (σ) (47 + 0))) (20 + 1) (gI (wI (σ) (20 + 0) (gI (σ) (47 + 0))) (47 + 1))) (47 + 2))) (47 + 3))) (20 + 4) (gI (wI (wI (wI (wI (σ) (20 + 0) (gI (σ) (47 + 0))) (20 + 1) (gI (wI (σ) (20 + 0) (gI (σ) (47 + 0))) (47 + 1))) (20 + 2) (gI (wI (wI (σ) (20 + 0) (gI (σ) (47 + 0))) (20 + 1) (gI (wI (σ) (20 + 0) (gI (σ) (47 + 0))) (47 + 1))) (47 + 2))) (20 + 3) (gI (wI (wI (wI (σ) (20 + 0) (gI (σ) (47 + 0))) (20 + 1) (gI (wI (σ) (20 + 0) (gI (σ) (47 + 0))) (47 + 1))) (20 + 2) (gI (wI (wI (σ) (20 + 0) (gI (σ) (47 + 0))) (20 + 1) (gI (wI (σ) (20 + 0) (gI (σ) (47 + 0))) (47 + 1))) (47 + 2))) (47 + 3))) (47 + 4))) (20 + 5) (gI (wI (wI (wI (wI (wI (σ) (20 + 0) (gI (σ) (47 + 0))) (20 + 1) (gI (wI (σ) (20 + 0) (gI (σ) (47 + 0))) (47 + 1))) (20 + 2) (gI (wI (wI (σ) (20 + 0) (gI (σ) (47 + 0))) (20 + 1) (gI (wI (σ) (20 + 0) (gI (σ) (47 + 0))) (47 + 1))) (47 + 2))) (20 + 3) (gI (wI (wI (wI (σ) (20 + 0) (gI (σ) (47 + 0))) (20 + 1) (gI (wI (σ) (20 + 0) (gI (σ) (47 + 0))) (47 + 1))) (20 + 2) (gI (wI (wI (σ) (20 + 0) (gI (σ) (47 + 0))) (20 + 1) (gI (wI (σ) (20 + 0) (gI (σ) (47 + 0))) (47 + 1))) (47 + 2))) (47 + 3))) (20 + 4) (gI (wI (wI (wI (wI (σ) (20 + 0) (gI (σ) (47 + 0))) (20 + 1) (gI (wI (σ) (20 + 0) (gI (σ) (47 + 0))) (47 + 1))) (20 + 2) (gI (wI (wI (σ) (20 + 0) (gI (σ) (47 + 0))) (20 + 1) (gI (wI (σ) (20 + 0) (gI (σ) (47 + 0))) (47 + 1))) (47 + 2))) (20 + 3) (gI (wI (wI (wI (σ) (20 + 0) (gI (σ) (47 + 0))) (20 + 1) (gI (wI (σ) (20 + 0) (gI (σ) (47 + 0))) (47 + 1))) (20 + 2) (gI (wI (wI (σ) (20 + 0) (gI (σ) (47 + 0))) (20 + 1) (gI (wI (σ) (20 + 0) (gI (σ) (47 + 0))) (47 + 1))) (47 + 2))) (47 + 3))) (47 + 4))) (47 + 5))) (20 + 6) (gI (wI (wI (wI (wI (wI (wI (σ) (20 + 0) (gI (σ) (47 + 0))) (20 + 1) (gI (wI (σ) (20 + 0) (gI (σ) (47 + 0))) (47 + 1))) (20 + 2) (gI (wI (wI (σ) (20 + 0) (gI (σ) (47 + 0))) (20 + 1) (gI (wI (σ) (20 + 0) (gI (σ) (47 + 0))) (47 + 1))) (47 + 2))) (20 + 3) (gI (wI (wI (wI (σ) (20 + 0) (gI (σ) (47 + 0))) (20 + 1) (gI (wI (σ) (20 + 0) (gI (σ) (47 + 0))) (47 + 1))) (20 + 2) (gI (wI (wI (σ) (20 + 0) (gI (σ) (47 + 0))) (20 + 1) (gI (wI (σ) (20 + 0) (gI (σ) (47 + 0))) (47 + 1))) (47 + 2))) (47 + 3))) (20 + 4) (gI (wI (wI (wI (wI (σ) (20 + 0) (gI (σ) (47 + 0))) (20 + 1) (gI (wI (σ) (20 + 0) (gI (σ) (47 + 0))) (47 + 1))) (20 + 2) (gI (wI (wI (σ) (20 + 0) (gI (σ) (47 + 0))) (20 + 1) (gI (wI (σ) (20 + 0) (gI (σ) (47 + 0))) (47 + 1))) (47 + 2))) (20 + 3) (gI (wI (wI (wI (σ) (20 + 0) (gI (σ) (47 + 0))) (20 + 1) (gI (wI (σ) (20 + 0) (gI (σ) (47 + 0))) (47 + 1))) (20 + 2) (gI (wI (wI (σ) (20 + 0) (gI (σ) (47 + 0))) (20 + 1) (gI (wI (σ) (20 + 0) (gI (σ) (47 + 0))) (47 + 1))) (47 + 2))) (47 + 3))) (47 + 4))) (20 + 5) (gI (wI (wI (wI (wI (wI (σ) (20 + 0) (gI (σ) (47 + 0))) (20 + 1) (gI (wI (σ) (20 + 0) (gI (σ) (47 + 0))) (47 + 1))) (20 + 2) (gI (wI (wI (σ) (20 + 0) (gI (σ) (47 + 0))) (20 + 1) (gI (wI (σ) (20 + 0) (gI (σ) (47 + 0))) (47 + 1))) (47 + 2))) (20 + 3) (gI (wI (wI (wI (σ) (20 + 0) (gI (σ) (47 + 0))) (20 + 1) (gI (wI (σ) (20 + 0) (gI (σ) (47 + 0))) (47 + 1))) (20 + 2) (gI (wI (wI (σ) (20 + 0) (gI (σ) (47 + 0))) (20 + 1) (gI (wI (σ) (20 + 0) (gI (σ) (47 + 0))) (47 + 1))) (47 + 2))) (47 + 3))) (20 + 4) (gI (wI (wI (wI (wI (σ) (20 + 0) (gI (σ) (47 + 0))) (20 + 1) (gI (wI (σ) (20 + 0) (gI (σ) (47 + 0))) (47 + 1))) (20 + 2) (gI (wI (wI (σ) (20 + 0) (gI (σ) (47 + 0))) (20 + 1) (gI (wI (σ) (20 + 0) (gI (σ) (47 + 0))) (47 + 1))) (47 + 2))) (20 + 3) (gI (wI (wI (wI (σ) (20 + 0) (gI (σ) (47 + 0))) (20 + 1) (gI (wI (σ) (20 + 0) (gI (σ) (47 + 0))) (47 + 1))) (20 + 2) (gI (wI (wI (σ) (20 + 0) (gI (σ) (47 + 0))) (20 + 1) (gI (wI (σ) (20 + 0) (gI (σ) (47 + 0))) (47 + 1))) (47 + 2))) (47 + 3))) (47 + 4))) (47 + 5))) (47 + 6))) (47 + 7))) := by
  obtain ⟨M, hM⟩ : ∃ M, N = M + 9 := ⟨N - 9, by omega⟩
  have st : ∀ (n : Nat) (k : Nat) (σ1 : Mem), k < 8 → lp (bX1_become_1_28_114 N σ) (n + 1) (σ1, nI k) = lp (bX1_become_1_28_114 N σ) n (wI σ1 (20 + k) (gI σ1 (47 + k)), nI (k + 1)) := by
    intro n k σ1 hk
    show bX1_become_1_28_114 N σ _ (σ1, nI k) = _
    unfold bX1_become_1_28_114
    simp (disch := first | omega | decide) only [lt_d, gbT, Option.bind_some, cT2_l, cT2_r, mO_n, mO_s, lit, litL, nb_t, nb_f, need_1, need_0, ix_n, inb_T, le_T, le_F, l_T, l_F, e_F, e_R, if_true, if_false, n_add, n_mul, n_sub, n_l, fM_1, fM_2, fM_3, fM_4, fM_6, fM_7, cpI_w]
  have en : ∀ (n : Nat) (σ1 : Mem), lp (bX1_become_1_28_114 N σ) (n + 1) (σ1, nI 8) = some ((), σ1) := by
    intro n σ1
    show bX1_become_1_28_114 N σ _ (σ1, nI 8) = _
    unfold bX1_become_1_28_114
    simp (disch := first | omega | decide) only [lt_d, gbT, Option.bind_some, cT2_l, cT2_r, mO_n, mO_s, lit, litL, nb_t, nb_f, need_1, need_0, ix_n, inb_T, le_T, le_F, l_T, l_F, e_F, e_R, if_true, if_false, n_add, n_mul, n_sub, n_l, fM_1, fM_2, fM_3, fM_4, fM_6, fM_7]
  have e0 : lp (bX1_become_1_28_114 N σ) N (σ, (0 : Int32)) = lp (bX1_become_1_28_114 N σ) (M + 8 + 1) (σ, nI 0) := by
    rw [show M + 8 + 1 = N by omega]; rfl
  rw [e0, st (M + 8) 0 _ (by omega), st (M + 7) 1 _ (by omega), st (M + 6) 2 _ (by omega), st (M + 5) 3 _ (by omega), st (M + 4) 4 _ (by omega), st (M + 3) 5 _ (by omega), st (M + 2) 6 _ (by omega), st (M + 1) 7 _ (by omega), en]
theorem become1 {N : Nat} (hN : 300000 ≤ N) {σ : Mem} {s : Nat → Int32} {p : Nat} (hp : p ≤ 12) (hp0 : gI σ 28 0 = nI p) (hg : Grp (pk12 (gR σ 31 0) (gR σ 32 0) (gR σ 33 0) (gR σ 34 0) (gR σ 35 0) (gR σ 36 0) (gR σ 37 0) (gR σ 38 0) (gR σ 39 0) (gR σ 40 0) (gR σ 41 0) (gR σ 42 0)) (gC σ) s p) (j : Siz (gC σ) (gN σ)) :
    ∃ σ', fX1_become_1_28 N σ = some ((), σ') ∧ (∀ k, k < 4 → gI σ' 1 k = gI σ 28 k) ∧ gI σ' 2 = gI σ 29 ∧ gR σ' 16 0 = gR σ 43 0 ∧ gI σ' 17 = gI σ 44 ∧ gI σ' 18 = gI σ 45 ∧ (∀ k, k < 8 → gI σ' (20 + k) = gI σ (47 + k)) ∧ (∀ c, (c < 1 ∨ 28 ≤ c) → gI σ' c = gI σ c) ∧ (∀ c, (c < 1 ∨ 28 ≤ c) → gR σ' c = gR σ c) ∧ gL σ' = gL σ ∧ Ext (gC σ) (gC σ') ∧ Siz (gC σ') (gN σ') ∧ ∀ k, k < p → gR σ' (4 + k) 0 = some (gN σ + k) ∧ ∃ q m, q < 8 ∧ m ≤ 99999 ∧ gC σ' (gN σ + k) = some (.inr (8 + q, [.int (nI m)])) ∧ s (20 + k) = nI q ∧ s (32 + k) = nI m := by
  unfold fX1_become_1_28
  simp only [lt_d, pI_w, cpI_w]
  simp (disch := first | omega | decide) only [pI_w, pL_w, pR_w, pC_w, nC_w, gI_wI, gI_wIn, gI_wL, gI_wR, gI_wC, gL_wL, gL_wLn, gL_wI, gL_wR, gL_wC, gR_wR, gR_wRn, gR_wI, gR_wL, gR_wC, gC_wI, gC_wL, gC_wR, gC_wC, gN_wI, gN_wL, gN_wR, gN_wC, wI_wI, wL_wL, wR_wR, wC_wC, up_s, up_n]
  generalize h5' : wI (wI σ 1 (upd (upd (upd (upd (gI σ 1) 0 (gI σ 28 0)) 1 (gI σ 28 1)) 2 (gI σ 28 2)) 3 (gI σ 28 3))) 2 (gI σ 29) = σ5
  have h5 := h5'.symm
  refine lp_inv (N := N) (Q := fun (F : Option (Unit × Mem)) => ∃ σ', F = some ((), σ') ∧ (∀ k, k < 4 → gI σ' 1 k = gI σ 28 k) ∧ gI σ' 2 = gI σ 29 ∧ gR σ' 16 0 = gR σ 43 0 ∧ gI σ' 17 = gI σ 44 ∧ gI σ' 18 = gI σ 45 ∧ (∀ k, k < 8 → gI σ' (20 + k) = gI σ (47 + k)) ∧ (∀ c, (c < 1 ∨ 28 ≤ c) → gI σ' c = gI σ c) ∧ (∀ c, (c < 1 ∨ 28 ≤ c) → gR σ' c = gR σ c) ∧ gL σ' = gL σ ∧ Ext (gC σ) (gC σ') ∧ Siz (gC σ') (gN σ') ∧ ∀ k, k < p → gR σ' (4 + k) 0 = some (gN σ + k) ∧ ∃ q m, q < 8 ∧ m ≤ 99999 ∧ gC σ' (gN σ + k) = some (.inr (8 + q, [.int (nI m)])) ∧ s (20 + k) = nI q ∧ s (32 + k) = nI m) (b := bX1_become_1_28_45 N σ5) (P := fun k (y : Mem × Int32) => y.2 = nI k ∧ gI y.1 = gI σ5 ∧ gL y.1 = gL σ ∧ (∀ c, (c < 4 ∨ 4 + k ≤ c) → gR y.1 c = gR σ c) ∧ gN y.1 = gN σ + k ∧ Ext (gC σ) (gC y.1) ∧ Siz (gC y.1) (gN σ + k) ∧ ∀ i, i < k → gR y.1 (4 + i) 0 = some (gN σ + i) ∧ ∃ q m, q < 8 ∧ m ≤ 99999 ∧ gC y.1 (gN σ + i) = some (.inr (8 + q, [.int (nI m)])) ∧ s (20 + i) = nI q ∧ s (32 + i) = nI m) p (by omega) ?_ ?_ (σ5, nI 0) ⟨rfl, rfl, by rw [h5]; rfl, fun c _ => by rw [h5]; rfl, by rw [h5]; rfl, by rw [h5]; exact Ext.rf _, by rw [h5]; exact j, fun i hi => by omega⟩
  · rintro k ⟨σ1, y⟩ hk ⟨e1, e2, e3, e4, e5, e6, e7, e8⟩
    simp only at e1 e2 e3 e4 e5 e6 e7 e8
    subst e1
    obtain ⟨ad, q, m, g1, g2, g3, g4, g5, g6⟩ := hg k hk
    rw [gr_28 _ (by omega)] at g1
    have g1' : gR σ1 (31 + k) 0 = some ad := by rw [e4 _ (by omega)]; exact g1
    have g4' := e6 _ _ g4
    have hne : ad ≠ gN σ1 := by have := j.lt _ _ g4; omega
    have hD0 : gI σ1 1 0 = nI p := by rw [e2, h5]; exact hp0
    refine ⟨(wR (wC σ1 (updC (gC σ1) (gN σ1) (.inr (8 + q, [.int (nI m)]))) (gN σ1 + 1)) (4 + k) (updR (gR σ1 (4 + k)) 0 (some (gN σ1))), nI (k + 1)), ⟨rfl, e2, e3, fun c hc => ?_, by show gN σ1 + 1 = _; omega, ?_, ?_, fun i hi => ?_⟩, fun rec => ?_⟩
    · show gR (wR _ (4 + k) _) c = _
      rw [gR_wRn _ _ (by omega), gR_wC]
      exact e4 c (by omega)
    · exact e6.tr (Ext.new (by rw [e5]; exact e7.lt) _)
    · show Siz (updC (gC σ1) (gN σ1) _) (gN σ + (k + 1))
      rw [e5, ← Nat.add_assoc]
      exact e7.new _
    · by_cases ei : i = k
      · subst ei
        refine ⟨?_, q, m, g2, g3, ?_, g5, g6⟩
        · show gR (wR _ (4 + i) _) (4 + i) 0 = _
          rw [gR_wR, upR_s, e5]
        · show updC (gC σ1) (gN σ1) _ (gN σ + i) = _
          rw [← e5, upC_s]
      · obtain ⟨f1, q', m', f2, f3, f4, f5⟩ := e8 i (by omega)
        refine ⟨?_, q', m', f2, f3, ?_, f5⟩
        · show gR (wR _ (4 + k) _) (4 + i) 0 = _
          rw [gR_wRn _ _ (by omega), gR_wC]; exact f1
        · show updC (gC σ1) (gN σ1) _ (gN σ + i) = _
          rw [upC_n (by omega)]; exact f4
    · unfold bX1_become_1_28_45
      simp (disch := first | omega | decide) only [lt_d, gbT, Option.bind_some, cT2_l, cT2_r, mO_n, mO_s, lit, litL, nb_t, nb_f, need_1, need_0, ix_n, inb_T, le_T, le_F, l_T, l_F, e_F, e_R, if_true, if_false, n_add, n_mul, n_sub, n_l, fM_1, fM_2, fM_3, fM_4, fM_6, fM_7, pI_w, pL_w, pR_w, pC_w, nC_w, gI_wI, gI_wIn, gI_wL, gI_wR, gI_wC, gL_wL, gL_wLn, gL_wI, gL_wR, gL_wC, gR_wR, gR_wRn, gR_wI, gR_wL, gR_wC, gC_wI, gC_wL, gC_wR, gC_wC, gN_wI, gN_wL, gN_wR, gN_wC, wI_wI, wL_wL, wR_wR, wC_wC, up_s, up_n, hD0, fX1_group_28, g1', dC_n g4' g2, copy_n N g4' g2 hne]
  · rintro ⟨σ1, y⟩ ⟨e1, e2, e3, e4, e5, e6, e7, e8⟩ rec
    simp only at e1 e2 e3 e4 e5 e6 e7 e8
    subst e1
    have hD0 : gI σ1 1 0 = nI p := by rw [e2, h5]; exact hp0
    have hend : bX1_become_1_28_45 N σ5 rec (σ1, nI p) = lp (bX1_become_1_28_114 N (wI (wI (wR σ1 16 (updR (gR σ1 16) 0 (gR σ1 43 0))) 17 (gI σ1 44)) 18 (gI σ1 45))) N (wI (wI (wR σ1 16 (updR (gR σ1 16) 0 (gR σ1 43 0))) 17 (gI σ1 44)) 18 (gI σ1 45), (0 : Int32)) := by
      unfold bX1_become_1_28_45
      have hle : decide (p ≤ 12) = true := decide_eq_true hp
      cases hr : gR σ1 43 0 with
      | none => simp (disch := first | omega | decide) only [lt_d, gbT, Option.bind_some, cT2_l, cT2_r, mO_n, mO_s, lit, litL, nb_t, nb_f, need_1, need_0, ix_n, inb_T, le_T, le_F, l_T, l_F, e_F, e_R, if_true, if_false, n_add, n_mul, n_sub, n_l, fM_1, fM_2, fM_3, fM_4, fM_6, fM_7, pI_w, pL_w, pR_w, pC_w, nC_w, gI_wI, gI_wIn, gI_wL, gI_wR, gI_wC, gL_wL, gL_wLn, gL_wI, gL_wR, gL_wC, gR_wR, gR_wRn, gR_wI, gR_wL, gR_wC, gC_wI, gC_wL, gC_wR, gC_wC, gN_wI, gN_wL, gN_wR, gN_wC, wI_wI, wL_wL, wR_wR, wC_wC, up_s, up_n, hD0, hle, cpI_w, hr]
      | some ad => simp (disch := first | omega | decide) only [lt_d, gbT, Option.bind_some, cT2_l, cT2_r, mO_n, mO_s, lit, litL, nb_t, nb_f, need_1, need_0, ix_n, inb_T, le_T, le_F, l_T, l_F, e_F, e_R, if_true, if_false, n_add, n_mul, n_sub, n_l, fM_1, fM_2, fM_3, fM_4, fM_6, fM_7, pI_w, pL_w, pR_w, pC_w, nC_w, gI_wI, gI_wIn, gI_wL, gI_wR, gI_wC, gL_wL, gL_wLn, gL_wI, gL_wR, gL_wC, gR_wR, gR_wRn, gR_wI, gR_wL, gR_wC, gC_wI, gC_wL, gC_wR, gC_wC, gN_wI, gN_wL, gN_wR, gN_wC, wI_wI, wL_wL, wR_wR, wC_wC, up_s, up_n, hD0, hle, cpI_w, hr]
    rw [hend, bk1_lp hN]
    refine ⟨_, rfl, ?_, ?_, ?_, ?_, ?_, ?_, ?_, ?_, e3, e6, ?_, ?_⟩
    · intro k hk
      show gI σ1 1 k = _
      rw [e2, h5]
      show upd (upd (upd (upd (gI σ 1) 0 (gI σ 28 0)) 1 (gI σ 28 1)) 2 (gI σ 28 2)) 3 (gI σ 28 3) k = _
      have hk4 : k = 0 ∨ k = 1 ∨ k = 2 ∨ k = 3 := by omega
      rcases hk4 with rfl | rfl | rfl | rfl <;> rfl
    · show gI σ1 2 = _
      rw [e2, h5]; rfl
    · show gR σ1 43 0 = _
      rw [e4 _ (by omega)]
    · show gI σ1 44 = _
      rw [e2, h5]; rfl
    · show gI σ1 45 = _
      rw [e2, h5]; rfl
    · intro k hk
      have hk8 : k = 0 ∨ k = 1 ∨ k = 2 ∨ k = 3 ∨ k = 4 ∨ k = 5 ∨ k = 6 ∨ k = 7 := by omega
      have hs : ∀ c, c ≠ 1 → c ≠ 2 → gI σ1 c = gI σ c := fun c h1 h2 => by rw [e2, h5, gI_wIn _ _ h2, gI_wIn _ _ h1]
      rcases hk8 with rfl | rfl | rfl | rfl | rfl | rfl | rfl | rfl
      · exact hs 47 (by decide) (by decide)
      · exact hs 48 (by decide) (by decide)
      · exact hs 49 (by decide) (by decide)
      · exact hs 50 (by decide) (by decide)
      · exact hs 51 (by decide) (by decide)
      · exact hs 52 (by decide) (by decide)
      · exact hs 53 (by decide) (by decide)
      · exact hs 54 (by decide) (by decide)
    · intro c hc
      simp (disch := first | omega | decide) only [pI_w, pL_w, pR_w, pC_w, nC_w, gI_wI, gI_wIn, gI_wL, gI_wR, gI_wC, gL_wL, gL_wLn, gL_wI, gL_wR, gL_wC, gR_wR, gR_wRn, gR_wI, gR_wL, gR_wC, gC_wI, gC_wL, gC_wR, gC_wC, gN_wI, gN_wL, gN_wR, gN_wC, wI_wI, wL_wL, wR_wR, wC_wC, up_s, up_n]
      rw [e2, h5]
      simp (disch := first | omega | decide) only [pI_w, pL_w, pR_w, pC_w, nC_w, gI_wI, gI_wIn, gI_wL, gI_wR, gI_wC, gL_wL, gL_wLn, gL_wI, gL_wR, gL_wC, gR_wR, gR_wRn, gR_wI, gR_wL, gR_wC, gC_wI, gC_wL, gC_wR, gC_wC, gN_wI, gN_wL, gN_wR, gN_wC, wI_wI, wL_wL, wR_wR, wC_wC, up_s, up_n]
    · intro c hc
      simp (disch := first | omega | decide) only [pI_w, pL_w, pR_w, pC_w, nC_w, gI_wI, gI_wIn, gI_wL, gI_wR, gI_wC, gL_wL, gL_wLn, gL_wI, gL_wR, gL_wC, gR_wR, gR_wRn, gR_wI, gR_wL, gR_wC, gC_wI, gC_wL, gC_wR, gC_wC, gN_wI, gN_wL, gN_wR, gN_wC, wI_wI, wL_wL, wR_wR, wC_wC, up_s, up_n]
      exact e4 c (by omega)
    · show Siz (gC σ1) (gN σ1)
      rw [e5]; exact e7
    · intro k hk
      obtain ⟨f1, q', m', f2, f3, f4, f5⟩ := e8 k hk
      refine ⟨?_, q', m', f2, f3, f4, f5⟩
      simp (disch := first | omega | decide) only [pI_w, pL_w, pR_w, pC_w, nC_w, gI_wI, gI_wIn, gI_wL, gI_wR, gI_wC, gL_wL, gL_wLn, gL_wI, gL_wR, gL_wC, gR_wR, gR_wRn, gR_wI, gR_wL, gR_wC, gC_wI, gC_wL, gC_wR, gC_wC, gN_wI, gN_wL, gN_wR, gN_wC, wI_wI, wL_wL, wR_wR, wC_wC, up_s, up_n, f1]
