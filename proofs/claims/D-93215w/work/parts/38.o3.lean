/-! SIMPLE OPERATIONS, three: new people, rules, rows, weeks' draws -/
set_option maxRecDepth 100000
theorem lp_two {S S' T T' : Type} {b : (S → Option T) → S → Option T} {b' : (S' → Option T') → S' → Option T'} (P : S → S' → Prop) (μ : S → Nat) {Q : Option T → Option T' → Prop} (hs : ∀ s s', P s s' → (∀ rec rec', Q (b rec s) (b' rec' s')) ∨ ∃ t t', P t t' ∧ μ t < μ s ∧ (∀ rec, b rec s = rec t) ∧ (∀ rec, b' rec s' = rec t')) : ∀ (N : Nat) (s : S) (s' : S'), μ s < N → P s s' → Q (lp b N s) (lp b' N s') := by
  intro N
  induction N with
  | zero => intro s s' h; omega
  | succ N ih =>
    intro s s' h hp
    show Q (b (lp b N) s) (b' (lp b' N) s')
    rcases hs s s' hp with h1 | ⟨t, t', h1, h2, h3, h4⟩
    · exact h1 _ _
    · rw [h3, h4]; exact ih t t' (by omega) h1
theorem ini_n (N : Nat) (σ : Mem) {c : Nat} (v : Int32) (hc : 8 ≤ c ∧ c < 16) : fX7_init N (nC σ (.inr (c, [.int (nI 0)]))) (gN σ) v = some ((), wC σ (updC (gC σ) (gN σ) (.inr (c, [.int v]))) (gN σ + 1)) := by
  have h1 : gC (nC σ (.inr (c, [.int (nI 0)]))) (gN σ) = some (.inr (c, [.int (nI 0)])) := upC_s
  have h3 : wV 8 16 (nC σ (.inr (c, [.int (nI 0)]))) (gN σ) 0 (.int v) = some (wC σ (updC (gC σ) (gN σ) (.inr (c, [.int v]))) (gN σ + 1)) := by
    unfold wV; rw [h1]
    show (if (8 ≤ c ∧ c < 16) ∧ 0 < [Value.int (nI 0)].length then some (pC (nC σ _) (gN σ) (.inr (c, [.int v]))) else none) = _
    rw [if_pos ⟨hc, by decide⟩, pC_w, nC_w, gC_wC, gN_wC, wC_wC, updC2]
  unfold fX7_init
  rw [h3]; rfl
theorem grp_n (N : Nat) (σ : Mem) {k : Nat} (hk : k < 8) (v : Int32) : fX0_groupOf N σ (nI k) v = some (some (gN σ), wC σ (updC (gC σ) (gN σ) (.inr (8 + k, [.int v]))) (gN σ + 1)) := by
  unfold fX0_groupOf
  have h8 : k = 0 ∨ k = 1 ∨ k = 2 ∨ k = 3 ∨ k = 4 ∨ k = 5 ∨ k = 6 ∨ k = 7 := by omega
  rcases h8 with rfl | rfl | rfl | rfl | rfl | rfl | rfl | rfl
  · simp (disch := first | omega | decide) only [lt_d, gbT, Option.bind_some, cT2_l, cT2_r, mO_n, mO_s, lit, litL, nb_t, nb_f, need_1, need_0, ix_n, inb_T, le_T, le_F, l_T, l_F, e_F, e_R, if_true, if_false, n_add, n_mul, n_sub, n_l, fM_1, fM_2, fM_3, fM_4, fM_6, fM_7, ini_n N σ (c := 8) v (by decide)]
  · simp (disch := first | omega | decide) only [lt_d, gbT, Option.bind_some, cT2_l, cT2_r, mO_n, mO_s, lit, litL, nb_t, nb_f, need_1, need_0, ix_n, inb_T, le_T, le_F, l_T, l_F, e_F, e_R, if_true, if_false, n_add, n_mul, n_sub, n_l, fM_1, fM_2, fM_3, fM_4, fM_6, fM_7, fX8_init, ini_n N σ (c := 9) v (by decide)]
  · simp (disch := first | omega | decide) only [lt_d, gbT, Option.bind_some, cT2_l, cT2_r, mO_n, mO_s, lit, litL, nb_t, nb_f, need_1, need_0, ix_n, inb_T, le_T, le_F, l_T, l_F, e_F, e_R, if_true, if_false, n_add, n_mul, n_sub, n_l, fM_1, fM_2, fM_3, fM_4, fM_6, fM_7, fX9_init, ini_n N σ (c := 10) v (by decide)]
  · simp (disch := first | omega | decide) only [lt_d, gbT, Option.bind_some, cT2_l, cT2_r, mO_n, mO_s, lit, litL, nb_t, nb_f, need_1, need_0, ix_n, inb_T, le_T, le_F, l_T, l_F, e_F, e_R, if_true, if_false, n_add, n_mul, n_sub, n_l, fM_1, fM_2, fM_3, fM_4, fM_6, fM_7, fX10_init, ini_n N σ (c := 11) v (by decide)]
  · simp (disch := first | omega | decide) only [lt_d, gbT, Option.bind_some, cT2_l, cT2_r, mO_n, mO_s, lit, litL, nb_t, nb_f, need_1, need_0, ix_n, inb_T, le_T, le_F, l_T, l_F, e_F, e_R, if_true, if_false, n_add, n_mul, n_sub, n_l, fM_1, fM_2, fM_3, fM_4, fM_6, fM_7, fX11_init, ini_n N σ (c := 12) v (by decide)]
  · simp (disch := first | omega | decide) only [lt_d, gbT, Option.bind_some, cT2_l, cT2_r, mO_n, mO_s, lit, litL, nb_t, nb_f, need_1, need_0, ix_n, inb_T, le_T, le_F, l_T, l_F, e_F, e_R, if_true, if_false, n_add, n_mul, n_sub, n_l, fM_1, fM_2, fM_3, fM_4, fM_6, fM_7, fX12_init, fX8_init, ini_n N σ (c := 13) v (by decide)]
  · simp (disch := first | omega | decide) only [lt_d, gbT, Option.bind_some, cT2_l, cT2_r, mO_n, mO_s, lit, litL, nb_t, nb_f, need_1, need_0, ix_n, inb_T, le_T, le_F, l_T, l_F, e_F, e_R, if_true, if_false, n_add, n_mul, n_sub, n_l, fM_1, fM_2, fM_3, fM_4, fM_6, fM_7, fX13_init, fX10_init, ini_n N σ (c := 14) v (by decide)]
  · simp (disch := first | omega | decide) only [lt_d, gbT, Option.bind_some, cT2_l, cT2_r, mO_n, mO_s, lit, litL, nb_t, nb_f, need_1, need_0, ix_n, inb_T, le_T, le_F, l_T, l_F, e_F, e_R, if_true, if_false, n_add, n_mul, n_sub, n_l, fM_1, fM_2, fM_3, fM_4, fM_6, fM_7, fX14_init, fX13_init, fX10_init, ini_n N σ (c := 15) v (by decide)]
theorem Grp.lt {G : Nat → Option Nat} {C : Cel} {s : Nat → Int32} {p n : Nat} (h : Grp G C s p) (hz : Siz C n) : ∀ i a, i < p → G i = some a → a < n := fun i a hi e => by
  obtain ⟨a', k, m, h1, h2, h3, h4, h5⟩ := h i hi
  rw [e] at h1
  cases h1
  exact hz.lt _ _ h4
set_option maxHeartbeats 4000000 in
theorem op_people {σ τ : Mem} (h : R σ τ) (N : Nat) (x y : Int32) : Op σ τ (fX0_people N σ x y) (fX5_people N τ x y) := by
  have h' := h
  obtain ⟨a, ⟨p, w, b, hn, hru, hg, hap, hl, hh, hb⟩, c, d, e, f, g, i, j, k⟩ := h'
  have hn' := hn
  obtain ⟨n1, n2, n3, n4, n5, n6, n7, n8, n9, n10⟩ := hn'
  unfold fX0_people fX5_people
  simp (disch := first | omega | decide) only [lt_d, gbT, Option.bind_some, cT2_l, cT2_r, mO_n, mO_s, lit, litL, nb_t, nb_f, need_1, need_0, ix_n, inb_T, le_T, le_F, l_T, l_F, e_F, e_R, if_true, if_false, n_add, n_mul, n_sub, n_l, fM_1, fM_2, fM_3, fM_4, fM_6, fM_7, isIn_R, in_R, inR_P]
  cases hx : inP x 8 with
  | false =>
    simp (disch := first | omega | decide) only [lt_d, gbT, Option.bind_some, cT2_l, cT2_r, mO_n, mO_s, lit, litL, nb_t, nb_f, need_1, need_0, ix_n, inb_T, le_T, le_F, l_T, l_F, e_F, e_R, if_true, if_false, n_add, n_mul, n_sub, n_l, fM_1, fM_2, fM_3, fM_4, fM_6, fM_7, jX0_people_29]
    exact Op.err h (by decide) (finds_n N σ (by decide)) rfl
  | true =>
    obtain ⟨kk, hk, rfl⟩ := inP_T (by decide) hx
    cases hy : inP y 100000 with
    | false =>
      simp (disch := first | omega | decide) only [lt_d, gbT, Option.bind_some, cT2_l, cT2_r, mO_n, mO_s, lit, litL, nb_t, nb_f, need_1, need_0, ix_n, inb_T, le_T, le_F, l_T, l_F, e_F, e_R, if_true, if_false, n_add, n_mul, n_sub, n_l, fM_1, fM_2, fM_3, fM_4, fM_6, fM_7]
      exact Op.err h (by decide) (finds_n N σ (by decide)) rfl
    | true =>
      obtain ⟨m, hm, rfl⟩ := inP_T (by decide) hy
      by_cases hp : p = 12
      · subst hp
        simp (disch := first | omega | decide) only [lt_d, gbT, Option.bind_some, cT2_l, cT2_r, mO_n, mO_s, lit, litL, nb_t, nb_f, need_1, need_0, ix_n, inb_T, le_T, le_F, l_T, l_F, e_F, e_R, if_true, if_false, n_add, n_mul, n_sub, n_l, fM_1, fM_2, fM_3, fM_4, fM_6, fM_7, n4, n5]
        exact Op.err h (by decide) (finds_n N σ (by decide)) rfl
      · have hp : p < 12 := by omega
        simp (disch := first | omega | decide) only [lt_d, gbT, Option.bind_some, cT2_l, cT2_r, mO_n, mO_s, lit, litL, nb_t, nb_f, need_1, need_0, ix_n, inb_T, le_T, le_F, l_T, l_F, e_F, e_R, if_true, if_false, n_add, n_mul, n_sub, n_l, fM_1, fM_2, fM_3, fM_4, fM_6, fM_7, pI_w, pL_w, pR_w, pC_w, nC_w, gI_wI, gI_wIn, gI_wL, gI_wR, gI_wC, gL_wL, gL_wLn, gL_wI, gL_wR, gL_wC, gR_wR, gR_wRn, gR_wI, gR_wL, gR_wC, gC_wI, gC_wL, gC_wR, gC_wC, gN_wI, gN_wL, gN_wR, gN_wC, wI_wI, wL_wL, wR_wR, wC_wC, up_s, up_n, grp_n N σ hk, n4, n5, Nat.add_sub_cancel]
        refine ⟨_, _, _, rfl, rfl, ?_⟩
        have hx := Ext.new j.lt (.inr (8 + kk, [.int (nI m)]))
        unfold R Kpt
        simp (disch := first | omega | decide) only [pI_w, pL_w, pR_w, pC_w, nC_w, gI_wI, gI_wIn, gI_wL, gI_wR, gI_wC, gL_wL, gL_wLn, gL_wI, gL_wR, gL_wC, gR_wR, gR_wRn, gR_wI, gR_wL, gR_wC, gC_wI, gC_wL, gC_wR, gC_wC, gN_wI, gN_wL, gN_wR, gN_wC, wI_wI, wL_wL, wR_wR, wC_wC, up_s, up_n]
        refine ⟨a, ⟨p + 1, w, b, ?_, ((hru.irr (by omega)).irr (by omega)).irr (by omega), ?_, ?_, (((hl.irr (by omega) (by omega) (by omega)).irr (by omega) (by omega) (by omega)).irr (by omega) (by omega) (by omega)).ext hx.T, ((hh.irr (by omega)).irr (by omega)).irr (by omega), ((hb.irr (by omega)).irr (by omega)).irr (by omega)⟩, ⟨c.1, ?_⟩, d, e.ext hx, f, Or.inl rfl, ?_, j.new _, k⟩
        · refine ⟨by omega, n2, n3, rfl, rfl, n6, ?_, n8, ?_, ?_⟩
          · simp (disch := first | omega | decide) only [pI_w, pL_w, pR_w, pC_w, nC_w, gI_wI, gI_wIn, gI_wL, gI_wR, gI_wC, gL_wL, gL_wLn, gL_wI, gL_wR, gL_wC, gR_wR, gR_wRn, gR_wI, gR_wL, gR_wC, gC_wI, gC_wL, gC_wR, gC_wC, gN_wI, gN_wL, gN_wR, gN_wC, wI_wI, wL_wL, wR_wR, wC_wC, up_s, up_n, n7]
          · simp (disch := first | omega | decide) only [pI_w, pL_w, pR_w, pC_w, nC_w, gI_wI, gI_wIn, gI_wL, gI_wR, gI_wC, gL_wL, gL_wLn, gL_wI, gL_wR, gL_wC, gR_wR, gR_wRn, gR_wI, gR_wL, gR_wC, gC_wI, gC_wL, gC_wR, gC_wC, gN_wI, gN_wL, gN_wR, gN_wC, wI_wI, wL_wL, wR_wR, wC_wC, up_s, up_n, n9]
          · simp (disch := first | omega | decide) only [pI_w, pL_w, pR_w, pC_w, nC_w, gI_wI, gI_wIn, gI_wL, gI_wR, gI_wC, gL_wL, gL_wLn, gL_wI, gL_wR, gL_wC, gR_wR, gR_wRn, gR_wI, gR_wL, gR_wC, gC_wI, gC_wL, gC_wR, gC_wC, gN_wI, gN_wL, gN_wR, gN_wC, wI_wI, wL_wL, wR_wR, wC_wC, up_s, up_n, n10]
        · intro q hq
          rw [gr_1 _ (by omega)]
          by_cases e1 : q = p
          · subst e1
            refine ⟨gN σ, kk, m, ?_, hk, by omega, upC_s, ?_, ?_⟩
            · simp (disch := first | omega | decide) only [pI_w, pL_w, pR_w, pC_w, nC_w, gI_wI, gI_wIn, gI_wL, gI_wR, gI_wC, gL_wL, gL_wLn, gL_wI, gL_wR, gL_wC, gR_wR, gR_wRn, gR_wI, gR_wL, gR_wC, gC_wI, gC_wL, gC_wR, gC_wC, gN_wI, gN_wL, gN_wR, gN_wC, wI_wI, wL_wL, wR_wR, wC_wC, up_s, up_n, upR_s]
            · simp (disch := first | omega | decide) only [pI_w, pL_w, pR_w, pC_w, nC_w, gI_wI, gI_wIn, gI_wL, gI_wR, gI_wC, gL_wL, gL_wLn, gL_wI, gL_wR, gL_wC, gR_wR, gR_wRn, gR_wI, gR_wL, gR_wC, gC_wI, gC_wL, gC_wR, gC_wC, gN_wI, gN_wL, gN_wR, gN_wC, wI_wI, wL_wL, wR_wR, wC_wC, up_s, up_n]
            · simp (disch := first | omega | decide) only [pI_w, pL_w, pR_w, pC_w, nC_w, gI_wI, gI_wIn, gI_wL, gI_wR, gI_wC, gL_wL, gL_wLn, gL_wI, gL_wR, gL_wC, gR_wR, gR_wRn, gR_wI, gR_wL, gR_wC, gC_wI, gC_wL, gC_wR, gC_wC, gN_wI, gN_wL, gN_wR, gN_wC, wI_wI, wL_wL, wR_wR, wC_wC, up_s, up_n]
          · obtain ⟨a2, k2, m2, f1, f2, f3, f4, f5, f6⟩ := hg q (by omega)
            rw [gr_1 _ (by omega)] at f1
            refine ⟨a2, k2, m2, ?_, f2, f3, hx _ _ f4, ?_, ?_⟩
            · simp (disch := first | omega | decide) only [pI_w, pL_w, pR_w, pC_w, nC_w, gI_wI, gI_wIn, gI_wL, gI_wR, gI_wC, gL_wL, gL_wLn, gL_wI, gL_wR, gL_wC, gR_wR, gR_wRn, gR_wI, gR_wL, gR_wC, gC_wI, gC_wL, gC_wR, gC_wC, gN_wI, gN_wL, gN_wR, gN_wC, wI_wI, wL_wL, wR_wR, wC_wC, up_s, up_n, f1]
            · simp (disch := first | omega | decide) only [pI_w, pL_w, pR_w, pC_w, nC_w, gI_wI, gI_wIn, gI_wL, gI_wR, gI_wC, gL_wL, gL_wLn, gL_wI, gL_wR, gL_wC, gR_wR, gR_wRn, gR_wI, gR_wL, gR_wC, gC_wI, gC_wL, gC_wR, gC_wC, gN_wI, gN_wL, gN_wR, gN_wC, wI_wI, wL_wL, wR_wR, wC_wC, up_s, up_n, f5]
            · simp (disch := first | omega | decide) only [pI_w, pL_w, pR_w, pC_w, nC_w, gI_wI, gI_wIn, gI_wL, gI_wR, gI_wC, gL_wL, gL_wLn, gL_wI, gL_wR, gL_wC, gR_wR, gR_wRn, gR_wI, gR_wL, gR_wC, gC_wI, gC_wL, gC_wR, gC_wC, gN_wI, gN_wL, gN_wR, gN_wC, wI_wI, wL_wL, wR_wR, wC_wC, up_s, up_n, f6]
        · intro q r hq hr
          rw [gr_1 _ (by omega), gr_1 _ (by omega)]
          by_cases e1 : q = p
          · by_cases e2 : r = p
            · omega
            · intro z
              subst e1
              obtain ⟨a2, k2, m2, f1, f2, f3, f4, f5, f6⟩ := hg r (by omega)
              rw [gr_1 _ (by omega)] at f1
              rw [gR_wR, upR_s, gR_wRn _ _ (by omega), gR_wC, f1] at z
              cases z
              exact absurd (j.lt _ _ f4) (Nat.lt_irrefl _)
          · by_cases e2 : r = p
            · intro z
              subst e2
              obtain ⟨a2, k2, m2, f1, f2, f3, f4, f5, f6⟩ := hg q (by omega)
              rw [gr_1 _ (by omega)] at f1
              rw [gR_wR, upR_s, gR_wRn _ _ (by omega), gR_wC, f1] at z
              cases z
              exact absurd (j.lt _ _ f4) (Nat.lt_irrefl _)
            · intro z
              rw [gR_wRn _ _ (by omega), gR_wRn _ _ (by omega), gR_wC] at z
              exact hap q r (by omega) (by omega) (by rw [gr_1 _ (by omega), gr_1 _ (by omega)]; exact z)
        · rcases c.2 with c2 | ⟨c2, hk2, hd⟩
          · exact Or.inl c2
          · refine Or.inr ⟨c2, hk2.ext hx, ?_⟩
            obtain ⟨p', w', b', hn', hru', hg', -⟩ := hk2
            have e1 : ix (gI σ 1 0) = p := by rw [n4, ix_n (by omega)]
            have e2 : ix (gI σ 28 0) = p' := by rw [hn'.2.2.2.1, ix_n (by have := hn'.1; omega)]
            rw [e1, e2] at hd
            rw [e2, ix_n (by omega)]
            intro q r hq hr
            rw [gr_1 _ (by omega)]
            by_cases e1 : q = p
            · subst e1
              rw [gR_wR, upR_s]
              intro z
              exact absurd (hg'.lt j r _ hr z.symm) (Nat.lt_irrefl _)
            · rw [gR_wRn _ _ (by omega), gR_wC, ← gr_1 _ (by omega)]
              exact hd q r (by omega) hr
        · refine i.new ?_
          rw [sayN_i (by omega) (by omega) (by omega) (by omega), sayN_i (by omega) (by omega) (by omega) (by omega), sayN_i (by omega) (by omega) (by omega) (by omega)]
