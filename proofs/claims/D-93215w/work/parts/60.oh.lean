/-! BEST AND LINE -/
set_option maxRecDepth 100000
theorem op_best {σ τ : Mem} (h : R σ τ) {N : Nat} (hN : 300000 ≤ N) (x : Int32) : Op σ τ (fX0_best N σ x) (fX5_best N τ x) := by
  have hX : fX0_in N σ x.toInt64 (0 : Int64) (1 : Int64) = some (nb (inP x 2)) := by
    rw [← inR_P x (b := 1) (by decide)]; exact in_R N σ x (a := 0) (b := 1) (by decide) (by decide)
  have hM : fX5_isIn N τ x.toInt64 (0 : Int64) (1 : Int64) = some (nb (inP x 2)) := by
    rw [← inR_P x (b := 1) (by decide)]; exact isIn_R N τ x (a := 0) (b := 1) (by decide) (by decide)
  unfold fX0_best fX5_best
  rw [hX, hM]
  cases hx : inP x 2 with
  | false =>
    simp (disch := first | omega | decide) only [lt_d, gbT, Option.bind_some, cT2_l, cT2_r, mO_n, mO_s, lit, litL, nb_t, nb_f, need_1, need_0, ix_n, inb_T, le_T, le_F, l_T, l_F, e_F, e_R, if_true, if_false, n_add, n_mul, n_sub, n_l, fM_1, fM_2, fM_3, fM_4, fM_6, fM_7]
    exact Op.err h (by decide) (finds_n N σ (by decide)) rfl
  | true =>
    obtain ⟨σ', x1, x2, x3, x4, x5, x6⟩ := wonX h hN
    obtain ⟨c, hc, c1, c2⟩ := pot17 x4
    obtain ⟨τ1, m1, m2, m3, m4⟩ := potM x4 hN (gI τ 1 17)
    obtain ⟨P, hP, eP⟩ := potB x4 hc
    obtain ⟨τ2, w1, w2, w3, w4⟩ := worthM m3 hN hP (show 0 < 495 by decide)
    rw [m4] at w1 w4
    have w0 : fX5_worthOf N τ1 (0 : Int32) (lN P) = some (wtV (gI τ 1) (lN P) 0, τ2) := w1
    have v0 : fX0_worthOf N σ' (0 : Int32) (lN P) = some (wtV (gI τ 1) (lN P) 0) := worthX x4 hN x3 hP (show 0 < 495 by decide)
    rw [nb_t, Option.bind_some, Option.bind_some, if_neg ne1, show fX0_need N σ (nI 1) (0 : Int32) = some (.inl (), σ) from need_1 N σ 0, Option.bind_some, cT2_l, x1, Option.bind_some, potX x4 x2, Option.bind_some, m1, Option.bind_some, c1, c2, n_l (by omega), eP, v0, Option.bind_some, w0, Option.bind_some]
    refine lp_two (P := fun (s : Int32 × Int32 × Int32) (s' : Mem × Int32 × Int32 × Int32) => s = s'.2 ∧ R σ' s'.1 ∧ gI s'.1 1 = gI τ 1 ∧ ∃ k, k ≤ 495 ∧ s.2.2 = nI k) (μ := fun s => 495 - ix s.2.2) (Q := fun F G => Op σ τ F G) ?_ N _ _ (by omega) ⟨rfl, w3, w4, 1, by decide, rfl⟩
    rintro ⟨i, v, z⟩ ⟨t, i', v', z'⟩ ⟨h1, h2, h3, k, h4, h5⟩
    dsimp only at h1 h2 h3 h5
    cases h1
    subst h5
    by_cases e : 495 ≤ k
    · left
      intro rec rec'
      have : k = 495 := by omega
      subst this
      unfold bX0_best_45 bX5_best_43
      dsimp only
      rw [if_pos (show (495 : Int32) ≤ nI 495 from by decide), if_pos (show (495 : Int32) ≤ nI 495 from by decide)]
      exact ⟨_, _, _, rfl, rfl, h2⟩
    · right
      have g0 : ¬ (495 : Int32) ≤ nI k := by
        rw [show (495 : Int32) = nI 495 from rfl, le_F (by omega) (by omega)]; exact not_false
      have hone : nI k + (1 : Int32) = nI (k + 1) := n_add k 1
      have hwX := worthX (N := N) x4 hN x3 hP (show k < 495 by omega)
      obtain ⟨t2, y1, y2, y3, y4⟩ := worthM h2 hN hP (show k < 495 by omega)
      rw [h3] at y1 y4
      generalize wtV (gI τ 1) (lN P) k = q at hwX y1
      refine ⟨(if q ≤ v then i else nI k, if q ≤ v then v else q, nI (k + 1)), (t2, if q ≤ v then i else nI k, if q ≤ v then v else q, nI (k + 1)), ⟨rfl, y3, y4, k + 1, by omega, rfl⟩, ?_, ?_, ?_⟩
      · show 495 - ix (nI (k + 1)) < 495 - ix (nI k)
        rw [ix_n (by omega), ix_n (by omega)]; omega
      · intro rec
        unfold bX0_best_45
        dsimp only
        rw [if_neg g0, hwX, Option.bind_some, hone]
        by_cases e2 : q ≤ v
        · rw [if_neg (Int32.not_lt.mpr e2), if_pos e2, if_pos e2]
        · rw [if_pos (Int32.not_le.mp e2), if_neg e2, if_neg e2]
      · intro rec
        unfold bX5_best_43
        dsimp only
        rw [if_neg g0, y1, Option.bind_some, lt_d, lt_d, hone]
theorem lg_lt {d d' : Nat} (h0 : 0 < d) (h : 2 * d' ≤ d) : Nat.log2 (2 * d') < Nat.log2 (2 * d) := by
  have h1 : 2 ^ Nat.log2 (2 * d') ≤ d := by
    by_cases e : 2 * d' = 0
    · rw [e]; show 2 ^ 0 ≤ d; omega
    · exact Nat.le_trans (Nat.log2_self_le e) h
  have h2 : 2 ^ (Nat.log2 (2 * d') + 1) ≤ 2 * d := by rw [Nat.pow_succ]; omega
  exact (Nat.le_log2 (by omega)).mpr h2
theorem op_line {σ τ : Mem} (h : R σ τ) {N : Nat} (hN : 300000 ≤ N) (x : Int32) : Op σ τ (fX0_line N σ x) (fX5_line N τ x) := by
  unfold fX0_line fX5_line
  rw [isPlX, isPlM]
  cases hx : inP x 495 with
  | false =>
    simp (disch := first | omega | decide) only [lt_d, gbT, Option.bind_some, cT2_l, cT2_r, mO_n, mO_s, lit, litL, nb_t, nb_f, need_1, need_0, ix_n, inb_T, le_T, le_F, l_T, l_F, e_F, e_R, if_true, if_false, n_add, n_mul, n_sub, n_l, fM_1, fM_2, fM_3, fM_4, fM_6, fM_7]
    exact Op.err h (by decide) (finds_n N σ (by decide)) rfl
  | true =>
    obtain ⟨r, hr, rfl⟩ := inP_T (by decide) hx
    obtain ⟨σ', x1, x2, x3, x4, x5, x6⟩ := wonX h hN
    obtain ⟨τ1, m1, m2, m3, m4⟩ := potM x4 hN (99999999 : Int32)
    obtain ⟨P, hP, eP⟩ := potB x4 (show 99999999 ≤ 99999999 by decide)
    obtain ⟨τ2, w1, w2, w3, w4⟩ := worthM m3 hN hP hr
    rw [m4] at w1 w4
    have s0 : ∀ t, gI t 1 = gI τ 1 → gI t 1 10 = gI σ' 2 0 := by
      intro t ht
      obtain ⟨a, ⟨p, w, b, hn, hru, -⟩, -⟩ := x4
      rw [ht]; exact (hru 0 (by omega)).1.symm
    have e1 : (99999999 : Int32).toInt64 = lN 99999999 := by decide
    have p1 : fX0_potWith N σ' (99999999 : Int64) = some (lN P) := by rw [potX x4 x2]; exact congrArg some eP
    rw [e1, eP] at m1
    rw [nb_t, Option.bind_some, Option.bind_some, if_neg ne1, show fX0_need N σ (nI 1) (0 : Int32) = some (.inl (), σ) from need_1 N σ 0, Option.bind_some, cT2_l, x1, Option.bind_some, p1, Option.bind_some, m1, Option.bind_some, worthX x4 hN x3 hP hr, Option.bind_some, w1, Option.bind_some, s0 τ2 w4]
    generalize wtV (gI τ 1) (lN P) r = q
    by_cases e : gI σ' 2 0 ≤ q
    · rw [if_neg (Int32.not_lt.mpr e), if_pos e, show fX0_need N σ' (1 : Int32) (3 : Int32) = some (.inl (), σ') from need_1 N σ' 3, Option.bind_some, cT2_l]
      refine lp_two (P := fun (s : Int32 × Int32) (s' : Mem × Int32 × Int32) => s = s'.2 ∧ R σ' s'.1 ∧ gI s'.1 1 = gI τ 1 ∧ ∃ a b : Nat, a ≤ b ∧ b ≤ 99999999 ∧ s.1 = nI a ∧ s.2 = nI b) (μ := fun s => Nat.log2 (2 * (ix s.2 - ix s.1))) (Q := fun F G => Op σ τ F G) ?_ N _ _ ?_ ⟨rfl, w3, w4, 0, 99999999, by decide, by decide, rfl, rfl⟩
      · rintro ⟨lo, hi⟩ ⟨t, lo', hi'⟩ ⟨h1, h2, h3, a, b, h4, h5, h7, h8⟩
        dsimp only at h1 h2 h3 h7 h8
        cases h1
        subst h7 h8
        by_cases e2 : b ≤ a
        · left
          intro rec rec'
          unfold bX0_line_51 bX5_line_47
          dsimp only
          rw [if_pos (nI_le e2 (by omega)), if_pos (nI_le e2 (by omega))]
          exact ⟨_, _, _, rfl, rfl, h2⟩
        · right
          have hlt : ¬ nI b ≤ nI a := nI_ge (by omega) (by omega)
          have mX : nI a + (nI b - nI a) / (2 : Int32) = nI ((a + b) / 2) := by
            rw [n_sub h4, show (2 : Int32) = nI 2 from rfl, n_div (by omega) (by decide) (by decide), n_add]
            congr 1; omega
          have mM : (nI a + nI b) / (2 : Int32) = nI ((a + b) / 2) := by
            rw [n_add, show (2 : Int32) = nI 2 from rfl, n_div (by omega) (by decide) (by decide)]
          have m1 : a ≤ (a + b) / 2 := by omega
          have m2 : (a + b) / 2 < b := by omega
          generalize hm : (a + b) / 2 = m at mX mM m1 m2
          have hone : nI m + (1 : Int32) = nI (m + 1) := n_add m 1
          obtain ⟨P', hP', eP'⟩ := potB x4 (show m ≤ 99999999 by omega)
          have hpX : fX0_potWith N σ' ((nI m).toInt64) = some (lN P') := by rw [potX x4 x2, n_l (by omega), eP']
          have hwX := worthX (N := N) x4 hN x3 hP' hr
          obtain ⟨t1, y1, y2, y3, y4⟩ := potM h2 hN (nI m)
          rw [h3] at y1 y4
          rw [n_l (by omega), eP'] at y1
          obtain ⟨t2, z1, z2, z3, z4⟩ := worthM y3 hN hP' hr
          rw [y4] at z1 z4
          have s10 := s0 t2 z4
          generalize wtV (gI τ 1) (lN P') r = q' at hwX z1
          refine ⟨(if q' < gI σ' 2 0 then nI (m + 1) else nI a, if q' < gI σ' 2 0 then nI b else nI m), (t2, if q' < gI σ' 2 0 then nI (m + 1) else nI a, if q' < gI σ' 2 0 then nI b else nI m), ⟨rfl, z3, z4, if q' < gI σ' 2 0 then m + 1 else a, if q' < gI σ' 2 0 then b else m, ?_, ?_, ?_, ?_⟩, ?_, ?_, ?_⟩
          · split <;> omega
          · split <;> omega
          · dsimp only; split <;> rfl
          · dsimp only; split <;> rfl
          · dsimp only
            by_cases e3 : q' < gI σ' 2 0
            · rw [if_pos e3, if_pos e3, ix_n (by omega), ix_n (by omega), ix_n (by omega)]
              exact lg_lt (by omega) (by omega)
            · rw [if_neg e3, if_neg e3, ix_n (by omega), ix_n (by omega), ix_n (by omega)]
              exact lg_lt (by omega) (by omega)
          · intro rec
            unfold bX0_line_51
            dsimp only
            rw [if_neg hlt, mX, lt_d, hpX, Option.bind_some, hwX, Option.bind_some, lt_d, hone]
            by_cases e3 : q' < gI σ' 2 0
            · rw [if_pos e3, if_pos e3, if_pos e3]
            · rw [if_neg e3, if_neg e3, if_neg e3]
          · intro rec
            unfold bX5_line_47
            dsimp only
            rw [if_neg hlt, mM, lt_d, y1, Option.bind_some, z1, Option.bind_some, lt_d, lt_d, lt_d, hone, s10]
            by_cases e3 : q' < gI σ' 2 0
            · rw [if_pos e3, if_pos e3, if_pos e3, if_pos rfl, if_pos rfl]
            · rw [if_neg e3, if_neg e3, if_neg e3, if_neg (by decide), if_neg (by decide)]
      · show Nat.log2 (2 * (99999999 - 0)) < N
        have : Nat.log2 (2 * (99999999 - 0)) < 28 := (Nat.log2_lt (by decide)).mpr (by decide)
        omega
    · rw [if_pos (Int32.not_le.mp e), if_neg e]
      simp (disch := first | omega | decide) only [lt_d, gbT, Option.bind_some, cT2_l, cT2_r, mO_n, mO_s, lit, litL, nb_t, nb_f, need_1, need_0, ix_n, inb_T, le_T, le_F, l_T, l_F, e_F, e_R, if_true, if_false, n_add, n_mul, n_sub, n_l, fM_1, fM_2, fM_3, fM_4, fM_6, fM_7]
      exact Op.err w3 (by decide) (finds_n N σ' (by decide)) rfl
