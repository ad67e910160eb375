/-! SIMPLE OPERATIONS, two: people -/
set_option maxRecDepth 100000
theorem Num.irr {g s : Nat → Int32} {p w b i : Nat} {v : Int32} (q : Num g s p w b) (h0 : i ≠ 0) (h1 : i ≠ 1) (h2 : i ≠ 2) (h5 : i ≠ 5) : Num g (upd s i v) p w b := by
  obtain ⟨n1, n2, n3, n4, n5, n6, n7, n8, n9, n10⟩ := q
  exact ⟨n1, n2, n3, n4, by rw [up_n (by omega)]; exact n5, n6, by rw [up_n (by omega)]; exact n7, n8, by rw [up_n (by omega)]; exact n9, by rw [up_n (by omega)]; exact n10⟩
theorem Rul.irr {ru s : Nat → Int32} {i : Nat} {v : Int32} (q : Rul ru s) (h : i < 10 ∨ 18 ≤ i) : Rul ru (upd s i v) := fun k hk => by
  rw [up_n (by omega)]; exact q k hk
theorem ne_01 : ¬ (nI 1 = nI 0) := by decide
theorem Grp.upC {G : Nat → Option Nat} {C : Cel} {s : Nat → Int32} {p ad : Nat} {e : va_E} (q : Grp G C s p) (h : ∀ i, i < p → G i ≠ some ad) : Grp G (updC C ad e) s p := fun i hi => by
  obtain ⟨a, k, m, h1, h2, h3, h4, h5⟩ := q i hi
  exact ⟨a, k, m, h1, h2, h3, by rw [upC_n (fun z => h i hi (h1.trans (congrArg some z)))]; exact h4, h5⟩
theorem She.upC {a : Option Nat} {C : Cel} {bits size : Int32} {nu : Nat → Int64} {ad : Nat} {e : va_E} {o : Nat × List Value} (h : C ad = some (.inr o)) (q : She a C bits size nu) : She a (updC C ad e) bits size nu := by
  rcases q with q | ⟨c, n, h1, h2, h3, h4⟩
  · exact Or.inl q
  · refine Or.inr ⟨c, n, h1, h2, h3, ?_⟩
    rcases h4 with ⟨h4, f, h5, h6⟩ | ⟨h4, f, h5, h6⟩ | ⟨h4, f, h5, h6⟩
    · exact Or.inl ⟨h4, f, by rw [upC_n (by intro z; rw [z, h] at h5; cases h5)]; exact h5, h6⟩
    · exact Or.inr (Or.inl ⟨h4, f, by rw [upC_n (by intro z; rw [z, h] at h5; cases h5)]; exact h5, h6⟩)
    · exact Or.inr (Or.inr ⟨h4, f, by rw [upC_n (by intro z; rw [z, h] at h5; cases h5)]; exact h5, h6⟩)
theorem Shs.upC {S : Nat → Option Nat} {C : Cel} {bits size : Nat → Int32} {nu : Nat → Int64} {ad : Nat} {e : va_E} {o : Nat × List Value} (h : C ad = some (.inr o)) (q : Shs S C bits size nu) : Shs S (updC C ad e) bits size nu := ⟨fun t ht => (q.1 t ht).upC h, q.2⟩
theorem ExtT.upC {C : Cel} {ad k : Nat} {fs : List Value} {e : va_E} (h : C ad = some (.inr (8 + k, fs))) (hk : k < 8) : ExtT C (updC C ad e) := fun a x q t => by
  have : a ≠ ad := by
    intro z
    subst z
    rw [h] at q
    obtain ⟨c, fs', e1, e2⟩ := t
    cases q
    cases e1
    omega
  rw [upC_n this]; exact q
theorem Siz.upC {C : Cel} {n ad : Nat} {e0 e : va_E} (h : Siz C n) (h1 : C ad = some e0) : Siz (updC C ad e) n := ⟨h.1, fun a x q => by
  by_cases z : a = ad
  · subst z; exact h.2 _ _ h1
  · rw [upC_n z] at q; exact h.2 a x q⟩
/-- what the new numbers of a member of people change -/
theorem CaM.new {nw sn wn : Int32} {li al lo : Nat → Int32} {ac : Int32} {wi s : Nat → Int32} (q : CaM nw sn wn li al lo ac wi s) {s' : Nat → Int32} (h : sayN s' = sayN s) : CaM (nI 1) sn wn li al lo ac wi s' := by
  obtain ⟨q1, q2, q3, q4⟩ := q
  exact ⟨Or.inr rfl, q2, fun z => by rw [h]; exact q3 z, fun z => absurd z ne_01⟩
theorem op_many {σ τ : Mem} (h : R σ τ) (N : Nat) (x y : Int32) : Op σ τ (fX0_many N σ x y) (fX5_many N τ x y) := by
  have h' := h
  obtain ⟨a, ⟨p, w, b, hn, hru, hg, hap, hl, hh, hb⟩, c, d, e, f, g, i, j, k⟩ := h'
  have hn' := hn
  obtain ⟨n1, n2, n3, n4, n5, n6, n7, n8, n9, n10⟩ := hn'
  unfold fX0_many fX0_peopleAt fX5_many
  rw [isPeM N τ x n5, n4]
  simp (disch := first | omega | decide) only [lt_d, gbT, Option.bind_some, cT2_l, cT2_r, mO_n, mO_s, lit, litL, nb_t, nb_f, need_1, need_0, ix_n, inb_T, le_T, le_F, l_T, l_F, e_F, e_R, if_true, if_false, n_add, n_mul, n_sub, n_l, fM_1, fM_2, fM_3, fM_4, fM_6, fM_7, in_P, isIn_R, in_R, inR_P]
  cases hx : inP x p with
  | false =>
    simp (disch := first | omega | decide) only [lt_d, gbT, Option.bind_some, cT2_l, cT2_r, mO_n, mO_s, lit, litL, nb_t, nb_f, need_1, need_0, ix_n, inb_T, le_T, le_F, l_T, l_F, e_F, e_R, if_true, if_false, n_add, n_mul, n_sub, n_l, fM_1, fM_2, fM_3, fM_4, fM_6, fM_7]
    exact Op.err h (by decide) (finds_n N σ (by decide)) rfl
  | true =>
    obtain ⟨q, hq, rfl⟩ := inP_T (by omega) hx
    obtain ⟨ad, kk, m, g1, g2, g3, g4, g5, g6⟩ := hg q hq
    have g1' := g1
    rw [gr_1 σ (by omega)] at g1
    have gc := dC_n g4 g2
    have gd := dI_n g4 g2
    simp (disch := first | omega | decide) only [lt_d, gbT, Option.bind_some, cT2_l, cT2_r, mO_n, mO_s, lit, litL, nb_t, nb_f, need_1, need_0, ix_n, inb_T, le_T, le_F, l_T, l_F, e_F, e_R, if_true, if_false, n_add, n_mul, n_sub, n_l, fM_1, fM_2, fM_3, fM_4, fM_6, fM_7, fX1_group_1, g1, gc]
    cases hy : inP y 100000 with
    | false =>
      simp (disch := first | omega | decide) only [lt_d, gbT, Option.bind_some, cT2_l, cT2_r, mO_n, mO_s, lit, litL, nb_t, nb_f, need_1, need_0, ix_n, inb_T, le_T, le_F, l_T, l_F, e_F, e_R, if_true, if_false, n_add, n_mul, n_sub, n_l, fM_1, fM_2, fM_3, fM_4, fM_6, fM_7]
      exact Op.err h (by decide) (finds_n N σ (by decide)) rfl
    | true =>
      obtain ⟨z, hz, rfl⟩ := inP_T (by decide) hy
      have gw : wV 8 16 σ ad 0 (.int (nI z)) = some (wC σ (updC (gC σ) ad (.inr (8 + kk, [.int (nI z)]))) (gN σ)) := by
        unfold wV; rw [g4]; exact if_pos (by simp; omega)
      simp (disch := first | omega | decide) only [lt_d, gbT, Option.bind_some, cT2_l, cT2_r, mO_n, mO_s, lit, litL, nb_t, nb_f, need_1, need_0, ix_n, inb_T, le_T, le_F, l_T, l_F, e_F, e_R, if_true, if_false, n_add, n_mul, n_sub, n_l, fM_1, fM_2, fM_3, fM_4, fM_6, fM_7, pI_w, pL_w, pR_w, pC_w, nC_w, gI_wI, gI_wIn, gI_wL, gI_wR, gI_wC, gL_wL, gL_wLn, gL_wI, gL_wR, gL_wC, gR_wR, gR_wRn, gR_wI, gR_wL, gR_wC, gC_wI, gC_wL, gC_wR, gC_wC, gN_wI, gN_wL, gN_wR, gN_wC, wI_wI, wL_wL, wR_wR, wC_wC, up_s, up_n, gd, g6, gw]
      refine ⟨_, _, _, rfl, rfl, a, ⟨p, w, b, hn.irr (by omega) (by omega) (by omega) (by omega), hru.irr (by omega), ?_, hap, (hl.irr (by omega) (by omega) (by omega)).ext (ExtT.upC g4 g2), hh.irr (by omega), hb.irr (by omega)⟩, ⟨c.1, ?_⟩, d, e.upC g4, f, Or.inl rfl, i.new (sayN_i (by omega) (by omega) (by omega) (by omega)), j.upC g4, k⟩
      · intro r hr
        by_cases e1 : r = q
        · subst e1
          exact ⟨ad, kk, z, g1', g2, by omega, upC_s, by show upd (gI τ 1) _ _ _ = _; rw [up_n (by omega)]; exact g5, up_s⟩
        · obtain ⟨a2, k2, m2, f1, f2, f3, f4, f5, f6⟩ := hg r hr
          have : a2 ≠ ad := fun z => e1 (hap r q hr hq (by rw [f1, g1', z]))
          exact ⟨a2, k2, m2, f1, f2, f3, (upC_n this).trans f4, by show upd (gI τ 1) _ _ _ = _; rw [up_n (by omega)]; exact f5, by show upd (gI τ 1) _ _ _ = _; rw [up_n (by omega)]; exact f6⟩
      · rcases c.2 with c2 | ⟨c2, ⟨p', w', b', hn', hru', hg', hap', hl', hh', hb'⟩, hd⟩
        · exact Or.inl c2
        · refine Or.inr ⟨c2, ⟨p', w', b', hn', hru', hg'.upC (fun i hi z => ?_), hap', hl'.ext (ExtT.upC g4 g2), hh', hb'⟩, hd⟩
          have e1 : ix (gI σ 1 0) = p := by rw [n4, ix_n (by omega)]
          have e2 : ix (gI σ 28 0) = p' := by rw [hn'.2.2.2.1, ix_n (by have := hn'.1; omega)]
          rw [e1, e2] at hd
          exact hd q i hq hi (by rw [g1', z])
/-! a kind, or one under it -/
def isK (k x : Nat) : Bool := if k = 0 then decide (x = 0) else if k = 1 then decide (x = 0 ∨ x = 1) else if k = 2 then decide (x = 0 ∨ x = 2) else if k = 3 then decide (x = 0 ∨ x = 3) else if k = 4 then decide (x = 0 ∨ x = 4) else if k = 5 then decide (x = 0 ∨ x = 1 ∨ x = 5) else if k = 6 then decide (x = 0 ∨ x = 3 ∨ x = 6) else decide (x = 0 ∨ x = 3 ∨ x = 6 ∨ x = 7)
theorem is_n {σ : Mem} {a k x : Nat} {v : Value} (N : Nat) (h : gC σ a = some (.inr (8 + k, [v]))) (hk : k < 8) (hx : x < 8) : dX_is N σ a (nI x) = some (nb (isK k x)) := by
  have hkd := kind_n N h hk
  have h8 : k = 0 ∨ k = 1 ∨ k = 2 ∨ k = 3 ∨ k = 4 ∨ k = 5 ∨ k = 6 ∨ k = 7 := by omega
  have x8 : x = 0 ∨ x = 1 ∨ x = 2 ∨ x = 3 ∨ x = 4 ∨ x = 5 ∨ x = 6 ∨ x = 7 := by omega
  rcases h8 with rfl | rfl | rfl | rfl | rfl | rfl | rfl | rfl <;> simp only [dX_is, dC, h, fX7_is, fX8_is, fX10_is, fX13_is, gb, hkd] <;> rcases x8 with rfl | rfl | rfl | rfl | rfl | rfl | rfl | rfl <;> rfl
theorem asM {τ : Mem} {N q k x m : Nat} (hN : 300000 ≤ N) (hq : q < 12) (hm : gI τ 1 (32 + q) = nI m) (hk : k < 8) (hx : x < 8) : lp (bX5_as_37 N τ (nI q) (nI x)) N (nI k) = if isK k x then some (nI m, τ) else some (cod 2, erM τ 2) := by
  have j1 : jX5_as_54 N τ (nI q) (nI x) = some (nI m, τ) := by
    unfold jX5_as_54
    simp (disch := first | omega | decide) only [lt_d, gbT, Option.bind_some, cT2_l, cT2_r, mO_n, mO_s, lit, litL, nb_t, nb_f, need_1, need_0, ix_n, inb_T, le_T, le_F, l_T, l_F, e_F, e_R, if_true, if_false, n_add, n_mul, n_sub, n_l, fM_1, fM_2, fM_3, fM_4, fM_6, fM_7, hm]
  have j2 : jX5_as_54 N τ (nI q) (-nI 1) = some (cod 2, erM τ 2) := by
    unfold jX5_as_54
    have : ¬ (nI 0 ≤ -nI 1) := by decide
    simp (disch := first | omega | decide) only [lt_d, gbT, Option.bind_some, cT2_l, cT2_r, mO_n, mO_s, lit, litL, nb_t, nb_f, need_1, need_0, ix_n, inb_T, le_T, le_F, l_T, l_F, e_F, e_R, if_true, if_false, n_add, n_mul, n_sub, n_l, fM_1, fM_2, fM_3, fM_4, fM_6, fM_7, if_neg this]
  have hmn : (-nI 1 < nI 0) = True := eq_true (by decide)
  have s1 : ∀ n, lp (bX5_as_37 N τ (nI q) (nI x)) (n + 1) (nI x) = some (nI m, τ) := by
    intro n
    show bX5_as_37 N τ (nI q) (nI x) _ (nI x) = _
    unfold bX5_as_37
    simp (disch := first | omega | decide) only [lt_d, gbT, Option.bind_some, cT2_l, cT2_r, mO_n, mO_s, lit, litL, nb_t, nb_f, need_1, need_0, ix_n, inb_T, le_T, le_F, l_T, l_F, e_F, e_R, if_true, if_false, n_add, n_mul, n_sub, n_l, fM_1, fM_2, fM_3, fM_4, fM_6, fM_7, j1]
  have s2 : ∀ n, lp (bX5_as_37 N τ (nI q) (nI x)) (n + 1) (-nI 1) = some (cod 2, erM τ 2) := by
    intro n
    show bX5_as_37 N τ (nI q) (nI x) _ (-nI 1) = _
    unfold bX5_as_37
    simp (disch := first | omega | decide) only [lt_d, gbT, Option.bind_some, cT2_l, cT2_r, mO_n, mO_s, lit, litL, nb_t, nb_f, need_1, need_0, ix_n, inb_T, le_T, le_F, l_T, l_F, e_F, e_R, if_true, if_false, n_add, n_mul, n_sub, n_l, fM_1, fM_2, fM_3, fM_4, fM_6, fM_7, hmn, j2]
  have s3 : ∀ n z, z < 8 → z ≠ x → lp (bX5_as_37 N τ (nI q) (nI x)) (n + 1) (nI z) = (fX5_above N τ (nI z)).bind (fun v => lp (bX5_as_37 N τ (nI q) (nI x)) n v) := by
    intro n z hz hne
    show bX5_as_37 N τ (nI q) (nI x) _ (nI z) = _
    unfold bX5_as_37
    simp (disch := first | omega | decide) only [lt_d, gbT, Option.bind_some, cT2_l, cT2_r, mO_n, mO_s, lit, litL, nb_t, nb_f, need_1, need_0, ix_n, inb_T, le_T, le_F, l_T, l_F, e_F, e_R, if_true, if_false, n_add, n_mul, n_sub, n_l, fM_1, fM_2, fM_3, fM_4, fM_6, fM_7]
  have u0 : fX5_above N τ (nI 0) = some (-nI 1) := rfl
  have u1 : fX5_above N τ (nI 1) = some (nI 0) := rfl
  have u2 : fX5_above N τ (nI 2) = some (nI 0) := rfl
  have u3 : fX5_above N τ (nI 3) = some (nI 0) := rfl
  have u4 : fX5_above N τ (nI 4) = some (nI 0) := rfl
  have u5 : fX5_above N τ (nI 5) = some (nI 1) := rfl
  have u6 : fX5_above N τ (nI 6) = some (nI 3) := rfl
  have u7 : fX5_above N τ (nI 7) = some (nI 6) := rfl
  have l0 : ∀ n, lp (bX5_as_37 N τ (nI q) (nI x)) (n + 2) (nI 0) = if x = 0 then some (nI m, τ) else some (cod 2, erM τ 2) := by
    intro n
    by_cases e : x = 0
    · subst e; rw [if_pos rfl]; exact s1 _
    · rw [if_neg e, s3 (n + 1) 0 (by omega) (by omega), u0, Option.bind_some]; exact s2 _
  have l1 : ∀ n z, fX5_above N τ (nI z) = some (nI 0) → z < 8 → lp (bX5_as_37 N τ (nI q) (nI x)) (n + 3) (nI z) = if x = 0 ∨ x = z then some (nI m, τ) else some (cod 2, erM τ 2) := by
    intro n z hz h8
    by_cases e : x = z
    · subst e; rw [if_pos (Or.inr rfl)]; exact s1 _
    · rw [s3 (n + 2) z h8 (by omega), hz, Option.bind_some, l0]
      by_cases e0 : x = 0
      · rw [if_pos e0, if_pos (Or.inl e0)]
      · rw [if_neg e0, if_neg (by omega)]
  have l5 : ∀ n, lp (bX5_as_37 N τ (nI q) (nI x)) (n + 4) (nI 5) = if x = 0 ∨ x = 1 ∨ x = 5 then some (nI m, τ) else some (cod 2, erM τ 2) := by
    intro n
    by_cases e : x = 5
    · subst e; rw [if_pos (by omega)]; exact s1 _
    · rw [s3 (n + 3) 5 (by omega) (by omega), u5, Option.bind_some, l1 n 1 u1 (by omega)]
      by_cases e0 : x = 0 ∨ x = 1
      · rw [if_pos e0, if_pos (by omega)]
      · rw [if_neg e0, if_neg (by omega)]
  have l6 : ∀ n, lp (bX5_as_37 N τ (nI q) (nI x)) (n + 4) (nI 6) = if x = 0 ∨ x = 3 ∨ x = 6 then some (nI m, τ) else some (cod 2, erM τ 2) := by
    intro n
    by_cases e : x = 6
    · subst e; rw [if_pos (by omega)]; exact s1 _
    · rw [s3 (n + 3) 6 (by omega) (by omega), u6, Option.bind_some, l1 n 3 u3 (by omega)]
      by_cases e0 : x = 0 ∨ x = 3
      · rw [if_pos e0, if_pos (by omega)]
      · rw [if_neg e0, if_neg (by omega)]
  have l7 : ∀ n, lp (bX5_as_37 N τ (nI q) (nI x)) (n + 5) (nI 7) = if x = 0 ∨ x = 3 ∨ x = 6 ∨ x = 7 then some (nI m, τ) else some (cod 2, erM τ 2) := by
    intro n
    by_cases e : x = 7
    · subst e; rw [if_pos (by omega)]; exact s1 _
    · rw [s3 (n + 4) 7 (by omega) (by omega), u7, Option.bind_some, l6]
      by_cases e0 : x = 0 ∨ x = 3 ∨ x = 6
      · rw [if_pos e0, if_pos (by omega)]
      · rw [if_neg e0, if_neg (by omega)]
  obtain ⟨M, hM⟩ : ∃ M, N = M + 6 := ⟨N - 6, by omega⟩
  have l0' := l0 (M + 4); have l1' := l1 (M + 3); have l5' := l5 (M + 2); have l6' := l6 (M + 2); have l7' := l7 (M + 1)
  have e0 : M + 4 + 2 = N := by omega
  have e1 : M + 3 + 3 = N := by omega
  have e5 : M + 2 + 4 = N := by omega
  have e7 : M + 1 + 5 = N := by omega
  rw [e0] at l0'
  rw [e1] at l1'
  rw [e5] at l5' l6'
  rw [e7] at l7'
  have h8 : k = 0 ∨ k = 1 ∨ k = 2 ∨ k = 3 ∨ k = 4 ∨ k = 5 ∨ k = 6 ∨ k = 7 := by omega
  rcases h8 with rfl | rfl | rfl | rfl | rfl | rfl | rfl | rfl
  · rw [l0']; simp [isK]
  · rw [l1' 1 u1 (by omega)]; simp [isK]
  · rw [l1' 2 u2 (by omega)]; simp [isK]
  · rw [l1' 3 u3 (by omega)]; simp [isK]
  · rw [l1' 4 u4 (by omega)]; simp [isK]
  · rw [l5']; simp [isK]
  · rw [l6']; simp [isK]
  · rw [l7']; simp [isK]
theorem op_as {σ τ : Mem} (h : R σ τ) {N : Nat} (hN : 300000 ≤ N) (x y : Int32) : Op σ τ (fX0_as N σ x y) (fX5_as N τ x y) := by
  have h' := h
  obtain ⟨a, ⟨p, w, b, hn, hru, hg, hap, hl, hh, hb⟩, c, d, e, f, g, i, j, k⟩ := h'
  have hn' := hn
  obtain ⟨n1, n2, n3, n4, n5, n6, n7, n8, n9, n10⟩ := hn'
  unfold fX0_as fX0_peopleAt fX5_as
  rw [isPeM N τ x n5, n4]
  simp (disch := first | omega | decide) only [lt_d, gbT, Option.bind_some, cT2_l, cT2_r, mO_n, mO_s, lit, litL, nb_t, nb_f, need_1, need_0, ix_n, inb_T, le_T, le_F, l_T, l_F, e_F, e_R, if_true, if_false, n_add, n_mul, n_sub, n_l, fM_1, fM_2, fM_3, fM_4, fM_6, fM_7, in_P, isIn_R, in_R, inR_P]
  cases hx : inP x p with
  | false =>
    simp (disch := first | omega | decide) only [lt_d, gbT, Option.bind_some, cT2_l, cT2_r, mO_n, mO_s, lit, litL, nb_t, nb_f, need_1, need_0, ix_n, inb_T, le_T, le_F, l_T, l_F, e_F, e_R, if_true, if_false, n_add, n_mul, n_sub, n_l, fM_1, fM_2, fM_3, fM_4, fM_6, fM_7]
    exact Op.err h (by decide) (finds_n N σ (by decide)) rfl
  | true =>
    obtain ⟨q, hq, rfl⟩ := inP_T (by omega) hx
    obtain ⟨ad, kk, m, g1, g2, g3, g4, g5, g6⟩ := hg q hq
    rw [gr_1 σ (by omega)] at g1
    have gc := dC_n g4 g2
    have gd := dI_n g4 g2
    simp (disch := first | omega | decide) only [lt_d, gbT, Option.bind_some, cT2_l, cT2_r, mO_n, mO_s, lit, litL, nb_t, nb_f, need_1, need_0, ix_n, inb_T, le_T, le_F, l_T, l_F, e_F, e_R, if_true, if_false, n_add, n_mul, n_sub, n_l, fM_1, fM_2, fM_3, fM_4, fM_6, fM_7, fX1_group_1, g1, gc]
    cases hy : inP y 8 with
    | false =>
      simp (disch := first | omega | decide) only [lt_d, gbT, Option.bind_some, cT2_l, cT2_r, mO_n, mO_s, lit, litL, nb_t, nb_f, need_1, need_0, ix_n, inb_T, le_T, le_F, l_T, l_F, e_F, e_R, if_true, if_false, n_add, n_mul, n_sub, n_l, fM_1, fM_2, fM_3, fM_4, fM_6, fM_7]
      exact Op.err h (by decide) (finds_n N σ (by decide)) rfl
    | true =>
      obtain ⟨z, hz, rfl⟩ := inP_T (by decide) hy
      simp (disch := first | omega | decide) only [lt_d, gbT, Option.bind_some, cT2_l, cT2_r, mO_n, mO_s, lit, litL, nb_t, nb_f, need_1, need_0, ix_n, inb_T, le_T, le_F, l_T, l_F, e_F, e_R, if_true, if_false, n_add, n_mul, n_sub, n_l, fM_1, fM_2, fM_3, fM_4, fM_6, fM_7, is_n N g4 g2 hz, g5, asM hN (by omega : q < 12) g6 g2 hz]
      cases hz2 : isK kk z with
      | false =>
        simp (disch := first | omega | decide) only [lt_d, gbT, Option.bind_some, cT2_l, cT2_r, mO_n, mO_s, lit, litL, nb_t, nb_f, need_1, need_0, ix_n, inb_T, le_T, le_F, l_T, l_F, e_F, e_R, if_true, if_false, n_add, n_mul, n_sub, n_l, fM_1, fM_2, fM_3, fM_4, fM_6, fM_7]
        exact Op.err h (by decide) (finds_n N σ (by decide)) rfl
      | true =>
        simp (disch := first | omega | decide) only [lt_d, gbT, Option.bind_some, cT2_l, cT2_r, mO_n, mO_s, lit, litL, nb_t, nb_f, need_1, need_0, ix_n, inb_T, le_T, le_F, l_T, l_F, e_F, e_R, if_true, if_false, n_add, n_mul, n_sub, n_l, fM_1, fM_2, fM_3, fM_4, fM_6, fM_7, gd]
        exact ⟨_, σ, τ, rfl, rfl, h⟩
