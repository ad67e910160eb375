/-! OPERATIONS OVER WHAT IS CROSSED, two -/
set_option maxRecDepth 100000
theorem m1_toInt {p : Nat} (hp : p < 2147483648) : (nI p - nI 1).toInt = (p : Int) - 1 := by
  cases p with
  | zero => decide
  | succ b => rw [n_sub (by omega), Nat.add_sub_cancel, nI_toInt (by omega)]; omega
theorem in_N (N : Nat) (σ : Mem) (x : Int32) {p : Nat} (hp : p < 2147483648) : fX0_in N σ x.toInt64 (-1 : Int64) ((nI p - nI 1).toInt64) = some (nb (decide (x = (-1 : Int32)) || inP x p)) := by
  have h1 : ((-1 : Int64)) = (-1 : Int32).toInt64 := by decide
  rw [h1, in_32]
  congr 2
  have h2 : (-1 : Int32).toInt = -1 := by decide
  have h3 := nI_toInt hp
  have h4 := nI_toInt (show 0 < 2147483648 by decide)
  rw [Bool.eq_iff_iff]
  unfold inP
  simp only [Bool.and_eq_true, Bool.or_eq_true, decide_eq_true_eq, Bool.not_eq_true', decide_eq_false_iff_not, Int32.le_iff_toInt_le, Int32.lt_iff_toInt_lt, ← Int32.toInt_inj, m1_toInt hp, h2, h3, h4]
  omega
theorem op_crossed {σ τ : Mem} (h : R σ τ) {N : Nat} (hN : 300000 ≤ N) (x y : Int32) : Op σ τ (fX0_crossed N σ x y) (fX5_crossed N τ x y) := by
  have h' := h
  obtain ⟨a, ⟨p, w, b, hn, hru, hg, hap, hl, hh, hb⟩, c, d, e, f, g, i, j, k⟩ := h'
  have hn' := hn
  obtain ⟨n1, n2, n3, n4, n5, n6, n7, n8, n9, n10⟩ := hn'
  have hI : fX0_in N σ x.toInt64 (-1 : Int64) ((gI σ 1 0 - (1 : Int32)).toInt64) = some (nb (decide (x = (-1 : Int32)) || inP x p)) := by
    rw [n4]; exact in_N N σ x (by omega)
  unfold fX0_crossed fX5_crossed
  rw [hI, isPeM N τ x n5, Option.bind_some, Option.bind_some]
  by_cases hx1 : x = (-1 : Int32)
  · subst hx1
    rw [if_pos rfl, decide_eq_true rfl, Bool.true_or, nb_t, if_neg ne1, isPlX, Option.bind_some]
    unfold jX5_crossed_13
    rw [isPlM, Option.bind_some]
    cases hy : inP y 495 with
    | false =>
      simp (disch := first | omega | decide) only [lt_d, gbT, Option.bind_some, cT2_l, cT2_r, mO_n, mO_s, lit, litL, nb_t, nb_f, need_1, need_0, ix_n, inb_T, le_T, le_F, l_T, l_F, e_F, e_R, if_true, if_false, n_add, n_mul, n_sub, n_l, fM_1, fM_2, fM_3, fM_4, fM_6, fM_7]
      exact Op.err h (by decide) (finds_n N σ (by decide)) rfl
    | true =>
      obtain ⟨r, hr, rfl⟩ := inP_T (by decide) hy
      obtain ⟨σ', x1, x2, x3, x4, x5⟩ := crossX h hN
      obtain ⟨τ', m1, m2, m3, m4, -⟩ := workM x3 hN
      have hm := m2.2.2.1 r hr
      rw [m4] at hm
      have e1 : ¬ (0 : Int32) ≤ -1 := by decide
      rw [nb_t, if_neg ne1, if_neg ne1, m1, Option.bind_some, if_neg e1, inb_T hr (by decide), gbT, ix_n (by omega), hm]
      rw [show fX0_need N σ (1 : Int32) (0 : Int32) = some (.inl (), σ) from need_1 N σ 0, Option.bind_some, cT2_l, x1, Option.bind_some, if_neg e1, gbT, x2.2.2.1 r hr]
      exact ⟨_, _, _, rfl, rfl, m3⟩
  · rw [if_neg hx1, decide_eq_false hx1, Bool.false_or]
    cases hx : inP x p with
    | false =>
      unfold jX0_crossed_33
      simp (disch := first | omega | decide) only [lt_d, gbT, Option.bind_some, cT2_l, cT2_r, mO_n, mO_s, lit, litL, nb_t, nb_f, need_1, need_0, ix_n, inb_T, le_T, le_F, l_T, l_F, e_F, e_R, if_true, if_false, n_add, n_mul, n_sub, n_l, fM_1, fM_2, fM_3, fM_4, fM_6, fM_7]
      exact Op.err h (by decide) (finds_n N σ (by decide)) rfl
    | true =>
      obtain ⟨q, hq, rfl⟩ := inP_T (by omega) hx
      rw [nb_t, if_neg ne1, if_neg ne1, isPlX, Option.bind_some]
      unfold jX5_crossed_13
      rw [isPlM, Option.bind_some]
      cases hy : inP y 495 with
      | false =>
        simp (disch := first | omega | decide) only [lt_d, gbT, Option.bind_some, cT2_l, cT2_r, mO_n, mO_s, lit, litL, nb_t, nb_f, need_1, need_0, ix_n, inb_T, le_T, le_F, l_T, l_F, e_F, e_R, if_true, if_false, n_add, n_mul, n_sub, n_l, fM_1, fM_2, fM_3, fM_4, fM_6, fM_7]
        exact Op.err h (by decide) (finds_n N σ (by decide)) rfl
      | true =>
        obtain ⟨r, hr, rfl⟩ := inP_T (by decide) hy
        obtain ⟨ad, kk, m, g1, g2, g3, g4, g5, g6⟩ := hg q hq
        rw [gr_1 σ (by omega)] at g1
        obtain ⟨σ', x1, x2, x3, x4, x5⟩ := crossX h hN
        obtain ⟨τ', m1, m2, m3, m4, -⟩ := workM x3 hN
        have y3 := x3
        obtain ⟨a', ⟨p', w', b', hn', hru', hg', hap', hl', hh', hb'⟩, c', d', e', f', g', i', j', k'⟩ := y3
        have ep : p' = p := (nI_eq (by have := hn'.1; omega) (by omega)).mp (hn'.2.2.2.2.1.symm.trans n5)
        subst ep
        obtain ⟨ad', kk', m', g1', g2', g3', g4', g5', g6'⟩ := hg' q hq
        rw [gr_1 σ' (by omega)] at g1'
        obtain ⟨L, hL⟩ := findLikedX (σ := σ') (s := gI τ 1) (p := q) hN hn'.2.1 hn'.2.2.2.2.2.1 hn'.2.2.2.2.2.2.1 hb'.draw a'.1 g4' g2' g3' g5' g6' x2.2.1
        have hX := crossedByX (σ := wI (wI σ' 63 L) 67 (fil (fun r => nI (lkN (gI τ 1) q r)) (gI σ' 67) 495)) (N := N) (s := gI τ 1) (p := q) (r := r) (by exact g4') g2' g3' g6'
        have hM := crossedByM (τ := τ') (N := N) (w := w) (p := q) (k := kk) (m := m) (r := r) hN (Tab.m m3.1) n2 (by rw [m4]; exact n7) (by omega) g2 g3 (by rw [m4]; exact g5) (by rw [m4]; exact g6) hr (m2.2.1 r hr) (m2.2.2.2.1 q (by rw [m4, n5, ix_n (by omega)]; exact hq))
        rw [m4] at hM
        have z3 : R (wI (wI σ' 63 L) 67 (fil (fun r => nI (lkN (gI τ 1) q r)) (gI σ' 67) 495)) τ' := by
          obtain ⟨a', ⟨p', w', b', hn', hru', hg', hap', hl', hh', hb'⟩, c', d', e', f', g', i', j', k'⟩ := m3
          exact ⟨a', ⟨p', w', b', hn', hru', hg', hap', hl', hh', hb'⟩, c', d', e', f', g', i', j', k'⟩
        have hf : gI (wI (wI σ' 63 L) 67 (fil (fun r => nI (lkN (gI τ 1) q r)) (gI σ' 67) 495)) 67 r = nI (lkN (gI τ 1) q r) := fil_in (f := fun r => nI (lkN (gI τ 1) q r)) (g := gI σ' 67) hr
        have gc := dC_n g4' g2'
        simp (disch := first | omega | decide) only [lt_d, gbT, Option.bind_some, cT2_l, cT2_r, mO_n, mO_s, lit, litL, nb_t, nb_f, need_1, need_0, ix_n, inb_T, le_T, le_F, l_T, l_F, e_F, e_R, if_true, if_false, n_add, n_mul, n_sub, n_l, fM_1, fM_2, fM_3, fM_4, fM_6, fM_7, x1, m1, hL, hM, fX1_group_1, g1', gc, hf, hX]
        exact ⟨_, _, _, rfl, rfl, z3⟩
/-- the first place that nobody crosses, from m up to n -/
def Fst (f : Nat → Nat) (m n : Nat) (v : Int32) : Prop := (v = (-1 : Int32) ∧ ∀ r, m ≤ r → r < n → f r ≠ 0) ∨ ∃ j, m ≤ j ∧ j < n ∧ v = nI j ∧ f j = 0 ∧ ∀ i, m ≤ i → i < j → f i ≠ 0
theorem Fst.uniq {f : Nat → Nat} {m n : Nat} {v v' : Int32} (h : Fst f m n v) (h' : Fst f m n v') : v = v' := by
  rcases h with ⟨h1, h2⟩ | ⟨j, h1, h2, h3, h4, h5⟩ <;> rcases h' with ⟨k1, k2⟩ | ⟨j', k1, k2, k3, k4, k5⟩
  · rw [h1, k1]
  · exact absurd k4 (h2 j' k1 k2)
  · exact absurd h4 (k2 j h1 h2)
  · have : j = j' := by
      rcases Nat.lt_trichotomy j j' with l | l | l
      · exact absurd h4 (k5 j h1 l)
      · exact l
      · exact absurd k4 (h5 j' k1 l)
    rw [h3, k3, this]
def zf (f : Nat → Nat) (k : Nat) : Nat := if f k = 0 then 1 else 0
theorem zf_le (f : Nat → Nat) (n : Nat) : sN (zf f) n ≤ n := by
  have := sN_b (f := zf f) (c := 1) (n := n) (fun q _ => by unfold zf; split <;> omega)
  omega
theorem zf_lt (f : Nat → Nat) {m n : Nat} (h : m ≤ n) : sN (zf f) m ≤ sN (zf f) n := by
  induction h with
  | refl => exact Nat.le_refl _
  | step _ ih => exact Nat.le_trans ih (Nat.le_add_right _ _)
theorem aloneX {σ : Mem} {N : Nat} (hN : 300000 ≤ N) {f : Nat → Nat} (hf : ∀ r, r < 495 → gI σ 68 r = nI (f r)) (hb : ∀ r, r < 495 → f r < 2147483648) (x : Int32) : ∃ v, Fst f 0 495 v ∧ lp (bX0_alone_24 N σ x) N ((0 : Int32), (-1 : Int32), (494 : Int32)) = (if x = nI 0 then some (nI (sN (zf f) 495), σ) else if v < nI 0 then some (cod 3, erX σ 3) else some (v, σ)) := by
  refine lp_inv (N := N) (b := bX0_alone_24 N σ x) (Q := fun F => ∃ v, Fst f 0 495 v ∧ F = (if x = nI 0 then some (nI (sN (zf f) 495), σ) else if v < nI 0 then some (cod 3, erX σ 3) else some (v, σ))) (P := fun k y => y.1 = nI (sN (zf f) 495 - sN (zf f) (495 - k)) ∧ Fst f (495 - k) 495 y.2.1 ∧ y.2.2 = nI (495 - k) - nI 1) 495 (by omega) ?_ ?_ _ ⟨?_, ?_, ?_⟩
  · rintro k ⟨c, v, z⟩ hk ⟨h1, h2, h3⟩
    dsimp only at h1 h2 h3
    subst h1 h3
    have e0 : 495 - k = (495 - (k + 1)) + 1 := by omega
    generalize 495 - (k + 1) = m at e0 ⊢
    rw [e0] at h2 ⊢
    have hm : m < 495 := by omega
    rw [show nI (m + 1) - nI 1 = nI m from by rw [n_sub (by omega), Nat.add_sub_cancel]]
    have hle := zf_lt f (show m + 1 ≤ 495 from hm)
    have hl2 := zf_le f 495
    have hs : sN (zf f) (m + 1) = sN (zf f) m + zf f m := rfl
    have hi : nI m + (-1 : Int32) = nI m - nI 1 := by
      rw [show nI 1 = (1 : Int32) from rfl, Int32.sub_eq_add_neg]
    by_cases hz : f m = 0
    · refine ⟨(nI (sN (zf f) 495 - sN (zf f) m), nI m, nI m - nI 1), ⟨rfl, Or.inr ⟨m, Nat.le_refl _, hm, rfl, hz, fun i h1 h2 => by omega⟩, rfl⟩, fun rec => ?_⟩
      have hz1 : zf f m = 1 := if_pos hz
      unfold bX0_alone_24
      dsimp only
      rw [if_neg (show ¬ nI m < (0 : Int32) from by rw [show (0 : Int32) = nI 0 from rfl, l_F (Nat.zero_le _) (by omega)]; exact not_false), inb_T hm (by decide), gbT, ix_n (by omega), hf m hm, hz, if_pos (show nI 0 = (0 : Int32) from rfl), hi, show (1 : Int32) = nI 1 from rfl, n_add]
      rw [show sN (zf f) 495 - sN (zf f) (m + 1) + 1 = sN (zf f) 495 - sN (zf f) m from by omega]
    · refine ⟨(nI (sN (zf f) 495 - sN (zf f) m), v, nI m - nI 1), ⟨rfl, ?_, rfl⟩, fun rec => ?_⟩
      · rcases h2 with ⟨h1, h2⟩ | ⟨j, h1, h2, h3, h4, h5⟩
        · exact Or.inl ⟨h1, fun r q1 q2 => by
            by_cases e : r = m
            · rw [e]; exact hz
            · exact h2 r (by omega) q2⟩
        · exact Or.inr ⟨j, by omega, h2, h3, h4, fun i q1 q2 => by
            by_cases e : i = m
            · rw [e]; exact hz
            · exact h5 i (by omega) q2⟩
      · have hz1 : zf f m = 0 := if_neg hz
        have hne : ¬ nI (f m) = (0 : Int32) := fun q => hz ((nI_eq (hb m hm) (by decide)).mp q)
        unfold bX0_alone_24
        dsimp only
        rw [if_neg (show ¬ nI m < (0 : Int32) from by rw [show (0 : Int32) = nI 0 from rfl, l_F (Nat.zero_le _) (by omega)]; exact not_false), inb_T hm (by decide), gbT, ix_n (by omega), hf m hm, if_neg hne, hi]
        rw [show sN (zf f) 495 - sN (zf f) (m + 1) = sN (zf f) 495 - sN (zf f) m from by omega]
  · rintro ⟨c, v, z⟩ ⟨h1, h2, h3⟩ rec
    dsimp only at h1 h2 h3
    subst h1 h3
    refine ⟨v, h2, ?_⟩
    unfold bX0_alone_24
    dsimp only
    rw [if_pos (show nI (495 - 495) - nI 1 < (0 : Int32) from by decide)]
    by_cases hx : x = nI 0
    · rw [if_pos (show x = (0 : Int32) from hx), if_pos hx]; rfl
    · rw [if_neg (show ¬ x = (0 : Int32) from hx), if_neg hx]
      unfold fX0_orNone
      by_cases hv : v < nI 0
      · rw [if_pos (show v < (0 : Int32) from hv), if_pos hv]
        simp (disch := first | omega | decide) only [lt_d, gbT, Option.bind_some, cT2_l, cT2_r, mO_n, mO_s, lit, litL, nb_t, nb_f, need_1, need_0, ix_n, inb_T, le_T, le_F, l_T, l_F, e_F, e_R, if_true, if_false, n_add, n_mul, n_sub, n_l, fM_1, fM_2, fM_3, fM_4, fM_6, fM_7]
        exact finds_n N σ (by decide)
      · rw [if_neg (show ¬ v < (0 : Int32) from hv), if_neg hv]
        simp (disch := first | omega | decide) only [lt_d, gbT, Option.bind_some, cT2_l, cT2_r, mO_n, mO_s, lit, litL, nb_t, nb_f, need_1, need_0, ix_n, inb_T, le_T, le_F, l_T, l_F, e_F, e_R, if_true, if_false, n_add, n_mul, n_sub, n_l, fM_1, fM_2, fM_3, fM_4, fM_6, fM_7]
  · show (0 : Int32) = nI (sN (zf f) 495 - sN (zf f) (495 - 0))
    rw [Nat.sub_zero, Nat.sub_self]; rfl
  · exact Or.inl ⟨rfl, fun r h1 h2 => by omega⟩
  · decide
theorem aloneM {τ : Mem} {N : Nat} (hN : 300000 ≤ N) {f : Nat → Nat} (hf : ∀ r, r < 495 → gI τ 13 r = nI (f r)) (hb : ∀ r, r < 495 → f r < 2147483648) (x : Int32) : ∃ v, Fst f 0 495 v ∧ lp (bX5_alone_28 N τ x) N ((0 : Int32), (-1 : Int32), (0 : Int32)) = (if x = nI 0 then some (nI (sN (zf f) 495), τ) else if v < nI 0 then some (cod 3, erM τ 3) else some (v, τ)) := by
  refine lp_inv (N := N) (b := bX5_alone_28 N τ x) (Q := fun F => ∃ v, Fst f 0 495 v ∧ F = (if x = nI 0 then some (nI (sN (zf f) 495), τ) else if v < nI 0 then some (cod 3, erM τ 3) else some (v, τ))) (P := fun k y => y.1 = nI (sN (zf f) k) ∧ Fst f 0 k y.2.1 ∧ y.2.2 = nI k) 495 (by omega) ?_ ?_ _ ⟨rfl, Or.inl ⟨rfl, fun r h1 h2 => by omega⟩, rfl⟩
  · rintro k ⟨c, v, z⟩ hk ⟨h1, h2, h3⟩
    dsimp only at h1 h2 h3
    subst h1 h3
    have hs : sN (zf f) (k + 1) = sN (zf f) k + zf f k := rfl
    have g0 : ¬ (495 : Int32) ≤ nI k := by
      rw [show (495 : Int32) = nI 495 from rfl, le_F hk (by omega)]; exact not_false
    by_cases hz : f k = 0
    · have hz1 : zf f k = 1 := if_pos hz
      refine ⟨(nI (sN (zf f) (k + 1)), (if (0 : Int32) ≤ v then v else nI k), nI (k + 1)), ⟨rfl, ?_, rfl⟩, fun rec => ?_⟩
      · rcases h2 with ⟨h1, h2⟩ | ⟨j, h1, h2, h3, h4, h5⟩
        · rw [h1, if_neg (by decide)]
          exact Or.inr ⟨k, Nat.zero_le _, Nat.lt_succ_self _, rfl, hz, h2⟩
        · rw [h3, if_pos (by rw [show (0 : Int32) = nI 0 from rfl, le_T (Nat.zero_le _) (by omega)]; trivial)]
          exact Or.inr ⟨j, h1, by omega, rfl, h4, h5⟩
      · unfold bX5_alone_28
        dsimp only
        rw [if_neg g0, inb_T hk (by decide), gbT, ix_n (by omega), hf k hk, hz, if_pos (show nI 0 = (0 : Int32) from rfl), if_pos (show nI 0 = (0 : Int32) from rfl), lt_d, gbT, lt_d, show (1 : Int32) = nI 1 from rfl, n_add, n_add, hs, hz1]
    · have hz1 : zf f k = 0 := if_neg hz
      have hne : ¬ nI (f k) = (0 : Int32) := fun q => hz ((nI_eq (hb k hk) (by decide)).mp q)
      refine ⟨(nI (sN (zf f) (k + 1)), v, nI (k + 1)), ⟨rfl, ?_, rfl⟩, fun rec => ?_⟩
      · rcases h2 with ⟨h1, h2⟩ | ⟨j, h1, h2, h3, h4, h5⟩
        · exact Or.inl ⟨h1, fun r q1 q2 => by
            by_cases e : r = k
            · rw [e]; exact hz
            · exact h2 r q1 (by omega)⟩
        · exact Or.inr ⟨j, h1, by omega, h3, h4, h5⟩
      · unfold bX5_alone_28
        dsimp only
        rw [if_neg g0, inb_T hk (by decide), gbT, ix_n (by omega), hf k hk, if_neg hne, if_neg hne, lt_d, gbT, lt_d, show (1 : Int32) = nI 1 from rfl, show (0 : Int32) = nI 0 from rfl, n_add, n_add, hs, hz1]
  · rintro ⟨c, v, z⟩ ⟨h1, h2, h3⟩ rec
    dsimp only at h1 h2 h3
    subst h1 h3
    refine ⟨v, h2, ?_⟩
    unfold bX5_alone_28
    dsimp only
    rw [if_pos (show (495 : Int32) ≤ nI 495 from by decide)]
    by_cases hx : x = nI 0
    · rw [if_pos (show x = (0 : Int32) from hx), if_pos hx]
    · rw [if_neg (show ¬ x = (0 : Int32) from hx), if_neg hx]
      by_cases hv : v < nI 0
      · rw [if_neg (show ¬ (0 : Int32) ≤ v from Int32.not_le.mpr hv), if_pos hv]
        simp (disch := first | omega | decide) only [lt_d, gbT, Option.bind_some, cT2_l, cT2_r, mO_n, mO_s, lit, litL, nb_t, nb_f, need_1, need_0, ix_n, inb_T, le_T, le_F, l_T, l_F, e_F, e_R, if_true, if_false, n_add, n_mul, n_sub, n_l, fM_1, fM_2, fM_3, fM_4, fM_6, fM_7]
      · rw [if_pos (show (0 : Int32) ≤ v from Int32.not_lt.mp hv), if_neg hv]
theorem crB {σ τ : Mem} (h : R σ τ) : ∀ r, r < 495 → crN (gI τ 1) r < 2147483648 := by
  intro r hr
  have h1 := tot_le h
  have h2 : crN (gI τ 1) r ≤ toN (gI τ 1) := sN_part hr
  omega
theorem op_alone {σ τ : Mem} (h : R σ τ) {N : Nat} (hN : 300000 ≤ N) (x : Int32) : Op σ τ (fX0_alone N σ x) (fX5_alone N τ x) := by
  have hX : fX0_in N σ x.toInt64 (0 : Int64) (1 : Int64) = some (nb (inP x 2)) := by
    rw [← inR_P x (b := 1) (by decide)]; exact in_R N σ x (a := 0) (b := 1) (by decide) (by decide)
  have hM : fX5_isIn N τ x.toInt64 (0 : Int64) (1 : Int64) = some (nb (inP x 2)) := by
    rw [← inR_P x (b := 1) (by decide)]; exact isIn_R N τ x (a := 0) (b := 1) (by decide) (by decide)
  unfold fX0_alone fX5_alone
  rw [hX, hM]
  cases hx : inP x 2 with
  | false =>
    simp (disch := first | omega | decide) only [lt_d, gbT, Option.bind_some, cT2_l, cT2_r, mO_n, mO_s, lit, litL, nb_t, nb_f, need_1, need_0, ix_n, inb_T, le_T, le_F, l_T, l_F, e_F, e_R, if_true, if_false, n_add, n_mul, n_sub, n_l, fM_1, fM_2, fM_3, fM_4, fM_6, fM_7]
    exact Op.err h (by decide) (finds_n N σ (by decide)) rfl
  | true =>
    obtain ⟨σ', x1, x2, x3, x4, x5⟩ := crossX h hN
    obtain ⟨τ', m1, m2, m3, m4, -⟩ := workM x3 hN
    obtain ⟨v, hv, hX⟩ := aloneX (σ := σ') (N := N) hN x2.2.2.1 (crB h) x
    obtain ⟨v', hv', hM⟩ := aloneM (τ := τ') (N := N) (f := crN (gI τ 1)) hN (by rw [← m4]; exact m2.2.2.1) (crB h) x
    have := hv.uniq hv'
    subst this
    rw [nb_t, Option.bind_some, Option.bind_some, if_neg ne1, show fX0_need N σ (nI 1) (0 : Int32) = some (.inl (), σ) from need_1 N σ 0, Option.bind_some, cT2_l, x1, m1, Option.bind_some, Option.bind_some, hX, hM]
    by_cases h0 : x = nI 0
    · rw [if_pos h0, if_pos h0]; exact ⟨_, _, _, rfl, rfl, m3⟩
    · rw [if_neg h0, if_neg h0]
      by_cases h1 : v < nI 0
      · rw [if_pos h1, if_pos h1]; exact Op.err m3 (by decide) rfl rfl
      · rw [if_neg h1, if_neg h1]; exact ⟨_, _, _, rfl, rfl, m3⟩
