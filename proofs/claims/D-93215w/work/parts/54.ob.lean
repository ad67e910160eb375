/-! OPERATIONS OVER WHAT IS CROSSED, one -/
set_option maxRecDepth 100000
theorem tot_le {σ τ : Mem} (h : R σ τ) : toN (gI τ 1) ≤ 5199948 := by
  obtain ⟨a, ⟨p, w, b, hn, hru, hg, hap, hl, hh, hb⟩, -⟩ := h
  obtain ⟨n1, n2, n3, n4, n5, n6, n7, n8, n9, n10⟩ := hn
  have h1 := toN_le (s := gI τ 1) (np := p) (by rw [n5, ix_n (by omega)]) hg.many
  have h2 := hh.sum n3
  have : p * 99999 ≤ 12 * 99999 := Nat.mul_le_mul_right _ n1
  omega
/-- the pot with this week's crosses -/
def potV (s : Nat → Int32) (x : Int64) : Int64 := x + (lN (toN s) * (s 10).toInt64 * (s 11).toInt64) / (100 : Int64)
theorem potX {σ τ : Mem} (h : R σ τ) (hx : XF σ (gI τ 1)) (N : Nat) (x : Int64) : fX0_potWith N σ x = some (potV (gI τ 1) x) := by
  obtain ⟨a, ⟨p, w, b, hn, hru, -⟩, -⟩ := h
  have r0 : gI σ 2 0 = gI τ 1 10 := (hru 0 (by omega)).1
  have r1 : gI σ 2 1 = gI τ 1 11 := (hru 1 (by omega)).1
  unfold fX0_potWith potV
  rw [hx.2.2.2, r0, r1]
theorem potM {σ τ : Mem} (h : R σ τ) {N : Nat} (hN : 300000 ≤ N) (x : Int32) : ∃ τ', fX5_potWith N τ x = some (potV (gI τ 1) x.toInt64, τ') ∧ MF τ' ∧ R σ τ' ∧ gI τ' 1 = gI τ 1 := by
  obtain ⟨τ', w1, w2, w3, w4, -⟩ := workM h hN
  have ht := tot_le h
  refine ⟨τ', ?_, w2, w3, w4⟩
  unfold fX5_potWith potV
  rw [w1, Option.bind_some, w2.2.2.2.2, w4, n_l (by omega)]
theorem op_now {σ τ : Mem} (h : R σ τ) {N : Nat} (hN : 300000 ≤ N) : Op σ τ (fX0_now N σ) (fX5_now N τ) := by
  obtain ⟨σ', x1, x2, x3, x4, x5⟩ := crossX h hN
  obtain ⟨τ', m1, m2, m3, m4⟩ := potM x3 hN (gI τ 1 17)
  have r7 : gI σ' 2 7 = gI τ 1 17 := by
    obtain ⟨a, ⟨p, w, b, hn, hru, -⟩, -⟩ := x3
    exact (hru 7 (by omega)).1
  unfold fX0_now fX5_now
  rw [x1, Option.bind_some, potX x3 x2, Option.bind_some, m1, Option.bind_some, r7]
  exact ⟨_, _, _, rfl, rfl, m3⟩
theorem op_shares {σ τ : Mem} (h : R σ τ) {N : Nat} (hN : 300000 ≤ N) (x : Int32) : Op σ τ (fX0_shares N σ x) (fX5_shares N τ x) := by
  unfold fX0_shares fX5_shares
  rw [isPlX, isPlM]
  cases hx : inP x 495 with
  | false =>
    simp (disch := first | omega | decide) only [lt_d, gbT, Option.bind_some, cT2_l, cT2_r, mO_n, mO_s, lit, litL, nb_t, nb_f, need_1, need_0, ix_n, inb_T, le_T, le_F, l_T, l_F, e_F, e_R, if_true, if_false, n_add, n_mul, n_sub, n_l, fM_1, fM_2, fM_3, fM_4, fM_6, fM_7]
    exact Op.err h (by decide) (finds_n N σ (by decide)) rfl
  | true =>
    obtain ⟨r, hr, rfl⟩ := inP_T (by decide) hx
    obtain ⟨σ', x1, x2, x3, x4, x5⟩ := crossX h hN
    obtain ⟨τ', m1, m2, m3, m4, -⟩ := workM x3 hN
    have hm := m2.2.2.1 r hr
    rw [m4] at hm
    simp (disch := first | omega | decide) only [lt_d, gbT, Option.bind_some, cT2_l, cT2_r, mO_n, mO_s, lit, litL, nb_t, nb_f, need_1, need_0, ix_n, inb_T, le_T, le_F, l_T, l_F, e_F, e_R, if_true, if_false, n_add, n_mul, n_sub, n_l, fM_1, fM_2, fM_3, fM_4, fM_6, fM_7, x1, m1, x2.2.2.1 r hr, hm]
    exact ⟨_, _, _, rfl, rfl, m3⟩
theorem op_likes {σ τ : Mem} (h : R σ τ) {N : Nat} (hN : 300000 ≤ N) (x y : Int32) : Op σ τ (fX0_likes N σ x y) (fX5_likes N τ x y) := by
  have h' := h
  obtain ⟨a, ⟨p, w, b, hn, hru, hg, hap, hl, hh, hb⟩, c, d, e, f, g, i, j, k⟩ := h'
  have hn' := hn
  obtain ⟨n1, n2, n3, n4, n5, n6, n7, n8, n9, n10⟩ := hn'
  unfold fX0_likes fX0_peopleAt fX5_likes
  rw [isPeM N τ x n5, n4]
  simp (disch := first | omega | decide) only [lt_d, gbT, Option.bind_some, cT2_l, cT2_r, mO_n, mO_s, lit, litL, nb_t, nb_f, need_1, need_0, ix_n, inb_T, le_T, le_F, l_T, l_F, e_F, e_R, if_true, if_false, n_add, n_mul, n_sub, n_l, fM_1, fM_2, fM_3, fM_4, fM_6, fM_7, in_P]
  cases hx : inP x p with
  | false =>
    simp (disch := first | omega | decide) only [lt_d, gbT, Option.bind_some, cT2_l, cT2_r, mO_n, mO_s, lit, litL, nb_t, nb_f, need_1, need_0, ix_n, inb_T, le_T, le_F, l_T, l_F, e_F, e_R, if_true, if_false, n_add, n_mul, n_sub, n_l, fM_1, fM_2, fM_3, fM_4, fM_6, fM_7]
    exact Op.err h (by decide) (finds_n N σ (by decide)) rfl
  | true =>
    obtain ⟨q, hq, rfl⟩ := inP_T (by omega) hx
    obtain ⟨ad, kk, m, g1, g2, g3, g4, g5, g6⟩ := hg q hq
    rw [gr_1 σ (by omega)] at g1
    have gc := dC_n g4 g2
    rw [isPlM]
    simp (disch := first | omega | decide) only [lt_d, gbT, Option.bind_some, cT2_l, cT2_r, mO_n, mO_s, lit, litL, nb_t, nb_f, need_1, need_0, ix_n, inb_T, le_T, le_F, l_T, l_F, e_F, e_R, if_true, if_false, n_add, n_mul, n_sub, n_l, fM_1, fM_2, fM_3, fM_4, fM_6, fM_7, fX1_group_1, g1, gc, isPlX]
    cases hy : inP y 495 with
    | false =>
      simp (disch := first | omega | decide) only [lt_d, gbT, Option.bind_some, cT2_l, cT2_r, mO_n, mO_s, lit, litL, nb_t, nb_f, need_1, need_0, ix_n, inb_T, le_T, le_F, l_T, l_F, e_F, e_R, if_true, if_false, n_add, n_mul, n_sub, n_l, fM_1, fM_2, fM_3, fM_4, fM_6, fM_7]
      exact Op.err h (by decide) (finds_n N σ (by decide)) rfl
    | true =>
      obtain ⟨r, hr, rfl⟩ := inP_T (by decide) hy
      obtain ⟨σ', x1, x2, x3, x4, x5⟩ := crossX h hN
      obtain ⟨τ', m1, m2, m3, m4, -⟩ := workM x3 hN
      have y3 := x3
      obtain ⟨a', ⟨p', w', b', hn', hru', hg', hap', hl', hh', hb'⟩, -⟩ := y3
      have hw' := hn'.2.1
      obtain ⟨L, hL⟩ := likesOfX (σ := σ') (s := gI τ 1) (p := q) hN hw' hn'.2.2.2.2.2.1 hn'.2.2.2.2.2.2.1 hb'.draw a'.1 (by rw [x4]; exact g4) g2 g3 g5 g6 hr (x2.2.1 r hr)
      have hM := likesByM (τ := τ') (N := N) (w := w) (p := q) (k := kk) (m := m) (r := r) hN (Tab.m m3.1) n2 (by rw [m4]; exact n7) (by omega) g2 g3 (by rw [m4]; exact g5) (by rw [m4]; exact g6) hr (m2.2.1 r hr)
      rw [m4] at hM
      simp (disch := first | omega | decide) only [lt_d, gbT, Option.bind_some, cT2_l, cT2_r, mO_n, mO_s, lit, litL, nb_t, nb_f, need_1, need_0, ix_n, inb_T, le_T, le_F, l_T, l_F, e_F, e_R, if_true, if_false, n_add, n_mul, n_sub, n_l, fM_1, fM_2, fM_3, fM_4, fM_6, fM_7, x1, m1, hL, hM]
      exact ⟨_, _, _, rfl, rfl, m3⟩
theorem lik01 {li : Option Nat} {C : Cel} {s : Nat → Int32} (h : Lik li C s) {α : Type} (x y : Option α) : mO li x (fun _ => y) = if s 3 = nI 0 then x else y := by
  rcases h with ⟨h1, h2⟩ | ⟨h1, a, z, h2, -⟩
  · rw [h2, if_pos h1]; rfl
  · rw [h2, if_neg (by rw [h1]; exact ne_01)]; rfl
theorem op_count {σ τ : Mem} (h : R σ τ) {N : Nat} (hN : 300000 ≤ N) (x : Int32) : Op σ τ (fX0_count N σ x) (fX5_count N τ x) := by
  have h' := h
  obtain ⟨a, ⟨p, w, b, hn, hru, hg, hap, hl, hh, hb⟩, c, d, e, f, g, i, j, k⟩ := h'
  obtain ⟨n1, n2, n3, n4, n5, n6, n7, n8, n9, n10⟩ := hn
  obtain ⟨t, t1, t2, t3, t4⟩ := d
  have hI : fX5_isIn N τ x.toInt64 (0 : Int64) (7 : Int64) = some (nb (inP x 8)) := by
    rw [← inR_P x (b := 7) (by decide)]; exact isIn_R N τ x (a := 0) (b := 7) (by decide) (by decide)
  unfold fX5_count
  rw [hI]
  cases hx : inP x 8 with
  | false =>
    have ne : ∀ j, j < 8 → ¬ x = nI j := fun j hj q => by
      subst q
      have : inP (nI j) 8 = true := by
        unfold inP
        simp only [l_F (Nat.zero_le j) (by omega : j < 2147483648), l_T hj (by omega)]
        rfl
      rw [this] at hx; cases hx
    have kX : fX0_count N σ x = some (cod 0, erX σ 0) := by
      unfold fX0_count
      rw [if_neg (show ¬ x = (0 : Int32) from ne 0 (by omega)), if_neg (show ¬ x = (1 : Int32) from ne 1 (by omega)), if_neg (show ¬ x = (2 : Int32) from ne 2 (by omega)), if_neg (show ¬ x = (3 : Int32) from ne 3 (by omega)), if_neg (show ¬ x = (4 : Int32) from ne 4 (by omega)), if_neg (show ¬ x = (5 : Int32) from ne 5 (by omega)), if_neg (show ¬ x = (6 : Int32) from ne 6 (by omega)), if_neg (show ¬ x = (7 : Int32) from ne 7 (by omega))]
      have hnd := need_0 N σ 0
      unfold fX0_need at hnd
      rw [if_pos (show nI 0 = (0 : Int32) from rfl), lt_d] at hnd
      obtain ⟨q, hq1, hq2⟩ := Option.bind_eq_some_iff.mp hnd
      have hq3 : q.2 = wC σ (updC (gC σ) (gN σ) (fdE 0)) (gN σ + 1) := by
        have := Option.some.inj hq2
        exact (Prod.mk.inj this).2
      rw [lt_d, show fX6_init N (nC σ _) (gN σ) (0 : Int32) = some q from hq1, Option.bind_some, hq3]
      exact finds_n N σ (by decide)
    rw [kX, nb_f, Option.bind_some, if_pos (show nI 0 = (0 : Int32) from rfl), show fX5_finds N τ (-1000000001 : Int32) = some (cod 0, erM τ 0) from fM_1 N τ]
    exact Op.err h (by decide) rfl rfl
  | true =>
    obtain ⟨q, hq, rfl⟩ := inP_T (by decide) hx
    rw [nb_t, Option.bind_some, if_neg ne1]
    obtain ⟨τ', m1, m2, m3, m4, -⟩ := workM h hN
    have y3 := m3
    obtain ⟨a', -, -, ⟨t', u1, u2, u3, u4⟩, -⟩ := y3
    have et : t' = t := ((nI_eq (by omega) (by omega)).mp (u2.symm.trans t2))
    subst et
    rw [m1, Option.bind_some, m4]
    unfold fX0_count
    have h8 : q = 0 ∨ q = 1 ∨ q = 2 ∨ q = 3 ∨ q = 4 ∨ q = 5 ∨ q = 6 ∨ q = 7 := by omega
    rcases h8 with rfl | rfl | rfl | rfl | rfl | rfl | rfl | rfl
    · exact ⟨nI p, σ, τ', congrArg (fun z => some (z, σ)) n4, congrArg (fun z => some (z, τ')) n5, m3⟩
    · exact ⟨nI w, σ, τ', congrArg (fun z => some (z, σ)) n6, congrArg (fun z => some (z, τ')) n7, m3⟩
    · obtain ⟨σ', x1, x2, x3, x4, x5⟩ := crossX m3 hN
      rw [m4] at x2
      have kX : ((fX0_all N σ).bind (fun q4 => some (q4.1, q4.2))) = some (nI (toN (gI τ 1)), σ') := by
        unfold fX0_all
        rw [x1, Option.bind_some, x2.2.2.2, lN_i]; rfl
      have kM : gI τ' 0 24 = nI (toN (gI τ 1)) := by rw [m2.2.2.2.2, m4]
      exact ⟨_, σ', τ', kX, congrArg (fun z => some (z, τ')) kM, x3⟩
    · exact ⟨nI b, σ, τ', congrArg (fun z => some (z, σ)) n8, congrArg (fun z => some (z, τ')) n9, m3⟩
    · rcases hl with ⟨l1, l2⟩ | ⟨l1, ad, z, l2, -⟩
      · refine ⟨nI 0, σ, τ', ?_, congrArg (fun z => some (z, τ')) l1, m3⟩
        show mO (gR σ 16 0) (some ((0 : Int32), σ)) (fun _ => some ((1 : Int32), σ)) = _
        rw [l2]; rfl
      · refine ⟨nI 1, σ, τ', ?_, congrArg (fun z => some (z, τ')) l1, m3⟩
        show mO (gR σ 16 0) (some ((0 : Int32), σ)) (fun _ => some ((1 : Int32), σ)) = _
        rw [l2]; rfl
    · exact ⟨nI t', σ, τ', congrArg (fun z => some (z, σ)) t2, congrArg (fun z => some (z, τ')) u3, m3⟩
    · exact ⟨gI τ 1 2, σ, τ', congrArg (fun z => some (z, σ)) n10, rfl, m3⟩
    · exact ⟨gI τ 1 17, σ, τ', congrArg (fun z => some (z, σ)) (hru 7 (by omega)).1, rfl, m3⟩
