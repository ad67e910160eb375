/-! SIMPLE OPERATIONS, one -/
set_option maxRecDepth 100000
section IRR
variable {s : Nat → Int32} {i : Nat} {v : Int32}
theorem byS_i (h : i < 44) : byS (upd s i v) = byS s := by funext k; unfold byS; exact up_n (by omega)
theorem latV_i (h1 : i ≠ 1) (h : i < 104) : latV (upd s i v) = latV s := by
  unfold latV
  rw [up_n (by omega : (1 : Nat) ≠ i), up_n (by omega)]
theorem latN_i (h1 : i ≠ 1) (h : i < 104) : latN (upd s i v) = latN s := by unfold latN; rw [latV_i h1 h]
theorem nmV_i (h1 : i ≠ 1) (h : i < 104) : nmV (upd s i v) = nmV s := by
  funext r k
  unfold nmV
  rw [latN_i h1 h, up_n (by omega : (1 : Nat) ≠ i)]
theorem sayN_i (h1 : i ≠ 1) (h3 : i ≠ 3) (h4 : i ≠ 4) (h : i < 44) : sayN (upd s i v) = sayN s := by
  funext r
  unfold sayN
  rw [up_n (by omega : (3 : Nat) ≠ i), up_n (by omega : (4 : Nat) ≠ i), byS_i h, nmV_i h1 (by omega)]
theorem lkN_i (h1 : i ≠ 1) (h3 : i ≠ 3) (h4 : i ≠ 4) (h : i < 20) : lkN (upd s i v) = lkN s := by
  funext p r
  unfold lkN
  rw [sayN_i h1 h3 h4 (by omega), latN_i h1 (by omega), up_n (by omega : 20 + p ≠ i), up_n (by omega : 32 + p ≠ i)]
theorem LN_i (h1 : i ≠ 1) (h3 : i ≠ 3) (h4 : i ≠ 4) (h : i < 20) : LN (upd s i v) = LN s := by funext p; unfold LN; rw [lkN_i h1 h3 h4 h]
theorem cbN_i (h1 : i ≠ 1) (h3 : i ≠ 3) (h4 : i ≠ 4) (h : i < 20) : cbN (upd s i v) = cbN s := by
  funext p r
  unfold cbN
  rw [LN_i h1 h3 h4 h, lkN_i h1 h3 h4 h, up_n (by omega : 32 + p ≠ i)]
theorem crN_i (h0 : i ≠ 0) (h1 : i ≠ 1) (h3 : i ≠ 3) (h4 : i ≠ 4) (h : i < 20) : crN (upd s i v) = crN s := by
  funext r
  unfold crN
  rw [cbN_i h1 h3 h4 h, up_n (by omega : 424 + r ≠ i), up_n (by omega : (0 : Nat) ≠ i)]
theorem toN_i (h0 : i ≠ 0) (h1 : i ≠ 1) (h3 : i ≠ 3) (h4 : i ≠ 4) (h : i < 20) : toN (upd s i v) = toN s := by unfold toN; rw [crN_i h0 h1 h3 h4 h]
theorem wnN_i (h0 : i ≠ 0) (h1 : i ≠ 1) (h3 : i ≠ 3) (h4 : i ≠ 4) (h : i < 20) : wnN (upd s i v) = wnN s := by funext d k; unfold wnN; rw [crN_i h0 h1 h3 h4 h]
theorem CaX.irr {fr aw : Int32} {sa cr : Nat → Int32} {to : Int64} {wi : Nat → Nat → Int32} (q : CaX fr aw sa cr to wi s) (h0 : i ≠ 0) (h1 : i ≠ 1) (h3 : i ≠ 3) (h4 : i ≠ 4) (h : i < 20) : CaX fr aw sa cr to wi (upd s i v) := by
  unfold CaX at q ⊢
  rw [sayN_i h1 h3 h4 (by omega), crN_i h0 h1 h3 h4 h, toN_i h0 h1 h3 h4 h, wnN_i h0 h1 h3 h4 h]
  exact q
theorem CaM.irr {nw sn wn : Int32} {li al lo : Nat → Int32} {ac : Int32} {wi : Nat → Int32} (q : CaM nw sn wn li al lo ac wi s) (h0 : i ≠ 0) (h1 : i ≠ 1) (h3 : i ≠ 3) (h4 : i ≠ 4) (h : i < 20) : CaM nw sn wn li al lo ac wi (upd s i v) := by
  unfold CaM at q ⊢
  rw [sayN_i h1 h3 h4 (by omega), crN_i h0 h1 h3 h4 h, toN_i h0 h1 h3 h4 h, wnN_i h0 h1 h3 h4 h, LN_i h1 h3 h4 h, up_n (by omega : (0 : Nat) ≠ i)]
  exact q
theorem Lik.irr {li : Option Nat} {C : Cel} (q : Lik li C s) (h3 : i ≠ 3) (h4 : i ≠ 4) (h : i < 44) : Lik li C (upd s i v) := by
  unfold Lik at q ⊢
  rw [byS_i h, up_n (by omega : (3 : Nat) ≠ i), up_n (by omega : (4 : Nat) ≠ i)]
  exact q
theorem Hnd.irr {bp bm : Nat → Int32} {b : Nat} (q : Hnd bp bm s b) (h : i < 424) : Hnd bp bm (upd s i v) b := by
  obtain ⟨pl, mn, h1, h2, h3⟩ := q
  exact ⟨pl, mn, fun k hk => by rw [up_n (by omega)]; exact h1 k hk, h2, fun r hr q => by rw [up_n (by omega)]; exact h3 r hr q⟩
theorem Bok.irr {bk : Nat → Nat → Int32} {w : Nat} (q : Bok bk s w) (h : i < 104) : Bok bk (upd s i v) w := fun u hu => ⟨fun k hk => by rw [up_n (by omega)]; exact (q u hu).1 k hk, (q u hu).2⟩
theorem Grp.irr {G : Nat → Option Nat} {C : Cel} {p : Nat} (q : Grp G C s p) (h : i < 20 ∨ 44 ≤ i) (hp : p ≤ 12) : Grp G C (upd s i v) p := fun j hj => by
  rw [up_n (by omega), up_n (by omega)]; exact q j hj
end IRR
theorem op_seed {σ τ : Mem} (h : R σ τ) (N : Nat) (x : Int32) : Op σ τ (fX0_seed N σ x) (fX5_seed N τ x) := by
  obtain ⟨a, ⟨p, w, b, hn, hru, hg, hap, hl, hh, hb⟩, c, d, e, f, g, i, j, k⟩ := h
  obtain ⟨n1, n2, n3, n4, n5, n6, n7, n8, n9, n10⟩ := hn
  refine ⟨gI τ 1 2, wI σ 1 (upd (gI σ 1) 3 x), wI τ 1 (upd (gI τ 1) 2 x), ?_, ?_, a, ⟨p, w, b, ?_, ?_, hg.irr (by omega) n1, hap, hl.irr (by omega) (by omega) (by omega), hh.irr (by omega), hb.irr (by omega)⟩, c, d, e, f, g.irr (by omega) (by omega) (by omega) (by omega) (by omega), i.irr (by omega) (by omega) (by omega) (by omega) (by omega), j, k⟩
  · unfold fX0_seed; rw [lt_d, lt_d, pI_w, n10]
  · unfold fX5_seed; rw [lt_d, lt_d, pI_w]
  · exact ⟨n1, n2, n3, n4, n5, n6, n7, n8, n9, rfl⟩
  · intro k hk
    show gI σ 2 k = upd (gI τ 1) 2 x (10 + k) ∧ ∃ n, n ≤ hiR k ∧ upd (gI τ 1) 2 x (10 + k) = nI n
    rw [up_n (by omega)]; exact hru k hk
theorem op_row {σ τ : Mem} (h : R σ τ) (N : Nat) (x : Int32) : Op σ τ (fX0_row N σ x) (fX5_row N τ x) := by
  have a := h.1
  unfold fX0_row fX5_row
  rw [isPlX, isPlM]
  cases hx : inP x 495 with
  | false =>
    simp (disch := first | omega | decide) only [lt_d, gbT, Option.bind_some, cT2_l, cT2_r, mO_n, mO_s, lit, litL, nb_t, nb_f, need_1, need_0, ix_n, inb_T, le_T, le_F, l_T, l_F, e_F, e_R, if_true, if_false, n_add, n_mul, n_sub, n_l, fM_1, fM_2, fM_3, fM_4, fM_6, fM_7]
    exact Op.err h (by decide) (finds_n N σ (by decide)) rfl
  | true =>
    obtain ⟨r, hr, rfl⟩ := inP_T (by decide) hx
    simp (disch := first | omega | decide) only [lt_d, gbT, Option.bind_some, cT2_l, cT2_r, mO_n, mO_s, lit, litL, nb_t, nb_f, need_1, need_0, ix_n, inb_T, le_T, le_F, l_T, l_F, e_F, e_R, if_true, if_false, n_add, n_mul, n_sub, n_l, fM_1, fM_2, fM_3, fM_4, fM_6, fM_7, a.1 r hr, a.2.1 r hr]
    exact ⟨_, σ, τ, rfl, rfl, h⟩
theorem op_wipe {σ τ : Mem} (h : R σ τ) (N : Nat) : Op σ τ (fX0_wipe N σ) (fX5_wipe N τ) := by
  obtain ⟨a, b, c, ⟨t, t1, t2, t3, t4⟩, e, f, g, i, j, k⟩ := h
  refine ⟨gI τ 0 9, wI σ 0 (upd (gI σ 0) 4 0), wI τ 0 (upd (gI τ 0) 9 0), ?_, ?_, a, b, c, ⟨0, by omega, rfl, rfl, fun k hk => by omega⟩, e, f, g, i, j, k⟩
  · unfold fX0_wipe; rw [lt_d, lt_d, pI_w, t2, t3]
  · unfold fX5_wipe; rw [lt_d, lt_d, pI_w]
theorem op_tear {σ τ : Mem} (h : R σ τ) (N : Nat) : Op σ τ (fX0_tear N σ) (fX5_tear N τ) := by
  obtain ⟨a, b, c, d, e, f, g, i, j, k⟩ := h
  refine ⟨if gI τ 0 2 = 0 then 0 else 1, wI σ 0 (upd (gI σ 0) 2 0), wI τ 0 (upd (gI τ 0) 2 0), ?_, ?_, a, b, ⟨rfl, Or.inl rfl⟩, d, e, f, g, i, j, k⟩
  · unfold fX0_tear; rw [lt_d, lt_d, pI_w, c.1]
  · unfold fX5_tear; rw [lt_d, lt_d, pI_w]
theorem kind_n {σ : Mem} {a k : Nat} {v : Value} (N : Nat) (h : gC σ a = some (.inr (8 + k, [v]))) (hk : k < 8) : dX_kind N σ a = some (nI k) := by
  have h8 : k = 0 ∨ k = 1 ∨ k = 2 ∨ k = 3 ∨ k = 4 ∨ k = 5 ∨ k = 6 ∨ k = 7 := by omega
  rcases h8 with rfl | rfl | rfl | rfl | rfl | rfl | rfl | rfl <;> simp [dX_kind, dC, h, fX7_kind, fX8_kind, fX9_kind, fX10_kind, fX11_kind, fX12_kind, fX13_kind, fX14_kind, gb] <;> rfl
theorem dC_n {σ : Mem} {a k : Nat} {fs : List Value} (h : gC σ a = some (.inr (8 + k, fs))) (hk : k < 8) : dC 8 16 σ a = some (8 + k) := by
  unfold dC; rw [h]; exact if_pos (by omega)
theorem dI_n {σ : Mem} {a k : Nat} {m : Int32} (h : gC σ a = some (.inr (8 + k, [.int m]))) (hk : k < 8) : dI 8 16 σ a 0 = some m := by
  unfold dI; rw [h]; exact if_pos (by omega)
theorem op_of {σ τ : Mem} (h : R σ τ) (N : Nat) (x y : Int32) : Op σ τ (fX0_of N σ x y) (fX5_of N τ x y) := by
  have h' := h
  obtain ⟨a, ⟨p, w, b, hn, hru, hg, hap, hl, hh, hb⟩, c, d, e, f, g, i, j, k⟩ := h'
  obtain ⟨n1, n2, n3, n4, n5, n6, n7, n8, n9, n10⟩ := hn
  unfold fX0_of fX0_peopleAt fX5_of
  rw [isPeM N τ x n5, n4]
  simp (disch := first | omega | decide) only [lt_d, gbT, Option.bind_some, cT2_l, cT2_r, mO_n, mO_s, lit, litL, nb_t, nb_f, need_1, need_0, ix_n, inb_T, le_T, le_F, l_T, l_F, e_F, e_R, if_true, if_false, n_add, n_mul, n_sub, n_l, fM_1, fM_2, fM_3, fM_4, fM_6, fM_7, in_P, isIn_R, in_R, inR_P]
  cases hx : inP x p with
  | false =>
    simp (disch := first | omega | decide) only [lt_d, gbT, Option.bind_some, cT2_l, cT2_r, mO_n, mO_s, lit, litL, nb_t, nb_f, need_1, need_0, ix_n, inb_T, le_T, le_F, l_T, l_F, e_F, e_R, if_true, if_false, n_add, n_mul, n_sub, n_l, fM_1, fM_2, fM_3, fM_4, fM_6, fM_7]
    exact Op.err h (by decide) (finds_n N σ (by decide)) rfl
  | true =>
    obtain ⟨q, hq, rfl⟩ := inP_T (by omega) hx
    obtain ⟨ad, kk, m, g1, g2, g3, g4, g5, g6⟩ := hg q hq
    rw [gr_1 σ (by omega)] at g1
    have gc := dC_n g4 g2
    have gk := kind_n N g4 g2
    have gd := dI_n g4 g2
    simp (disch := first | omega | decide) only [lt_d, gbT, Option.bind_some, cT2_l, cT2_r, mO_n, mO_s, lit, litL, nb_t, nb_f, need_1, need_0, ix_n, inb_T, le_T, le_F, l_T, l_F, e_F, e_R, if_true, if_false, n_add, n_mul, n_sub, n_l, fM_1, fM_2, fM_3, fM_4, fM_6, fM_7, fX1_group_1, g1, gc]
    cases hy : inP y 2 with
    | false =>
      simp (disch := first | omega | decide) only [lt_d, gbT, Option.bind_some, cT2_l, cT2_r, mO_n, mO_s, lit, litL, nb_t, nb_f, need_1, need_0, ix_n, inb_T, le_T, le_F, l_T, l_F, e_F, e_R, if_true, if_false, n_add, n_mul, n_sub, n_l, fM_1, fM_2, fM_3, fM_4, fM_6, fM_7]
      exact Op.err h (by decide) (finds_n N σ (by decide)) rfl
    | true =>
      obtain ⟨z, hz, rfl⟩ := inP_T (by decide) hy
      have hz : z = 0 ∨ z = 1 := by omega
      rcases hz with rfl | rfl
      · simp (disch := first | omega | decide) only [lt_d, gbT, Option.bind_some, cT2_l, cT2_r, mO_n, mO_s, lit, litL, nb_t, nb_f, need_1, need_0, ix_n, inb_T, le_T, le_F, l_T, l_F, e_F, e_R, if_true, if_false, n_add, n_mul, n_sub, n_l, fM_1, fM_2, fM_3, fM_4, fM_6, fM_7, gk, g5]
        exact ⟨_, σ, τ, rfl, rfl, h⟩
      · simp (disch := first | omega | decide) only [lt_d, gbT, Option.bind_some, cT2_l, cT2_r, mO_n, mO_s, lit, litL, nb_t, nb_f, need_1, need_0, ix_n, inb_T, le_T, le_F, l_T, l_F, e_F, e_R, if_true, if_false, n_add, n_mul, n_sub, n_l, fM_1, fM_2, fM_3, fM_4, fM_6, fM_7, gd, g6]
        exact ⟨_, σ, τ, rfl, rfl, h⟩
theorem Gm.num {g ru : Nat → Int32} {G : Nat → Option Nat} {li : Option Nat} {bp bm : Nat → Int32} {bk : Nat → Nat → Int32} {C : Cel} {s : Nat → Int32} (h : Gm g ru G li bp bm bk C s) : ∃ p w b, Num g s p w b := by
  obtain ⟨p, w, b, hn, -⟩ := h
  exact ⟨p, w, b, hn⟩
theorem op_status {σ τ : Mem} (h : R σ τ) {N : Nat} (hN : 300000 ≤ N) (x : Int32) : Op σ τ (fX0_status N σ x) (fX5_status N τ x) := by
  have f := h.2.2.2.2.2.1
  unfold fX0_status fX5_status
  have e1 : fX0_in N σ x.toInt64 (-1 : Int64) (6 : Int64) = some (nb (decide (-1 ≤ x) && decide (x ≤ 6))) := in_32 N σ x (-1) 6
  have e2 : fX5_isIn N τ x.toInt64 (-1 : Int64) (6 : Int64) = some (nb (decide (-1 ≤ x) && decide (x ≤ 6))) := in_32 N τ x (-1) 6
  rw [e1, e2]
  cases hx : (decide (-1 ≤ x) && decide (x ≤ 6)) with
  | false =>
    simp (disch := first | omega | decide) only [lt_d, gbT, Option.bind_some, cT2_l, cT2_r, mO_n, mO_s, lit, litL, nb_t, nb_f, need_1, need_0, ix_n, inb_T, le_T, le_F, l_T, l_F, e_F, e_R, if_true, if_false, n_add, n_mul, n_sub, n_l, fM_1, fM_2, fM_3, fM_4, fM_6, fM_7]
    exact Op.err h (by decide) (finds_n N σ (by decide)) rfl
  | true =>
    simp only [Bool.and_eq_true, decide_eq_true_eq] at hx
    by_cases h0 : x < 0
    · have hm : x = -1 := by
        have a1 := Int32.le_iff_toInt_le.mp hx.1
        have a2 := Int32.lt_iff_toInt_lt.mp h0
        have b1 : (-1 : Int32).toInt = -1 := rfl
        have b2 : (0 : Int32).toInt = 0 := rfl
        exact Int32.toInt_inj.mp (by omega)
      subst hm
      have k1 : ((-1 : Int32) + 1) = nI 0 := rfl
      rw [k1]
      rw [nb_t]
      simp (disch := first | omega | decide) only [lt_d, gbT, Option.bind_some, cT2_l, cT2_r, mO_n, mO_s, lit, litL, nb_t, nb_f, need_1, need_0, ix_n, inb_T, le_T, le_F, l_T, l_F, e_F, e_R, if_true, if_false, n_add, n_mul, n_sub, n_l, fM_1, fM_2, fM_3, fM_4, fM_6, fM_7, if_pos h0]
      have key : lp (bX0_status_30 N σ) N ((0 : Int32), (0 : Int32)) = some (sm (gI σ 61) 7, σ) := by
        refine lp_fun (fun k => (sm (gI σ 61) k, nI k)) 7 (by omega) (fun k rec hk => ?_) (fun rec => ?_)
        · unfold bX0_status_30
          simp (disch := first | omega | decide) only [lt_d, gbT, Option.bind_some, cT2_l, cT2_r, mO_n, mO_s, lit, litL, nb_t, nb_f, need_1, need_0, ix_n, inb_T, le_T, le_F, l_T, l_F, e_F, e_R, if_true, if_false, n_add, n_mul, n_sub, n_l, fM_1, fM_2, fM_3, fM_4, fM_6, fM_7]
          rfl
        · unfold bX0_status_30
          simp (disch := first | omega | decide) only [lt_d, gbT, Option.bind_some, cT2_l, cT2_r, mO_n, mO_s, lit, litL, nb_t, nb_f, need_1, need_0, ix_n, inb_T, le_T, le_F, l_T, l_F, e_F, e_R, if_true, if_false, n_add, n_mul, n_sub, n_l, fM_1, fM_2, fM_3, fM_4, fM_6, fM_7]
      have key : lp (bX0_status_30 N σ) N (nI 0, nI 0) = some (sm (gI σ 61) 7, σ) := key
      rw [key]
      exact ⟨_, σ, τ, rfl, by rw [f.2], h⟩
    · obtain ⟨j, hj, rfl⟩ := nI_of2 (M := 6) (n := 6) rfl h0 hx.2
      have h0' : (nI j < nI 0) = False := l_F (by omega) (by omega)
      rw [nb_t]
      simp (disch := first | omega | decide) only [lt_d, gbT, Option.bind_some, cT2_l, cT2_r, mO_n, mO_s, lit, litL, nb_t, nb_f, need_1, need_0, ix_n, inb_T, le_T, le_F, l_T, l_F, e_F, e_R, if_true, if_false, n_add, n_mul, n_sub, n_l, fM_1, fM_2, fM_3, fM_4, fM_6, fM_7, f.1 j (by omega)]
      exact ⟨_, σ, τ, rfl, rfl, h⟩
theorem op_even {σ τ : Mem} (h : R σ τ) (N : Nat) : Op σ τ (fX0_even N σ) (fX5_even N τ) := by
  obtain ⟨a, ⟨p, w, b, hn, hru, hg, hap, hl, hh, hb⟩, c, d, e, f, g, i, j, k⟩ := h
  have hn' := hn
  obtain ⟨n1, n2, n3, n4, n5, n6, n7, n8, n9, n10⟩ := hn'
  have key : fX0_even N σ = some (gI τ 1 3, wI (wR σ 16 (updR (gR σ 16) 0 none)) 0 (upd (gI σ 0) 10 0)) := by
    unfold fX0_even
    rcases hl with ⟨l1, l2⟩ | ⟨l1, ad, z, l2, -⟩
    · rw [l2, l1]
      show jX0_even_18 N σ 0 = _
      unfold jX0_even_18
      rw [lt_d, lt_d, pR_w, pI_w]; rfl
    · rw [l2, l1]
      show jX0_even_18 N σ 1 = _
      unfold jX0_even_18
      rw [lt_d, lt_d, pR_w, pI_w]; rfl
  have key2 : fX5_even N τ = some (gI τ 1 3, wI (wI τ 1 (upd (gI τ 1) 3 0)) 0 (upd (upd (gI τ 0) 18 1) 19 1)) := by
    unfold fX5_even
    rw [lt_d, lt_d, lt_d, lt_d, pI_w, pI_w, pI_w, wI_wI]; rfl
  refine ⟨_, _, _, key, key2, a, ⟨p, w, b, ?_, ?_, hg.irr (by omega) n1, hap, Or.inl ⟨rfl, rfl⟩, hh.irr (by omega), hb.irr (by omega)⟩, c, d, e, f, Or.inl rfl, ⟨Or.inr rfl, Or.inr rfl, fun q => absurd q (show ¬ (nI 1 = nI 0) by decide), fun q => absurd q (show ¬ (nI 1 = nI 0) by decide)⟩, j, k⟩
  · exact ⟨n1, n2, n3, n4, n5, n6, n7, n8, n9, n10⟩
  · intro k hk
    show gI σ 2 k = upd (gI τ 1) 3 0 (10 + k) ∧ ∃ n, n ≤ hiR k ∧ upd (gI τ 1) 3 0 (10 + k) = nI n
    rw [up_n (by omega)]; exact hru k hk
