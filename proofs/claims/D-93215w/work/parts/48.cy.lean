/-! WHAT IS CROSSED: the component, two -/
set_option maxRecDepth 100000
theorem likesOfX {σ : Mem} {N w : Nat} {s : Nat → Int32} (hN : 300000 ≤ N) (hw : w ≤ 40) (n6 : gI σ 1 1 = nI w) (n7 : s 1 = nI w) (hd : ∀ v, v < w → gI σ 20 v = s (104 + 8 * v)) (ht : ∀ k, k < 495 → gI σ 62 k = nI (rowT k)) {a k m p r : Nat} (hC : gC σ a = some (.inr (8 + k, [.int (nI m)]))) (hk : k < 8) (hm : m ≤ 99999) (h20 : s (20 + p) = nI k) (h32 : s (32 + p) = nI m) (hr : r < 495) (hsay : gI σ 66 r = nI (sayN s r)) : ∃ L, fX0_likesOf N σ a (nI r) = some (nI (lkN s p r), wI σ 63 L) := by
  have hsl := sayN_le s r
  refine ⟨upd (upd (upd (upd (gI σ 63) 0 (nI (rowT r))) 1 (nI r)) 2 (latV s)) 3 (nI (sayN s r)), ?_⟩
  unfold fX0_likesOf
  have hla : ∀ L, fX1_latest_1 N (wI σ 63 L) = some (latV s) := fun L => latX hw n6 n7 hd
  have hf := fanX (σ := wI σ 63 (upd (upd (upd (upd (gI σ 63) 0 (nI (rowT r))) 1 (nI r)) 2 (latV s)) 3 (nI (sayN s r)))) (lv := latV s) hN hC hk hm hr (rowT_lt hr) (rowT_pc hr) hsl rfl rfl rfl rfl
  simp (disch := first | omega | decide) only [lt_d, gbT, Option.bind_some, cT2_l, cT2_r, mO_n, mO_s, lit, litL, nb_t, nb_f, need_1, need_0, ix_n, inb_T, le_T, le_F, l_T, l_F, e_F, e_R, if_true, if_false, n_add, n_mul, n_sub, n_l, fM_1, fM_2, fM_3, fM_4, fM_6, fM_7, pI_w, pL_w, pR_w, pC_w, nC_w, gI_wI, gI_wIn, gI_wL, gI_wR, gI_wC, gL_wL, gL_wLn, gL_wI, gL_wR, gL_wC, gR_wR, gR_wRn, gR_wI, gR_wL, gR_wC, gC_wI, gC_wL, gC_wR, gC_wC, gN_wI, gN_wL, gN_wR, gN_wC, wI_wI, wL_wL, wR_wR, wC_wC, up_s, up_n, ht r hr, hla, hsay, hf]
  unfold lkN
  rw [h20, h32, ix_n (by omega), ix_n (by omega)]
  rfl
theorem findLikedX {σ : Mem} {N w : Nat} {s : Nat → Int32} (hN : 300000 ≤ N) (hw : w ≤ 40) (n6 : gI σ 1 1 = nI w) (n7 : s 1 = nI w) (hd : ∀ v, v < w → gI σ 20 v = s (104 + 8 * v)) (ht : ∀ k, k < 495 → gI σ 62 k = nI (rowT k)) {a k m p : Nat} (hC : gC σ a = some (.inr (8 + k, [.int (nI m)]))) (hk : k < 8) (hm : m ≤ 99999) (h20 : s (20 + p) = nI k) (h32 : s (32 + p) = nI m) (hsay : ∀ r, r < 495 → gI σ 66 r = nI (sayN s r)) : ∃ L, fX0_findLiked N σ a = some (nI (LN s p), wI (wI σ 63 L) 67 (fil (fun r => nI (lkN s p r)) (gI σ 67) 495)) := by
  unfold fX0_findLiked
  refine lp_inv (N := N) (b := bX0_findLiked_4 N σ a) (Q := fun F => ∃ L, F = some (nI (LN s p), wI (wI σ 63 L) 67 (fil (fun r => nI (lkN s p r)) (gI σ 67) 495))) (P := fun q y => ∃ L, y = (wI (wI σ 63 L) 67 (fil (fun r => nI (lkN s p r)) (gI σ 67) q), nI (sN (lkN s p) q), nI q)) 495 (by omega) ?_ ?_ (σ, (0 : Int32), (0 : Int32)) ⟨gI σ 63, by rw [fil_0, wI_id, wI_id]; rfl⟩
  · rintro q _ hq ⟨L, rfl⟩
    obtain ⟨L', hL⟩ := likesOfX (σ := wI (wI σ 63 L) 67 (fil (fun r => nI (lkN s p r)) (gI σ 67) q)) hN hw n6 n7 hd ht hC hk hm h20 h32 hq (hsay q hq)
    refine ⟨(wI (wI σ 63 L') 67 (fil (fun r => nI (lkN s p r)) (gI σ 67) (q + 1)), nI (sN (lkN s p) (q + 1)), nI (q + 1)), ⟨L', rfl⟩, fun rec => ?_⟩
    rw [wI_sw _ _ _ (by decide : 67 ≠ 63), wI_wI] at hL
    unfold bX0_findLiked_4
    simp (disch := first | omega | decide) only [lt_d, gbT, Option.bind_some, cT2_l, cT2_r, mO_n, mO_s, lit, litL, nb_t, nb_f, need_1, need_0, ix_n, inb_T, le_T, le_F, l_T, l_F, e_F, e_R, if_true, if_false, n_add, n_mul, n_sub, n_l, fM_1, fM_2, fM_3, fM_4, fM_6, fM_7, pI_w, pL_w, pR_w, pC_w, nC_w, gI_wI, gI_wIn, gI_wL, gI_wR, gI_wC, gL_wL, gL_wLn, gL_wI, gL_wR, gL_wC, gR_wR, gR_wRn, gR_wI, gR_wL, gR_wC, gC_wI, gC_wL, gC_wR, gC_wC, gN_wI, gN_wL, gN_wR, gN_wC, wI_wI, wL_wL, wR_wR, wC_wC, up_s, up_n, hL]
    rw [fil_s rfl]
    rfl
  · rintro _ ⟨L, rfl⟩ rec
    refine ⟨L, ?_⟩
    unfold bX0_findLiked_4
    simp (disch := first | omega | decide) only [lt_d, gbT, Option.bind_some, cT2_l, cT2_r, mO_n, mO_s, lit, litL, nb_t, nb_f, need_1, need_0, ix_n, inb_T, le_T, le_F, l_T, l_F, e_F, e_R, if_true, if_false, n_add, n_mul, n_sub, n_l, fM_1, fM_2, fM_3, fM_4, fM_6, fM_7]
    rfl
theorem crossedByX {σ : Mem} {N : Nat} {s : Nat → Int32} {a k m p r : Nat} (hC : gC σ a = some (.inr (8 + k, [.int (nI m)]))) (hk : k < 8) (hm : m ≤ 99999) (h32 : s (32 + p) = nI m) : fX0_crossedBy N σ a (nI (lkN s p r)) (nI (LN s p)) = some (nI (cbN s p r)) := by
  have h1 := lkN_le s p r
  have h2 := LN_le s p
  unfold fX0_crossedBy cbN
  rw [dI_n hC hk, h32, ix_n (by omega)]
  by_cases e : LN s p = 0
  · rw [e, if_pos (show nI 0 = (0 : Int32) from rfl), if_pos rfl]; rfl
  · rw [if_neg (show ¬ nI (LN s p) = (0 : Int32) from nI_ne0 (by omega) (by omega)), if_neg e, Option.bind_some, n_l (by omega), n_l (by omega), n_l (by omega), nzL_n (by omega) (by omega), gbT, mulL]
    have hml : m * lkN s p r ≤ 99999 * 246 := Nat.mul_le_mul hm h1
    rw [pk_lDiv (by omega) (by omega) (by omega), lN_i]
/-- the hands' loop -/
theorem handLp {σ : Mem} {N b : Nat} {cr : Nat → Nat} {pl mn : Nat → Nat} (hN : 300000 ≤ N) (hb : b ≤ 40) (n8 : gI σ 1 2 = nI b) (h1 : ∀ k, k < b → pl k < 495 ∧ gI σ 17 k = nI (pl k) ∧ gI σ 18 k = nI (mn k)) (h2 : ∀ i j, i < b → j < b → pl i = pl j → i = j) (hcr : ∀ r, r < 495 → gI σ 68 r = nI (cr r)) {T : Option (Unit × Mem)} (hT : ∀ f, (∀ r, r < 495 → f r = nI (cr r + FB pl mn b r)) → lt_ (pL (wI σ 68 f) 0 15 (0 : Int64)) (fun σ7 => lp (bX0_findCrossed_159 N σ7) N (σ7, (0 : Int32))) = T) : lp (bX0_findCrossed_109 N σ) N (σ, (0 : Int32)) = T := by
  refine lp_inv (N := N) (b := bX0_findCrossed_109 N σ) (Q := fun F => F = T) (P := fun k y => ∃ f, y = (wI σ 68 f, nI k) ∧ ∀ r, r < 495 → f r = nI (cr r + FB pl mn k r)) b (by omega) ?_ ?_ (σ, (0 : Int32)) ⟨gI σ 68, by rw [wI_id]; rfl, fun r hr => hcr r hr⟩
  · rintro k _ hk ⟨f, rfl, hf⟩
    have q := h1 k hk
    have q1 := q.1
    have hz : FB pl mn k (pl k) = 0 := FB_out (fun i hi z => absurd (h2 i k (by omega) hk z) (by omega))
    refine ⟨(wI σ 68 (upd f (pl k) (nI (cr (pl k) + mn k))), nI (k + 1)), ⟨_, rfl, fun r hr => ?_⟩, fun rec => ?_⟩
    · show upd f (pl k) _ r = nI (cr r + (if r = pl k then mn k else FB pl mn k r))
      by_cases e : r = pl k
      · subst e; rw [up_s, if_pos rfl]
      · rw [up_n e, if_neg e]; exact hf r hr
    · unfold bX0_findCrossed_109
      simp (disch := first | omega | decide) only [lt_d, gbT, Option.bind_some, cT2_l, cT2_r, mO_n, mO_s, lit, litL, nb_t, nb_f, need_1, need_0, ix_n, inb_T, le_T, le_F, l_T, l_F, e_F, e_R, if_true, if_false, n_add, n_mul, n_sub, n_l, fM_1, fM_2, fM_3, fM_4, fM_6, fM_7, pI_w, pL_w, pR_w, pC_w, nC_w, gI_wI, gI_wIn, gI_wL, gI_wR, gI_wC, gL_wL, gL_wLn, gL_wI, gL_wR, gL_wC, gR_wR, gR_wRn, gR_wI, gR_wL, gR_wC, gC_wI, gC_wL, gC_wR, gC_wC, gN_wI, gN_wL, gN_wR, gN_wC, wI_wI, wL_wL, wR_wR, wC_wC, up_s, up_n, n8, q.2.1, q.2.2, hf _ q1, hz, Nat.add_zero]
  · rintro _ ⟨f, rfl, hf⟩ rec
    unfold bX0_findCrossed_109
    rw [show gI (wI σ 68 f) 1 2 = nI b from n8, if_pos (show nI b ≤ nI b from nI_le (Nat.le_refl _) (by omega))]
    exact hT f hf
/-- the total -/
theorem totLp {σ : Mem} {N : Nat} {cr : Nat → Nat} (hN : 300000 ≤ N) (hcr : ∀ r, r < 495 → gI σ 68 r = nI (cr r)) (hb : ∀ r, r < 495 → cr r < 2147483648) : lt_ (pL σ 0 15 (0 : Int64)) (fun σ7 => lp (bX0_findCrossed_159 N σ7) N (σ7, (0 : Int32))) = some ((), wI (wL σ 0 (vp_updL (gL σ 0) 15 (lN (sN cr 495)))) 0 (upd (upd (gI σ 0) 10 (nI 1)) 11 (nI 0))) := by
  rw [lt_d, pL_w]
  have key := lp_fun (b := bX0_findCrossed_159 N (wL σ 0 (vp_updL (gL σ 0) 15 (0 : Int64)))) (fun k => (wL σ 0 (vp_updL (gL σ 0) 15 (lN (sN cr k))), nI k)) 495 (N := N) (by omega) (r := some ((), wI (wL σ 0 (vp_updL (gL σ 0) 15 (lN (sN cr 495)))) 0 (upd (upd (gI σ 0) 10 (nI 1)) 11 (nI 0)))) (fun k rec hk => ?_) (fun rec => ?_)
  · exact key
  · unfold bX0_findCrossed_159
    have := hb k hk
    simp (disch := first | omega | decide) only [lt_d, gbT, Option.bind_some, cT2_l, cT2_r, mO_n, mO_s, lit, litL, nb_t, nb_f, need_1, need_0, ix_n, inb_T, le_T, le_F, l_T, l_F, e_F, e_R, if_true, if_false, n_add, n_mul, n_sub, n_l, fM_1, fM_2, fM_3, fM_4, fM_6, fM_7, pI_w, pL_w, pR_w, pC_w, nC_w, gI_wI, gI_wIn, gI_wL, gI_wR, gI_wC, gL_wL, gL_wLn, gL_wI, gL_wR, gL_wC, gR_wR, gR_wRn, gR_wI, gR_wL, gR_wC, gC_wI, gC_wL, gC_wR, gC_wC, gN_wI, gN_wL, gN_wR, gN_wC, wI_wI, wL_wL, wR_wR, wC_wC, up_s, up_n, hcr k hk, upL_s, l_add]
    have h2 : vp_updL (vp_updL (gL σ 0) 15 (lN (sN cr k))) 15 (lN (sN cr k + cr k)) = vp_updL (gL σ 0) 15 (lN (sN cr (k + 1))) := by
      funext j
      by_cases e : j = 15
      · subst e; rw [upL_s, upL_s]; rfl
      · rw [upL_n e, upL_n e, upL_n e]
    rw [h2]
  · unfold bX0_findCrossed_159
    simp (disch := first | omega | decide) only [lt_d, gbT, Option.bind_some, cT2_l, cT2_r, mO_n, mO_s, lit, litL, nb_t, nb_f, need_1, need_0, ix_n, inb_T, le_T, le_F, l_T, l_F, e_F, e_R, if_true, if_false, n_add, n_mul, n_sub, n_l, fM_1, fM_2, fM_3, fM_4, fM_6, fM_7, pI_w, pL_w, pR_w, pC_w, nC_w, gI_wI, gI_wIn, gI_wL, gI_wR, gI_wC, gL_wL, gL_wLn, gL_wI, gL_wR, gL_wC, gR_wR, gR_wRn, gR_wI, gR_wL, gR_wC, gC_wI, gC_wL, gC_wR, gC_wC, gN_wI, gN_wL, gN_wR, gN_wC, wI_wI, wL_wL, wR_wR, wC_wC, up_s, up_n]
/-- one member of people's crosses are added -/
theorem addLp {σ : Mem} {N : Nat} {s : Nat → Int32} {a k m p : Nat} {cr : Nat → Nat} (hN : 300000 ≤ N) (hC : gC σ a = some (.inr (8 + k, [.int (nI m)]))) (hk : k < 8) (hm : m ≤ 99999) (h32 : s (32 + p) = nI m) (hli : ∀ r, r < 495 → gI σ 67 r = nI (lkN s p r)) (hcr : ∀ r, r < 495 → gI σ 68 r = nI (cr r)) (r36 : Mem × Int32 → Option (Unit × Mem)) : lp (bX0_findCrossed_65 N σ (nI p) a (nI (LN s p)) r36) N (σ, (0 : Int32)) = r36 (wI σ 68 (fil (fun r => nI (cr r + cbN s p r)) (gI σ 68) 495), nI (p + 1)) := by
  have key := lp_fun (b := bX0_findCrossed_65 N σ (nI p) a (nI (LN s p)) r36) (fun q => (wI σ 68 (fil (fun r => nI (cr r + cbN s p r)) (gI σ 68) q), nI q)) 495 (N := N) (by omega) (r := r36 (wI σ 68 (fil (fun r => nI (cr r + cbN s p r)) (gI σ 68) 495), nI (p + 1))) (fun q rec hq => ?_) (fun rec => ?_)
  · rw [fil_0, wI_id] at key
    exact key
  · unfold bX0_findCrossed_65
    have hcb : fX0_crossedBy N (wI σ 68 (fil (fun r => nI (cr r + cbN s p r)) (gI σ 68) q)) a (nI (lkN s p q)) (nI (LN s p)) = some (nI (cbN s p q)) := crossedByX hC hk hm h32
    simp (disch := first | omega | decide) only [lt_d, gbT, Option.bind_some, cT2_l, cT2_r, mO_n, mO_s, lit, litL, nb_t, nb_f, need_1, need_0, ix_n, inb_T, le_T, le_F, l_T, l_F, e_F, e_R, if_true, if_false, n_add, n_mul, n_sub, n_l, fM_1, fM_2, fM_3, fM_4, fM_6, fM_7, pI_w, pL_w, pR_w, pC_w, nC_w, gI_wI, gI_wIn, gI_wL, gI_wR, gI_wC, gL_wL, gL_wLn, gL_wI, gL_wR, gL_wC, gR_wR, gR_wRn, gR_wI, gR_wL, gR_wC, gC_wI, gC_wL, gC_wR, gC_wC, gN_wI, gN_wL, gN_wR, gN_wC, wI_wI, wL_wL, wR_wR, wC_wC, up_s, up_n, hli q hq, hcb, fil_out, hcr q hq]
    rw [fil_s rfl]
  · unfold bX0_findCrossed_65
    simp (disch := first | omega | decide) only [lt_d, gbT, Option.bind_some, cT2_l, cT2_r, mO_n, mO_s, lit, litL, nb_t, nb_f, need_1, need_0, ix_n, inb_T, le_T, le_F, l_T, l_F, e_F, e_R, if_true, if_false, n_add, n_mul, n_sub, n_l, fM_1, fM_2, fM_3, fM_4, fM_6, fM_7]
/-- all fresh -/
def XF (σ : Mem) (s : Nat → Int32) : Prop := gI σ 0 10 = nI 1 ∧ (∀ r, r < 495 → gI σ 66 r = nI (sayN s r)) ∧ (∀ r, r < 495 → gI σ 68 r = nI (crN s r)) ∧ gL σ 0 15 = lN (toN s)
theorem crN_le {s : Nat → Int32} {p : Nat} (h0 : s 0 = nI p) (hp : p ≤ 12) (hm : ∀ q, q < p → ix (s (32 + q)) ≤ 99999) {r : Nat} (hr : r < 495) (hh : ix (s (424 + r)) ≤ 99999) : crN s r ≤ 1299987 := by
  unfold crN
  rw [h0, ix_n (by omega)]
  have := sN_b (f := fun q => cbN s q r) (c := 99999) (n := p) (fun q hq => Nat.le_trans (cbN_le hr) (hm q hq))
  have : p * 99999 ≤ 12 * 99999 := Nat.mul_le_mul_right _ hp
  omega
theorem Grp.many {G : Nat → Option Nat} {C : Cel} {s : Nat → Int32} {p : Nat} (h : Grp G C s p) : ∀ q, q < p → ix (s (32 + q)) ≤ 99999 := fun q hq => by
  obtain ⟨a, k, m, h1, h2, h3, h4, h5, h6⟩ := h q hq
  rw [h6, ix_n (by omega)]; exact h3
theorem Hnd.le {bp bm s : Nat → Int32} {b : Nat} (h : Hnd bp bm s b) {r : Nat} (hr : r < 495) : ix (s (424 + r)) ≤ 99999 := by
  obtain ⟨pl, mn, h1, h2, h3⟩ := h
  have q := Hnd.fb h1 h2 h3 hr
  rw [q.1, ix_n (by omega)]; exact q.2
/-- the people's loop, then the hands, then the total -/
theorem pplLp {σ : Mem} {N p w b : Nat} {s : Nat → Int32} (hN : 300000 ≤ N) (hn : Num (gI σ 1) s p w b) (hg : Grp (pk12 (gR σ 4 0) (gR σ 5 0) (gR σ 6 0) (gR σ 7 0) (gR σ 8 0) (gR σ 9 0) (gR σ 10 0) (gR σ 11 0) (gR σ 12 0) (gR σ 13 0) (gR σ 14 0) (gR σ 15 0)) (gC σ) s p) (hh : Hnd (gI σ 17) (gI σ 18) s b) (hd : ∀ v, v < w → gI σ 20 v = s (104 + 8 * v)) (ht : ∀ k, k < 495 → gI σ 62 k = nI (rowT k)) (hsay : ∀ r, r < 495 → gI σ 66 r = nI (sayN s r)) (h68 : ∀ r, r < 495 → gI σ 68 r = nI 0) :
    ∃ L f67 f68, lp (bX0_findCrossed_36 N σ) N (σ, (0 : Int32)) = some ((), wI (wL (wI (wI (wI σ 63 L) 67 f67) 68 f68) 0 (vp_updL (gL σ 0) 15 (lN (toN s)))) 0 (upd (upd (gI σ 0) 10 (nI 1)) 11 (nI 0))) ∧ ∀ r, r < 495 → f68 r = nI (crN s r) := by
  have hh' := hh
  obtain ⟨n1, n2, n3, n4, n5, n6, n7, n8, n9, n10⟩ := hn
  obtain ⟨pl, mn, h1, h2, h3⟩ := hh
  refine lp_inv (N := N) (b := bX0_findCrossed_36 N σ) (Q := fun F => ∃ L f67 f68, F = some ((), wI (wL (wI (wI (wI σ 63 L) 67 f67) 68 f68) 0 (vp_updL (gL σ 0) 15 (lN (toN s)))) 0 (upd (upd (gI σ 0) 10 (nI 1)) 11 (nI 0))) ∧ ∀ r, r < 495 → f68 r = nI (crN s r)) (P := fun q y => ∃ L f67 f68, y = (wI (wI (wI σ 63 L) 67 f67) 68 f68, nI q) ∧ ∀ r, r < 495 → f68 r = nI (sN (fun i => cbN s i r) q)) p (by omega) ?_ ?_ (σ, (0 : Int32)) ⟨gI σ 63, gI σ 67, gI σ 68, by rw [wI_id, wI_id, wI_id]; rfl, fun r hr => h68 r hr⟩
  · rintro q _ hq ⟨L, f67, f68, rfl, hf⟩
    obtain ⟨ad, k, m, g1, g2, g3, g4, g5, g6⟩ := hg q hq
    rw [gr_1 _ (by omega)] at g1
    obtain ⟨L', hL⟩ := findLikedX (σ := wI (wI (wI σ 63 L) 67 f67) 68 f68) hN n2 n6 n7 hd ht g4 g2 g3 g5 g6 hsay
    have hm1 : wI (wI (wI (wI (wI σ 63 L) 67 f67) 68 f68) 63 L') 67 (fil (fun r => nI (lkN s q r)) (gI (wI (wI (wI σ 63 L) 67 f67) 68 f68) 67) 495) = wI (wI (wI σ 63 L') 67 (fil (fun r => nI (lkN s q r)) f67 495)) 68 f68 := by
      rw [wI_sw _ _ _ (by decide : 68 ≠ 63), wI_sw _ _ _ (by decide : 68 ≠ 67), wI_sw _ _ _ (by decide : 67 ≠ 63), wI_wI, wI_wI]
      rfl
    rw [hm1] at hL
    refine ⟨(wI (wI (wI σ 63 L') 67 (fil (fun r => nI (lkN s q r)) f67 495)) 68 (fil (fun r => nI (sN (fun i => cbN s i r) q + cbN s q r)) f68 495), nI (q + 1)), ⟨L', _, _, rfl, fun r hr => fil_in hr⟩, fun rec => ?_⟩
    have hadd := addLp (σ := wI (wI (wI σ 63 L') 67 (fil (fun r => nI (lkN s q r)) f67 495)) 68 f68) (cr := fun r => sN (fun i => cbN s i r) q) hN g4 g2 g3 g6 (fun r hr => fil_in (f := fun r => nI (lkN s q r)) (g := f67) hr) hf rec
    rw [wI_wI] at hadd
    unfold bX0_findCrossed_36
    have hgr : fX1_group_1 N (wI (wI (wI σ 63 L) 67 f67) 68 f68) (nI q) = some (some ad) := by
      unfold fX1_group_1
      have g1' : gR (wI (wI (wI σ 63 L) 67 f67) 68 f68) (4 + q) 0 = some ad := g1
      have gc' : dC 8 16 (wI (wI (wI σ 63 L) 67 f67) 68 f68) ad = some (8 + k) := dC_n g4 g2
      simp (disch := first | omega | decide) only [lt_d, gbT, Option.bind_some, cT2_l, cT2_r, mO_n, mO_s, lit, litL, nb_t, nb_f, need_1, need_0, ix_n, inb_T, le_T, le_F, l_T, l_F, e_F, e_R, if_true, if_false, n_add, n_mul, n_sub, n_l, fM_1, fM_2, fM_3, fM_4, fM_6, fM_7, g1', gc']
    rw [show gI (wI (wI (wI σ 63 L) 67 f67) 68 f68) 1 0 = nI p from n4, if_neg (show ¬ nI p ≤ nI q from nI_ge (by omega) (by omega)), hgr, Option.bind_some, mO_s, hL, Option.bind_some]
    exact hadd
  · rintro _ ⟨L, f67, f68, rfl, hf⟩ rec
    unfold bX0_findCrossed_36
    rw [show gI (wI (wI (wI σ 63 L) 67 f67) 68 f68) 1 0 = nI p from n4, if_pos (show nI p ≤ nI p from nI_le (Nat.le_refl _) (by omega))]
    have hcr : ∀ f' : Nat → Int32, (∀ r, r < 495 → f' r = nI (sN (fun i => cbN s i r) p + FB pl mn b r)) → ∀ r, r < 495 → f' r = nI (crN s r) := by
      intro f' hf' r hr
      rw [hf' r hr]
      unfold crN
      have q := Hnd.fb h1 h2 h3 hr
      rw [n5, ix_n (by omega : p < 2147483648), q.1, ix_n (by omega), Nat.add_comm]
    have hb : ∀ r, r < 495 → crN s r < 2147483648 := fun r hr => by
      have := crN_le n5 n1 hg.many hr (hh'.le hr)
      omega
    refine ⟨L, f67, ?_⟩
    have hand : ∃ f', (∀ r, r < 495 → f' r = nI (crN s r)) ∧ lp (bX0_findCrossed_109 N (wI (wI (wI σ 63 L) 67 f67) 68 f68)) N (wI (wI (wI σ 63 L) 67 f67) 68 f68, (0 : Int32)) = some ((), wI (wL (wI (wI (wI σ 63 L) 67 f67) 68 f') 0 (vp_updL (gL σ 0) 15 (lN (toN s)))) 0 (upd (upd (gI σ 0) 10 (nI 1)) 11 (nI 0))) := by
      refine lp_inv (N := N) (b := bX0_findCrossed_109 N (wI (wI (wI σ 63 L) 67 f67) 68 f68)) (Q := fun F => ∃ f', (∀ r, r < 495 → f' r = nI (crN s r)) ∧ F = some ((), wI (wL (wI (wI (wI σ 63 L) 67 f67) 68 f') 0 (vp_updL (gL σ 0) 15 (lN (toN s)))) 0 (upd (upd (gI σ 0) 10 (nI 1)) 11 (nI 0)))) (P := fun k y => ∃ f, y = (wI (wI (wI σ 63 L) 67 f67) 68 f, nI k) ∧ ∀ r, r < 495 → f r = nI (sN (fun i => cbN s i r) p + FB pl mn k r)) b (by omega) ?_ ?_ (wI (wI (wI σ 63 L) 67 f67) 68 f68, (0 : Int32)) ⟨f68, rfl, fun r hr => hf r hr⟩
      · rintro k _ hk ⟨f, rfl, hf⟩
        have q := h1 k hk
        have q1 := q.1
        have hz : FB pl mn k (pl k) = 0 := FB_out (fun i hi z => absurd (h2 i k (by omega) hk z) (by omega))
        refine ⟨(wI (wI (wI σ 63 L) 67 f67) 68 (upd f (pl k) (nI (sN (fun i => cbN s i (pl k)) p + mn k))), nI (k + 1)), ⟨_, rfl, fun r hr => ?_⟩, fun rec => ?_⟩
        · show upd f (pl k) _ r = nI (sN (fun i => cbN s i r) p + (if r = pl k then mn k else FB pl mn k r))
          by_cases e : r = pl k
          · subst e; rw [up_s, if_pos rfl]
          · rw [up_n e, if_neg e]; exact hf r hr
        · unfold bX0_findCrossed_109
          simp (disch := first | omega | decide) only [lt_d, gbT, Option.bind_some, cT2_l, cT2_r, mO_n, mO_s, lit, litL, nb_t, nb_f, need_1, need_0, ix_n, inb_T, le_T, le_F, l_T, l_F, e_F, e_R, if_true, if_false, n_add, n_mul, n_sub, n_l, fM_1, fM_2, fM_3, fM_4, fM_6, fM_7, pI_w, pL_w, pR_w, pC_w, nC_w, gI_wI, gI_wIn, gI_wL, gI_wR, gI_wC, gL_wL, gL_wLn, gL_wI, gL_wR, gL_wC, gR_wR, gR_wRn, gR_wI, gR_wL, gR_wC, gC_wI, gC_wL, gC_wR, gC_wC, gN_wI, gN_wL, gN_wR, gN_wC, wI_wI, wL_wL, wR_wR, wC_wC, up_s, up_n, n8, q.2.1, q.2.2.1, hf _ q1, hz, Nat.add_zero]
      · rintro _ ⟨f, rfl, hf⟩ rec
        refine ⟨f, hcr f hf, ?_⟩
        unfold bX0_findCrossed_109
        rw [show gI (wI (wI (wI σ 63 L) 67 f67) 68 f) 1 2 = nI b from n8, if_pos (show nI b ≤ nI b from nI_le (Nat.le_refl _) (by omega))]
        exact totLp (σ := wI (wI (wI σ 63 L) 67 f67) 68 f) (cr := crN s) hN (hcr f hf) hb
    obtain ⟨f', hf', e'⟩ := hand
    exact ⟨f', e', hf'⟩
theorem zerLp {σ : Mem} {N : Nat} (hN : 300000 ≤ N) : lp (bX0_findCrossed_14 N σ) N (σ, (0 : Int32)) = lp (bX0_findCrossed_36 N (wI σ 68 (fil (fun _ => nI 0) (gI σ 68) 495))) N (wI σ 68 (fil (fun _ => nI 0) (gI σ 68) 495), (0 : Int32)) := by
  have key := lp_fun (b := bX0_findCrossed_14 N σ) (fun q => (wI σ 68 (fil (fun _ => nI 0) (gI σ 68) q), nI q)) 495 (N := N) (by omega) (r := lp (bX0_findCrossed_36 N (wI σ 68 (fil (fun _ => nI 0) (gI σ 68) 495))) N (wI σ 68 (fil (fun _ => nI 0) (gI σ 68) 495), (0 : Int32))) (fun q rec hq => ?_) (fun rec => ?_)
  · rw [fil_0, wI_id] at key
    exact key
  · unfold bX0_findCrossed_14
    simp (disch := first | omega | decide) only [lt_d, gbT, Option.bind_some, cT2_l, cT2_r, mO_n, mO_s, lit, litL, nb_t, nb_f, need_1, need_0, ix_n, inb_T, le_T, le_F, l_T, l_F, e_F, e_R, if_true, if_false, n_add, n_mul, n_sub, n_l, fM_1, fM_2, fM_3, fM_4, fM_6, fM_7, pI_w, pL_w, pR_w, pC_w, nC_w, gI_wI, gI_wIn, gI_wL, gI_wR, gI_wC, gL_wL, gL_wLn, gL_wI, gL_wR, gL_wC, gR_wR, gR_wRn, gR_wI, gR_wL, gR_wC, gC_wI, gC_wL, gC_wR, gC_wC, gN_wI, gN_wL, gN_wR, gN_wC, wI_wI, wL_wL, wR_wR, wC_wC, up_s, up_n]
    rw [fil_s rfl]
  · unfold bX0_findCrossed_14
    simp (disch := first | omega | decide) only [lt_d, gbT, Option.bind_some, cT2_l, cT2_r, mO_n, mO_s, lit, litL, nb_t, nb_f, need_1, need_0, ix_n, inb_T, le_T, le_F, l_T, l_F, e_F, e_R, if_true, if_false, n_add, n_mul, n_sub, n_l, fM_1, fM_2, fM_3, fM_4, fM_6, fM_7]
theorem crossX {σ τ : Mem} (h : R σ τ) {N : Nat} (hN : 300000 ≤ N) : ∃ σ', fX0_findCrossed N σ = some ((), σ') ∧ XF σ' (gI τ 1) ∧ R σ' τ ∧ gC σ' = gC σ ∧ gN σ' = gN σ := by
  have h' := h
  obtain ⟨a, ⟨p, w, b, hn, hru, hg, hap, hl, hh, hb⟩, c, d, e, f, g, i, j, k⟩ := h'
  unfold fX0_findCrossed
  rcases g with g | ⟨g1, g2, g3, g4, g5⟩
  · rw [if_pos (show gI σ 0 10 = (0 : Int32) from g)]
    obtain ⟨f65, hs⟩ := saysX hN hn.2.1 hn.2.2.2.2.2.1 hn.2.2.2.2.2.2.1 hb.draw a.1 hl
    rw [hs, Option.bind_some]
    obtain ⟨L, f67, f68, hp, hf⟩ := pplLp (σ := wI (wI (wI σ 65 f65) 66 (fil (fun r => nI (sayN (gI τ 1) r)) (gI σ 66) 495)) 68 (fil (fun _ => nI 0) (gI (wI (wI σ 65 f65) 66 (fil (fun r => nI (sayN (gI τ 1) r)) (gI σ 66) 495)) 68) 495)) hN hn hg hh hb.draw a.1 (fun r hr => fil_in (f := fun r => nI (sayN (gI τ 1) r)) (g := gI σ 66) hr) (fun r hr => fil_in (f := fun _ => nI 0) (g := gI σ 68) hr)
    refine ⟨_, (zerLp hN).trans hp, ⟨rfl, fun r hr => fil_in (f := fun r => nI (sayN (gI τ 1) r)) (g := gI σ 66) hr, hf, rfl⟩, ?_, rfl, rfl⟩
    refine ⟨a, ⟨p, w, b, hn, hru, hg, hap, hl, hh, hb⟩, c, d, e, f, Or.inr ⟨rfl, fun r hr => fil_in (f := fun r => nI (sayN (gI τ 1) r)) (g := gI σ 66) hr, hf, rfl, Or.inl rfl⟩, i, j, k⟩
  · rw [if_neg (show ¬ gI σ 0 10 = (0 : Int32) from by rw [g1]; decide)]
    exact ⟨σ, rfl, ⟨g1, g2, g3, g4⟩, h, rfl, rfl⟩
