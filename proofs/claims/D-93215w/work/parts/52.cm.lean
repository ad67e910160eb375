/-! WHAT IS CROSSED: the reference -/
set_option maxRecDepth 100000
theorem clv (t : Int32) : (if (0 : Int32) ≤ t then (if t ≤ (99 : Int32) then t else (99 : Int32)) else (0 : Int32)) = nI (clN t) := by
  unfold clN
  by_cases h0 : (0 : Int32) ≤ t
  · by_cases h9 : t ≤ 99
    · obtain ⟨j, hj, rfl⟩ := nI_of2 (M := 99) (n := 99) rfl (Int32.not_lt.mpr h0) h9
      rw [if_pos h0, if_pos h9, if_pos h0, if_pos h9, ix_n (by omega)]
    · rw [if_pos h0, if_neg h9, if_pos h0, if_neg h9]; rfl
  · rw [if_neg h0, if_neg h0]; rfl
/-- what the reference must know of its own memory -/
def TbM (τ : Mem) : Prop := (∀ q, q < 4096 → gI τ 6 q = nI (pcn q)) ∧ (∀ k, k < 495 → gI τ 4 k = nI (rowT k)) ∧ (∀ k j, k < 495 → j < 5 → gI τ 7 (5 * k + j) = nI (facT (rowT k) j))
theorem Tab.m {σ τ : Mem} (h : Tab (gI σ 62) (gI τ 4) (gI τ 5) (gI τ 6) (gI τ 7)) : TbM τ := ⟨h.2.2.2.1, h.2.1, h.2.2.2.2⟩
/-- all fresh -/
def MF (τ : Mem) : Prop := gI τ 0 18 = nI 0 ∧ (∀ r, r < 495 → gI τ 12 r = nI (sayN (gI τ 1) r)) ∧ (∀ r, r < 495 → gI τ 13 r = nI (crN (gI τ 1) r)) ∧ (∀ p, p < ix (gI τ 1 0) → gI τ 14 p = nI (LN (gI τ 1) p)) ∧ gI τ 0 24 = nI (toN (gI τ 1))
section W
variable {τ : Mem} {N : Nat}
theorem likesByM (hN : 300000 ≤ N) (hT : TbM τ) {w p k m r : Nat} (hw : w ≤ 40) (h1 : gI τ 1 1 = nI w) (hp : p < 12) (hk : k < 8) (hm : m ≤ 99999) (h20 : gI τ 1 (20 + p) = nI k) (h32 : gI τ 1 (32 + p) = nI m) (hr : r < 495) (hs : gI τ 12 r = nI (sayN (gI τ 1) r)) : fX5_likesBy N τ (nI p) (nI r) = some (nI (lkN (gI τ 1) p r)) := by
  unfold fX5_likesBy
  have hf := fanM (τ := τ) (m := m) (sd := sayN (gI τ 1) r) hN hT.1 hT.2.1 hw h1 hk hm hr (sayN_le _ _)
  simp (disch := first | omega | decide) only [lt_d, gbT, Option.bind_some, cT2_l, cT2_r, mO_n, mO_s, lit, litL, nb_t, nb_f, need_1, need_0, ix_n, inb_T, le_T, le_F, l_T, l_F, e_F, e_R, if_true, if_false, n_add, n_mul, n_sub, n_l, fM_1, fM_2, fM_3, fM_4, fM_6, fM_7, h20, h32, hs, hf]
  unfold lkN
  rw [h20, h32, ix_n (by omega), ix_n (by omega)]
theorem crossedByM (hN : 300000 ≤ N) (hT : TbM τ) {w p k m r : Nat} (hw : w ≤ 40) (h1 : gI τ 1 1 = nI w) (hp : p < 12) (hk : k < 8) (hm : m ≤ 99999) (h20 : gI τ 1 (20 + p) = nI k) (h32 : gI τ 1 (32 + p) = nI m) (hr : r < 495) (hs : gI τ 12 r = nI (sayN (gI τ 1) r)) (h14 : gI τ 14 p = nI (LN (gI τ 1) p)) : fX5_crossedBy N τ (nI p) (nI r) = some (nI (cbN (gI τ 1) p r)) := by
  have l1 := lkN_le (gI τ 1) p r
  have l2 := LN_le (gI τ 1) p
  unfold fX5_crossedBy
  rw [inb_T hp (by decide), gbT, ix_n (by omega), h14]
  unfold cbN
  by_cases e : LN (gI τ 1) p = 0
  · rw [e, if_pos (show nI 0 = (0 : Int32) from rfl), if_pos rfl]; rfl
  · rw [if_neg (show ¬ nI (LN (gI τ 1) p) = (0 : Int32) from nI_ne0 (by omega) (by omega)), if_neg e, show (32 : Int32) + nI p = nI (32 + p) from n_add 32 p, inb_T (by omega) (by decide), gbT, likesByM hN hT hw h1 hp hk hm h20 h32 hr hs, Option.bind_some, gbT, nzI_n (by omega) (by omega), gbT, ix_n (by omega), h32, ix_n (by omega), n_mul]
    have hml : m * lkN (gI τ 1) p r ≤ 99999 * 246 := Nat.mul_le_mul hm l1
    rw [n_div (by omega) (by omega) (by omega)]
/-- a people's member: their likes, then their crosses -/
theorem pplM (hN : 300000 ≤ N) (hT : TbM τ) {w p k m : Nat} {al : Nat → Nat} (hw : w ≤ 40) (h1 : gI τ 1 1 = nI w) (hp : p < 12) (hk : k < 8) (hm : m ≤ 99999) (h20 : gI τ 1 (20 + p) = nI k) (h32 : gI τ 1 (32 + p) = nI m) (hs : ∀ r, r < 495 → gI τ 12 r = nI (sayN (gI τ 1) r)) (hal : ∀ r, r < 495 → gI τ 13 r = nI (al r)) (r129 : Mem × Int32 → Option (Unit × Mem)) : lp (bX5_works_148 N (wI τ 14 (upd (gI τ 14) p (nI 0))) (nI p) r129) N (wI τ 14 (upd (gI τ 14) p (nI 0)), (0 : Int32)) = r129 (wI (wI τ 14 (upd (gI τ 14) p (nI (LN (gI τ 1) p)))) 13 (fil (fun r => nI (al r + cbN (gI τ 1) p r)) (gI τ 13) 495), nI (p + 1)) := by
  have inner : lp (bX5_works_178 N (wI τ 14 (upd (gI τ 14) p (nI (LN (gI τ 1) p)))) (nI p) r129) N (wI τ 14 (upd (gI τ 14) p (nI (LN (gI τ 1) p))), (0 : Int32)) = r129 (wI (wI τ 14 (upd (gI τ 14) p (nI (LN (gI τ 1) p)))) 13 (fil (fun r => nI (al r + cbN (gI τ 1) p r)) (gI τ 13) 495), nI (p + 1)) := by
    have key := lp_fun (b := bX5_works_178 N (wI τ 14 (upd (gI τ 14) p (nI (LN (gI τ 1) p)))) (nI p) r129) (fun q => (wI (wI τ 14 (upd (gI τ 14) p (nI (LN (gI τ 1) p)))) 13 (fil (fun r => nI (al r + cbN (gI τ 1) p r)) (gI τ 13) q), nI q)) 495 (N := N) (by omega) (r := r129 (wI (wI τ 14 (upd (gI τ 14) p (nI (LN (gI τ 1) p)))) 13 (fil (fun r => nI (al r + cbN (gI τ 1) p r)) (gI τ 13) 495), nI (p + 1))) (fun q rec hq => ?_) (fun rec => ?_)
    · have e0 : wI (wI τ 14 (upd (gI τ 14) p (nI (LN (gI τ 1) p)))) 13 (fil (fun r => nI (al r + cbN (gI τ 1) p r)) (gI τ 13) 0) = wI τ 14 (upd (gI τ 14) p (nI (LN (gI τ 1) p))) := by
        rw [fil_0]
        exact wI_id (wI τ 14 (upd (gI τ 14) p (nI (LN (gI τ 1) p)))) 13
      rw [e0] at key
      exact key
    · unfold bX5_works_178
      have hcb := crossedByM (τ := wI (wI τ 14 (upd (gI τ 14) p (nI (LN (gI τ 1) p)))) 13 (fil (fun r => nI (al r + cbN (gI τ 1) p r)) (gI τ 13) q)) hN hT hw h1 hp hk hm h20 h32 hq (hs q hq) (up_s (f := gI τ 14) (k := p))
      have hcb : fX5_crossedBy N (wI (wI τ 14 (upd (gI τ 14) p (nI (LN (gI τ 1) p)))) 13 (fil (fun r => nI (al r + cbN (gI τ 1) p r)) (gI τ 13) q)) (nI p) (nI q) = some (nI (cbN (gI τ 1) p q)) := hcb
      simp (disch := first | omega | decide) only [lt_d, gbT, Option.bind_some, cT2_l, cT2_r, mO_n, mO_s, lit, litL, nb_t, nb_f, need_1, need_0, ix_n, inb_T, le_T, le_F, l_T, l_F, e_F, e_R, if_true, if_false, n_add, n_mul, n_sub, n_l, fM_1, fM_2, fM_3, fM_4, fM_6, fM_7, pI_w, pL_w, pR_w, pC_w, nC_w, gI_wI, gI_wIn, gI_wL, gI_wR, gI_wC, gL_wL, gL_wLn, gL_wI, gL_wR, gL_wC, gR_wR, gR_wRn, gR_wI, gR_wL, gR_wC, gC_wI, gC_wL, gC_wR, gC_wC, gN_wI, gN_wL, gN_wR, gN_wC, wI_wI, wL_wL, wR_wR, wC_wC, up_s, up_n, hcb, fil_out, hal q hq]
      rw [fil_s rfl]
    · unfold bX5_works_178
      simp (disch := first | omega | decide) only [lt_d, gbT, Option.bind_some, cT2_l, cT2_r, mO_n, mO_s, lit, litL, nb_t, nb_f, need_1, need_0, ix_n, inb_T, le_T, le_F, l_T, l_F, e_F, e_R, if_true, if_false, n_add, n_mul, n_sub, n_l, fM_1, fM_2, fM_3, fM_4, fM_6, fM_7]
  have key := lp_fun (b := bX5_works_148 N (wI τ 14 (upd (gI τ 14) p (nI 0))) (nI p) r129) (fun q => (wI τ 14 (upd (gI τ 14) p (nI (sN (lkN (gI τ 1) p) q))), nI q)) 495 (N := N) (by omega) (r := r129 (wI (wI τ 14 (upd (gI τ 14) p (nI (LN (gI τ 1) p)))) 13 (fil (fun r => nI (al r + cbN (gI τ 1) p r)) (gI τ 13) 495), nI (p + 1))) (fun q rec hq => ?_) (fun rec => ?_)
  · exact key
  · unfold bX5_works_148
    have hlb := likesByM (τ := wI τ 14 (upd (gI τ 14) p (nI (sN (lkN (gI τ 1) p) q)))) hN hT hw h1 hp hk hm h20 h32 hq (hs q hq)
    have hlb : fX5_likesBy N (wI τ 14 (upd (gI τ 14) p (nI (sN (lkN (gI τ 1) p) q)))) (nI p) (nI q) = some (nI (lkN (gI τ 1) p q)) := hlb
    have hup : upd (upd (gI τ 14) p (nI (sN (lkN (gI τ 1) p) q))) p (nI (sN (lkN (gI τ 1) p) q + lkN (gI τ 1) p q)) = upd (gI τ 14) p (nI (sN (lkN (gI τ 1) p) (q + 1))) := by
      funext j
      by_cases e : j = p
      · subst e; rw [up_s, up_s]; rfl
      · rw [up_n e, up_n e, up_n e]
    simp (disch := first | omega | decide) only [lt_d, gbT, Option.bind_some, cT2_l, cT2_r, mO_n, mO_s, lit, litL, nb_t, nb_f, need_1, need_0, ix_n, inb_T, le_T, le_F, l_T, l_F, e_F, e_R, if_true, if_false, n_add, n_mul, n_sub, n_l, fM_1, fM_2, fM_3, fM_4, fM_6, fM_7, pI_w, pL_w, pR_w, pC_w, nC_w, gI_wI, gI_wIn, gI_wL, gI_wR, gI_wC, gL_wL, gL_wLn, gL_wI, gL_wR, gL_wC, gR_wR, gR_wRn, gR_wI, gR_wL, gR_wC, gC_wI, gC_wL, gC_wR, gC_wC, gN_wI, gN_wL, gN_wR, gN_wC, wI_wI, wL_wL, wR_wR, wC_wC, up_s, up_n, hlb, hup]
  · unfold bX5_works_148
    rw [if_pos (show (495 : Int32) ≤ nI 495 by decide)]
    exact inner
/-- behind the liking: hands, people, the sum -/
theorem wrk98 (hN : 300000 ≤ N) (hT : TbM τ) {G : Nat → Option Nat} {C : Cel} {p w b : Nat} (hw : w ≤ 40) (hp : p ≤ 12) (h0 : gI τ 1 0 = nI p) (h1 : gI τ 1 1 = nI w) (hg : Grp G C (gI τ 1) p) (hh : ∀ r, r < 495 → ix (gI τ 1 (424 + r)) ≤ 99999 ∧ gI τ 1 (424 + r) = nI (ix (gI τ 1 (424 + r)))) (hs : ∀ r, r < 495 → gI τ 12 r = nI (sayN (gI τ 1) r)) (h24 : gI τ 0 24 = nI 0) :
    ∃ f13 f14, lp (bX5_works_98 N τ) N (τ, (0 : Int32)) = some ((), wI (wI (wI τ 13 f13) 14 f14) 0 (upd (gI τ 0) 24 (nI (toN (gI τ 1))))) ∧ (∀ r, r < 495 → f13 r = nI (crN (gI τ 1) r)) ∧ ∀ q, q < p → f14 q = nI (LN (gI τ 1) q) := by
  -- hands
  have k98 : lp (bX5_works_98 N τ) N (τ, (0 : Int32)) = lp (bX5_works_129 N (wI τ 13 (fil (fun r => gI τ 1 (424 + r)) (gI τ 13) 495))) N (wI τ 13 (fil (fun r => gI τ 1 (424 + r)) (gI τ 13) 495), (0 : Int32)) := by
    have key := lp_fun (b := bX5_works_98 N τ) (fun q => (wI τ 13 (fil (fun r => gI τ 1 (424 + r)) (gI τ 13) q), nI q)) 495 (N := N) (by omega) (r := lp (bX5_works_129 N (wI τ 13 (fil (fun r => gI τ 1 (424 + r)) (gI τ 13) 495))) N (wI τ 13 (fil (fun r => gI τ 1 (424 + r)) (gI τ 13) 495), (0 : Int32))) (fun q rec hq => ?_) (fun rec => ?_)
    · rw [fil_0, wI_id] at key
      exact key
    · unfold bX5_works_98
      simp (disch := first | omega | decide) only [lt_d, gbT, Option.bind_some, cT2_l, cT2_r, mO_n, mO_s, lit, litL, nb_t, nb_f, need_1, need_0, ix_n, inb_T, le_T, le_F, l_T, l_F, e_F, e_R, if_true, if_false, n_add, n_mul, n_sub, n_l, fM_1, fM_2, fM_3, fM_4, fM_6, fM_7, pI_w, pL_w, pR_w, pC_w, nC_w, gI_wI, gI_wIn, gI_wL, gI_wR, gI_wC, gL_wL, gL_wLn, gL_wI, gL_wR, gL_wC, gR_wR, gR_wRn, gR_wI, gR_wL, gR_wC, gC_wI, gC_wL, gC_wR, gC_wC, gN_wI, gN_wL, gN_wR, gN_wC, wI_wI, wL_wL, wR_wR, wC_wC, up_s, up_n]
      rw [fil_s rfl]
    · unfold bX5_works_98
      simp (disch := first | omega | decide) only [lt_d, gbT, Option.bind_some, cT2_l, cT2_r, mO_n, mO_s, lit, litL, nb_t, nb_f, need_1, need_0, ix_n, inb_T, le_T, le_F, l_T, l_F, e_F, e_R, if_true, if_false, n_add, n_mul, n_sub, n_l, fM_1, fM_2, fM_3, fM_4, fM_6, fM_7]
  rw [k98]
  refine lp_inv (N := N) (b := bX5_works_129 N (wI τ 13 (fil (fun r => gI τ 1 (424 + r)) (gI τ 13) 495))) (Q := fun F => ∃ f13 f14, F = some ((), wI (wI (wI τ 13 f13) 14 f14) 0 (upd (gI τ 0) 24 (nI (toN (gI τ 1))))) ∧ (∀ r, r < 495 → f13 r = nI (crN (gI τ 1) r)) ∧ ∀ q, q < p → f14 q = nI (LN (gI τ 1) q)) (P := fun q y => ∃ f13 f14, y = (wI (wI τ 13 f13) 14 f14, nI q) ∧ (∀ r, r < 495 → f13 r = nI (ix (gI τ 1 (424 + r)) + sN (fun i => cbN (gI τ 1) i r) q)) ∧ ∀ i, i < q → f14 i = nI (LN (gI τ 1) i)) p (by omega) ?_ ?_ (wI τ 13 (fil (fun r => gI τ 1 (424 + r)) (gI τ 13) 495), (0 : Int32)) ⟨_, gI τ 14, by
      show _ = (wI (wI τ 13 (fil (fun r => gI τ 1 (424 + r)) (gI τ 13) 495)) 14 (gI (wI τ 13 (fil (fun r => gI τ 1 (424 + r)) (gI τ 13) 495)) 14), _)
      rw [wI_id]; rfl, fun r hr => by rw [fil_in hr]; exact (hh r hr).2, fun i hi => by omega⟩
  · rintro q _ hq ⟨f13, f14, rfl, a1, a2⟩
    obtain ⟨ad, k, m, g1, g2, g3, g4, g5, g6⟩ := hg q hq
    have hpp := pplM (τ := wI (wI τ 13 f13) 14 f14) (al := fun r => ix (gI τ 1 (424 + r)) + sN (fun i => cbN (gI τ 1) i r) q) hN hT hw h1 (by omega : q < 12) g2 g3 g5 g6 hs a1
    refine ⟨(wI (wI τ 13 (fil (fun r => nI ((ix (gI τ 1 (424 + r)) + sN (fun i => cbN (gI τ 1) i r) q) + cbN (gI τ 1) q r)) f13 495)) 14 (upd f14 q (nI (LN (gI τ 1) q))), nI (q + 1)), ⟨_, _, rfl, fun r hr => ?_, fun i hi => ?_⟩, fun rec => ?_⟩
    · rw [fil_in hr]
      show nI (ix (gI τ 1 (424 + r)) + sN _ q + cbN (gI τ 1) q r) = nI (ix (gI τ 1 (424 + r)) + (sN _ q + cbN (gI τ 1) q r))
      rw [Nat.add_assoc]
    · by_cases e : i = q
      · subst e; rw [up_s]
      · rw [up_n e]; exact a2 i (by omega)
    · unfold bX5_works_129
      have h0' : gI (wI (wI τ 13 f13) 14 f14) 1 0 = nI p := h0
      have hpq := hpp rec
      simp (disch := first | omega | decide) only [lt_d, gbT, Option.bind_some, cT2_l, cT2_r, mO_n, mO_s, lit, litL, nb_t, nb_f, need_1, need_0, ix_n, inb_T, le_T, le_F, l_T, l_F, e_F, e_R, if_true, if_false, n_add, n_mul, n_sub, n_l, fM_1, fM_2, fM_3, fM_4, fM_6, fM_7, pI_w, pL_w, pR_w, pC_w, nC_w, gI_wI, gI_wIn, gI_wL, gI_wR, gI_wC, gL_wL, gL_wLn, gL_wI, gL_wR, gL_wC, gR_wR, gR_wRn, gR_wI, gR_wL, gR_wC, gC_wI, gC_wL, gC_wR, gC_wC, gN_wI, gN_wL, gN_wR, gN_wC, wI_wI, wL_wL, wR_wR, wC_wC, up_s, up_n, h0']
      rw [wI_wI] at hpq
      refine Eq.trans hpq ?_
      show rec (wI (wI (wI (wI τ 13 f13) 14 f14) 14 (upd f14 q (nI (LN (gI τ 1) q)))) 13 (fil _ f13 495), nI (q + 1)) = _
      rw [wI_wI, wI_sw _ _ _ (by decide : 14 ≠ 13), wI_wI]
      rfl
  · rintro _ ⟨f13, f14, rfl, a1, a2⟩ rec
    have hcr : ∀ r, r < 495 → f13 r = nI (crN (gI τ 1) r) := by
      intro r hr
      rw [a1 r hr]
      unfold crN
      rw [h0, ix_n (by omega : p < 2147483648)]
    refine ⟨f13, f14, ?_, hcr, a2⟩
    unfold bX5_works_129
    have h0' : gI (wI (wI τ 13 f13) 14 f14) 1 0 = nI p := h0
    rw [h0', if_pos (show nI p ≤ nI p from nI_le (Nat.le_refl _) (by omega))]
    have key := lp_fun (b := bX5_works_214 N (wI (wI τ 13 f13) 14 f14)) (fun q => (wI (wI (wI τ 13 f13) 14 f14) 0 (upd (gI τ 0) 24 (nI (sN (crN (gI τ 1)) q))), nI q)) 495 (N := N) (by omega) (r := some ((), wI (wI (wI τ 13 f13) 14 f14) 0 (upd (gI τ 0) 24 (nI (toN (gI τ 1)))))) (fun q rec hq => ?_) (fun rec => ?_)
    · have e0 : wI (wI (wI τ 13 f13) 14 f14) 0 (upd (gI τ 0) 24 (nI (sN (crN (gI τ 1)) 0))) = wI (wI τ 13 f13) 14 f14 := by
        have : upd (gI τ 0) 24 (nI (sN (crN (gI τ 1)) 0)) = gI (wI (wI τ 13 f13) 14 f14) 0 := by
          show upd (gI τ 0) 24 (nI 0) = gI τ 0
          rw [← h24, up_id]
        rw [this, wI_id]
      rw [e0] at key
      exact key
    · unfold bX5_works_214
      have hup : upd (upd (gI τ 0) 24 (nI (sN (crN (gI τ 1)) q))) 24 (nI (sN (crN (gI τ 1)) q + crN (gI τ 1) q)) = upd (gI τ 0) 24 (nI (sN (crN (gI τ 1)) (q + 1))) := by
        funext j
        by_cases e : j = 24
        · subst e; rw [up_s, up_s]; rfl
        · rw [up_n e, up_n e, up_n e]
      simp (disch := first | omega | decide) only [lt_d, gbT, Option.bind_some, cT2_l, cT2_r, mO_n, mO_s, lit, litL, nb_t, nb_f, need_1, need_0, ix_n, inb_T, le_T, le_F, l_T, l_F, e_F, e_R, if_true, if_false, n_add, n_mul, n_sub, n_l, fM_1, fM_2, fM_3, fM_4, fM_6, fM_7, pI_w, pL_w, pR_w, pC_w, nC_w, gI_wI, gI_wIn, gI_wL, gI_wR, gI_wC, gL_wL, gL_wLn, gL_wI, gL_wR, gL_wC, gR_wR, gR_wRn, gR_wI, gR_wL, gR_wC, gC_wI, gC_wL, gC_wR, gC_wC, gN_wI, gN_wL, gN_wR, gN_wC, wI_wI, wL_wL, wR_wR, wC_wC, up_s, up_n, hcr q hq, hup]
    · unfold bX5_works_214
      simp (disch := first | omega | decide) only [lt_d, gbT, Option.bind_some, cT2_l, cT2_r, mO_n, mO_s, lit, litL, nb_t, nb_f, need_1, need_0, ix_n, inb_T, le_T, le_F, l_T, l_F, e_F, e_R, if_true, if_false, n_add, n_mul, n_sub, n_l, fM_1, fM_2, fM_3, fM_4, fM_6, fM_7]
      rfl
end W
