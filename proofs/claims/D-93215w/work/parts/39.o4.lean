/-! SIMPLE OPERATIONS, four: rules, rows, weeks' draws -/
set_option maxRecDepth 100000
def loR (j : Nat) : Nat := if j = 0 then 1 else 0
theorem zbn (b : Bool) : gb (zb (nb b)) (some (nb b)) = some (nb b) := by cases b <;> rfl
theorem nb01 (b : Bool) {d : Decidable (nb b = nI 0)} : (@ite Int32 (nb b = nI 0) d (nI 0) (nI 1)) = nb b := by
  cases b
  · exact if_pos rfl
  · exact if_neg ne_01
theorem rulX (N : Nat) (σ : Mem) {j : Nat} (hj : j < 8) (v : Int32) : fX0_isRule N σ (nI j) v = some (nb (inR v (loR j) (hiR j))) := by
  unfold fX0_isRule
  have h8 : j = 0 ∨ j = 1 ∨ j = 2 ∨ j = 3 ∨ j = 4 ∨ j = 5 ∨ j = 6 ∨ j = 7 := by omega
  rcases h8 with rfl | rfl | rfl | rfl | rfl | rfl | rfl | rfl <;> simp (disch := first | omega | decide) only [lt_d, gbT, Option.bind_some, cT2_l, cT2_r, mO_n, mO_s, lit, litL, nb_t, nb_f, need_1, need_0, ix_n, inb_T, le_T, le_F, l_T, l_F, e_F, e_R, if_true, if_false, n_add, n_mul, n_sub, n_l, fM_1, fM_2, fM_3, fM_4, fM_6, fM_7, in_R, zbn] <;> first | rfl | (show some _ = some (nb (inR v 0 99999999)); cases inR v 0 99999999 <;> rfl)
theorem rulX0 (N : Nat) (σ : Mem) {x : Int32} (hx : inP x 8 = false) (v : Int32) : fX0_isRule N σ x v = some (nI 0) := by
  have ne : ∀ j, j < 8 → (x = nI j) = False := fun j hj => eq_false (fun e => by
    subst e
    have : inP (nI j) 8 = true := by
      unfold inP
      simp only [l_F (Nat.zero_le j) (by omega : j < 2147483648), l_T hj (by omega)]
      rfl
    rw [this] at hx; cases hx)
  unfold fX0_isRule
  simp (disch := first | omega | decide) only [lt_d, gbT, Option.bind_some, cT2_l, cT2_r, mO_n, mO_s, lit, litL, nb_t, nb_f, need_1, need_0, ix_n, inb_T, le_T, le_F, l_T, l_F, e_F, e_R, if_true, if_false, n_add, n_mul, n_sub, n_l, fM_1, fM_2, fM_3, fM_4, fM_6, fM_7, ne 0 (by omega), ne 1 (by omega), ne 2 (by omega), ne 3 (by omega), ne 4 (by omega), ne 5 (by omega), ne 6 (by omega), ne 7 (by omega)]
theorem op_rule {σ τ : Mem} (h : R σ τ) (N : Nat) (x y : Int32) : Op σ τ (fX0_rule N σ x y) (fX5_rule N τ x y) := by
  have h' := h
  obtain ⟨a, ⟨p, w, b, hn, hru, hg, hap, hl, hh, hb⟩, c, d, e, f, g, i, j, k⟩ := h'
  unfold fX0_rule fX5_rule
  have hI : fX5_isIn N τ x.toInt64 (0 : Int64) (7 : Int64) = some (nb (inP x 8)) := by
    rw [← inR_P x (b := 7) (by decide)]; exact isIn_R N τ x (a := 0) (b := 7) (by decide) (by decide)
  rw [hI]
  cases hx : inP x 8 with
  | false =>
    rw [rulX0 N σ hx]
    simp (disch := first | omega | decide) only [lt_d, gbT, Option.bind_some, cT2_l, cT2_r, mO_n, mO_s, lit, litL, nb_t, nb_f, need_1, need_0, ix_n, inb_T, le_T, le_F, l_T, l_F, e_F, e_R, if_true, if_false, n_add, n_mul, n_sub, n_l, fM_1, fM_2, fM_3, fM_4, fM_6, fM_7]
    exact Op.err h (by decide) (finds_n N σ (by decide)) rfl
  | true =>
    obtain ⟨q, hq, rfl⟩ := inP_T (by decide) hx
    have hM : fX5_isIn N τ y.toInt64 (if nI q = (0 : Int32) then (1 : Int64) else (0 : Int64)) ((if nI q = (0 : Int32) then (99 : Int32) else (if nI q = (6 : Int32) then (999999 : Int32) else (if nI q = (7 : Int32) then (99999999 : Int32) else (100 : Int32)))).toInt64) = some (nb (inR y (loR q) (hiR q))) := by
      have h8 : q = 0 ∨ q = 1 ∨ q = 2 ∨ q = 3 ∨ q = 4 ∨ q = 5 ∨ q = 6 ∨ q = 7 := by omega
      rcases h8 with rfl | rfl | rfl | rfl | rfl | rfl | rfl | rfl <;> simp (disch := first | omega | decide) only [lt_d, gbT, Option.bind_some, cT2_l, cT2_r, mO_n, mO_s, lit, litL, nb_t, nb_f, need_1, need_0, ix_n, inb_T, le_T, le_F, l_T, l_F, e_F, e_R, if_true, if_false, n_add, n_mul, n_sub, n_l, fM_1, fM_2, fM_3, fM_4, fM_6, fM_7, isIn_R] <;> rfl
    rw [rulX N σ hq]
    simp only [lt_d]
    rw [hM]
    simp (disch := first | omega | decide) only [lt_d, gbT, Option.bind_some, cT2_l, cT2_r, mO_n, mO_s, lit, litL, nb_t, nb_f, need_1, need_0, ix_n, inb_T, le_T, le_F, l_T, l_F, e_F, e_R, if_true, if_false, n_add, n_mul, n_sub, n_l, fM_1, fM_2, fM_3, fM_4, fM_6, fM_7]
    cases hy : inR y (loR q) (hiR q) with
    | false =>
      simp (disch := first | omega | decide) only [lt_d, gbT, Option.bind_some, cT2_l, cT2_r, mO_n, mO_s, lit, litL, nb_t, nb_f, need_1, need_0, ix_n, inb_T, le_T, le_F, l_T, l_F, e_F, e_R, if_true, if_false, n_add, n_mul, n_sub, n_l, fM_1, fM_2, fM_3, fM_4, fM_6, fM_7]
      exact Op.err h (by decide) (finds_n N σ (by decide)) rfl
    | true =>
      simp (disch := first | omega | decide) only [lt_d, gbT, Option.bind_some, cT2_l, cT2_r, mO_n, mO_s, lit, litL, nb_t, nb_f, need_1, need_0, ix_n, inb_T, le_T, le_F, l_T, l_F, e_F, e_R, if_true, if_false, n_add, n_mul, n_sub, n_l, fM_1, fM_2, fM_3, fM_4, fM_6, fM_7, pI_w, pL_w, pR_w, pC_w, nC_w, gI_wI, gI_wIn, gI_wL, gI_wR, gI_wC, gL_wL, gL_wLn, gL_wI, gL_wR, gL_wC, gR_wR, gR_wRn, gR_wI, gR_wL, gR_wC, gC_wI, gC_wL, gC_wR, gC_wC, gN_wI, gN_wL, gN_wR, gN_wC, wI_wI, wL_wL, wR_wR, wC_wC, up_s, up_n, (hru q hq).1]
      have n := hn
      refine ⟨_, _, _, rfl, rfl, a, ⟨p, w, b, hn.irr (by omega) (by omega) (by omega) (by omega), ?_, hg.irr (by omega) n.1, hap, hl.irr (by omega) (by omega) (by omega), hh.irr (by omega), hb.irr (by omega)⟩, c, d, e, f, g.irr (by omega) (by omega) (by omega) (by omega) (by omega), i.irr (by omega) (by omega) (by omega) (by omega) (by omega), j, k⟩
      intro r hr
      show upd (gI σ 2) q y r = upd (gI τ 1) (10 + q) y (10 + r) ∧ ∃ n, n ≤ hiR r ∧ upd (gI τ 1) (10 + q) y (10 + r) = nI n
      by_cases e1 : r = q
      · subst e1; rw [up_s, up_s]
        obtain ⟨n, -, hn2, hn3⟩ := inR_T (by unfold loR hiR; split <;> (try split) <;> (try split) <;> omega) (by unfold hiR; split <;> (try split) <;> (try split) <;> omega) hy
        exact ⟨rfl, n, hn2, hn3⟩
      · rw [up_n e1, up_n (by omega)]; exact hru r hr
/-! rows -/
def isRw (x : Int32) : Bool := inP x 4096 && decide (pcn (ix x) = 4)
theorem isRw_T {x : Int32} (h : isRw x = true) : ∃ r, r < 4096 ∧ x = nI r ∧ pcn r = 4 := by
  simp only [isRw, Bool.and_eq_true, decide_eq_true_eq] at h
  obtain ⟨r, hr, rfl⟩ := inP_T (by decide) h.1
  rw [ix_n (by omega)] at h
  exact ⟨r, hr, rfl, h.2⟩
theorem rowX (N : Nat) (σ : Mem) (x : Int32) : fX0_isRow N σ x = some (nb (isRw x)) := by
  unfold fX0_isRow isRw
  simp (disch := first | omega | decide) only [lt_d, gbT, Option.bind_some, cT2_l, cT2_r, mO_n, mO_s, lit, litL, nb_t, nb_f, need_1, need_0, ix_n, inb_T, le_T, le_F, l_T, l_F, e_F, e_R, if_true, if_false, n_add, n_mul, n_sub, n_l, fM_1, fM_2, fM_3, fM_4, fM_6, fM_7, in_R, inR_P]
  cases hx : inP x 4096 with
  | false =>
    simp (disch := first | omega | decide) only [lt_d, gbT, Option.bind_some, cT2_l, cT2_r, mO_n, mO_s, lit, litL, nb_t, nb_f, need_1, need_0, ix_n, inb_T, le_T, le_F, l_T, l_F, e_F, e_R, if_true, if_false, n_add, n_mul, n_sub, n_l, fM_1, fM_2, fM_3, fM_4, fM_6, fM_7]
    rfl
  | true =>
    obtain ⟨r, hr, rfl⟩ := inP_T (by decide) hx
    rw [bc_n N σ hr, ix_n (by omega)]
    by_cases h4 : pcn r = 4
    · simp (disch := first | omega | decide) only [lt_d, gbT, Option.bind_some, cT2_l, cT2_r, mO_n, mO_s, lit, litL, nb_t, nb_f, need_1, need_0, ix_n, inb_T, le_T, le_F, l_T, l_F, e_F, e_R, if_true, if_false, n_add, n_mul, n_sub, n_l, fM_1, fM_2, fM_3, fM_4, fM_6, fM_7, h4]
      rfl
    · have := pcn_le r
      simp (disch := first | omega | decide) only [lt_d, gbT, Option.bind_some, cT2_l, cT2_r, mO_n, mO_s, lit, litL, nb_t, nb_f, need_1, need_0, ix_n, inb_T, le_T, le_F, l_T, l_F, e_F, e_R, if_true, if_false, n_add, n_mul, n_sub, n_l, fM_1, fM_2, fM_3, fM_4, fM_6, fM_7]
      rw [decide_eq_false h4]; rfl
theorem plM {pl : Nat → Int32} (h : ∀ r, r < 4096 → pl r = if pcn r = 4 then nI (cnt r) else -1) {r : Nat} (hr : r < 4096) : (pcn r = 4 → pl r = nI (cnt r)) ∧ (¬ pcn r = 4 → pl r = -nI 1) := by
  refine ⟨fun q => by rw [h r hr, if_pos q], fun q => by rw [h r hr, if_neg q]; rfl⟩
theorem placeOf_n {σ : Mem} {N r : Nat} (hN : 300000 ≤ N) (ht : ∀ k, k < 495 → gI σ 62 k = nI (rowT k)) (hr : r < 4096) (hp : pcn r = 4) : fX0_placeOf N σ (nI r) = some (nI (cnt r)) := by
  have hc := cnt_lt hr hp
  have hrc := rowT_cnt hr hp
  unfold fX0_placeOf
  refine lp_mu (P := fun s : Int32 × Int32 => ∃ lo hi, s = (nI lo, nI hi) ∧ lo ≤ cnt r ∧ cnt r ≤ hi ∧ hi < 495) (μ := fun s => ix s.2 - ix s.1) (Q := fun o => o = some (nI (cnt r))) ?_ N (nI 0, nI 494) ?_ ⟨0, 494, rfl, by omega, by omega, by omega⟩
  · rintro _ ⟨lo, hi, rfl, h1, h2, h3⟩
    by_cases e : lo = hi
    · left
      intro rec
      unfold bX0_placeOf_6
      simp (disch := first | omega | decide) only [lt_d, gbT, Option.bind_some, cT2_l, cT2_r, mO_n, mO_s, lit, litL, nb_t, nb_f, need_1, need_0, ix_n, inb_T, le_T, le_F, l_T, l_F, e_F, e_R, if_true, if_false, n_add, n_mul, n_sub, n_l, fM_1, fM_2, fM_3, fM_4, fM_6, fM_7]
      rw [show lo = cnt r by omega]
    · right
      have hm : (lo + hi) / 2 < hi := by omega
      by_cases e2 : cnt r ≤ (lo + hi) / 2
      · refine ⟨(nI lo, nI ((lo + hi) / 2)), ⟨lo, _, rfl, h1, e2, by omega⟩, ?_, fun rec => ?_⟩
        · show ix (nI ((lo + hi) / 2)) - ix (nI lo) < ix (nI hi) - ix (nI lo)
          rw [ix_n (by omega), ix_n (by omega), ix_n (by omega)]; omega
        · unfold bX0_placeOf_6
          have hle : r ≤ rowT ((lo + hi) / 2) := by
            by_cases e3 : cnt r = (lo + hi) / 2
            · rw [← e3, hrc]; exact Nat.le_refl _
            · have := rowT_mono (j := cnt r) (k := (lo + hi) / 2) (by omega) (by omega)
              omega
          have hlt := rowT_lt (k := (lo + hi) / 2) (by omega)
          simp (disch := first | omega | decide) only [lt_d, gbT, Option.bind_some, cT2_l, cT2_r, mO_n, mO_s, lit, litL, nb_t, nb_f, need_1, need_0, ix_n, inb_T, le_T, le_F, l_T, l_F, e_F, e_R, if_true, if_false, n_add, n_mul, n_sub, n_l, fM_1, fM_2, fM_3, fM_4, fM_6, fM_7, n_div, ht ((lo + hi) / 2) (by omega)]
      · refine ⟨(nI ((lo + hi) / 2 + 1), nI hi), ⟨_, hi, rfl, by omega, h2, h3⟩, ?_, fun rec => ?_⟩
        · show ix (nI hi) - ix (nI ((lo + hi) / 2 + 1)) < ix (nI hi) - ix (nI lo)
          rw [ix_n (by omega), ix_n (by omega), ix_n (by omega)]; omega
        · unfold bX0_placeOf_6
          have hle : rowT ((lo + hi) / 2) < r := by
            have := rowT_mono (j := (lo + hi) / 2) (k := cnt r) (by omega) (by omega)
            omega
          simp (disch := first | omega | decide) only [lt_d, gbT, Option.bind_some, cT2_l, cT2_r, mO_n, mO_s, lit, litL, nb_t, nb_f, need_1, need_0, ix_n, inb_T, le_T, le_F, l_T, l_F, e_F, e_R, if_true, if_false, n_add, n_mul, n_sub, n_l, fM_1, fM_2, fM_3, fM_4, fM_6, fM_7, n_div, ht ((lo + hi) / 2) (by omega)]
  · show ix (nI 494) - ix (nI 0) < N
    rw [ix_n (by omega), ix_n (by omega)]; omega
theorem op_place {σ τ : Mem} (h : R σ τ) {N : Nat} (hN : 300000 ≤ N) (x : Int32) : Op σ τ (fX0_place N σ x) (fX5_place N τ x) := by
  have a := h.1
  unfold fX0_place fX5_place
  rw [rowX]
  rcases pk_ix x (n := 4096) (by decide) with hx | hx | ⟨r, hr, rfl⟩
  · have e : isRw x = false := by
      have : inP x 4096 = false := by unfold inP; rw [decide_eq_true (show x < nI 0 from hx)]; rfl
      unfold isRw; rw [this]; rfl
    rw [e, if_pos hx]
    simp (disch := first | omega | decide) only [lt_d, gbT, Option.bind_some, cT2_l, cT2_r, mO_n, mO_s, lit, litL, nb_t, nb_f, need_1, need_0, ix_n, inb_T, le_T, le_F, l_T, l_F, e_F, e_R, if_true, if_false, n_add, n_mul, n_sub, n_l, fM_1, fM_2, fM_3, fM_4, fM_6, fM_7]
    exact Op.err h (by decide) (finds_n N σ (by decide)) rfl
  · have e : isRw x = false := by
      have : inP x 4096 = false := by unfold inP; rw [decide_eq_false (Int32.not_lt.mpr hx)]; exact Bool.and_false _
      unfold isRw; rw [this]; rfl
    have h1 : ¬ x < 0 := by
      intro q
      exact absurd (Int32.lt_of_le_of_lt hx q) (by decide)
    have h2 : (4095 : Int32) < x := Int32.lt_of_lt_of_le (show (4095 : Int32) < nI 4096 by decide) hx
    rw [e, if_neg h1, if_pos h2]
    simp (disch := first | omega | decide) only [lt_d, gbT, Option.bind_some, cT2_l, cT2_r, mO_n, mO_s, lit, litL, nb_t, nb_f, need_1, need_0, ix_n, inb_T, le_T, le_F, l_T, l_F, e_F, e_R, if_true, if_false, n_add, n_mul, n_sub, n_l, fM_1, fM_2, fM_3, fM_4, fM_6, fM_7]
    exact Op.err h (by decide) (finds_n N σ (by decide)) rfl
  · have hpl := plM a.2.2.1 hr
    have hi : inP (nI r) 4096 = true := by
      unfold inP
      simp only [l_F (Nat.zero_le r) (by omega : r < 2147483648), l_T hr (by omega)]
      rfl
    by_cases h4 : pcn r = 4
    · have e : isRw (nI r) = true := by unfold isRw; rw [hi, ix_n (by omega), decide_eq_true h4]; rfl
      have hc := cnt_lt hr h4
      rw [e]
      simp (disch := first | omega | decide) only [lt_d, gbT, Option.bind_some, cT2_l, cT2_r, mO_n, mO_s, lit, litL, nb_t, nb_f, need_1, need_0, ix_n, inb_T, le_T, le_F, l_T, l_F, e_F, e_R, if_true, if_false, n_add, n_mul, n_sub, n_l, fM_1, fM_2, fM_3, fM_4, fM_6, fM_7, hpl.1 h4, placeOf_n hN a.1 hr h4]
      exact ⟨_, σ, τ, rfl, rfl, h⟩
    · have e : isRw (nI r) = false := by unfold isRw; rw [hi, ix_n (by omega), decide_eq_false h4]; rfl
      have hm : (nI 0 ≤ -nI 1) = False := eq_false (by decide)
      rw [e]
      simp (disch := first | omega | decide) only [lt_d, gbT, Option.bind_some, cT2_l, cT2_r, mO_n, mO_s, lit, litL, nb_t, nb_f, need_1, need_0, ix_n, inb_T, le_T, le_F, l_T, l_F, e_F, e_R, if_true, if_false, n_add, n_mul, n_sub, n_l, fM_1, fM_2, fM_3, fM_4, fM_6, fM_7, hpl.2 h4, hm]
      exact Op.err h (by decide) (finds_n N σ (by decide)) rfl
theorem op_book {σ τ : Mem} (h : R σ τ) (N : Nat) (x y : Int32) : Op σ τ (fX0_book N σ x y) (fX5_book N τ x y) := by
  have h' := h
  obtain ⟨a, ⟨p, w, b, hn, hru, hg, hap, hl, hh, hb⟩, c, d, e, f, g, i, j, k⟩ := h'
  obtain ⟨n1, n2, n3, n4, n5, n6, n7, n8, n9, n10⟩ := hn
  unfold fX0_book fX5_book
  rw [n6, n7]
  simp (disch := first | omega | decide) only [lt_d, gbT, Option.bind_some, cT2_l, cT2_r, mO_n, mO_s, lit, litL, nb_t, nb_f, need_1, need_0, ix_n, inb_T, le_T, le_F, l_T, l_F, e_F, e_R, if_true, if_false, n_add, n_mul, n_sub, n_l, fM_1, fM_2, fM_3, fM_4, fM_6, fM_7, in_P, isIn_P, isIn_R, in_R, inR_P]
  cases hx : inP x w with
  | false =>
    simp (disch := first | omega | decide) only [lt_d, gbT, Option.bind_some, cT2_l, cT2_r, mO_n, mO_s, lit, litL, nb_t, nb_f, need_1, need_0, ix_n, inb_T, le_T, le_F, l_T, l_F, e_F, e_R, if_true, if_false, n_add, n_mul, n_sub, n_l, fM_1, fM_2, fM_3, fM_4, fM_6, fM_7, jX0_book_36]
    exact Op.err h (by decide) (finds_n N σ (by decide)) rfl
  | true =>
    obtain ⟨v, hv, rfl⟩ := inP_T (by omega) hx
    cases hy : inP y 8 with
    | false =>
      simp (disch := first | omega | decide) only [lt_d, gbT, Option.bind_some, cT2_l, cT2_r, mO_n, mO_s, lit, litL, nb_t, nb_f, need_1, need_0, ix_n, inb_T, le_T, le_F, l_T, l_F, e_F, e_R, if_true, if_false, n_add, n_mul, n_sub, n_l, fM_1, fM_2, fM_3, fM_4, fM_6, fM_7]
      exact Op.err h (by decide) (finds_n N σ (by decide)) rfl
    | true =>
      obtain ⟨q, hq, rfl⟩ := inP_T (by decide) hy
      have hbk := (hb v hv).1 q hq
      rw [bk_1 σ hq] at hbk
      simp (disch := first | omega | decide) only [lt_d, gbT, Option.bind_some, cT2_l, cT2_r, mO_n, mO_s, lit, litL, nb_t, nb_f, need_1, need_0, ix_n, inb_T, le_T, le_F, l_T, l_F, e_F, e_R, if_true, if_false, n_add, n_mul, n_sub, n_l, fM_1, fM_2, fM_3, fM_4, fM_6, fM_7, hbk]
      exact ⟨_, σ, τ, rfl, rfl, h⟩
/-! weeks' draws -/
def hs (r x : Int32) : Bool := decide (((r >>> (x &&& 31)) &&& (1 : Int32)) = (1 : Int32))
theorem hasX (N : Nat) (σ : Mem) (r x : Int32) : fX0_has N σ r x = some (nb (hs r x)) := by
  unfold fX0_has hs
  by_cases h : ((r >>> (x &&& 31)) &&& (1 : Int32)) = (1 : Int32)
  · rw [if_pos h, decide_eq_true h]; rfl
  · rw [if_neg h, decide_eq_false h]; rfl
theorem hasM (N : Nat) (σ : Mem) (r x : Int32) : fX5_has N σ r x = some (nb (hs r x)) := hasX N σ r x
def cntB (p : Nat → Bool) : Nat → Nat
  | 0 => 0
  | k + 1 => cntB p k + (if p k then 1 else 0)
theorem cntB_le (p : Nat → Bool) : ∀ n, cntB p n ≤ n
  | 0 => Nat.le_refl _
  | n + 1 => by
    have := cntB_le p n
    show cntB p n + _ ≤ n + 1
    split <;> omega
theorem drawM {τ : Mem} {N v : Nat} (hv : v < 40) : fX5_drawAt N τ (nI v) = some (gI τ 1 (104 + 8 * v)) := by
  unfold fX5_drawAt
  simp (disch := first | omega | decide) only [lt_d, gbT, Option.bind_some, cT2_l, cT2_r, mO_n, mO_s, lit, litL, nb_t, nb_f, need_1, need_0, ix_n, inb_T, le_T, le_F, l_T, l_F, e_F, e_R, if_true, if_false, n_add, n_mul, n_sub, n_l, fM_1, fM_2, fM_3, fM_4, fM_6, fM_7]
theorem cameX {σ : Mem} {N w : Nat} {s : Nat → Int32} (hN : 300000 ≤ N) (hw : w ≤ 40) (h1 : gI σ 1 1 = nI w) (hb : ∀ v, v < w → gI σ 20 v = s (104 + 8 * v)) (x : Int32) : fX0_cameOf N σ x = some (nI (cntB (fun v => hs (s (104 + 8 * v)) x) w)) := by
  unfold fX0_cameOf
  refine lp_fun (fun k => (nI (cntB (fun v => hs (s (104 + 8 * v)) x) k), nI k)) w (by omega) (fun k rec hk => ?_) (fun rec => ?_)
  · unfold bX0_cameOf_4
    simp (disch := first | omega | decide) only [lt_d, gbT, Option.bind_some, cT2_l, cT2_r, mO_n, mO_s, lit, litL, nb_t, nb_f, need_1, need_0, ix_n, inb_T, le_T, le_F, l_T, l_F, e_F, e_R, if_true, if_false, n_add, n_mul, n_sub, n_l, fM_1, fM_2, fM_3, fM_4, fM_6, fM_7, h1, hb k hk, hasX]
    show _ = rec (nI (cntB _ k + (if hs (s (104 + 8 * k)) x then 1 else 0)), _)
    cases hs (s (104 + 8 * k)) x
    · (simp (disch := first | omega | decide) only [lt_d, gbT, Option.bind_some, cT2_l, cT2_r, mO_n, mO_s, lit, litL, nb_t, nb_f, need_1, need_0, ix_n, inb_T, le_T, le_F, l_T, l_F, e_F, e_R, if_true, if_false, n_add, n_mul, n_sub, n_l, fM_1, fM_2, fM_3, fM_4, fM_6, fM_7]) <;> rfl
    · (simp (disch := first | omega | decide) only [lt_d, gbT, Option.bind_some, cT2_l, cT2_r, mO_n, mO_s, lit, litL, nb_t, nb_f, need_1, need_0, ix_n, inb_T, le_T, le_F, l_T, l_F, e_F, e_R, if_true, if_false, n_add, n_mul, n_sub, n_l, fM_1, fM_2, fM_3, fM_4, fM_6, fM_7]) <;> rfl
  · unfold bX0_cameOf_4
    simp (disch := first | omega | decide) only [lt_d, gbT, Option.bind_some, cT2_l, cT2_r, mO_n, mO_s, lit, litL, nb_t, nb_f, need_1, need_0, ix_n, inb_T, le_T, le_F, l_T, l_F, e_F, e_R, if_true, if_false, n_add, n_mul, n_sub, n_l, fM_1, fM_2, fM_3, fM_4, fM_6, fM_7, h1]
theorem timesM {τ : Mem} {N w : Nat} (hN : 300000 ≤ N) (hw : w ≤ 40) (h1 : gI τ 1 1 = nI w) (x : Int32) : fX5_timesOf N τ x = some (nI (cntB (fun v => hs (gI τ 1 (104 + 8 * v)) x) w)) := by
  unfold fX5_timesOf
  refine lp_fun (fun k => (nI (cntB (fun v => hs (gI τ 1 (104 + 8 * v)) x) k), nI k)) w (by omega) (fun k rec hk => ?_) (fun rec => ?_)
  · unfold bX5_timesOf_4
    simp (disch := first | omega | decide) only [lt_d, gbT, Option.bind_some, cT2_l, cT2_r, mO_n, mO_s, lit, litL, nb_t, nb_f, need_1, need_0, ix_n, inb_T, le_T, le_F, l_T, l_F, e_F, e_R, if_true, if_false, n_add, n_mul, n_sub, n_l, fM_1, fM_2, fM_3, fM_4, fM_6, fM_7, h1, drawM (by omega : k < 40), hasM]
    show _ = rec (nI (cntB _ k + (if hs (gI τ 1 (104 + 8 * k)) x then 1 else 0)), _)
    cases hs (gI τ 1 (104 + 8 * k)) x
    · (simp (disch := first | omega | decide) only [lt_d, gbT, Option.bind_some, cT2_l, cT2_r, mO_n, mO_s, lit, litL, nb_t, nb_f, need_1, need_0, ix_n, inb_T, le_T, le_F, l_T, l_F, e_F, e_R, if_true, if_false, n_add, n_mul, n_sub, n_l, fM_1, fM_2, fM_3, fM_4, fM_6, fM_7]) <;> rfl
    · (simp (disch := first | omega | decide) only [lt_d, gbT, Option.bind_some, cT2_l, cT2_r, mO_n, mO_s, lit, litL, nb_t, nb_f, need_1, need_0, ix_n, inb_T, le_T, le_F, l_T, l_F, e_F, e_R, if_true, if_false, n_add, n_mul, n_sub, n_l, fM_1, fM_2, fM_3, fM_4, fM_6, fM_7]) <;> rfl
  · unfold bX5_timesOf_4
    simp (disch := first | omega | decide) only [lt_d, gbT, Option.bind_some, cT2_l, cT2_r, mO_n, mO_s, lit, litL, nb_t, nb_f, need_1, need_0, ix_n, inb_T, le_T, le_F, l_T, l_F, e_F, e_R, if_true, if_false, n_add, n_mul, n_sub, n_l, fM_1, fM_2, fM_3, fM_4, fM_6, fM_7, h1]
theorem Bok.draw {σ : Mem} {s : Nat → Int32} {w : Nat} (h : Bok (pk8 (gI σ 20) (gI σ 21) (gI σ 22) (gI σ 23) (gI σ 24) (gI σ 25) (gI σ 26) (gI σ 27)) s w) : ∀ v, v < w → gI σ 20 v = s (104 + 8 * v) := fun v hv => (h v hv).1 0 (by omega)
theorem op_came {σ τ : Mem} (h : R σ τ) {N : Nat} (hN : 300000 ≤ N) (x : Int32) : Op σ τ (fX0_came N σ x) (fX5_came N τ x) := by
  have h' := h
  obtain ⟨a, ⟨p, w, b, hn, hru, hg, hap, hl, hh, hb⟩, c, d, e, f, g, i, j, k⟩ := h'
  obtain ⟨n1, n2, n3, n4, n5, n6, n7, n8, n9, n10⟩ := hn
  unfold fX0_came fX5_came
  rw [isNuX]
  simp (disch := first | omega | decide) only [lt_d, gbT, Option.bind_some, cT2_l, cT2_r, mO_n, mO_s, lit, litL, nb_t, nb_f, need_1, need_0, ix_n, inb_T, le_T, le_F, l_T, l_F, e_F, e_R, if_true, if_false, n_add, n_mul, n_sub, n_l, fM_1, fM_2, fM_3, fM_4, fM_6, fM_7, isIn_R, inR_P]
  cases hx : inP x 12 with
  | false =>
    simp (disch := first | omega | decide) only [lt_d, gbT, Option.bind_some, cT2_l, cT2_r, mO_n, mO_s, lit, litL, nb_t, nb_f, need_1, need_0, ix_n, inb_T, le_T, le_F, l_T, l_F, e_F, e_R, if_true, if_false, n_add, n_mul, n_sub, n_l, fM_1, fM_2, fM_3, fM_4, fM_6, fM_7]
    exact Op.err h (by decide) (finds_n N σ (by decide)) rfl
  | true =>
    simp (disch := first | omega | decide) only [lt_d, gbT, Option.bind_some, cT2_l, cT2_r, mO_n, mO_s, lit, litL, nb_t, nb_f, need_1, need_0, ix_n, inb_T, le_T, le_F, l_T, l_F, e_F, e_R, if_true, if_false, n_add, n_mul, n_sub, n_l, fM_1, fM_2, fM_3, fM_4, fM_6, fM_7, cameX hN n2 n6 hb.draw x, timesM hN n2 n7 x]
    exact ⟨_, σ, τ, rfl, rfl, h⟩
theorem op_due {σ τ : Mem} (h : R σ τ) {N : Nat} (hN : 300000 ≤ N) (x : Int32) : Op σ τ (fX0_due N σ x) (fX5_due N τ x) := by
  have h' := h
  obtain ⟨a, ⟨p, w, b, hn, hru, hg, hap, hl, hh, hb⟩, c, d, e, f, g, i, j, k⟩ := h'
  obtain ⟨n1, n2, n3, n4, n5, n6, n7, n8, n9, n10⟩ := hn
  unfold fX0_due fX5_due
  rw [isNuX]
  simp (disch := first | omega | decide) only [lt_d, gbT, Option.bind_some, cT2_l, cT2_r, mO_n, mO_s, lit, litL, nb_t, nb_f, need_1, need_0, ix_n, inb_T, le_T, le_F, l_T, l_F, e_F, e_R, if_true, if_false, n_add, n_mul, n_sub, n_l, fM_1, fM_2, fM_3, fM_4, fM_6, fM_7, isIn_R, inR_P]
  cases hx : inP x 12 with
  | false =>
    simp (disch := first | omega | decide) only [lt_d, gbT, Option.bind_some, cT2_l, cT2_r, mO_n, mO_s, lit, litL, nb_t, nb_f, need_1, need_0, ix_n, inb_T, le_T, le_F, l_T, l_F, e_F, e_R, if_true, if_false, n_add, n_mul, n_sub, n_l, fM_1, fM_2, fM_3, fM_4, fM_6, fM_7]
    exact Op.err h (by decide) (finds_n N σ (by decide)) rfl
  | true =>
    simp (disch := first | omega | decide) only [lt_d, gbT, Option.bind_some, cT2_l, cT2_r, mO_n, mO_s, lit, litL, nb_t, nb_f, need_1, need_0, ix_n, inb_T, le_T, le_F, l_T, l_F, e_F, e_R, if_true, if_false, n_add, n_mul, n_sub, n_l, fM_1, fM_2, fM_3, fM_4, fM_6, fM_7]
    refine lp_two (P := fun (s s' : Int32) => s = s' ∧ ∃ k, s = nI k ∧ k ≤ w) (μ := fun s => w - ix s) (Q := fun F G => Op σ τ F G) ?_ N (nI 0) (nI 0) (by omega) ⟨rfl, 0, rfl, by omega⟩
    rintro s _ ⟨rfl, k, rfl, hk⟩
    by_cases e1 : k = w
    · left
      subst e1
      intro rec rec'
      unfold bX0_due_10 bX5_due_21
      simp (disch := first | omega | decide) only [lt_d, gbT, Option.bind_some, cT2_l, cT2_r, mO_n, mO_s, lit, litL, nb_t, nb_f, need_1, need_0, ix_n, inb_T, le_T, le_F, l_T, l_F, e_F, e_R, if_true, if_false, n_add, n_mul, n_sub, n_l, fM_1, fM_2, fM_3, fM_4, fM_6, fM_7, n6, n7]
      exact ⟨_, σ, τ, rfl, rfl, h⟩
    · have hk : k < w := by omega
      cases hh : hs (gI τ 1 (104 + 8 * (w - 1 - k))) x with
      | false =>
        right
        refine ⟨nI (k + 1), nI (k + 1), ⟨rfl, k + 1, rfl, by omega⟩, ?_, fun rec => ?_, fun rec => ?_⟩
        · show w - ix (nI (k + 1)) < w - ix (nI k)
          rw [ix_n (by omega), ix_n (by omega)]; omega
        · unfold bX0_due_10
          simp (disch := first | omega | decide) only [lt_d, gbT, Option.bind_some, cT2_l, cT2_r, mO_n, mO_s, lit, litL, nb_t, nb_f, need_1, need_0, ix_n, inb_T, le_T, le_F, l_T, l_F, e_F, e_R, if_true, if_false, n_add, n_mul, n_sub, n_l, fM_1, fM_2, fM_3, fM_4, fM_6, fM_7, n6, hb.draw (w - 1 - k) (by omega), hasX, hh]
        · unfold bX5_due_21
          simp (disch := first | omega | decide) only [lt_d, gbT, Option.bind_some, cT2_l, cT2_r, mO_n, mO_s, lit, litL, nb_t, nb_f, need_1, need_0, ix_n, inb_T, le_T, le_F, l_T, l_F, e_F, e_R, if_true, if_false, n_add, n_mul, n_sub, n_l, fM_1, fM_2, fM_3, fM_4, fM_6, fM_7, n7, drawM (by omega : w - 1 - k < 40), hasM, hh]
      | true =>
        left
        intro rec rec'
        unfold bX0_due_10 bX5_due_21
        simp (disch := first | omega | decide) only [lt_d, gbT, Option.bind_some, cT2_l, cT2_r, mO_n, mO_s, lit, litL, nb_t, nb_f, need_1, need_0, ix_n, inb_T, le_T, le_F, l_T, l_F, e_F, e_R, if_true, if_false, n_add, n_mul, n_sub, n_l, fM_1, fM_2, fM_3, fM_4, fM_6, fM_7, n6, n7, hb.draw (w - 1 - k) (by omega), drawM (by omega : w - 1 - k < 40), hasX, hasM, hh]
        exact ⟨_, σ, τ, rfl, rfl, h⟩
