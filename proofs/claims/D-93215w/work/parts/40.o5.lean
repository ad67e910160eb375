/-! SIMPLE OPERATIONS, five: drums, what is felt -/
set_option maxRecDepth 100000
theorem subL {a b : Nat} (ha : a < 1073741824) (hb : b < 1073741824) : (nI a - nI b).toInt64 = lN a - lN b := by
  apply Int64.toInt_inj.mp
  rw [Int32.toInt_toInt64, pk_sub_toInt ha hb, Int64.toInt_sub, pk_lT (by omega), pk_lT (by omega), Int.bmod_eq_of_le] <;> omega
theorem subI (a b : Nat) : (lN a - lN b).toInt32 = nI a - nI b := by
  rw [Int64.toInt32_sub, lN_i, lN_i]
theorem mulL (a b : Nat) : lN a * lN b = lN (a * b) := by
  unfold lN; exact (Int64.ofNat_mul a b).symm
theorem op_drum {σ τ : Mem} (h : R σ τ) {N : Nat} (hN : 300000 ≤ N) : ∃ v, fX0_drum N σ = some v ∧ fX5_drum N τ = some v := by
  have h' := h
  obtain ⟨a, ⟨p, w, b, hn, hru, hg, hap, hl, hh, hb⟩, c, d, e, f, g, i, j, k⟩ := h'
  obtain ⟨n1, n2, n3, n4, n5, n6, n7, n8, n9, n10⟩ := hn
  let cm := fun k : Nat => cntB (fun v => hs (gI τ 1 (104 + 8 * v)) (nI k)) w
  have hcm : ∀ k, cm k ≤ 40 := fun k => Nat.le_trans (cntB_le _ _) n2
  let st := fun k : Nat => sL (fun j => (lN (12 * cm j) - lN (4 * w)) * (lN (12 * cm j) - lN (4 * w))) k
  refine ⟨st 12, ?_, ?_⟩
  · unfold fX0_drum
    refine lp_fun (fun k => (st k, nI k)) 12 (by omega) (fun k rec hk => ?_) (fun rec => ?_)
    · unfold bX0_drum_4
      have hc := hcm k
      simp (disch := first | omega | decide) only [lt_d, gbT, Option.bind_some, cT2_l, cT2_r, mO_n, mO_s, lit, litL, nb_t, nb_f, need_1, need_0, ix_n, inb_T, le_T, le_F, l_T, l_F, e_F, e_R, if_true, if_false, n_add, n_mul, n_sub, n_l, fM_1, fM_2, fM_3, fM_4, fM_6, fM_7, cameX hN n2 n6 hb.draw (nI k), n6]
      show rec (st k + (nI (12 * cm k) - nI (4 * w)).toInt64 * (nI (12 * cm k) - nI (4 * w)).toInt64, _) = _
      rw [subL (by omega) (by omega)]
      rfl
    · unfold bX0_drum_4
      simp (disch := first | omega | decide) only [lt_d, gbT, Option.bind_some, cT2_l, cT2_r, mO_n, mO_s, lit, litL, nb_t, nb_f, need_1, need_0, ix_n, inb_T, le_T, le_F, l_T, l_F, e_F, e_R, if_true, if_false, n_add, n_mul, n_sub, n_l, fM_1, fM_2, fM_3, fM_4, fM_6, fM_7]
  · unfold fX5_drum
    refine lp_fun (fun k => (st k, nI k)) 12 (by omega) (fun k rec hk => ?_) (fun rec => ?_)
    · unfold bX5_drum_4
      have hc := hcm k
      have hc2 : cntB (fun v => hs (gI τ 1 (104 + 8 * v)) (nI k)) w ≤ 40 := hc
      simp (disch := first | omega | decide) only [lt_d, gbT, Option.bind_some, cT2_l, cT2_r, mO_n, mO_s, lit, litL, nb_t, nb_f, need_1, need_0, ix_n, inb_T, le_T, le_F, l_T, l_F, e_F, e_R, if_true, if_false, n_add, n_mul, n_sub, n_l, fM_1, fM_2, fM_3, fM_4, fM_6, fM_7, timesM hN n2 n7 (nI k), n7, mulL]
      rfl
    · unfold bX5_drum_4
      simp (disch := first | omega | decide) only [lt_d, gbT, Option.bind_some, cT2_l, cT2_r, mO_n, mO_s, lit, litL, nb_t, nb_f, need_1, need_0, ix_n, inb_T, le_T, le_F, l_T, l_F, e_F, e_R, if_true, if_false, n_add, n_mul, n_sub, n_l, fM_1, fM_2, fM_3, fM_4, fM_6, fM_7]
theorem nzI_n {n : Nat} (h : 0 < n) (h2 : n < 2147483648) : nzI (nI n) = true := by
  unfold nzI
  rw [decide_eq_false (nI_ne0 h h2)]; rfl
theorem nzL_n {n : Nat} (h : 0 < n) (h2 : n < 2147483648) : nzL (lN n) = true := by
  unfold nzL
  rw [decide_eq_false (fun e => by
    have : lN n = lN 0 := e
    rw [pk_lEQ (by omega) (by omega)] at this
    omega)]
  rfl
def wiN (q : Nat → Bool) (f : Nat → Nat) : Nat → Nat
  | 0 => 0
  | k + 1 => wiN q f k + (if q k then f k else 0)
def woN (q : Nat → Bool) (f : Nat → Nat) : Nat → Nat
  | 0 => 0
  | k + 1 => woN q f k + (if q k then 0 else f k)
theorem wiN_le {q : Nat → Bool} {f : Nat → Nat} {c : Nat} : ∀ {n : Nat}, (∀ v, v < n → f v ≤ c) → wiN q f n ≤ n * c
  | 0, _ => by simp [wiN]
  | n + 1, h => by
    have h1 := wiN_le (q := q) (n := n) (fun v hv => h v (by omega))
    have h2 := h n (by omega)
    show wiN q f n + _ ≤ (n + 1) * c
    rw [Nat.add_mul]
    split <;> omega
theorem woN_le {q : Nat → Bool} {f : Nat → Nat} {c : Nat} : ∀ {n : Nat}, (∀ v, v < n → f v ≤ c) → woN q f n ≤ n * c
  | 0, _ => by simp [woN]
  | n + 1, h => by
    have h1 := woN_le (q := q) (n := n) (fun v hv => h v (by omega))
    have h2 := h n (by omega)
    show woN q f n + _ ≤ (n + 1) * c
    rw [Nat.add_mul]
    split <;> omega
theorem wi_s (q : Nat → Bool) (f : Nat → Nat) (k : Nat) : wiN q f (k + 1) = wiN q f k + (if q k then f k else 0) := rfl
theorem wo_s (q : Nat → Bool) (f : Nat → Nat) (k : Nat) : woN q f (k + 1) = woN q f k + (if q k then 0 else f k) := rfl
theorem b_t : (true = true) = True := eq_true rfl
theorem b_f : (false = true) = False := eq_false (by decide)
theorem feltX {σ : Mem} {N w cm y : Nat} {s : Nat → Int32} {bn : Nat → Nat} (hN : 300000 ≤ N) (hw : w ≤ 40) (h0 : 0 < cm) (h1 : cm < w) (n6 : gI σ 1 1 = nI w) (hd : ∀ v, v < w → gI σ 20 v = s (104 + 8 * v)) (hb : ∀ v, v < w → bn v ≤ 5300000 ∧ gI σ 23 v = nI (bn v)) :
    lp (bX0_felt_42 N σ (nI y) (nI cm)) N (lN 0, lN 0, nI 0) = some (nI (wiN (fun v => hs (s (104 + 8 * v)) (nI y)) bn w / cm) - nI (woN (fun v => hs (s (104 + 8 * v)) (nI y)) bn w / (w - cm)), σ) := by
  have hA := wiN_le (q := fun v => hs (s (104 + 8 * v)) (nI y)) (f := bn) (c := 5300000) (n := w) (fun v hv => (hb v hv).1)
  have hB := woN_le (q := fun v => hs (s (104 + 8 * v)) (nI y)) (f := bn) (c := 5300000) (n := w) (fun v hv => (hb v hv).1)
  refine lp_fun (fun k => (lN (wiN (fun v => hs (s (104 + 8 * v)) (nI y)) bn k), lN (woN (fun v => hs (s (104 + 8 * v)) (nI y)) bn k), nI k)) w (by omega) (fun k rec hk => ?_) (fun rec => ?_)
  · unfold bX0_felt_42
    have q := hb k hk
    have q1 := q.1
    rw [wi_s, wo_s]
    simp (disch := first | omega | decide) only [lt_d, gbT, Option.bind_some, cT2_l, cT2_r, mO_n, mO_s, lit, litL, nb_t, nb_f, need_1, need_0, ix_n, inb_T, le_T, le_F, l_T, l_F, e_F, e_R, if_true, if_false, n_add, n_mul, n_sub, n_l, fM_1, fM_2, fM_3, fM_4, fM_6, fM_7, n6, hd k hk, hasX, q.2]
    cases hs (s (104 + 8 * k)) (nI y)
    · simp (disch := first | omega | decide) only [lt_d, gbT, Option.bind_some, cT2_l, cT2_r, mO_n, mO_s, lit, litL, nb_t, nb_f, need_1, need_0, ix_n, inb_T, le_T, le_F, l_T, l_F, e_F, e_R, if_true, if_false, n_add, n_mul, n_sub, n_l, fM_1, fM_2, fM_3, fM_4, fM_6, fM_7, l_add, b_f, Nat.add_zero]
    · simp (disch := first | omega | decide) only [lt_d, gbT, Option.bind_some, cT2_l, cT2_r, mO_n, mO_s, lit, litL, nb_t, nb_f, need_1, need_0, ix_n, inb_T, le_T, le_F, l_T, l_F, e_F, e_R, if_true, if_false, n_add, n_mul, n_sub, n_l, fM_1, fM_2, fM_3, fM_4, fM_6, fM_7, l_add, b_t, Nat.add_zero]
  · unfold bX0_felt_42
    simp (disch := first | omega | decide) only [lt_d, gbT, Option.bind_some, cT2_l, cT2_r, mO_n, mO_s, lit, litL, nb_t, nb_f, need_1, need_0, ix_n, inb_T, le_T, le_F, l_T, l_F, e_F, e_R, if_true, if_false, n_add, n_mul, n_sub, n_l, fM_1, fM_2, fM_3, fM_4, fM_6, fM_7, n6, nzL_n]
    rw [pk_lDiv (by omega) (by omega) (by omega), pk_lDiv (by omega) (by omega) (by omega), subI]
theorem feltM {τ : Mem} {N w cm y : Nat} {bn : Nat → Nat} (hN : 300000 ≤ N) (hw : w ≤ 40) (h0 : 0 < cm) (h1 : cm < w) (n7 : gI τ 1 1 = nI w) (hb : ∀ v, v < w → bn v ≤ 5300000 ∧ gI τ 1 (104 + 8 * v + 3) = nI (bn v)) :
    lp (bX5_felt_54 N τ (nI y) (nI cm)) N (nI 0, nI 0, nI 0) = some (nI (wiN (fun v => hs (gI τ 1 (104 + 8 * v)) (nI y)) bn w / cm) - nI (woN (fun v => hs (gI τ 1 (104 + 8 * v)) (nI y)) bn w / (w - cm)), τ) := by
  have hA := wiN_le (q := fun v => hs (gI τ 1 (104 + 8 * v)) (nI y)) (f := bn) (c := 5300000) (n := w) (fun v hv => (hb v hv).1)
  have hB := woN_le (q := fun v => hs (gI τ 1 (104 + 8 * v)) (nI y)) (f := bn) (c := 5300000) (n := w) (fun v hv => (hb v hv).1)
  refine lp_fun (fun k => (nI (wiN (fun v => hs (gI τ 1 (104 + 8 * v)) (nI y)) bn k), nI (woN (fun v => hs (gI τ 1 (104 + 8 * v)) (nI y)) bn k), nI k)) w (by omega) (fun k rec hk => ?_) (fun rec => ?_)
  · unfold bX5_felt_54
    have q := hb k hk
    have q1 := q.1
    rw [wi_s, wo_s]
    simp (disch := first | omega | decide) only [lt_d, gbT, Option.bind_some, cT2_l, cT2_r, mO_n, mO_s, lit, litL, nb_t, nb_f, need_1, need_0, ix_n, inb_T, le_T, le_F, l_T, l_F, e_F, e_R, if_true, if_false, n_add, n_mul, n_sub, n_l, fM_1, fM_2, fM_3, fM_4, fM_6, fM_7, n7, drawM (by omega : k < 40), hasM, q.2]
    cases hs (gI τ 1 (104 + 8 * k)) (nI y)
    · simp (disch := first | omega | decide) only [lt_d, gbT, Option.bind_some, cT2_l, cT2_r, mO_n, mO_s, lit, litL, nb_t, nb_f, need_1, need_0, ix_n, inb_T, le_T, le_F, l_T, l_F, e_F, e_R, if_true, if_false, n_add, n_mul, n_sub, n_l, fM_1, fM_2, fM_3, fM_4, fM_6, fM_7, b_f, Nat.add_zero]
    · simp (disch := first | omega | decide) only [lt_d, gbT, Option.bind_some, cT2_l, cT2_r, mO_n, mO_s, lit, litL, nb_t, nb_f, need_1, need_0, ix_n, inb_T, le_T, le_F, l_T, l_F, e_F, e_R, if_true, if_false, n_add, n_mul, n_sub, n_l, fM_1, fM_2, fM_3, fM_4, fM_6, fM_7, b_t, Nat.add_zero]
  · unfold bX5_felt_54
    simp (disch := first | omega | decide) only [lt_d, gbT, Option.bind_some, cT2_l, cT2_r, mO_n, mO_s, lit, litL, nb_t, nb_f, need_1, need_0, ix_n, inb_T, le_T, le_F, l_T, l_F, e_F, e_R, if_true, if_false, n_add, n_mul, n_sub, n_l, fM_1, fM_2, fM_3, fM_4, fM_6, fM_7, n7, nzI_n]
    rw [n_div (by omega) (by omega) (by omega), n_div (by omega) (by omega) (by omega)]
theorem inF1 (N : Nat) (σ : Mem) (z : Int64) : fX0_in N σ (lN 0) (lN 1) z = some (nI 0) := by
  unfold fX0_in
  rw [if_pos ((pk_lLT (by omega) (by omega)).mpr (by omega))]; rfl
theorem inF2 (N : Nat) (σ : Mem) {w : Nat} (h1 : 1 ≤ w) (hw : w ≤ 40) : fX0_in N σ (lN w) (lN 1) (lN (w - 1)) = some (nI 0) := by
  unfold fX0_in
  rw [if_neg (fun q => absurd ((pk_lLT (by omega) (by omega)).mp q) (by omega)), if_pos ((pk_lLT (by omega) (by omega)).mpr (by omega))]; rfl
theorem inF3 (N : Nat) (σ : Mem) {w c : Nat} (h1 : 1 ≤ c) (hc : c < w) (hw : w ≤ 40) : fX0_in N σ (lN c) (lN 1) (lN (w - 1)) = some (nI 1) := by
  unfold fX0_in
  rw [if_neg (fun q => absurd ((pk_lLT (by omega) (by omega)).mp q) (by omega)), if_neg (fun q => absurd ((pk_lLT (by omega) (by omega)).mp q) (by omega))]; rfl
theorem felt_X {σ : Mem} {N w y : Nat} {s : Nat → Int32} {cm : Nat} (hy : y < 12) (hw : w ≤ 40) (n6 : gI σ 1 1 = nI w) (hcm : fX0_cameOf N σ (nI y) = some (nI cm)) (hc : cm ≤ w) : fX0_felt N σ (nI y) = if cm = 0 ∨ cm = w then some (cod 3, erX σ 3) else lp (bX0_felt_42 N σ (nI y) (nI cm)) N (lN 0, lN 0, nI 0) := by
  have hi : inP (nI y) 12 = true := by
    unfold inP
    simp only [l_F (Nat.zero_le y) (by omega : y < 2147483648), l_T hy (by omega)]
    rfl
  unfold fX0_felt
  rw [isNuX, hi, nb_t, Option.bind_some, need_1, Option.bind_some, cT2_l, hcm, Option.bind_some, n6, n_l (by omega : cm < 2147483648)]
  by_cases e0 : cm = 0
  · subst e0
    rw [if_pos (Or.inl rfl), show fX0_in N σ (lN 0) (1 : Int64) ((nI w - (1 : Int32)).toInt64) = some (nI 0) from inF1 N σ _, Option.bind_some, show fX0_need N σ (nI 0) (3 : Int32) = _ from need_0 N σ 3, Option.bind_some, cT2_r]
    exact finds_n N σ (by decide)
  · have h1 : 1 ≤ w := by omega
    have hw1 : (nI w - (1 : Int32)).toInt64 = lN (w - 1) := by
      rw [show nI w - (1 : Int32) = nI (w - 1) from n_sub h1, n_l (by omega)]
    rw [hw1]
    by_cases ew : cm = w
    · subst ew
      rw [if_pos (Or.inr rfl), show fX0_in N σ (lN cm) (1 : Int64) (lN (cm - 1)) = some (nI 0) from inF2 N σ h1 hw, Option.bind_some, show fX0_need N σ (nI 0) (3 : Int32) = _ from need_0 N σ 3, Option.bind_some, cT2_r]
      exact finds_n N σ (by decide)
    · rw [if_neg (by omega), show fX0_in N σ (lN cm) (1 : Int64) (lN (w - 1)) = some (nI 1) from inF3 N σ (by omega) (by omega) hw, Option.bind_some, need_1, Option.bind_some, cT2_l]
      rfl
theorem felt_M {τ : Mem} {N w y cm : Nat} (hy : y < 12) (hw : w ≤ 40) (n7 : gI τ 1 1 = nI w) (hcm : fX5_timesOf N τ (nI y) = some (nI cm)) (hc : cm ≤ w) : fX5_felt N τ (nI y) = if cm = 0 ∨ cm = w then some (cod 3, erM τ 3) else lp (bX5_felt_54 N τ (nI y) (nI cm)) N (nI 0, nI 0, nI 0) := by
  have hi : inP (nI y) 12 = true := by
    unfold inP
    simp only [l_F (Nat.zero_le y) (by omega : y < 2147483648), l_T hy (by omega)]
    rfl
  have hI : fX5_isIn N τ (nI y).toInt64 (0 : Int64) (11 : Int64) = some (nb (inP (nI y) 12)) := by
    rw [← inR_P (nI y) (b := 11) (by decide)]; exact isIn_R N τ (nI y) (a := 0) (b := 11) (by decide) (by decide)
  unfold fX5_felt
  rw [hI, hi, nb_t, Option.bind_some, if_neg (show ¬ nI 1 = (0 : Int32) by decide), hcm, Option.bind_some, n7]
  by_cases e0 : cm = 0
  · subst e0
    rw [if_pos (show nI 0 = (0 : Int32) from rfl), if_pos (Or.inl rfl)]
    exact congrArg (fun z => Option.bind z (fun q7 : Int32 × Mem => some (q7.1, q7.2))) (fM_4 N τ)
  · rw [if_neg (show ¬ nI cm = (0 : Int32) from nI_ne0 (by omega) (by omega))]
    by_cases ew : cm = w
    · subst ew
      rw [if_pos rfl, if_pos (Or.inr rfl)]
      exact congrArg (fun z => Option.bind z (fun q7 : Int32 × Mem => some (q7.1, q7.2))) (fM_4 N τ)
    · rw [if_neg (fun q => ew ((nI_eq (by omega) (by omega)).mp q)), if_neg (by omega)]
      rfl
theorem op_felt {σ τ : Mem} (h : R σ τ) {N : Nat} (hN : 300000 ≤ N) (x : Int32) : Op σ τ (fX0_felt N σ x) (fX5_felt N τ x) := by
  have h' := h
  obtain ⟨a, ⟨p, w, b, hn, hru, hg, hap, hl, hh, hb⟩, c, d, e, f, g, i, j, k⟩ := h'
  obtain ⟨n1, n2, n3, n4, n5, n6, n7, n8, n9, n10⟩ := hn
  cases hx : inP x 12 with
  | false =>
    unfold fX0_felt fX5_felt
    rw [isNuX]
    simp (disch := first | omega | decide) only [lt_d, gbT, Option.bind_some, cT2_l, cT2_r, mO_n, mO_s, lit, litL, nb_t, nb_f, need_1, need_0, ix_n, inb_T, le_T, le_F, l_T, l_F, e_F, e_R, if_true, if_false, n_add, n_mul, n_sub, n_l, fM_1, fM_2, fM_3, fM_4, fM_6, fM_7, isIn_R, inR_P, hx]
    exact Op.err h (by decide) (finds_n N σ (by decide)) rfl
  | true =>
    obtain ⟨y, hy, rfl⟩ := inP_T (by decide) hx
    have hc := cntB_le (fun v => hs (gI τ 1 (104 + 8 * v)) (nI y)) w
    rw [felt_X (s := gI τ 1) hy n2 n6 (cameX hN n2 n6 hb.draw (nI y)) hc, felt_M hy n2 n7 (timesM hN n2 n7 (nI y)) hc]
    generalize cntB (fun v => hs (gI τ 1 (104 + 8 * v)) (nI y)) w = cm at hc ⊢
    by_cases e0 : cm = 0 ∨ cm = w
    · rw [if_pos e0, if_pos e0]
      exact Op.err h (by decide) rfl rfl
    · rw [if_neg e0, if_neg e0]
      obtain ⟨bn, hbn⟩ : ∃ bn : Nat → Nat, ∀ v, v < w → bn v ≤ 5300000 ∧ gI τ 1 (104 + 8 * v + 3) = nI (bn v) ∧ gI σ 23 v = nI (bn v) := ⟨fun v => ix (gI τ 1 (104 + 8 * v + 3)), fun v hv => by
        obtain ⟨q1, n, q2, q3⟩ := hb v hv
        have q4 := q1 3 (by omega)
        rw [q3] at q4
        have q3 : gI σ 23 v = nI n := q3
        have : ix (gI τ 1 (104 + 8 * v + 3)) = n := by rw [← q4, ix_n (by omega)]
        show ix _ ≤ _ ∧ _ = nI (ix _) ∧ _ = nI (ix _)
        rw [this]
        exact ⟨q2, q4.symm, q3⟩⟩
      rw [feltX (y := y) (s := gI τ 1) hN n2 (by omega) (by omega : cm < w) n6 hb.draw (bn := bn) (fun v hv => ⟨(hbn v hv).1, (hbn v hv).2.2⟩), feltM (y := y) hN n2 (by omega) (by omega : cm < w) n7 (bn := bn) (fun v hv => ⟨(hbn v hv).1, (hbn v hv).2.1⟩)]
      exact ⟨_, σ, τ, rfl, rfl, h⟩
