/-! WHAT PEOPLE LIKE: both sides -/
set_option maxRecDepth 100000
def linB (r : Nat) : Bool := decide (r % 16 = 15) || decide (r / 16 % 16 = 15) || decide (r / 256 % 16 = 15)
def colB (r c : Nat) : Bool := decide (bit r c + bit r (c + 4) + bit r (c + 8) = 3)
def colsB (r : Nat) : Bool := colB r 0 || colB r 1 || colB r 2 || colB r 3
theorem drw_eq (r : Nat) : drw r = if linB r then 20 else if colsB r then 10 else 0 := by
  unfold drw linB colsB colB
  simp only [Bool.or_eq_true, decide_eq_true_eq, or_assoc, Nat.zero_add, Nat.reduceAdd]
def onlV (x : Int32) : Int32 := if (x &&& (-16 : Int32)) = (0 : Int32) then (1 : Int32) else (if (x &&& (-241 : Int32)) = (0 : Int32) then (1 : Int32) else (if (x &&& (-3841 : Int32)) = (0 : Int32) then (1 : Int32) else (0 : Int32)))
theorem lin_t : (List.range 4096).all (fun r => !(pcn r == 4) || (decide (onlV (nI r) = nb (linB r)) && !(linB r && colsB r))) = true := by decide +kernel
theorem lin_n {r : Nat} (hr : r < 4096) (hp : pcn r = 4) : onlV (nI r) = nb (linB r) ∧ (linB r && colsB r) = false := by
  have h := all_of lin_t hr
  simp only [hp, beq_self_eq_true, Bool.not_true, Bool.false_or, Bool.and_eq_true, decide_eq_true_eq, Bool.not_eq_true'] at h
  exact h
theorem col_t : (List.range 4096).all (fun r => (List.range 4).all (fun c => decide (pcn (r &&& 273 * 2 ^ c) = bit r c + bit r (c + 4) + bit r (c + 8)) && (decide (r / 2 ^ c &&& 273 = 273) == colB r c) && decide (r / 2 ^ (4 * c) &&& 15 = r / 2 ^ (4 * c) % 16))) = true := by decide +kernel
theorem col_n {r c : Nat} (hr : r < 4096) (hc : c < 4) : pcn (r &&& 273 * 2 ^ c) = bit r c + bit r (c + 4) + bit r (c + 8) ∧ (decide (r / 2 ^ c &&& 273 = 273) = colB r c) ∧ r / 2 ^ (4 * c) &&& 15 = r / 2 ^ (4 * c) % 16 := by
  have h := all_of (all_of col_t hr) hc
  simp only [Bool.and_eq_true, decide_eq_true_eq, beq_iff_eq] at h
  exact ⟨h.1.1, h.1.2, h.2⟩
theorem p38_t : (List.range 4096).all (fun r => decide (pcn (r / 2 ^ 8) = pcn (r &&& 3840))) = true := by decide +kernel
theorem shl_n {a k : Nat} (hk : k < 32) (h : a * 2 ^ k < 4294967296) : nI a <<< (nI k &&& nI 31) = nI (a * 2 ^ k) := pk_shlN (nI k &&& nI 31) k (sh_l k hk) h
theorem hs_n {r k : Nat} (hr : r < 2147483648) (hk : k < 32) : hs (nI r) (nI k) = decide (bit r k = 1) := by
  have h : ((nI r >>> (nI k &&& 31)) &&& (1 : Int32)) = nI (bit r k) := has_n hr hk
  have hb := bit_le r k
  unfold hs
  rw [h]
  by_cases q : bit r k = 1
  · rw [q]; rfl
  · rw [decide_eq_false q, decide_eq_false (show ¬ nI (bit r k) = (1 : Int32) from fun z => q ((nI_eq (a := bit r k) (b := 1) (by omega) (by omega)).mp z))]
/-! the reference -/
section M
variable {τ : Mem} {N : Nat}
theorem onesM (hb : ∀ r, r < 4096 → gI τ 6 r = nI (pcn r)) {q : Nat} (hq : q < 4096) : fX5_ones N τ (nI q) = some (nI (pcn q)) := by
  unfold fX5_ones
  simp (disch := first | omega | decide) only [lt_d, gbT, Option.bind_some, cT2_l, cT2_r, mO_n, mO_s, lit, litL, nb_t, nb_f, need_1, need_0, ix_n, inb_T, le_T, le_F, l_T, l_F, e_F, e_R, if_true, if_false, n_add, n_mul, n_sub, n_l, fM_1, fM_2, fM_3, fM_4, fM_6, fM_7, hb q hq]
theorem latM {w : Nat} (hw : w ≤ 40) (h1 : gI τ 1 1 = nI w) : fX5_latest N τ = some (latV (gI τ 1)) := by
  unfold fX5_latest latV
  rw [h1, ix_n (by omega)]
  by_cases e : w = 0
  · subst e
    rw [if_pos (show nI 0 = (0 : Int32) from rfl), if_pos rfl]; rfl
  · rw [if_neg (show ¬ nI w = (0 : Int32) from nI_ne0 (by omega) (by omega)), if_neg (show ¬ nI w = nI 0 from nI_ne0 (by omega) (by omega))]
    simp (disch := first | omega | decide) only [lt_d, gbT, Option.bind_some, cT2_l, cT2_r, mO_n, mO_s, lit, litL, nb_t, nb_f, need_1, need_0, ix_n, inb_T, le_T, le_F, l_T, l_F, e_F, e_R, if_true, if_false, n_add, n_mul, n_sub, n_l, fM_1, fM_2, fM_3, fM_4, fM_6, fM_7]
theorem thrM (hN : 300000 ≤ N) (hb : ∀ r, r < 4096 → gI τ 6 r = nI (pcn r)) {r : Nat} (hr : r < 4096) : fX5_isThreeUp N τ (nI r) = some (nb (colsB r)) := by
  have acc : Nat → Bool := fun k => (List.range k).any (fun c => colB r c)
  have st : ∀ (rec : Int32 × Int32 → Option Int32) (b : Bool) (c : Nat), c < 4 → bX5_isThreeUp_4 N τ (nI r) rec (nb b, nI c) = rec (nb (b || colB r c), nI (c + 1)) := by
    intro rec b c hc
    unfold bX5_isThreeUp_4
    have h2 : r &&& 273 * 2 ^ c < 4096 := Nat.lt_of_le_of_lt Nat.and_le_left hr
    have h3 : 273 * 2 ^ c < 4294967296 := by
      have : c = 0 ∨ c = 1 ∨ c = 2 ∨ c = 3 := by omega
      rcases this with rfl | rfl | rfl | rfl <;> decide
    cases b with
    | true =>
      simp (disch := first | omega | decide) only [lt_d, gbT, Option.bind_some, cT2_l, cT2_r, mO_n, mO_s, lit, litL, nb_t, nb_f, need_1, need_0, ix_n, inb_T, le_T, le_F, l_T, l_F, e_F, e_R, if_true, if_false, n_add, n_mul, n_sub, n_l, fM_1, fM_2, fM_3, fM_4, fM_6, fM_7]
      rw [Bool.true_or]; rfl
    | false =>
      have hsh : nI r &&& nI 273 <<< (nI c &&& nI 31) = nI (r &&& 273 * 2 ^ c) := by rw [shl_n (by omega) h3, and_n]
      simp (disch := first | omega | decide) only [lt_d, gbT, Option.bind_some, cT2_l, cT2_r, mO_n, mO_s, lit, litL, nb_t, nb_f, need_1, need_0, ix_n, inb_T, le_T, le_F, l_T, l_F, e_F, e_R, if_true, if_false, n_add, n_mul, n_sub, n_l, fM_1, fM_2, fM_3, fM_4, fM_6, fM_7, hsh, onesM hb h2, (col_n hr hc).1]
      rw [Bool.false_or]
      unfold colB
      by_cases q : bit r c + bit r (c + 4) + bit r (c + 8) = 3
      · rw [q, decide_eq_true rfl]
        simp (disch := first | omega | decide) only [lt_d, gbT, Option.bind_some, cT2_l, cT2_r, mO_n, mO_s, lit, litL, nb_t, nb_f, need_1, need_0, ix_n, inb_T, le_T, le_F, l_T, l_F, e_F, e_R, if_true, if_false, n_add, n_mul, n_sub, n_l, fM_1, fM_2, fM_3, fM_4, fM_6, fM_7]
      · have := bit_le r c; have := bit_le r (c + 4); have := bit_le r (c + 8)
        rw [decide_eq_false q]
        simp (disch := first | omega | decide) only [lt_d, gbT, Option.bind_some, cT2_l, cT2_r, mO_n, mO_s, lit, litL, nb_t, nb_f, need_1, need_0, ix_n, inb_T, le_T, le_F, l_T, l_F, e_F, e_R, if_true, if_false, n_add, n_mul, n_sub, n_l, fM_1, fM_2, fM_3, fM_4, fM_6, fM_7]
  obtain ⟨M, hM⟩ : ∃ M, N = M + 5 := ⟨N - 5, by omega⟩
  have st' : ∀ (n : Nat) (b : Bool) (c : Nat), c < 4 → lp (bX5_isThreeUp_4 N τ (nI r)) (n + 1) (nb b, nI c) = lp (bX5_isThreeUp_4 N τ (nI r)) n (nb (b || colB r c), nI (c + 1)) := fun n b c hc => st _ b c hc
  have en : ∀ (n : Nat) (b : Bool), lp (bX5_isThreeUp_4 N τ (nI r)) (n + 1) (nb b, nI 4) = some (nb b) := by
    intro n b
    show bX5_isThreeUp_4 N τ (nI r) _ (nb b, nI 4) = _
    unfold bX5_isThreeUp_4
    simp (disch := first | omega | decide) only [lt_d, gbT, Option.bind_some, cT2_l, cT2_r, mO_n, mO_s, lit, litL, nb_t, nb_f, need_1, need_0, ix_n, inb_T, le_T, le_F, l_T, l_F, e_F, e_R, if_true, if_false, n_add, n_mul, n_sub, n_l, fM_1, fM_2, fM_3, fM_4, fM_6, fM_7, zbn]
  unfold fX5_isThreeUp
  have e0 : lp (bX5_isThreeUp_4 N τ (nI r)) N ((0 : Int32), (0 : Int32)) = lp (bX5_isThreeUp_4 N τ (nI r)) (M + 4 + 1) (nb false, nI 0) := by
    rw [show M + 4 + 1 = N by omega]; rfl
  rw [e0, st' (M + 4) _ 0 (by omega), st' (M + 3) _ 1 (by omega), st' (M + 2) _ 2 (by omega), st' (M + 1) _ 3 (by omega), en]
  rfl
theorem fanM (hN : 300000 ≤ N) (hb : ∀ r, r < 4096 → gI τ 6 r = nI (pcn r)) (hra : ∀ r, r < 495 → gI τ 4 r = nI (rowT r)) {w : Nat} (hw : w ≤ 40) (h1 : gI τ 1 1 = nI w) {k m r sd : Nat} (hk : k < 8) (hm : m ≤ 99999) (hr : r < 495) (hsd : sd ≤ 99) : fX5_fancied N τ (nI k) (nI m) (nI r) (nI sd) = some (nI (fanN k m r (rowT r) sd (latN (gI τ 1)))) := by
  have hrt := rowT_lt hr
  have hpc := rowT_pc hr
  have a63 : rowT r &&& 63 < 4096 := Nat.lt_of_le_of_lt Nat.and_le_left hrt
  have a38 : rowT r &&& 3840 < 4096 := Nat.lt_of_le_of_lt Nat.and_le_left hrt
  obtain ⟨ml, hml, el, el2⟩ := and_l (rowT r) (latV (gI τ 1)) hrt
  have hml' : pcn ml = pcn (rowT r &&& latN (gI τ 1)) := by rw [el2]; rfl
  have p1 := pcn_le (rowT r &&& 63); have p2 := pcn_le (rowT r &&& 3840); have p3 := pcn_le ml
  unfold fX5_fancied
  rw [inb_T hr (by decide), gbT, ix_n (by omega), lt_d, hra r hr]
  have h8 : k = 0 ∨ k = 1 ∨ k = 2 ∨ k = 3 ∨ k = 4 ∨ k = 5 ∨ k = 6 ∨ k = 7 := by omega
  rcases h8 with rfl | rfl | rfl | rfl | rfl | rfl | rfl | rfl
  · rfl
  · simp (disch := first | omega | decide) only [lt_d, gbT, Option.bind_some, cT2_l, cT2_r, mO_n, mO_s, lit, litL, nb_t, nb_f, need_1, need_0, ix_n, inb_T, le_T, le_F, l_T, l_F, e_F, e_R, if_true, if_false, n_add, n_mul, n_sub, n_l, fM_1, fM_2, fM_3, fM_4, fM_6, fM_7, and_n, onesM hb a63]
    rfl
  · have ho : fX5_isOneLine N τ (nI (rowT r)) = some (nb (linB (rowT r))) := congrArg some (lin_n hrt hpc).1
    simp (disch := first | omega | decide) only [lt_d, gbT, Option.bind_some, cT2_l, cT2_r, mO_n, mO_s, lit, litL, nb_t, nb_f, need_1, need_0, ix_n, inb_T, le_T, le_F, l_T, l_F, e_F, e_R, if_true, if_false, n_add, n_mul, n_sub, n_l, fM_1, fM_2, fM_3, fM_4, fM_6, fM_7, ho, thrM hN hb hrt]
    show _ = some (nI (sd + drw (rowT r)))
    rw [drw_eq]
    have hx := (lin_n hrt hpc).2
    revert hx
    cases linB (rowT r) <;> cases colsB (rowT r) <;> intro hx
    · simp (disch := first | omega | decide) only [lt_d, gbT, Option.bind_some, cT2_l, cT2_r, mO_n, mO_s, lit, litL, nb_t, nb_f, need_1, need_0, ix_n, inb_T, le_T, le_F, l_T, l_F, e_F, e_R, if_true, if_false, n_add, n_mul, n_sub, n_l, fM_1, fM_2, fM_3, fM_4, fM_6, fM_7, b_f, Nat.add_zero]
    · simp (disch := first | omega | decide) only [lt_d, gbT, Option.bind_some, cT2_l, cT2_r, mO_n, mO_s, lit, litL, nb_t, nb_f, need_1, need_0, ix_n, inb_T, le_T, le_F, l_T, l_F, e_F, e_R, if_true, if_false, n_add, n_mul, n_sub, n_l, fM_1, fM_2, fM_3, fM_4, fM_6, fM_7, b_f, b_t, Nat.add_zero]
    · simp (disch := first | omega | decide) only [lt_d, gbT, Option.bind_some, cT2_l, cT2_r, mO_n, mO_s, lit, litL, nb_t, nb_f, need_1, need_0, ix_n, inb_T, le_T, le_F, l_T, l_F, e_F, e_R, if_true, if_false, n_add, n_mul, n_sub, n_l, fM_1, fM_2, fM_3, fM_4, fM_6, fM_7, b_f, b_t, Nat.add_zero]
    · cases hx
  · rfl
  · simp (disch := first | omega | decide) only [lt_d, gbT, Option.bind_some, cT2_l, cT2_r, mO_n, mO_s, lit, litL, nb_t, nb_f, need_1, need_0, ix_n, inb_T, le_T, le_F, l_T, l_F, e_F, e_R, if_true, if_false, n_add, n_mul, n_sub, n_l, fM_1, fM_2, fM_3, fM_4, fM_6, fM_7, latM hw h1, el, onesM hb hml, hml']
    rfl
  · simp (disch := first | omega | decide) only [lt_d, gbT, Option.bind_some, cT2_l, cT2_r, mO_n, mO_s, lit, litL, nb_t, nb_f, need_1, need_0, ix_n, inb_T, le_T, le_F, l_T, l_F, e_F, e_R, if_true, if_false, n_add, n_mul, n_sub, n_l, fM_1, fM_2, fM_3, fM_4, fM_6, fM_7, and_n, onesM hb a63, hasM, hs_n]
    show _ = some (nI ((sd + 2 * pcn (rowT r &&& 63)) * (if bit (rowT r) 7 = 0 then 1 else 2)))
    have hb7 := bit_le (rowT r) 7
    by_cases q : bit (rowT r) 7 = 1
    · rw [decide_eq_true q, if_neg (by omega)]
      simp (disch := first | omega | decide) only [lt_d, gbT, Option.bind_some, cT2_l, cT2_r, mO_n, mO_s, lit, litL, nb_t, nb_f, need_1, need_0, ix_n, inb_T, le_T, le_F, l_T, l_F, e_F, e_R, if_true, if_false, n_add, n_mul, n_sub, n_l, fM_1, fM_2, fM_3, fM_4, fM_6, fM_7]
    · rw [decide_eq_false q, if_pos (by omega)]
      simp (disch := first | omega | decide) only [lt_d, gbT, Option.bind_some, cT2_l, cT2_r, mO_n, mO_s, lit, litL, nb_t, nb_f, need_1, need_0, ix_n, inb_T, le_T, le_F, l_T, l_F, e_F, e_R, if_true, if_false, n_add, n_mul, n_sub, n_l, fM_1, fM_2, fM_3, fM_4, fM_6, fM_7]
  · simp (disch := first | omega | decide) only [lt_d, gbT, Option.bind_some, cT2_l, cT2_r, mO_n, mO_s, lit, litL, nb_t, nb_f, need_1, need_0, ix_n, inb_T, le_T, le_F, l_T, l_F, e_F, e_R, if_true, if_false, n_add, n_mul, n_sub, n_l, fM_1, fM_2, fM_3, fM_4, fM_6, fM_7, and_n, onesM hb a38]
    rfl
  · show _ = some (nI (if m ≤ r then 0 else 1 + pcn (rowT r &&& 3840)))
    by_cases q : m ≤ r
    · simp (disch := first | omega | decide) only [lt_d, gbT, Option.bind_some, cT2_l, cT2_r, mO_n, mO_s, lit, litL, nb_t, nb_f, need_1, need_0, ix_n, inb_T, le_T, le_F, l_T, l_F, e_F, e_R, if_true, if_false, n_add, n_mul, n_sub, n_l, fM_1, fM_2, fM_3, fM_4, fM_6, fM_7, if_pos q]
    · simp (disch := first | omega | decide) only [lt_d, gbT, Option.bind_some, cT2_l, cT2_r, mO_n, mO_s, lit, litL, nb_t, nb_f, need_1, need_0, ix_n, inb_T, le_T, le_F, l_T, l_F, e_F, e_R, if_true, if_false, n_add, n_mul, n_sub, n_l, fM_1, fM_2, fM_3, fM_4, fM_6, fM_7, and_n, onesM hb a38, if_neg q]
end M
/-! the component -/
section X
variable {σ : Mem} {N : Nat}
theorem latX {w : Nat} {s : Nat → Int32} (hw : w ≤ 40) (h1 : gI σ 1 1 = nI w) (h2 : s 1 = nI w) (hb : ∀ v, v < w → gI σ 20 v = s (104 + 8 * v)) : fX1_latest_1 N σ = some (latV s) := by
  unfold fX1_latest_1 latV
  rw [h1, h2, ix_n (by omega)]
  by_cases e : w = 0
  · subst e
    rw [if_pos (show nI 0 = (0 : Int32) from rfl), if_pos rfl]; rfl
  · rw [if_neg (show ¬ nI w = (0 : Int32) from nI_ne0 (by omega) (by omega)), if_neg (show ¬ nI w = nI 0 from nI_ne0 (by omega) (by omega))]
    simp (disch := first | omega | decide) only [lt_d, gbT, Option.bind_some, cT2_l, cT2_r, mO_n, mO_s, lit, litL, nb_t, nb_f, need_1, need_0, ix_n, inb_T, le_T, le_F, l_T, l_F, e_F, e_R, if_true, if_false, n_add, n_mul, n_sub, n_l, fM_1, fM_2, fM_3, fM_4, fM_6, fM_7, hb (w - 1) (by omega)]
theorem nb_or (a b : Bool) : nb a ||| nb b = nb (a || b) := by cases a <;> cases b <;> rfl
theorem linX (hN : 300000 ≤ N) {r sd a : Nat} (hr : r < 4096) (h0 : gI σ 63 0 = nI r) (h3 : gI σ 63 3 = nI sd) (hd : (dC 8 16 σ a).isSome = true) : fX9_likes N σ a = some (nI sd + (if nb (linB r) = (0 : Int32) then (if nb (colsB r) = (0 : Int32) then (0 : Int32) else (10 : Int32)) else (20 : Int32))) := by
  obtain ⟨M, hM⟩ : ∃ M, N = M + 6 := ⟨N - 6, by omega⟩
  have q15 : ∀ k, k < 3 → (if ((nI r >>> (nI (4 * k) &&& 31)) &&& (15 : Int32)) = (15 : Int32) then (1 : Int32) else (0 : Int32)) = nb (decide (r / 2 ^ (4 * k) % 16 = 15)) := by
    intro k hk
    have h := shr_n (r := r) (k := 4 * k) (by omega) (by omega)
    have h : nI r >>> (nI (4 * k) &&& 31) = nI (r / 2 ^ (4 * k)) := h
    rw [h, show (15 : Int32) = nI 15 from rfl, and_n, (col_n hr (by omega : k < 4)).2.2]
    by_cases q : r / 2 ^ (4 * k) % 16 = 15
    · rw [q, decide_eq_true rfl, if_pos rfl]; rfl
    · rw [decide_eq_false q, if_neg (fun z => q ((nI_eq (by omega) (by omega)).mp z))]; rfl
  have q27 : ∀ k, k < 4 → (if ((nI r >>> (nI k &&& 31)) &&& (273 : Int32)) = (273 : Int32) then (1 : Int32) else (0 : Int32)) = nb (colB r k) := by
    intro k hk
    have h : nI r >>> (nI k &&& 31) = nI (r / 2 ^ k) := shr_n (r := r) (k := k) (by omega) (by omega)
    have hlt : r / 2 ^ k &&& 273 ≤ 273 := Nat.and_le_right
    rw [h, show (273 : Int32) = nI 273 from rfl, and_n, ← (col_n hr hk).2.1]
    by_cases q : r / 2 ^ k &&& 273 = 273
    · rw [q, decide_eq_true rfl, if_pos rfl]; rfl
    · rw [decide_eq_false q, if_neg (fun z => q ((nI_eq (by omega) (by omega)).mp z))]; rfl
  have r1 : ∀ (rec : Int32 × Int32 → Option Int32) (l b : Bool) (k : Nat), k < 4 → bX9_likes_47 N σ a (nb l) rec (nb b, nI k) = rec (nb (b || colB r k), nI (k + 1)) := by
    intro rec l b k hk
    unfold bX9_likes_47
    rw [if_neg (show ¬ (4 : Int32) ≤ nI k from nI_ge (a := k) (b := 4) hk (by decide)), lt_d, h0, q27 k hk, nb_or]
    exact congrArg (fun z => rec (nb (b || colB r k), z)) (nI_1 k)
  have s1 : ∀ (n : Nat) (l b : Bool) (k : Nat), k < 4 → lp (bX9_likes_47 N σ a (nb l)) (n + 1) (nb b, nI k) = lp (bX9_likes_47 N σ a (nb l)) n (nb (b || colB r k), nI (k + 1)) := fun n l b k hk => r1 _ l b k hk
  have r2 : ∀ (rec : Int32 × Int32 → Option Int32) (l b : Bool), bX9_likes_47 N σ a (nb l) rec (nb b, nI 4) = some (nI sd + (if nb l = (0 : Int32) then (if nb b = (0 : Int32) then (0 : Int32) else (10 : Int32)) else (20 : Int32))) := by
    intro rec l b
    unfold bX9_likes_47
    rw [if_pos (show (4 : Int32) ≤ nI 4 by decide), hd, gbT]
    unfold fX7_likes
    rw [Option.bind_some, h3]
  have s2 : ∀ (n : Nat) (l b : Bool), lp (bX9_likes_47 N σ a (nb l)) (n + 1) (nb b, nI 4) = some (nI sd + (if nb l = (0 : Int32) then (if nb b = (0 : Int32) then (0 : Int32) else (10 : Int32)) else (20 : Int32))) := fun n l b => r2 _ l b
  have r3 : ∀ (rec : Int32 × Int32 → Option Int32) (b : Bool) (k : Nat), k < 3 → bX9_likes_7 N σ a (0 : Int32) rec (nb b, nI k) = rec (nb (b || decide (r / 2 ^ (4 * k) % 16 = 15)), nI (k + 1)) := by
    intro rec b k hk
    unfold bX9_likes_7
    rw [if_neg (show ¬ (3 : Int32) ≤ nI k from nI_ge (a := k) (b := 3) hk (by decide)), lt_d, h0, show (4 : Int32) * nI k = nI (4 * k) from n_mul 4 k, q15 k hk, nb_or]
    exact congrArg (fun z => rec (nb (b || decide (r / 2 ^ (4 * k) % 16 = 15)), z)) (nI_1 k)
  have s3 : ∀ (n : Nat) (b : Bool) (k : Nat), k < 3 → lp (bX9_likes_7 N σ a (0 : Int32)) (n + 1) (nb b, nI k) = lp (bX9_likes_7 N σ a (0 : Int32)) n (nb (b || decide (r / 2 ^ (4 * k) % 16 = 15)), nI (k + 1)) := fun n b k hk => r3 _ b k hk
  have r4 : ∀ (rec : Int32 × Int32 → Option Int32) (b : Bool), bX9_likes_7 N σ a (0 : Int32) rec (nb b, nI 3) = lp (bX9_likes_47 N σ a (nb b)) N ((0 : Int32), (0 : Int32)) := by
    intro rec b
    unfold bX9_likes_7
    rw [if_pos (show (3 : Int32) ≤ nI 3 by decide)]
  have s4 : ∀ (n : Nat) (b : Bool), lp (bX9_likes_7 N σ a (0 : Int32)) (n + 1) (nb b, nI 3) = lp (bX9_likes_47 N σ a (nb b)) N ((0 : Int32), (0 : Int32)) := fun n b => r4 _ b
  unfold fX9_likes
  have e0 : lp (bX9_likes_7 N σ a (0 : Int32)) N ((0 : Int32), (0 : Int32)) = lp (bX9_likes_7 N σ a (0 : Int32)) (M + 5 + 1) (nb false, nI 0) := by
    rw [show M + 5 + 1 = N by omega]; rfl
  have e1 : ∀ l, lp (bX9_likes_47 N σ a l) N ((0 : Int32), (0 : Int32)) = lp (bX9_likes_47 N σ a l) (M + 5 + 1) (nb false, nI 0) := by
    intro l
    rw [show M + 5 + 1 = N by omega]; rfl
  rw [e0, s3 (M + 5) _ 0 (by omega), s3 (M + 4) _ 1 (by omega), s3 (M + 3) _ 2 (by omega), s4, e1, s1 (M + 5) _ _ 0 (by omega), s1 (M + 4) _ _ 1 (by omega), s1 (M + 3) _ _ 2 (by omega), s1 (M + 2) _ _ 3 (by omega), s2]
  have hl : (((false || decide (r / 2 ^ (4 * 0) % 16 = 15)) || decide (r / 2 ^ (4 * 1) % 16 = 15)) || decide (r / 2 ^ (4 * 2) % 16 = 15)) = linB r := by
    unfold linB
    simp
  rw [hl]
  rfl
theorem fanX (hN : 300000 ≤ N) {a k m r row sd : Nat} {lv : Int32} (hC : gC σ a = some (.inr (8 + k, [.int (nI m)]))) (hk : k < 8) (hm : m ≤ 99999) (hr : r < 495) (hrow : row < 4096) (hpc : pcn row = 4) (hsd : sd ≤ 99) (h0 : gI σ 63 0 = nI row) (h1 : gI σ 63 1 = nI r) (h2 : gI σ 63 2 = lv) (h3 : gI σ 63 3 = nI sd) : dX_likes N σ a = some (nI (fanN k m r row sd lv.toBitVec.toNat)) := by
  have hd := dC_n hC hk
  have hds : (dC 8 16 σ a).isSome = true := by rw [hd]; rfl
  have a63 : row &&& 63 < 4096 := Nat.lt_of_le_of_lt Nat.and_le_left hrow
  obtain ⟨ml, hml, el, el2⟩ := and_l row lv hrow
  have hs8 : row / 2 ^ 8 < 4096 := by have := Nat.div_le_self row (2 ^ 8); omega
  have hsh : nI row >>> (nI 8 &&& nI 31) = nI (row / 2 ^ 8) := shr_n (by omega) (by omega)
  have p1 := pcn_le (row &&& 63); have p2 := pcn_le ml
  have f7 : fX7_likes N σ a = some (nI sd) := by unfold fX7_likes; rw [h3]
  have f8 : fX8_likes N σ a = some (nI (sd + 2 * pcn (row &&& 63))) := by
    unfold fX8_likes
    rw [hds]
    simp (disch := first | omega | decide) only [lt_d, gbT, Option.bind_some, cT2_l, cT2_r, mO_n, mO_s, lit, litL, nb_t, nb_f, need_1, need_0, ix_n, inb_T, le_T, le_F, l_T, l_F, e_F, e_R, if_true, if_false, n_add, n_mul, n_sub, n_l, fM_1, fM_2, fM_3, fM_4, fM_6, fM_7, f7, h0, and_n, bc_n N σ a63]
  have h38 : pcn (row / 2 ^ 8) = pcn (row &&& 3840) := of_decide_eq_true (all_of p38_t hrow)
  have f13 : fX13_likes N σ a = some (nI (1 + pcn (row &&& 3840))) := by
    unfold fX13_likes fX10_likes
    rw [hds]
    simp (disch := first | omega | decide) only [lt_d, gbT, Option.bind_some, cT2_l, cT2_r, mO_n, mO_s, lit, litL, nb_t, nb_f, need_1, need_0, ix_n, inb_T, le_T, le_F, l_T, l_F, e_F, e_R, if_true, if_false, n_add, n_mul, n_sub, n_l, fM_1, fM_2, fM_3, fM_4, fM_6, fM_7, h0, hsh, bc_n N σ hs8, h38]
  unfold dX_likes
  rw [hd, Option.bind_some]
  have h8 : k = 0 ∨ k = 1 ∨ k = 2 ∨ k = 3 ∨ k = 4 ∨ k = 5 ∨ k = 6 ∨ k = 7 := by omega
  rcases h8 with rfl | rfl | rfl | rfl | rfl | rfl | rfl | rfl
  · rw [if_pos rfl, f7]; rfl
  · rw [if_neg (by decide), if_pos rfl, f8]; rfl
  · rw [if_neg (by decide), if_neg (by decide), if_pos rfl, linX hN hrow h0 h3 hds]
    show _ = some (nI (sd + drw row))
    rw [drw_eq]
    have hx := (lin_n hrow hpc).2
    revert hx
    cases linB row <;> cases colsB row <;> intro hx
    · exact congrArg some (n_add sd 0)
    · exact congrArg some (n_add sd 10)
    · exact congrArg some (n_add sd 20)
    · cases hx
  · rw [if_neg (by decide), if_neg (by decide), if_neg (by decide), if_pos rfl]; rfl
  · rw [if_neg (by decide), if_neg (by decide), if_neg (by decide), if_neg (by decide), if_pos rfl]
    unfold fX11_likes
    rw [hds]
    simp (disch := first | omega | decide) only [lt_d, gbT, Option.bind_some, cT2_l, cT2_r, mO_n, mO_s, lit, litL, nb_t, nb_f, need_1, need_0, ix_n, inb_T, le_T, le_F, l_T, l_F, e_F, e_R, if_true, if_false, n_add, n_mul, n_sub, n_l, fM_1, fM_2, fM_3, fM_4, fM_6, fM_7, f7, h0, h2, el, bc_n N σ hml]
    rw [el2]; rfl
  · rw [if_neg (by decide), if_neg (by decide), if_neg (by decide), if_neg (by decide), if_neg (by decide), if_pos rfl]
    unfold fX12_likes
    rw [hds, hasX, h0, show hs (nI row) (7 : Int32) = decide (bit row 7 = 1) from hs_n (r := row) (k := 7) (by omega) (by omega)]
    show _ = some (nI ((sd + 2 * pcn (row &&& 63)) * (if bit row 7 = 0 then 1 else 2)))
    have hb7 := bit_le row 7
    by_cases q : bit row 7 = 1
    · rw [decide_eq_true q, if_neg (by omega)]
      simp (disch := first | omega | decide) only [lt_d, gbT, Option.bind_some, cT2_l, cT2_r, mO_n, mO_s, lit, litL, nb_t, nb_f, need_1, need_0, ix_n, inb_T, le_T, le_F, l_T, l_F, e_F, e_R, if_true, if_false, n_add, n_mul, n_sub, n_l, fM_1, fM_2, fM_3, fM_4, fM_6, fM_7, f8, Nat.mul_comm]
    · rw [decide_eq_false q, if_pos (by omega)]
      simp (disch := first | omega | decide) only [lt_d, gbT, Option.bind_some, cT2_l, cT2_r, mO_n, mO_s, lit, litL, nb_t, nb_f, need_1, need_0, ix_n, inb_T, le_T, le_F, l_T, l_F, e_F, e_R, if_true, if_false, n_add, n_mul, n_sub, n_l, fM_1, fM_2, fM_3, fM_4, fM_6, fM_7, f8, Nat.mul_one]
  · rw [if_neg (by decide), if_neg (by decide), if_neg (by decide), if_neg (by decide), if_neg (by decide), if_neg (by decide), if_pos rfl, f13]; rfl
  · rw [if_neg (by decide), if_neg (by decide), if_neg (by decide), if_neg (by decide), if_neg (by decide), if_neg (by decide), if_neg (by decide), if_pos rfl]
    unfold fX14_likes
    rw [hds, dI_n hC hk, h1]
    show _ = some (nI (if m ≤ r then 0 else 1 + pcn (row &&& 3840)))
    by_cases q : m ≤ r
    · simp (disch := first | omega | decide) only [lt_d, gbT, Option.bind_some, cT2_l, cT2_r, mO_n, mO_s, lit, litL, nb_t, nb_f, need_1, need_0, ix_n, inb_T, le_T, le_F, l_T, l_F, e_F, e_R, if_true, if_false, n_add, n_mul, n_sub, n_l, fM_1, fM_2, fM_3, fM_4, fM_6, fM_7, if_pos q]
    · simp (disch := first | omega | decide) only [lt_d, gbT, Option.bind_some, cT2_l, cT2_r, mO_n, mO_s, lit, litL, nb_t, nb_f, need_1, need_0, ix_n, inb_T, le_T, le_F, l_T, l_F, e_F, e_R, if_true, if_false, n_add, n_mul, n_sub, n_l, fM_1, fM_2, fM_3, fM_4, fM_6, fM_7, f13, if_neg q]
end X
