/-! WHAT IS CROSSED: the component -/
set_option maxRecDepth 100000
theorem Tr.c {C : Cel} : ∀ {d a : Nat} {E : Den}, Tr d C a E → ∀ v v' : Nat → Int32, (∀ k, k < 7 → v k = v' k) → E v = E v' := by
  intro d
  induction d with
  | zero => intro a E q; exact q.elim
  | succ d ih =>
    intro a E q v v' h
    rcases q with ⟨x, e, r⟩ | ⟨k, hk, e, r⟩ | ⟨sg, a1, a2, E1, E2, e, t1, t2, r⟩ | ⟨sg, a0, a1, a2, E0, E1, E2, e, t0, t1, t2, r⟩
    · subst r; rfl
    · subst r; exact h k hk
    · subst r
      show (if sg = 43 then E1 v + E2 v else if sg = 45 then E1 v - E2 v else E1 v * E2 v) = _
      rw [ih t1 v v' h, ih t2 v v' h]
    · subst r
      show (if E0 v ≤ 0 then E2 v else E1 v) = _
      rw [ih t0 v v' h, ih t1 v v' h, ih t2 v v' h]
theorem rem_n {k : Nat} (hk : k < 2147483648) : nI k - nI k / nI 2 * nI 2 = nI (k % 2) := pk_rem hk (by decide) (by decide)
theorem fSum_le (r : Nat) : ∀ k, fSum r k ≤ k * k
  | 0 => Nat.le_refl _
  | k + 1 => by
    have := fSum_le r k
    show fSum r k + _ ≤ (k + 1) * (k + 1)
    rw [Nat.add_mul, Nat.mul_add]
    split <;> omega
theorem fRun_le (r : Nat) : ∀ k, fRun r k ≤ k
  | 0 => Nat.le_refl _
  | k + 1 => by
    have := fRun_le r k
    show (if bit r k = 0 then 0 else fRun r k + 1) ≤ k + 1
    split <;> omega
theorem fLong_le (r : Nat) : ∀ k, fLong r k ≤ k
  | 0 => Nat.le_refl _
  | k + 1 => by
    have := fLong_le r k
    have h2 := fRun_le r (k + 1)
    show (if fLong r k < fRun r (k + 1) then fRun r (k + 1) else fLong r k) ≤ k + 1
    split <;> omega
theorem findsN {σ : Mem} {N row : Nat} (hN : 300000 ≤ N) (hr : row < 4096) (hp : pcn row = 4) (lv w : Int32) : ∃ f, fX4_finds N σ (nI row) lv w = some ((), wI σ 65 f) ∧ ∀ k, k < 7 → f k = if k = 6 then w else if k = 5 then nI (pcn (row &&& lv.toBitVec.toNat)) else nI (facT row k) := by
  obtain ⟨ml, hml, el, el2⟩ := and_l row lv hr
  have h0 := pcn_0 hp
  have hgr := (nl_n N σ hr h0).2
  refine ⟨upd (upd (upd (upd (upd (upd (upd (gI σ 65) 0 (nI (fSum row 12))) 1 (nI (fLe row 12 - 1))) 2 (nI (fGr row 12))) 3 (nI (fEven row 12))) 4 (nI (fLong row 12))) 5 (nI (pcn ml))) 6 w, ?_, fun k hk => ?_⟩
  · unfold fX4_finds
    refine lp_fun (fun k => (nI (fSum row k), nI (fEven row k), nI (fRun row k), nI (fLong row k), nI k)) 12 (by omega) (fun k rec hk => ?_) (fun rec => ?_)
    · unfold bX4_finds_15
      have hb := bit_le row k
      have q1 := fRun_le row k; have q2 := fLong_le row k
      have hs1 : hs (nI row) (nI k) = decide (bit row k = 1) := hs_n (by omega) (by omega)
      show _ = rec (nI (fSum row k + (if bit row k = 0 then 0 else k)), nI (fEven row k + (if bit row k = 0 then 0 else if k % 2 = 0 then 1 else 0)), nI (if bit row k = 0 then 0 else fRun row k + 1), nI (if fLong row k < (if bit row k = 0 then 0 else fRun row k + 1) then (if bit row k = 0 then 0 else fRun row k + 1) else fLong row k), nI (k + 1))
      by_cases q : bit row k = 1
      · have q0 : ¬ bit row k = 0 := by omega
        simp (disch := first | omega | decide) only [lt_d, gbT, Option.bind_some, cT2_l, cT2_r, mO_n, mO_s, lit, litL, nb_t, nb_f, need_1, need_0, ix_n, inb_T, le_T, le_F, l_T, l_F, e_F, e_R, if_true, if_false, n_add, n_mul, n_sub, n_l, fM_1, fM_2, fM_3, fM_4, fM_6, fM_7, hasX, hs1, decide_eq_true q, fJ3_max, rem_n, if_neg q0]
        by_cases z : fLong row k < fRun row k + 1
        · simp (disch := first | omega | decide) only [lt_d, gbT, Option.bind_some, cT2_l, cT2_r, mO_n, mO_s, lit, litL, nb_t, nb_f, need_1, need_0, ix_n, inb_T, le_T, le_F, l_T, l_F, e_F, e_R, if_true, if_false, n_add, n_mul, n_sub, n_l, fM_1, fM_2, fM_3, fM_4, fM_6, fM_7, if_pos z]
          by_cases y : k % 2 = 0
          · simp (disch := first | omega | decide) only [lt_d, gbT, Option.bind_some, cT2_l, cT2_r, mO_n, mO_s, lit, litL, nb_t, nb_f, need_1, need_0, ix_n, inb_T, le_T, le_F, l_T, l_F, e_F, e_R, if_true, if_false, n_add, n_mul, n_sub, n_l, fM_1, fM_2, fM_3, fM_4, fM_6, fM_7, y]
          · simp (disch := first | omega | decide) only [lt_d, gbT, Option.bind_some, cT2_l, cT2_r, mO_n, mO_s, lit, litL, nb_t, nb_f, need_1, need_0, ix_n, inb_T, le_T, le_F, l_T, l_F, e_F, e_R, if_true, if_false, n_add, n_mul, n_sub, n_l, fM_1, fM_2, fM_3, fM_4, fM_6, fM_7, if_neg y]
        · simp (disch := first | omega | decide) only [lt_d, gbT, Option.bind_some, cT2_l, cT2_r, mO_n, mO_s, lit, litL, nb_t, nb_f, need_1, need_0, ix_n, inb_T, le_T, le_F, l_T, l_F, e_F, e_R, if_true, if_false, n_add, n_mul, n_sub, n_l, fM_1, fM_2, fM_3, fM_4, fM_6, fM_7, if_neg z]
          by_cases y : k % 2 = 0
          · simp (disch := first | omega | decide) only [lt_d, gbT, Option.bind_some, cT2_l, cT2_r, mO_n, mO_s, lit, litL, nb_t, nb_f, need_1, need_0, ix_n, inb_T, le_T, le_F, l_T, l_F, e_F, e_R, if_true, if_false, n_add, n_mul, n_sub, n_l, fM_1, fM_2, fM_3, fM_4, fM_6, fM_7, y]
          · simp (disch := first | omega | decide) only [lt_d, gbT, Option.bind_some, cT2_l, cT2_r, mO_n, mO_s, lit, litL, nb_t, nb_f, need_1, need_0, ix_n, inb_T, le_T, le_F, l_T, l_F, e_F, e_R, if_true, if_false, n_add, n_mul, n_sub, n_l, fM_1, fM_2, fM_3, fM_4, fM_6, fM_7, if_neg y]
      · have q0 : bit row k = 0 := by omega
        simp (disch := first | omega | decide) only [lt_d, gbT, Option.bind_some, cT2_l, cT2_r, mO_n, mO_s, lit, litL, nb_t, nb_f, need_1, need_0, ix_n, inb_T, le_T, le_F, l_T, l_F, e_F, e_R, if_true, if_false, n_add, n_mul, n_sub, n_l, fM_1, fM_2, fM_3, fM_4, fM_6, fM_7, hasX, hs1, decide_eq_false q, fJ3_max, if_pos q0, Nat.add_zero]
        rw [if_neg (by omega)]
    · unfold bX4_finds_15
      simp (disch := first | omega | decide) only [lt_d, gbT, Option.bind_some, cT2_l, cT2_r, mO_n, mO_s, lit, litL, nb_t, nb_f, need_1, need_0, ix_n, inb_T, le_T, le_F, l_T, l_F, e_F, e_R, if_true, if_false, n_add, n_mul, n_sub, n_l, fM_1, fM_2, fM_3, fM_4, fM_6, fM_7, pI_w, pL_w, pR_w, pC_w, nC_w, gI_wI, gI_wIn, gI_wL, gI_wR, gI_wC, gL_wL, gL_wLn, gL_wI, gL_wR, gL_wC, gR_wR, gR_wRn, gR_wI, gR_wL, gR_wC, gC_wI, gC_wL, gC_wR, gC_wC, gN_wI, gN_wL, gN_wR, gN_wC, wI_wI, wL_wL, wR_wR, wC_wC, up_s, up_n, nt_n N _ hr h0, (nl_n N _ hr h0).1, el, bc_n N _ hml]
      rw [show 31 - (31 - fGr row 12) = fGr row 12 by omega]
  · have h7 : k = 0 ∨ k = 1 ∨ k = 2 ∨ k = 3 ∨ k = 4 ∨ k = 5 ∨ k = 6 := by omega
    rcases h7 with rfl | rfl | rfl | rfl | rfl | rfl | rfl
    · rfl
    · rfl
    · rfl
    · rfl
    · rfl
    · show nI (pcn ml) = _
      rw [el2]; rfl
    · rfl
theorem heldN {σ : Mem} {N a : Nat} {E : Den} (h : Tr 70 (gC σ) a E) : fX21_held N σ a = some (nI (clN (E (gI σ 65)))) := by
  unfold fX21_held
  rw [(recW_tr (N := N) h).1, Option.bind_some]
  generalize E (gI σ 65) = v
  unfold fJ3_min fJ3_max clN
  rw [Option.bind_some, Option.bind_some]
  by_cases h0 : (0 : Int32) ≤ v
  · by_cases h9 : v ≤ 99
    · have n0 : ¬ v < 0 := Int32.not_lt.mpr h0
      obtain ⟨j, hj, rfl⟩ := nI_of2 (M := 99) (n := 99) rfl n0 h9
      rw [if_pos h0, if_pos h9, ix_n (by omega)]
      by_cases hl : j < 99
      · rw [if_pos (show nI j < (99 : Int32) from nI_lt (a := j) (b := 99) hl (by decide))]
        by_cases hz : j = 0
        · subst hz; rfl
        · rw [if_pos (show (0 : Int32) < nI j from nI_lt (a := 0) (b := j) (by omega) (by omega))]
      · have : j = 99 := by omega
        subst this; rfl
    · rw [if_pos h0, if_neg h9, if_neg (show ¬ v < (99 : Int32) from fun z => h9 (Int32.le_of_lt z))]; rfl
  · have h1 : v < 0 := Int32.not_le.mp h0
    rw [if_neg h0, if_pos (show v < (99 : Int32) from Int32.lt_of_lt_of_le h1 (by decide)), if_neg (show ¬ (0 : Int32) < v from fun z => h0 (Int32.le_of_lt z))]; rfl
/-- what the liking says of all rows -/
theorem saysX {σ : Mem} {N w : Nat} {s : Nat → Int32} (hN : 300000 ≤ N) (hw : w ≤ 40) (n6 : gI σ 1 1 = nI w) (n7 : s 1 = nI w) (hd : ∀ v, v < w → gI σ 20 v = s (104 + 8 * v)) (ht : ∀ k, k < 495 → gI σ 62 k = nI (rowT k)) (hl : Lik (gR σ 16 0) (gC σ) s) : ∃ f, fX0_findSays N σ = some ((), wI (wI σ 65 f) 66 (fil (fun r => nI (sayN s r)) (gI σ 66) 495)) := by
  unfold fX0_findSays
  refine lp_inv (N := N) (b := bX0_findSays_2 N σ) (Q := fun F => ∃ f, F = some ((), wI (wI σ 65 f) 66 (fil (fun r => nI (sayN s r)) (gI σ 66) 495))) (P := fun k y => ∃ f, y = (wI (wI σ 65 f) 66 (fil (fun r => nI (sayN s r)) (gI σ 66) k), nI k)) 495 (by omega) ?_ ?_ (σ, (0 : Int32)) ⟨gI σ 65, by rw [fil_0, wI_id, wI_id]; rfl⟩
  · rintro k _ hk ⟨f, rfl⟩
    have hrt := rowT_lt hk
    obtain ⟨f', hf, hf2⟩ := findsN (σ := wI (wI σ 65 f) 66 (fil (fun r => nI (sayN s r)) (gI σ 66) k)) hN hrt (rowT_pc hk) (latV s) (nI w)
    have hla : fX1_latest_1 N (wI (wI σ 65 f) 66 (fil (fun r => nI (sayN s r)) (gI σ 66) k)) = some (latV s) := latX hw n6 n7 hd
    refine ⟨(wI (wI σ 65 f') 66 (fil (fun r => nI (sayN s r)) (gI σ 66) (k + 1)), nI (k + 1)), ⟨f', rfl⟩, fun rec => ?_⟩
    have hsw : wI (wI (wI σ 65 f) 66 (fil (fun r => nI (sayN s r)) (gI σ 66) k)) 65 f' = wI (wI σ 65 f') 66 (fil (fun r => nI (sayN s r)) (gI σ 66) k) := by
      rw [wI_sw _ _ _ (by decide : 66 ≠ 65), wI_wI]
    rw [hsw] at hf
    unfold bX0_findSays_2
    rcases hl with ⟨l1, l2⟩ | ⟨l1, ad, z, l2, l3, l4, l5, l6⟩
    · have hsay : sayN s k = 1 := by unfold sayN; rw [if_pos l1]
      simp (disch := first | omega | decide) only [lt_d, gbT, Option.bind_some, cT2_l, cT2_r, mO_n, mO_s, lit, litL, nb_t, nb_f, need_1, need_0, ix_n, inb_T, le_T, le_F, l_T, l_F, e_F, e_R, if_true, if_false, n_add, n_mul, n_sub, n_l, fM_1, fM_2, fM_3, fM_4, fM_6, fM_7, pI_w, pL_w, pR_w, pC_w, nC_w, gI_wI, gI_wIn, gI_wL, gI_wR, gI_wC, gL_wL, gL_wLn, gL_wI, gL_wR, gL_wC, gR_wR, gR_wRn, gR_wI, gR_wL, gR_wC, gC_wI, gC_wL, gC_wR, gC_wC, gN_wI, gN_wL, gN_wR, gN_wC, wI_wI, wL_wL, wR_wR, wC_wC, up_s, up_n, hla, ht k hk, n6, hf, l2]
      rw [fil_s (by rw [hsay])]
    · have hsay : sayN s k = clN ((whole (byS s) z).2.2 (nmV s k)) := by
        unfold sayN
        rw [if_neg (by rw [l1]; exact ne_01), l4, ix_n (by omega)]
      have htr : Tr 70 (gC (wI (wI σ 65 f') 66 (fil (fun r => nI (sayN s r)) (gI σ 66) k))) ad (whole (byS s) z).2.2 := l6
      have hh := heldN (N := N) htr
      have hE : (whole (byS s) z).2.2 f' = (whole (byS s) z).2.2 (nmV s k) := l6.c _ _ (fun q hq => by
        rw [hf2 q hq]
        unfold nmV latN
        rw [n7])
      have hh : fX21_held N (wI (wI σ 65 f') 66 (fil (fun r => nI (sayN s r)) (gI σ 66) k)) ad = some (nI (sayN s k)) := by
        rw [hh, hsay, ← hE]; rfl
      obtain ⟨c, hc⟩ := (recW_tr (N := N) htr).2
      have hcs : (dC 16 20 (wI (wI σ 65 f') 66 (fil (fun r => nI (sayN s r)) (gI σ 66) k)) ad).isSome = true := by rw [hc]; rfl
      simp (disch := first | omega | decide) only [lt_d, gbT, Option.bind_some, cT2_l, cT2_r, mO_n, mO_s, lit, litL, nb_t, nb_f, need_1, need_0, ix_n, inb_T, le_T, le_F, l_T, l_F, e_F, e_R, if_true, if_false, n_add, n_mul, n_sub, n_l, fM_1, fM_2, fM_3, fM_4, fM_6, fM_7, pI_w, pL_w, pR_w, pC_w, nC_w, gI_wI, gI_wIn, gI_wL, gI_wR, gI_wC, gL_wL, gL_wLn, gL_wI, gL_wR, gL_wC, gR_wR, gR_wRn, gR_wI, gR_wL, gR_wC, gC_wI, gC_wL, gC_wR, gC_wC, gN_wI, gN_wL, gN_wR, gN_wC, wI_wI, wL_wL, wR_wR, wC_wC, up_s, up_n, hla, ht k hk, n6, hf, l2, hc, hcs, hh, Option.isSome_some]
      rw [fil_s rfl]
  · rintro _ ⟨f, rfl⟩ rec
    refine ⟨f, ?_⟩
    unfold bX0_findSays_2
    simp (disch := first | omega | decide) only [lt_d, gbT, Option.bind_some, cT2_l, cT2_r, mO_n, mO_s, lit, litL, nb_t, nb_f, need_1, need_0, ix_n, inb_T, le_T, le_F, l_T, l_F, e_F, e_R, if_true, if_false, n_add, n_mul, n_sub, n_l, fM_1, fM_2, fM_3, fM_4, fM_6, fM_7]
