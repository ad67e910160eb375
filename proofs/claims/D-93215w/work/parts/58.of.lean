/-! WINNERS of the reference: counts -/
set_option maxRecDepth 100000
def w15 (s f : Nat → Int32) (d r i : Nat) : Int32 := if 3 * d ≤ i ∧ i < 3 * d + 3 then nI (wnP s d (i - 3 * d + 2) r) else f i
theorem cntM1 {τ : Mem} {N : Nat} (hN : 300000 ≤ N) {s : Nat → Int32} (h4 : ∀ k, k < 495 → gI τ 4 k = nI (rowT k)) (h6 : ∀ r, r < 4096 → gI τ 6 r = nI (pcn r)) (hcr : ∀ r, r < 495 → gI τ 13 r = nI (crN s r)) {d : Nat} (hd : d < 495) (f : Nat → Int32) (r19 : Mem × Int32 → Option (Unit × Mem)) (τ1 : Mem) : lp (bX5_counts_52 N τ1 (nI d) r19) N (wI τ 15 (w15 s f d 0), (0 : Int32)) = r19 (wI τ 15 (w15 s f d 495), nI (d + 1)) := by
  refine lp_fun (N := N) (b := bX5_counts_52 N τ1 (nI d) r19) (fun r => (wI τ 15 (w15 s f d r), nI r)) 495 (by omega) (fun r rec hr => ?_) (fun rec => ?_)
  · have hp : pcn (rowT r &&& rowT d) < 5 := Nat.lt_succ_of_le (pcn_and4 hr)
    have hlt : rowT r &&& rowT d < 4096 := Nat.lt_of_le_of_lt Nat.and_le_left (rowT_lt hr)
    have g0 : ¬ (495 : Int32) ≤ nI r := by
      rw [show (495 : Int32) = nI 495 from rfl, le_F hr (by omega)]; exact not_false
    unfold bX5_counts_52
    dsimp only
    rw [if_neg g0, inb_T hr (by decide), gbT, inb_T hd (by decide), gbT, ix_n (by omega), ix_n (by omega), gI_wIn _ _ (by decide : (4 : Nat) ≠ 15), h4 r hr, h4 d hd, and_n, inb_T hlt (by decide), gbT, ix_n (by omega), gI_wIn _ _ (by decide : (6 : Nat) ≠ 15), h6 _ hlt, lt_d]
    have hone : nI r + (1 : Int32) = nI (r + 1) := n_add r 1
    rw [hone]
    generalize hv : pcn (rowT r &&& rowT d) = v at hp
    by_cases e : v ≤ 1
    · rw [if_pos (show nI v ≤ (1 : Int32) from nI_le e (by decide))]
      congr 2
      congr 1
      funext i
      unfold w15
      by_cases e2 : 3 * d ≤ i ∧ i < 3 * d + 3
      · rw [if_pos e2, if_pos e2]
        congr 1
        show _ = wnP s d (i - 3 * d + 2) r + (if pcn (rowT r &&& rowT d) = i - 3 * d + 2 then crN s r else 0)
        rw [if_neg (by omega)]; rfl
      · rw [if_neg e2, if_neg e2]
    · have hi : (3 : Int32) * nI d + nI v - (2 : Int32) = nI (3 * d + (v - 2)) := by
        rw [show (3 : Int32) = nI 3 from rfl, show (2 : Int32) = nI 2 from rfl, n_mul, n_add, n_sub (by omega)]
        congr 1; omega
      rw [if_neg (show ¬ nI v ≤ (1 : Int32) from (nI_ge (by omega) (by omega) : ¬ nI v ≤ nI 1)), hi, inb_T (by omega : 3 * d + (v - 2) < 1485) (by decide), gbT, gbT, gbT, ix_n (by omega), lt_d, pI_w, gI_wI, gI_wIn _ _ (by decide : (13 : Nat) ≠ 15), hcr r hr, wI_wI]
      congr 2
      congr 1
      funext i
      rw [upd_or]
      by_cases e3 : i = 3 * d + (v - 2)
      · rw [if_pos e3]
        subst e3
        unfold w15
        rw [if_pos (by omega), if_pos (by omega), n_add]
        congr 1
        show _ = wnP s d (3 * d + (v - 2) - 3 * d + 2) r + (if pcn (rowT r &&& rowT d) = 3 * d + (v - 2) - 3 * d + 2 then crN s r else 0)
        rw [if_pos (by omega)]
      · rw [if_neg e3]
        unfold w15
        by_cases e2 : 3 * d ≤ i ∧ i < 3 * d + 3
        · rw [if_pos e2, if_pos e2]
          congr 1
          show _ = wnP s d (i - 3 * d + 2) r + (if pcn (rowT r &&& rowT d) = i - 3 * d + 2 then crN s r else 0)
          rw [if_neg (by omega)]; rfl
        · rw [if_neg e2, if_neg e2]
  · unfold bX5_counts_52
    dsimp only
    rw [if_pos (show (495 : Int32) ≤ nI 495 from by decide), show (1 : Int32) = nI 1 from rfl, n_add]
theorem cntM0 {τ : Mem} {N : Nat} (hN : 300000 ≤ N) {s : Nat → Int32} {d : Nat} (hd : d < 495) (f : Nat → Int32) (r19 : Mem × Int32 → Option (Unit × Mem)) (τ1 : Mem) : lp (bX5_counts_28 N τ1 (nI d) r19) N (wI τ 15 f, (0 : Int32)) = lp (bX5_counts_52 N (wI τ 15 (w15 s f d 0)) (nI d) r19) N (wI τ 15 (w15 s f d 0), (0 : Int32)) := by
  have key := lp_fun (N := N) (b := bX5_counts_28 N τ1 (nI d) r19) (fun j => (wI τ 15 (fun i => if 3 * d ≤ i ∧ i < 3 * d + j then nI 0 else f i), nI j)) 3 (by omega) (r := lp (bX5_counts_52 N (wI τ 15 (w15 s f d 0)) (nI d) r19) N (wI τ 15 (w15 s f d 0), (0 : Int32))) (fun j rec hj => ?_) (fun rec => ?_)
  · rw [show (fun i => if 3 * d ≤ i ∧ i < 3 * d + 0 then nI 0 else f i) = f from funext fun i => if_neg (by omega)] at key
    exact key
  · have g0 : ¬ (3 : Int32) ≤ nI j := by
      rw [show (3 : Int32) = nI 3 from rfl, le_F hj (by omega)]; exact not_false
    have hi : (3 : Int32) * nI d + nI j = nI (3 * d + j) := by
      rw [show (3 : Int32) = nI 3 from rfl, n_mul, n_add]
    unfold bX5_counts_28
    dsimp only
    rw [if_neg g0, hi, inb_T (by omega : 3 * d + j < 1485) (by decide), gbT, lt_d, ix_n (by omega), pI_w, gI_wI, wI_wI, show (1 : Int32) = nI 1 from rfl, n_add]
    congr 2
    congr 1
    funext i
    rw [upd_or]
    by_cases e : i = 3 * d + j
    · rw [if_pos e, if_pos (by omega)]; rfl
    · rw [if_neg e]
      by_cases e2 : 3 * d ≤ i ∧ i < 3 * d + j
      · rw [if_pos e2, if_pos (by omega)]
      · rw [if_neg e2, if_neg (by omega)]
  · unfold bX5_counts_28
    dsimp only
    rw [if_pos (show (3 : Int32) ≤ nI 3 from by decide)]
    rfl
theorem cntM {τ : Mem} {N : Nat} (hN : 300000 ≤ N) {s : Nat → Int32} (h4 : ∀ k, k < 495 → gI τ 4 k = nI (rowT k)) (h6 : ∀ r, r < 4096 → gI τ 6 r = nI (pcn r)) (hcr : ∀ r, r < 495 → gI τ 13 r = nI (crN s r)) : lp (bX5_counts_19 N τ) N (τ, (0 : Int32)) = some ((), wI τ 15 (fun i => if i < 3 * 495 then nI (wnN s (i / 3) (i % 3 + 2)) else gI τ 15 i)) := by
  have key := lp_fun (N := N) (b := bX5_counts_19 N τ) (fun d => (wI τ 15 (fun i => if i < 3 * d then nI (wnN s (i / 3) (i % 3 + 2)) else gI τ 15 i), nI d)) 495 (by omega) (r := some ((), wI τ 15 (fun i => if i < 3 * 495 then nI (wnN s (i / 3) (i % 3 + 2)) else gI τ 15 i))) (fun d rec hd => ?_) (fun rec => ?_)
  · rw [show (fun i => if i < 3 * 0 then nI (wnN s (i / 3) (i % 3 + 2)) else gI τ 15 i) = gI τ 15 from funext fun i => if_neg (by omega), wI_id] at key
    exact key
  · unfold bX5_counts_19
    dsimp only
    rw [if_neg (show ¬ (495 : Int32) ≤ nI d from by rw [show (495 : Int32) = nI 495 from rfl, le_F hd (by omega)]; exact not_false), cntM0 (s := s) hN hd, cntM1 hN h4 h6 hcr hd]
    congr 2
    congr 1
    funext i
    unfold w15
    by_cases e : 3 * d ≤ i ∧ i < 3 * d + 3
    · rw [if_pos e, if_pos (by omega)]
      have e1 : i / 3 = d := by omega
      have e2 : i % 3 = i - 3 * d := by omega
      rw [e1, e2]; rfl
    · rw [if_neg e]
      dsimp only
      by_cases e2 : i < 3 * d
      · rw [if_pos e2, if_pos (by omega)]
      · rw [if_neg e2, if_neg (by omega)]
  · unfold bX5_counts_19
    dsimp only
    rw [if_pos (show (495 : Int32) ≤ nI 495 from by decide)]
/-- all fresh, winners too -/
theorem wonM {σ τ : Mem} (h : R σ τ) {N : Nat} (hN : 300000 ≤ N) : ∃ τ', fX5_counts N τ = some ((), τ') ∧ MF τ' ∧ (∀ d k, d < 495 → k < 3 → gI τ' 15 (3 * d + k) = nI (wnN (gI τ 1) d (k + 2))) ∧ R σ τ' ∧ gI τ' 1 = gI τ 1 ∧ gI τ' 0 20 = nI 0 := by
  obtain ⟨τ', m1, m2, m3, m4, m5⟩ := workM h hN
  unfold fX5_counts
  rw [m1, Option.bind_some]
  have y3 := m3
  obtain ⟨a, ⟨p, w, b, hn, hru, hg, hap, hl, hh, hb⟩, c, d, e, f, g, i, j, k⟩ := y3
  by_cases h1 : gI τ' 0 20 = (0 : Int32)
  · rw [if_pos h1]
    refine ⟨τ', rfl, m2, ?_, m3, m4, h1⟩
    obtain ⟨-, -, -, i4⟩ := i
    rw [← m4]
    exact (i4 m2.1).2.2.2.2.2 h1
  · rw [if_neg h1, lt_d, pI_w]
    have hc := cntM (τ := wI τ' 0 (upd (gI τ' 0) 20 (0 : Int32))) (N := N) (s := gI τ 1) hN a.2.1 a.2.2.2.1 (fun r hr => by rw [← m4]; exact m2.2.2.1 r hr)
    rw [hc]
    have hw : ∀ d k, d < 495 → k < 3 → (fun i => if i < 3 * 495 then nI (wnN (gI τ 1) (i / 3) (i % 3 + 2)) else gI (wI τ' 0 (upd (gI τ' 0) 20 (0 : Int32))) 15 i) (3 * d + k) = nI (wnN (gI τ 1) d (k + 2)) := by
      intro d k hd hk
      dsimp only
      have e1 : (3 * d + k) / 3 = d := by omega
      have e2 : (3 * d + k) % 3 = k := by omega
      rw [if_pos (by omega), e1, e2]
    have hu : ∀ q, q ≠ 20 → upd (gI τ' 0) 20 (0 : Int32) q = gI τ' 0 q := fun q hq => up_n hq
    have hu0 : upd (gI τ' 0) 20 (0 : Int32) 20 = nI 0 := up_s
    obtain ⟨i1, i2, i3, i4⟩ := i
    obtain ⟨j1, j2, j3, j4, j5, j6⟩ := i4 m2.1
    refine ⟨_, rfl, ⟨(hu 18 (by decide)).trans m2.1, m2.2.1, m2.2.2.1, m2.2.2.2.1, (hu 24 (by decide)).trans m2.2.2.2.2⟩, hw, ?_, m4, hu0⟩
    refine ⟨a, ⟨p, w, b, hn, hru, hg, hap, hl, hh, hb⟩, ⟨c.1.trans (hu 2 (by decide)).symm, ?_⟩, ?_, e, f, g, ⟨Or.inl ((hu 18 (by decide)).trans m2.1), Or.inl ((hu 19 (by decide)).trans j1), fun _ => m2.2.1, fun _ => ⟨(hu 19 (by decide)).trans j1, j2, j3, (hu 24 (by decide)).trans j4, Or.inl hu0, fun _ => ?_⟩⟩, j, (hu 16 (by decide)).trans k⟩
    · rcases c.2 with c2 | ⟨c2, c3⟩
      · exact Or.inl ((hu 2 (by decide)).trans c2)
      · exact Or.inr ⟨(hu 2 (by decide)).trans c2, c3⟩
    · obtain ⟨t, t1, t2, t3, t4⟩ := d
      exact ⟨t, t1, t2, (hu 9 (by decide)).trans t3, t4⟩
    · intro d k hd hk
      show _ = nI (wnN (gI τ' 1) d (k + 2))
      rw [m4]; exact hw d k hd hk
