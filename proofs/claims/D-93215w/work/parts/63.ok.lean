/-! A WEEK IS PLAYED: the component's memory -/
set_option maxRecDepth 100000
def bkX (σ : Mem) (s : Nat → Int32) (P : Int64) (m w : Nat) : Mem :=
  wI (wI (wI (wI (wI (wI (wI σ 20 (upd (gI σ 20) w (nI m))) 21 (upd (gI σ 21) w (nI (wdP s m 4 495)))) 24 (upd (gI σ 24) w (prV s P m 4).toInt32)) 22 (upd (gI σ 22) w (nI (wdP s m 3 495)))) 25 (upd (gI σ 25) w (prV s P m 3).toInt32)) 23 (upd (gI σ 23) w (nI (wdP s m 2 495)))) 26 (upd (gI σ 26) w (prV s P m 2).toInt32)
def plX (σ : Mem) (s : Nat → Int32) (P : Int64) (m w : Nat) : Mem :=
  wI (wI (wI (wI (bkX σ s P m w) 2 (upd (gI σ 2) 7 (clV (lfV s P m)).toInt32)) 27 (upd (gI σ 27) w (clV (lfV s P m)).toInt32)) 1 (upd (gI σ 1) 1 (nI (w + 1)))) 0 (upd (gI σ 0) 10 (nI 0))
theorem goX {σ : Mem} {N : Nat} (hN : 300000 ≤ N) {s : Nat → Int32} (ht : ∀ k, k < 495 → gI σ 62 k = nI (rowT k)) (hcr : ∀ r, r < 495 → gI σ 68 r = nI (crN s r)) (hru : Rul (gI σ 2) s) (hB : toN s ≤ 5199948) {m w : Nat} (hw : w < 40) (h1 : gI σ 1 1 = nI w) (P : Int64) (σ1 : Mem) : lp (bX0_plays_46 N σ1 (nI m) (nI w) P) N (wI σ 20 (upd (gI σ 20) w (nI m)), P, (0 : Int32)) = some (nI (wdP s m 4 495), plX σ s P m w) := by
  obtain ⟨n, rfl⟩ : ∃ n, N = n + 4 := ⟨N - 4, by omega⟩
  have e0 := fun rec => przX (σ := wI σ 20 (upd (gI σ 20) w (nI m))) (N := n + 4) (s := s) hN ht hcr hru hB (m := m) (i := 0) (by decide) hw P P σ1 rec
  have e1 := fun z rec => przX (σ := wI (wI (wI σ 20 (upd (gI σ 20) w (nI m))) 21 (upd (gI σ 21) w (nI (wdP s m 4 495)))) 24 (upd (gI σ 24) w (prV s P m 4).toInt32)) (N := n + 4) (s := s) hN ht hcr hru hB (m := m) (i := 1) (by decide) hw P z σ1 rec
  have e2 := fun z rec => przX (σ := wI (wI (wI (wI (wI σ 20 (upd (gI σ 20) w (nI m))) 21 (upd (gI σ 21) w (nI (wdP s m 4 495)))) 24 (upd (gI σ 24) w (prV s P m 4).toInt32)) 22 (upd (gI σ 22) w (nI (wdP s m 3 495)))) 25 (upd (gI σ 25) w (prV s P m 3).toInt32)) (N := n + 4) (s := s) hN ht hcr hru hB (m := m) (i := 2) (by decide) hw P z σ1 rec
  show bX0_plays_46 (n + 4) σ1 (nI m) (nI w) P (lp (bX0_plays_46 (n + 4) σ1 (nI m) (nI w) P) (n + 3)) (_, P, nI 0) = _
  refine (e0 _).trans ?_
  show bX0_plays_46 (n + 4) σ1 (nI m) (nI w) P (lp (bX0_plays_46 (n + 4) σ1 (nI m) (nI w) P) (n + 2)) (_, _, nI 1) = _
  refine (e1 _ _).trans ?_
  show bX0_plays_46 (n + 4) σ1 (nI m) (nI w) P (lp (bX0_plays_46 (n + 4) σ1 (nI m) (nI w) P) (n + 1)) (_, _, nI 2) = _
  refine (e2 _ _).trans ?_
  show bX0_plays_46 (n + 4) σ1 (nI m) (nI w) P (lp (bX0_plays_46 (n + 4) σ1 (nI m) (nI w) P) n) (bkX σ s P m w, lfV s P m, nI 3) = _
  have hm : fJ3_min_2 (n + 4) (bkX σ s P m w) (99999999 : Int64) (lfV s P m) = some (if lfV s P m < (99999999 : Int64) then lfV s P m else (99999999 : Int64)) := rfl
  have hM : ∀ q, fJ3_max_2 (n + 4) (bkX σ s P m w) (0 : Int64) q = some (if (0 : Int64) < q then q else (0 : Int64)) := fun _ => rfl
  unfold bX0_plays_46
  dsimp only
  rw [if_pos (show (3 : Int32) ≤ nI 3 from by decide), hm, Option.bind_some, hM, Option.bind_some, cl_eq, lt_d, inb_T hw (by decide), gbT, lt_d, lt_d, lt_d, gbT, ix_n (by omega)]
  have a1 : pI (bkX σ s P m w) 2 7 (clV (lfV s P m)).toInt32 = wI (bkX σ s P m w) 2 (upd (gI σ 2) 7 (clV (lfV s P m)).toInt32) := pI_w _ _ _ _
  have a2 : pI (wI (bkX σ s P m w) 2 (upd (gI σ 2) 7 (clV (lfV s P m)).toInt32)) 27 w (gI (wI (bkX σ s P m w) 2 (upd (gI σ 2) 7 (clV (lfV s P m)).toInt32)) 2 7) = wI (wI (bkX σ s P m w) 2 (upd (gI σ 2) 7 (clV (lfV s P m)).toInt32)) 27 (upd (gI σ 27) w (clV (lfV s P m)).toInt32) := by
    rw [gI_wI, up_s]; exact pI_w _ _ _ _
  have a3 : pI (wI (wI (bkX σ s P m w) 2 (upd (gI σ 2) 7 (clV (lfV s P m)).toInt32)) 27 (upd (gI σ 27) w (clV (lfV s P m)).toInt32)) 1 1 (gI σ 1 1 + (1 : Int32)) = wI (wI (wI (bkX σ s P m w) 2 (upd (gI σ 2) 7 (clV (lfV s P m)).toInt32)) 27 (upd (gI σ 27) w (clV (lfV s P m)).toInt32)) 1 (upd (gI σ 1) 1 (nI (w + 1))) := by
    rw [h1, show (1 : Int32) = nI 1 from rfl, n_add]; exact pI_w _ _ _ _
  rw [a1, a2]
  have a4 : pI (wI (wI (wI (bkX σ s P m w) 2 (upd (gI σ 2) 7 (clV (lfV s P m)).toInt32)) 27 (upd (gI σ 27) w (clV (lfV s P m)).toInt32)) 1 (upd (gI σ 1) 1 (nI (w + 1)))) 0 10 (0 : Int32) = plX σ s P m w := pI_w _ _ _ _
  rw [show pI (wI (wI (bkX σ s P m w) 2 (upd (gI σ 2) 7 (clV (lfV s P m)).toInt32)) 27 (upd (gI σ 27) w (clV (lfV s P m)).toInt32)) 1 1 (gI (wI (wI (bkX σ s P m w) 2 (upd (gI σ 2) 7 (clV (lfV s P m)).toInt32)) 27 (upd (gI σ 27) w (clV (lfV s P m)).toInt32)) 1 1 + (1 : Int32)) = _ from a3, a4]
  have a5 : gI (plX σ s P m w) 21 w = nI (wdP s m 4 495) := (show gI (plX σ s P m w) 21 w = upd (gI σ 21) w (nI (wdP s m 4 495)) w from rfl).trans up_s
  rw [a5]
