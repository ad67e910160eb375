/-! A WEEK IS PLAYED: both sides' memories -/
set_option maxRecDepth 100000
def clV (z : Int64) : Int64 := if (0 : Int64) ≤ z then (if z ≤ (99999999 : Int64) then z else (99999999 : Int64)) else (0 : Int64)
theorem cl_eq (z : Int64) : (if (0 : Int64) < (if z < (99999999 : Int64) then z else (99999999 : Int64)) then (if z < (99999999 : Int64) then z else (99999999 : Int64)) else (0 : Int64)) = clV z := by
  unfold clV
  by_cases h1 : z < (99999999 : Int64)
  · rw [if_pos h1]
    have h2 : z ≤ (99999999 : Int64) := Int64.le_of_lt h1
    rw [if_pos h2]
    by_cases h3 : (0 : Int64) < z
    · rw [if_pos h3, if_pos (Int64.le_of_lt h3)]
    · rw [if_neg h3]
      by_cases h4 : (0 : Int64) ≤ z
      · rw [if_pos h4]; exact Int64.le_antisymm h4 (Int64.not_lt.mp h3)
      · rw [if_neg h4]
  · rw [if_neg h1, if_pos (show (0 : Int64) < 99999999 by decide)]
    have h2 : (99999999 : Int64) ≤ z := Int64.not_lt.mp h1
    rw [if_pos (Int64.le_trans (show (0 : Int64) ≤ 99999999 by decide) h2)]
    by_cases h3 : z ≤ (99999999 : Int64)
    · rw [if_pos h3]; exact Int64.le_antisymm h2 h3
    · rw [if_neg h3]
theorem przM {τ : Mem} {N : Nat} (hN : 300000 ≤ N) {s : Nat → Int32} (h4 : ∀ k, k < 495 → gI τ 4 k = nI (rowT k)) (h6 : ∀ r, r < 4096 → gI τ 6 r = nI (pcn r)) (hcr : ∀ r, r < 495 → gI τ 13 r = nI (crN s r)) (hrs : ∀ k, k < 18 → 10 ≤ k → gI τ 1 k = s k) (hB : toN s ≤ 5199948) {m k v : Nat} (hk2 : 2 ≤ k) (hk : k ≤ 4) (hv : v ≤ 416) (P z : Int64) (τ1 : Mem) (rec : Mem × Int64 × Int32 → Option (Unit × Mem)) : bX5_goes_44 N τ1 (nI m) P (nI v) rec (τ, z, nI k) = rec (wI τ 1 (upd (upd (gI τ 1) (v + 5 - k) (nI (wdP s m k 495))) (v + 8 - k) (prV s P m k).toInt32), z - prV s P m k * (nI (wdP s m k 495)).toInt64, nI (k - 1)) := by
  have g0 : ¬ nI k ≤ (1 : Int32) := (nI_ge (by omega) (by omega) : ¬ nI k ≤ nI 1)
  have hm1 : nI k + (-1 : Int32) = nI (k - 1) := by
    rw [← n_sub (by omega : 1 ≤ k), show nI 1 = (1 : Int32) from rfl, Int32.sub_eq_add_neg]
  unfold bX5_goes_44
  dsimp only
  rw [if_neg g0, wofM hN h4 h6 hcr hrs hB hk2 hk]
  unfold jX5_goes_124
  rw [lt_d, show (5 : Int32) = nI 5 from rfl, show (8 : Int32) = nI 8 from rfl, n_add, n_add, n_sub (by omega), n_sub (by omega), inb_T (by omega : v + 5 - k < 919) (by decide), gbT, lt_d, inb_T (by omega : v + 8 - k < 919) (by decide), gbT, lt_d, ix_n (by omega), ix_n (by omega), pI_w, pI_w, gI_wI, wI_wI, hm1]
/-- what is left after the prizes -/
def lfV (s : Nat → Int32) (P : Int64) (m : Nat) : Int64 := P - prV s P m 4 * (nI (wdP s m 4 495)).toInt64 - prV s P m 3 * (nI (wdP s m 3 495)).toInt64 - prV s P m 2 * (nI (wdP s m 2 495)).toInt64
/-- the book's line of the week, in the reference -/
def bkM (s : Nat → Int32) (P : Int64) (m v : Nat) (f : Nat → Int32) : Nat → Int32 :=
  upd (upd (upd (upd (upd (upd (upd f v (nI m)) (v + 1) (nI (wdP s m 4 495))) (v + 4) (prV s P m 4).toInt32) (v + 2) (nI (wdP s m 3 495))) (v + 5) (prV s P m 3).toInt32) (v + 3) (nI (wdP s m 2 495))) (v + 6) (prV s P m 2).toInt32
theorem goM {τ : Mem} {N : Nat} (hN : 300000 ≤ N) {s : Nat → Int32} (h4 : ∀ k, k < 495 → gI τ 4 k = nI (rowT k)) (h6 : ∀ r, r < 4096 → gI τ 6 r = nI (pcn r)) (hcr : ∀ r, r < 495 → gI τ 13 r = nI (crN s r)) (hs : gI τ 1 = s) (hB : toN s ≤ 5199948) {m w : Nat} (hw : w < 40) (h1 : s 1 = nI w) (P : Int64) (τ1 : Mem) : lp (bX5_goes_44 N τ1 (nI m) P (nI (104 + 8 * w))) N (wI τ 1 (upd s (104 + 8 * w) (nI m)), P, (4 : Int32)) = some ((), wI (wI τ 1 (upd (upd (upd (bkM s P m (104 + 8 * w) s) 17 (clV (lfV s P m)).toInt32) (104 + 8 * w + 7) (clV (lfV s P m)).toInt32) 1 (nI (w + 1)))) 0 (upd (upd (gI τ 0) 18 (nI 1)) 19 (nI 1))) := by
  obtain ⟨n, rfl⟩ : ∃ n, N = n + 4 := ⟨N - 4, by omega⟩
  generalize hv : 104 + 8 * w = v
  have key : ∀ f : Nat → Int32, (∀ k, k < 18 → 10 ≤ k → f k = s k) → ∀ k, 2 ≤ k → k ≤ 4 → ∀ (z : Int64) rec, bX5_goes_44 (n + 4) τ1 (nI m) P (nI v) rec (wI τ 1 f, z, nI k) = rec (wI τ 1 (upd (upd f (v + 5 - k) (nI (wdP s m k 495))) (v + 8 - k) (prV s P m k).toInt32), z - prV s P m k * (nI (wdP s m k 495)).toInt64, nI (k - 1)) := by
    intro f hf k hk2 hk z rec
    have := przM (τ := wI τ 1 f) (N := n + 4) (s := s) hN h4 h6 hcr (fun k a b => by rw [gI_wI]; exact hf k a b) hB (m := m) hk2 hk (show v ≤ 416 by omega) P z τ1 rec
    rw [gI_wI, wI_wI] at this
    exact this
  have u : ∀ (f : Nat → Int32) i (x : Int32) k, k < 18 → v ≤ i → upd f i x k = f k := fun f i x k a b => up_n (by omega)
  show bX5_goes_44 (n + 4) τ1 (nI m) P (nI v) (lp (bX5_goes_44 (n + 4) τ1 (nI m) P (nI v)) (n + 3)) (wI τ 1 (upd s v (nI m)), P, nI 4) = _
  rw [key _ (fun k a b => u _ _ _ _ a (by omega)) 4 (by decide) (by decide)]
  show bX5_goes_44 (n + 4) τ1 (nI m) P (nI v) (lp (bX5_goes_44 (n + 4) τ1 (nI m) P (nI v)) (n + 2)) (_, _, nI 3) = _
  rw [key _ (fun k a b => by rw [u _ _ _ _ a (by omega), u _ _ _ _ a (by omega), u _ _ _ _ a (by omega)]) 3 (by decide) (by decide)]
  show bX5_goes_44 (n + 4) τ1 (nI m) P (nI v) (lp (bX5_goes_44 (n + 4) τ1 (nI m) P (nI v)) (n + 1)) (_, _, nI 2) = _
  rw [key _ (fun k a b => by rw [u _ _ _ _ a (by omega), u _ _ _ _ a (by omega), u _ _ _ _ a (by omega), u _ _ _ _ a (by omega), u _ _ _ _ a (by omega)]) 2 (by decide) (by decide)]
  show bX5_goes_44 (n + 4) τ1 (nI m) P (nI v) (lp (bX5_goes_44 (n + 4) τ1 (nI m) P (nI v)) n) (wI τ 1 (bkM s P m v s), lfV s P m, nI 1) = _
  unfold bX5_goes_44
  dsimp only
  have hb1 : bkM s P m v s 1 = nI w := by unfold bkM; rw [u _ _ _ _ (by decide) (by omega), u _ _ _ _ (by decide) (by omega), u _ _ _ _ (by decide) (by omega), u _ _ _ _ (by decide) (by omega), u _ _ _ _ (by decide) (by omega), u _ _ _ _ (by decide) (by omega), u _ _ _ _ (by decide) (by omega), h1]
  rw [if_pos (show nI 1 ≤ (1 : Int32) from by decide), lt_d, show (7 : Int32) = nI 7 from rfl, n_add, inb_T (by omega : v + 7 < 919) (by decide), gbT, lt_d, lt_d, lt_d, lt_d, ix_n (by omega)]
  show some ((), pI (pI (pI (pI (pI (wI τ 1 (bkM s P m v s)) 1 17 (clV (lfV s P m)).toInt32) 1 (v + 7) (gI (pI (wI τ 1 (bkM s P m v s)) 1 17 (clV (lfV s P m)).toInt32) 1 17)) 1 1 (gI (pI (pI (wI τ 1 (bkM s P m v s)) 1 17 (clV (lfV s P m)).toInt32) 1 (v + 7) (gI (pI (wI τ 1 (bkM s P m v s)) 1 17 (clV (lfV s P m)).toInt32) 1 17)) 1 1 + nI 1)) 0 18 (nI 1)) 0 19 (nI 1)) = _
  have e1 : pI (wI τ 1 (bkM s P m v s)) 1 17 (clV (lfV s P m)).toInt32 = wI τ 1 (upd (bkM s P m v s) 17 (clV (lfV s P m)).toInt32) := by rw [pI_w, gI_wI, wI_wI]
  rw [e1, gI_wI, up_s]
  have e2 : pI (wI τ 1 (upd (bkM s P m v s) 17 (clV (lfV s P m)).toInt32)) 1 (v + 7) (clV (lfV s P m)).toInt32 = wI τ 1 (upd (upd (bkM s P m v s) 17 (clV (lfV s P m)).toInt32) (v + 7) (clV (lfV s P m)).toInt32) := by rw [pI_w, gI_wI, wI_wI]
  rw [e2, gI_wI, up_n (by omega), up_n (by omega), hb1, n_add]
  rw [pI_w (wI τ 1 _) 1 1, gI_wI, wI_wI, pI_w _ 0 18, gI_wIn _ _ (by decide : (0 : Nat) ≠ 1), pI_w _ 0 19, gI_wI, wI_wI]
