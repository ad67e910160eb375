/-! A WEEK IS PLAYED: who won -/
set_option maxRecDepth 100000
/-- crosses of the rows that hit k numbers of the draw m -/
def wdP (s : Nat → Int32) (m k n : Nat) : Nat := sN (fun r => if pcn (rowT r &&& m) = k then crN s r else 0) n
theorem wdP_le (s : Nat → Int32) (m k : Nat) {n : Nat} (hn : n ≤ 495) : wdP s m k n ≤ toN s := by
  have h1 : wdP s m k n ≤ sN (crN s) n := sN_le (fun r _ => by split <;> omega)
  have h2 : ∀ m, n ≤ m → sN (crN s) n ≤ sN (crN s) m := by
    intro m hm
    induction hm with
    | refl => exact Nat.le_refl _
    | step _ ih => exact Nat.le_trans ih (Nat.le_add_right _ _)
  exact Nat.le_trans h1 (h2 495 hn)
theorem rankXm {σ : Mem} {N : Nat} {a m : Nat} (ha : a < 495) : fX0_rank N σ (nI (rowT a)) (nI m) = some (nI (pcn (rowT a &&& m))) := by
  unfold fX0_rank
  rw [and_n, bc_n N σ (Nat.lt_of_le_of_lt Nat.and_le_left (rowT_lt ha))]; rfl
theorem wofX {σ : Mem} {N : Nat} (hN : 300000 ≤ N) {s : Nat → Int32} (ht : ∀ k, k < 495 → gI σ 62 k = nI (rowT k)) (hcr : ∀ r, r < 495 → gI σ 68 r = nI (crN s r)) {m k : Nat} (hk : k ≤ 4) : fX0_winnersOf N σ (nI k) (nI m) = some (nI (wdP s m k 495)) := by
  unfold fX0_winnersOf
  refine lp_fun (N := N) (b := bX0_winnersOf_5 N σ (nI k) (nI m)) (fun r => (nI (wdP s m k r), nI r)) 495 (by omega) (fun r rec hr => ?_) (fun rec => ?_)
  · have hp : pcn (rowT r &&& m) ≤ 4 := pcn_and4 hr
    have g0 : ¬ (495 : Int32) ≤ nI r := by
      rw [show (495 : Int32) = nI 495 from rfl, le_F hr (by omega)]; exact not_false
    have hone : nI r + (1 : Int32) = nI (r + 1) := n_add r 1
    have hs : wdP s m k (r + 1) = wdP s m k r + (if pcn (rowT r &&& m) = k then crN s r else 0) := rfl
    unfold bX0_winnersOf_5
    dsimp only
    rw [if_neg g0, inb_T hr (by decide), gbT, ix_n (by omega), ht r hr, rankXm hr, Option.bind_some, hone, hs]
    by_cases e : pcn (rowT r &&& m) = k
    · rw [if_pos (congrArg nI e), if_pos e, gbT, lt_d, hcr r hr, n_add]
    · rw [if_neg (fun z => e ((nI_eq (by omega) (by omega)).mp z)), if_neg e]; rfl
  · unfold bX0_winnersOf_5
    dsimp only
    rw [if_pos (show (495 : Int32) ≤ nI 495 from by decide)]
/-- the prize of one winner -/
def prV (s : Nat → Int32) (P : Int64) (m k : Nat) : Int64 := if wdP s m k 495 = 0 then 0 else shV s P k / lN (wdP s m k 495)
theorem wofM {τ : Mem} {N : Nat} (hN : 300000 ≤ N) {s : Nat → Int32} (h4 : ∀ k, k < 495 → gI τ 4 k = nI (rowT k)) (h6 : ∀ r, r < 4096 → gI τ 6 r = nI (pcn r)) (hcr : ∀ r, r < 495 → gI τ 13 r = nI (crN s r)) (hrs : ∀ k, k < 18 → 10 ≤ k → gI τ 1 k = s k) (hB : toN s ≤ 5199948) {m k : Nat} (hk2 : 2 ≤ k) (hk : k ≤ 4) (P x5 : Int64) (x4 : Int32) (r44 : Mem × Int64 × Int32 → Option (Unit × Mem)) : lp (bX5_goes_56 N τ (nI m) P x4 x5 (nI k) r44) N ((0 : Int32), (0 : Int32)) = jX5_goes_124 N τ (nI m) P x4 x5 (nI k) (nI (wdP s m k 495)) (prV s P m k) r44 := by
  have hw := wdP_le s m k (Nat.le_refl 495)
  refine lp_fun (N := N) (b := bX5_goes_56 N τ (nI m) P x4 x5 (nI k) r44) (fun r => (nI (wdP s m k r), nI r)) 495 (by omega) (fun r rec hr => ?_) (fun rec => ?_)
  · have hp : pcn (rowT r &&& m) ≤ 4 := pcn_and4 hr
    have hlt : rowT r &&& m < 4096 := Nat.lt_of_le_of_lt Nat.and_le_left (rowT_lt hr)
    have g0 : ¬ (495 : Int32) ≤ nI r := by
      rw [show (495 : Int32) = nI 495 from rfl, le_F hr (by omega)]; exact not_false
    have hone : nI r + (1 : Int32) = nI (r + 1) := n_add r 1
    have hs : wdP s m k (r + 1) = wdP s m k r + (if pcn (rowT r &&& m) = k then crN s r else 0) := rfl
    unfold bX5_goes_56
    dsimp only
    rw [if_neg g0, inb_T hr (by decide), gbT, ix_n (by omega), h4 r hr, and_n, onesM h6 hlt, Option.bind_some, hone, hs]
    by_cases e : pcn (rowT r &&& m) = k
    · rw [if_pos (congrArg nI e), if_pos e, gbT, lt_d, hcr r hr, n_add]
    · rw [if_neg (fun z => e ((nI_eq (by omega) (by omega)).mp z)), if_neg e, lt_d, show (0 : Int32) = nI 0 from rfl, n_add]
  · unfold bX5_goes_56 prV
    dsimp only
    rw [if_pos (show (495 : Int32) ≤ nI 495 from by decide)]
    by_cases e : wdP s m k 495 = 0
    · rw [e, if_pos (show nI 0 = (0 : Int32) from rfl), if_pos rfl]
    · have hsh : shV (gI τ 1) P k = shV s P k := by unfold shV; rw [hrs (16 - k) (by omega) (by omega)]
      rw [if_neg (show ¬ nI (wdP s m k 495) = (0 : Int32) from fun z => e ((nI_eq (by omega) (by decide)).mp z)), if_neg e, shM P hk2 hk, Option.bind_some, n_l (by omega), nzL_n (by omega) (by omega), gbT, hsh]
/-- one prize of the component -/
theorem przX {σ : Mem} {N : Nat} (hN : 300000 ≤ N) {s : Nat → Int32} (ht : ∀ k, k < 495 → gI σ 62 k = nI (rowT k)) (hcr : ∀ r, r < 495 → gI σ 68 r = nI (crN s r)) (hru : Rul (gI σ 2) s) (hB : toN s ≤ 5199948) {m i w : Nat} (hi : i < 3) (hw : w < 40) (P z : Int64) (σ1 : Mem) (rec : Mem × Int64 × Int32 → Option (Int32 × Mem)) : bX0_plays_46 N σ1 (nI m) (nI w) P rec (σ, z, nI i) = rec (wI (wI σ (21 + i) (upd (gI σ (21 + i)) w (nI (wdP s m (4 - i) 495)))) (24 + i) (upd (gI σ (24 + i)) w (prV s P m (4 - i)).toInt32), z - prV s P m (4 - i) * (nI (wdP s m (4 - i) 495)).toInt64, nI (i + 1)) := by
  have hwd := wdP_le s m (4 - i) (Nat.le_refl 495)
  have g0 : ¬ (3 : Int32) ≤ nI i := by
    rw [show (3 : Int32) = nI 3 from rfl, le_F hi (by omega)]; exact not_false
  have h85 : ∀ c t, jX0_plays_85 N σ (nI m) (nI w) P z (nI i) c t rec = rec (wI (wI σ (21 + i) (upd (gI σ (21 + i)) w c)) (24 + i) (upd (gI σ (24 + i)) w t.toInt32), z - t * c.toInt64, nI (i + 1)) := by
    intro c t
    unfold jX0_plays_85
    rw [show (1 : Int32) = nI 1 from rfl, show (4 : Int32) = nI 4 from rfl, n_add, n_add, n_add, inb_T (by omega : 1 + i < 8) (by decide), gbT, inb_T hw (by decide), gbT, lt_d, inb_T (by omega : 4 + i < 8) (by decide), gbT, gbT, lt_d, lt_d, ix_n (by omega), ix_n (by omega), ix_n (by omega), pI_w, pI_w, show 20 + (1 + i) = 21 + i from by omega, show 20 + (4 + i) = 24 + i from by omega, gI_wIn _ _ (by omega : 24 + i ≠ 21 + i)]
  unfold bX0_plays_46
  dsimp only
  rw [if_neg g0, show (4 : Int32) = nI 4 from rfl, n_sub (by omega), wofX hN ht hcr (by omega), Option.bind_some, h85, shX hru P (by omega) (by omega), Option.bind_some, h85]
  unfold prV
  by_cases e : wdP s m (4 - i) 495 = 0
  · rw [e, if_pos (show nI 0 = (0 : Int32) from rfl), if_pos rfl]
  · rw [if_neg (show ¬ nI (wdP s m (4 - i) 495) = (0 : Int32) from fun z => e ((nI_eq (by omega) (by decide)).mp z)), if_neg e, n_l (by omega), nzL_n (by omega) (by omega), gbT]
