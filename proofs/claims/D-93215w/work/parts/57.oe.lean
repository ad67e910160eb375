/-! WINNERS: findWinners of the component, counts of the reference -/
set_option maxRecDepth 100000
/-- five rows written -/
def wB (σ : Mem) (g : Nat → Nat → Int32) : Mem := (fun c => if 70 ≤ c ∧ c < 75 then g (c - 70) else σ.1 c, σ.2)
theorem gI_wB (σ : Mem) (g : Nat → Nat → Int32) {k : Nat} (hk : k < 5) : gI (wB σ g) (70 + k) = g k := by
  funext i
  show (if 70 ≤ 70 + k ∧ 70 + k < 75 then g (70 + k - 70) else σ.1 (70 + k)) i = _
  rw [if_pos ⟨by omega, by omega⟩, Nat.add_sub_cancel_left]
theorem gI_wBo (σ : Mem) (g : Nat → Nat → Int32) {c : Nat} (hc : c < 70) : gI (wB σ g) c = gI σ c := by
  funext i
  show (if 70 ≤ c ∧ c < 75 then g (c - 70) else σ.1 c) i = _
  rw [if_neg (by omega)]; rfl
theorem wI_wB (σ : Mem) (g : Nat → Nat → Int32) {k : Nat} (hk : k < 5) (f : Nat → Int32) : wI (wB σ g) (70 + k) f = wB σ (fun j => if j = k then f else g j) := by
  have : (fun c' => if c' = 70 + k then f else (if 70 ≤ c' ∧ c' < 75 then g (c' - 70) else σ.1 c')) = (fun c => if 70 ≤ c ∧ c < 75 then (if c - 70 = k then f else g (c - 70)) else σ.1 c) := by
    funext c
    by_cases h1 : c = 70 + k
    · rw [if_pos h1, if_pos (by omega), if_pos (by omega)]
    · rw [if_neg h1]
      by_cases h2 : 70 ≤ c ∧ c < 75
      · rw [if_pos h2, if_pos h2, if_neg (by omega)]
      · rw [if_neg h2, if_neg h2]
  exact congrArg (fun f => ((f, σ.2) : Mem)) this
theorem wB_id (σ : Mem) : wB σ (fun j => gI σ (70 + j)) = σ := by
  have : (fun c => if 70 ≤ c ∧ c < 75 then (fun j => gI σ (70 + j)) (c - 70) else σ.1 c) = σ.1 := by
    funext c
    by_cases h2 : 70 ≤ c ∧ c < 75
    · rw [if_pos h2]; show gI σ (70 + (c - 70)) = _; rw [show 70 + (c - 70) = c from by omega]; rfl
    · rw [if_neg h2]
  exact congrArg (fun f => ((f, σ.2) : Mem)) this
/-- winners of a draw among the first n rows -/
def wnP (s : Nat → Int32) (d k n : Nat) : Nat := sN (fun r => if pcn (rowT r &&& rowT d) = k then crN s r else 0) n
theorem wnP_le (s : Nat → Int32) (d k : Nat) {n : Nat} (hn : n ≤ 495) : wnP s d k n ≤ toN s := by
  have h1 : wnP s d k n ≤ sN (crN s) n := sN_le (fun r _ => by split <;> omega)
  have h2 : ∀ m, n ≤ m → sN (crN s) n ≤ sN (crN s) m := by
    intro m hm
    induction hm with
    | refl => exact Nat.le_refl _
    | step _ ih => exact Nat.le_trans ih (Nat.le_add_right _ _)
  exact Nat.le_trans h1 (h2 495 hn)
theorem rankX {σ : Mem} {N : Nat} {a b : Nat} (ha : a < 495) (hb : b < 495) : fX0_rank N σ (nI (rowT a)) (nI (rowT b)) = some (nI (pcn (rowT a &&& rowT b))) := by
  unfold fX0_rank
  rw [and_n, bc_n N σ (Nat.lt_of_le_of_lt Nat.and_le_left (rowT_lt ha))]; rfl
theorem wB_c {σ : Mem} {g g' : Nat → Nat → Int32} (h : ∀ k, k < 5 → g k = g' k) : wB σ g = wB σ g' := by
  have : (fun c => if 70 ≤ c ∧ c < 75 then g (c - 70) else σ.1 c) = (fun c => if 70 ≤ c ∧ c < 75 then g' (c - 70) else σ.1 c) := by
    funext c
    by_cases h2 : 70 ≤ c ∧ c < 75
    · rw [if_pos h2, if_pos h2, h _ (by omega)]
    · rw [if_neg h2, if_neg h2]
  exact congrArg (fun f => ((f, σ.2) : Mem)) this
theorem upd2 {f : Nat → Int32} {k : Nat} {v w : Int32} : upd (upd f k v) k w = upd f k w := by
  funext j
  rw [upd_or, upd_or, upd_or]
  by_cases h : j = k
  · rw [if_pos h, if_pos h]
  · rw [if_neg h, if_neg h, if_neg h]
theorem winX1 {σ : Mem} {N : Nat} (hN : 300000 ≤ N) {s : Nat → Int32} (ht : ∀ k, k < 495 → gI σ 62 k = nI (rowT k)) (hcr : ∀ r, r < 495 → gI σ 68 r = nI (crN s r)) {d : Nat} (hd : d < 495) (g : Nat → Nat → Int32) (r14 : Mem × Int32 → Option (Unit × Mem)) (σ1 : Mem) : lp (bX0_findWinners_45 N σ1 (nI d) r14) N (wB σ (fun k => upd (g k) d (nI 0)), (0 : Int32)) = r14 (wB σ (fun k => upd (g k) d (nI (wnN s d k))), nI (d + 1)) := by
  refine lp_fun (N := N) (b := bX0_findWinners_45 N σ1 (nI d) r14) (fun r => (wB σ (fun k => upd (g k) d (nI (wnP s d k r))), nI r)) 495 (by omega) (fun r rec hr => ?_) (fun rec => ?_)
  · have hp : pcn (rowT r &&& rowT d) < 5 := Nat.lt_succ_of_le (pcn_and4 hr)
    unfold bX0_findWinners_45
    dsimp only
    have g0 : ¬ (495 : Int32) ≤ nI r := by
      rw [show (495 : Int32) = nI 495 from rfl, le_F hr (by omega)]; exact not_false
    rw [if_neg g0, inb_T hr (by decide), gbT, inb_T hd (by decide), gbT, ix_n (by omega), ix_n (by omega), gI_wBo σ _ (by decide), gI_wBo σ _ (by decide), ht r hr, ht d hd, rankX hr hd, Option.bind_some, inb_T hp (by decide), gbT, gbT, gbT, gbT, ix_n (by omega), lt_d, pI_w, gI_wB σ _ hp, wI_wB σ _ hp, hcr r hr, up_s, n_add, show (1 : Int32) = nI 1 from rfl, n_add, upd2]
    congr 2
    congr 1
    funext k
    by_cases e : k = pcn (rowT r &&& rowT d)
    · rw [if_pos e, ← e]
      congr 2
      show _ = wnP s d k r + (if pcn (rowT r &&& rowT d) = k then crN s r else 0)
      rw [if_pos e.symm]
    · rw [if_neg e]
      congr 2
      show _ = wnP s d k r + (if pcn (rowT r &&& rowT d) = k then crN s r else 0)
      rw [if_neg (fun z => e z.symm), Nat.add_zero]
  · unfold bX0_findWinners_45
    dsimp only
    rw [if_pos (show (495 : Int32) ≤ nI 495 from by decide), show (1 : Int32) = nI 1 from rfl, n_add]
    rfl
theorem winX0 {σ : Mem} {N : Nat} (hN : 300000 ≤ N) {d : Nat} (hd : d < 495) (g : Nat → Nat → Int32) (r14 : Mem × Int32 → Option (Unit × Mem)) (σ1 : Mem) : lp (bX0_findWinners_23 N σ1 (nI d) r14) N (wB σ g, (0 : Int32)) = lp (bX0_findWinners_45 N (wB σ (fun k => upd (g k) d (nI 0))) (nI d) r14) N (wB σ (fun k => upd (g k) d (nI 0)), (0 : Int32)) := by
  refine lp_fun (N := N) (b := bX0_findWinners_23 N σ1 (nI d) r14) (fun j => (wB σ (fun k => if k < j then upd (g k) d (nI 0) else g k), nI j)) 5 (by omega) (fun j rec hj => ?_) (fun rec => ?_)
  · unfold bX0_findWinners_23
    dsimp only
    have g0 : ¬ (4 : Int32) < nI j := by
      rw [show (4 : Int32) = nI 4 from rfl, l_F (by omega) (by omega)]; exact not_false
    rw [if_neg g0, inb_T hj (by decide), gbT, inb_T hd (by decide), gbT, ix_n (by omega), ix_n (by omega), lt_d, pI_w, gI_wB σ _ hj, wI_wB σ _ hj, show (1 : Int32) = nI 1 from rfl, n_add, if_neg (Nat.lt_irrefl j)]
    congr 2
    congr 1
    funext k
    by_cases e : k = j
    · rw [if_pos e, if_pos (by omega), e]; rfl
    · rw [if_neg e]
      by_cases e2 : k < j
      · rw [if_pos e2, if_pos (by omega)]
      · rw [if_neg e2, if_neg (by omega)]
  · unfold bX0_findWinners_23
    dsimp only
    rw [if_pos (show (4 : Int32) < nI 5 from by decide), wB_c (g' := fun k => upd (g k) d (nI 0)) (fun k hk => if_pos hk)]
theorem winX {σ : Mem} {N : Nat} (hN : 300000 ≤ N) {s : Nat → Int32} (ht : ∀ k, k < 495 → gI σ 62 k = nI (rowT k)) (hcr : ∀ r, r < 495 → gI σ 68 r = nI (crN s r)) : lp (bX0_findWinners_14 N σ) N (σ, (0 : Int32)) = some ((), wI (wB σ (fun k => fil (fun d => nI (wnN s d k)) (gI σ (70 + k)) 495)) 0 (upd (gI σ 0) 11 (nI 1))) := by
  have key := lp_fun (N := N) (b := bX0_findWinners_14 N σ) (fun d => (wB σ (fun k => fil (fun d => nI (wnN s d k)) (gI σ (70 + k)) d), nI d)) 495 (by omega) (r := some ((), wI (wB σ (fun k => fil (fun d => nI (wnN s d k)) (gI σ (70 + k)) 495)) 0 (upd (gI σ 0) 11 (nI 1)))) (fun d rec hd => ?_) (fun rec => ?_)
  · rw [show wB σ (fun k => fil (fun d => nI (wnN s d k)) (gI σ (70 + k)) 0) = σ from by simp only [fil_0]; exact wB_id σ] at key
    exact key
  · unfold bX0_findWinners_14
    dsimp only
    rw [if_neg (show ¬ (495 : Int32) ≤ nI d from by rw [show (495 : Int32) = nI 495 from rfl, le_F hd (by omega)]; exact not_false), winX0 hN hd, winX1 hN ht hcr hd]
    congr 2
    congr 1
    funext k
    exact fil_s rfl
  · unfold bX0_findWinners_14
    dsimp only
    rw [if_pos (show (495 : Int32) ≤ nI 495 from by decide), lt_d, pI_w, gI_wBo σ _ (by decide)]; rfl
/-- all fresh, winners too -/
theorem wonX {σ τ : Mem} (h : R σ τ) {N : Nat} (hN : 300000 ≤ N) : ∃ σ', fX0_findWinners N σ = some ((), σ') ∧ XF σ' (gI τ 1) ∧ (∀ d k, d < 495 → k < 5 → gI σ' (70 + k) d = nI (wnN (gI τ 1) d k)) ∧ R σ' τ ∧ gC σ' = gC σ ∧ gN σ' = gN σ := by
  obtain ⟨σ', x1, x2, x3, x4, x5⟩ := crossX h hN
  unfold fX0_findWinners
  rw [x1, Option.bind_some]
  have y3 := x3
  obtain ⟨a, ⟨p, w, b, hn, hru, hg, hap, hl, hh, hb⟩, c, d, e, f, g, i, j, k⟩ := y3
  by_cases h1 : gI σ' 0 11 = (0 : Int32)
  · rw [if_pos h1, winX hN a.1 x2.2.2.1]
    have hw : ∀ d k, d < 495 → k < 5 → gI (wI (wB σ' (fun k => fil (fun d => nI (wnN (gI τ 1) d k)) (gI σ' (70 + k)) 495)) 0 (upd (gI σ' 0) 11 (nI 1))) (70 + k) d = nI (wnN (gI τ 1) d k) := by
      intro d k hd hk
      rw [gI_wIn _ _ (by omega), gI_wB σ' _ hk]
      exact fil_in (f := fun d => nI (wnN (gI τ 1) d k)) hd
    refine ⟨_, rfl, ⟨x2.1, x2.2.1, x2.2.2.1, x2.2.2.2⟩, hw, ?_, x4, x5⟩
    refine ⟨a, ⟨p, w, b, hn, hru, hg, hap, hl, hh, hb⟩, c, d, e, f, Or.inr ⟨x2.1, x2.2.1, x2.2.2.1, x2.2.2.2, Or.inr ⟨rfl, fun d k hd hk => ?_⟩⟩, i, j, k⟩
    rw [← hw d k hd hk]
    have h5 : k = 0 ∨ k = 1 ∨ k = 2 ∨ k = 3 ∨ k = 4 := by omega
    rcases h5 with rfl | rfl | rfl | rfl | rfl <;> rfl
  · rw [if_neg h1]
    refine ⟨σ', rfl, x2, ?_, x3, x4, x5⟩
    rcases g with g | ⟨g1, g2, g3, g4, g5⟩
    · exact absurd (x2.1.symm.trans g) ne_01
    · rcases g5 with g5 | ⟨g5, g6⟩
      · exact absurd g5 h1
      · intro d k hd hk
        rw [← g6 d k hd hk]
        have h5 : k = 0 ∨ k = 1 ∨ k = 2 ∨ k = 3 ∨ k = 4 := by omega
        rcases h5 with rfl | rfl | rfl | rfl | rfl <;> rfl
