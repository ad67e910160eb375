/-! THE SEEKING: tried, isTaken, the rarest place -/
set_option maxRecDepth 100000
theorem begX {σ : Mem} {N : Nat} (hN : 300000 ≤ N) {f : Nat → Int32} (hf : ∀ r, r < 495 → gI σ 68 r = f r) : lp (bX0_begins_6 N σ) N (σ, (0 : Int32)) = some ((), wI (wI σ 75 (fil f (gI σ 75) 495)) 76 (fil (fun _ => nI 0) (gI σ 76) 495)) := by
  have key := lp_fun (b := bX0_begins_6 N σ) (fun k => (wI (wI σ 75 (fil f (gI σ 75) k)) 76 (fil (fun _ => nI 0) (gI σ 76) k), nI k)) 495 (N := N) (by omega) (r := some ((), wI (wI σ 75 (fil f (gI σ 75) 495)) 76 (fil (fun _ => nI 0) (gI σ 76) 495))) (fun k rec hk => ?_) (fun rec => ?_)
  · rw [show (wI (wI σ 75 (fil f (gI σ 75) 0)) 76 (fil (fun _ => nI 0) (gI σ 76) 0)) = σ from by rw [fil_0, fil_0, wI_id]; exact wI_id _ _] at key
    exact key
  · unfold bX0_begins_6
    have hk2 := hf k hk
    simp (disch := first | omega | decide) only [lt_d, gbT, Option.bind_some, cT2_l, cT2_r, mO_n, mO_s, lit, litL, nb_t, nb_f, need_1, need_0, ix_n, inb_T, le_T, le_F, l_T, l_F, e_F, e_R, if_true, if_false, n_add, n_mul, n_sub, n_l, fM_1, fM_2, fM_3, fM_4, fM_6, fM_7, pI_w, pL_w, pR_w, pC_w, nC_w, gI_wI, gI_wIn, gI_wL, gI_wR, gI_wC, gL_wL, gL_wLn, gL_wI, gL_wR, gL_wC, gR_wR, gR_wRn, gR_wI, gR_wL, gR_wC, gC_wI, gC_wL, gC_wR, gC_wC, gN_wI, gN_wL, gN_wR, gN_wC, wI_wI, wL_wL, wR_wR, wC_wC, up_s, up_n, hk2]
    rw [fil_s (v := f k) rfl, fil_s (f := fun _ => nI 0) rfl, wI_sw _ _ _ (by decide : (76 : Nat) ≠ 75), wI_wI, wI_wI]
  · unfold bX0_begins_6
    simp (disch := first | omega | decide) only [lt_d, gbT, Option.bind_some, cT2_l, cT2_r, mO_n, mO_s, lit, litL, nb_t, nb_f, need_1, need_0, ix_n, inb_T, le_T, le_F, l_T, l_F, e_F, e_R, if_true, if_false, n_add, n_mul, n_sub, n_l, fM_1, fM_2, fM_3, fM_4, fM_6, fM_7]
theorem begM {τ : Mem} {N : Nat} (hN : 300000 ≤ N) {f : Nat → Int32} (hf : ∀ r, r < 495 → gI τ 13 r = f r) : lp (bX5_begins_6 N τ) N (τ, (0 : Int32)) = some ((), wI (wI τ 16 (fil f (gI τ 16) 495)) 17 (fil (fun _ => nI 0) (gI τ 17) 495)) := by
  have key := lp_fun (b := bX5_begins_6 N τ) (fun k => (wI (wI τ 16 (fil f (gI τ 16) k)) 17 (fil (fun _ => nI 0) (gI τ 17) k), nI k)) 495 (N := N) (by omega) (r := some ((), wI (wI τ 16 (fil f (gI τ 16) 495)) 17 (fil (fun _ => nI 0) (gI τ 17) 495))) (fun k rec hk => ?_) (fun rec => ?_)
  · rw [show (wI (wI τ 16 (fil f (gI τ 16) 0)) 17 (fil (fun _ => nI 0) (gI τ 17) 0)) = τ from by rw [fil_0, fil_0, wI_id]; exact wI_id _ _] at key
    exact key
  · unfold bX5_begins_6
    have hk2 := hf k hk
    simp (disch := first | omega | decide) only [lt_d, gbT, Option.bind_some, cT2_l, cT2_r, mO_n, mO_s, lit, litL, nb_t, nb_f, need_1, need_0, ix_n, inb_T, le_T, le_F, l_T, l_F, e_F, e_R, if_true, if_false, n_add, n_mul, n_sub, n_l, fM_1, fM_2, fM_3, fM_4, fM_6, fM_7, pI_w, pL_w, pR_w, pC_w, nC_w, gI_wI, gI_wIn, gI_wL, gI_wR, gI_wC, gL_wL, gL_wLn, gL_wI, gL_wR, gL_wC, gR_wR, gR_wRn, gR_wI, gR_wL, gR_wC, gC_wI, gC_wL, gC_wR, gC_wC, gN_wI, gN_wL, gN_wR, gN_wC, wI_wI, wL_wL, wR_wR, wC_wC, up_s, up_n, hk2]
    rw [fil_s (v := f k) rfl, fil_s (f := fun _ => nI 0) rfl, wI_sw _ _ _ (by decide : (17 : Nat) ≠ 16), wI_wI, wI_wI]
  · unfold bX5_begins_6
    simp (disch := first | omega | decide) only [lt_d, gbT, Option.bind_some, cT2_l, cT2_r, mO_n, mO_s, lit, litL, nb_t, nb_f, need_1, need_0, ix_n, inb_T, le_T, le_F, l_T, l_F, e_F, e_R, if_true, if_false, n_add, n_mul, n_sub, n_l, fM_1, fM_2, fM_3, fM_4, fM_6, fM_7]
/-- cells that R does not look at -/
theorem R.free {σ τ : Mem} (h : R σ τ) (f g f' g' : Nat → Int32) : R (wI (wI σ 75 f) 76 g) (wI (wI τ 16 f') 17 g') := by
  obtain ⟨a', ⟨p', w', b', hn', hru', hg', hap', hl', hh', hb'⟩, c', d', e', f', g', i', j', k'⟩ := h
  exact ⟨a', ⟨p', w', b', hn', hru', hg', hap', hl', hh', hb'⟩, c', d', e', f', g', i', j', k'⟩
def eI : Option Nat → Int32
  | none => -1
  | some j => nI j
def le1 (T : Nat → Nat) (k : Nat) : Option Nat → Option Nat
  | none => some k
  | some j => if T j ≤ T k then some j else some k
def leA (T : Nat → Nat) (ok : Nat → Bool) : Nat → Option Nat
  | 0 => none
  | k + 1 => if ok k = true then le1 T k (leA T ok k) else leA T ok k
theorem le1_lt {T : Nat → Nat} {k : Nat} {o : Option Nat} (h : ∀ j, o = some j → j < k) : ∀ j, le1 T k o = some j → j < k + 1 := by
  intro j hj
  cases o with
  | none => cases hj; omega
  | some i =>
    have := h i rfl
    simp only [le1] at hj
    split at hj <;> cases hj <;> omega
theorem leA_lt {T : Nat → Nat} {ok : Nat → Bool} : ∀ k j, leA T ok k = some j → j < k
  | 0, j, h => by cases h
  | k + 1, j, h => by
    simp only [leA] at h
    split at h
    · exact le1_lt (leA_lt k) j h
    · have := leA_lt k j h; omega
theorem leA_ok {T : Nat → Nat} {ok : Nat → Bool} : ∀ k j, leA T ok k = some j → ok j = true
  | 0, j, h => by cases h
  | k + 1, j, h => by
    simp only [leA] at h
    split at h
    · rename_i hk
      generalize e : leA T ok k = o at h
      cases o with
      | none => cases h; exact hk
      | some i =>
        simp only [le1] at h
        split at h
        · cases h; exact leA_ok k _ e
        · cases h; exact hk
    · exact leA_ok k j h
theorem leA_so {T : Nat → Nat} {ok : Nat → Bool} {n : Nat} (h : ok n = true) : ∀ k, n < k → ∃ j, leA T ok k = some j
  | 0, h => absurd h (Nat.not_lt_zero _)
  | k + 1, hk => by
    simp only [leA]
    by_cases e : ok k = true
    · rw [if_pos e]
      cases leA T ok k with
      | none => exact ⟨_, rfl⟩
      | some i =>
        simp only [le1]
        split
        · exact ⟨_, rfl⟩
        · exact ⟨_, rfl⟩
    · rw [if_neg e]
      have : n ≠ k := fun q => e (q ▸ h)
      exact leA_so h k (by omega)
theorem leA_c {T : Nat → Nat} {ok ok' : Nat → Bool} : ∀ {n : Nat}, (∀ k, k < n → ok k = ok' k) → leA T ok n = leA T ok' n
  | 0, _ => rfl
  | n + 1, h => by
    simp only [leA]
    rw [h n (Nat.lt_succ_self n), leA_c (n := n) (fun k hk => h k (by omega))]
theorem ljX {σ : Mem} {N : Nat} {T : Nat → Nat} (hT : ∀ r, r < 495 → gI σ 75 r = nI (T r)) (hB : ∀ r, r < 495 → T r < 2147483648) (x : Int32) {k : Nat} (hk : k < 495) {o : Option Nat} (ho : ∀ j, o = some j → j < k) (rec : Int32 × Int32 → Option Int32) : jX0_leastOf_24 N σ x (eI o) (nI k) rec = rec (eI (le1 T k o), nI (k + 1)) := by
  unfold jX0_leastOf_24
  have h1 : nI k + (1 : Int32) = nI (k + 1) := n_add k 1
  rw [h1]
  cases o with
  | none => rw [if_pos (show eI none < (0 : Int32) from by decide)]; rfl
  | some j =>
    have hj := ho j rfl
    rw [show eI (some j) = nI j from rfl, if_neg (show ¬ nI j < (0 : Int32) from by rw [show (0 : Int32) = nI 0 from rfl, l_F (Nat.zero_le _) (by omega)]; exact not_false), inb_T hk (by decide), gbT, inb_T (by omega : j < 495) (by decide), gbT, ix_n (by omega), ix_n (by omega), hT j (by omega), hT k hk]
    simp only [le1]
    by_cases e : T j ≤ T k
    · rw [if_pos (nI_le e (hB k hk)), if_pos e]; rfl
    · rw [if_neg (nI_ge (by omega) (hB j (by omega))), if_neg e]; rfl
theorem leastX {σ : Mem} {N : Nat} (hN : 300000 ≤ N) {T : Nat → Nat} (hT : ∀ r, r < 495 → gI σ 75 r = nI (T r)) (hB : ∀ r, r < 495 → T r < 2147483648) {x : Int32} {ok : Nat → Bool} (hok : ∀ r, r < 495 → ok r = (decide (x = (0 : Int32)) || decide (gI σ 76 r = (0 : Int32)))) : fX0_leastOf N σ x = some (eI (leA T ok 495)) := by
  unfold fX0_leastOf
  refine lp_fun (b := bX0_leastOf_4 N σ x) (fun k => (eI (leA T ok k), nI k)) 495 (N := N) (by omega) (fun k rec hk => ?_) (fun rec => ?_)
  · have lj := ljX (N := N) hT hB x hk (leA_lt (T := T) (ok := ok) k) rec
    have g0 : ¬ (495 : Int32) ≤ nI k := by
      rw [show (495 : Int32) = nI 495 from rfl, le_F hk (by omega)]; exact not_false
    have ho := hok k hk
    unfold bX0_leastOf_4
    dsimp only
    rw [if_neg g0, lj, inb_T hk (by decide), gbT, ix_n (by omega)]
    simp only [leA]
    by_cases h0 : x = (0 : Int32)
    · rw [decide_eq_true h0, Bool.true_or] at ho
      rw [if_pos h0, if_pos ho]
    · rw [decide_eq_false h0, Bool.false_or] at ho
      rw [if_neg h0]
      by_cases h1 : gI σ 76 k = (0 : Int32)
      · rw [decide_eq_true h1] at ho
        rw [if_pos h1, if_pos ho]
      · rw [decide_eq_false h1] at ho
        rw [if_neg h1, ho, if_neg (by decide), show (1 : Int32) = nI 1 from rfl, n_add]
  · unfold bX0_leastOf_4
    dsimp only
    rw [if_pos (show (495 : Int32) ≤ nI 495 from by decide)]
theorem rareM {τ : Mem} {N : Nat} (hN : 300000 ≤ N) {T : Nat → Nat} (hT : ∀ r, r < 495 → gI τ 16 r = nI (T r)) (hB : ∀ r, r < 495 → T r < 2147483648) {ok : Nat → Bool} (hok : ∀ r, r < 495 → ok r = decide (gI τ 17 r = (0 : Int32))) : fX5_rarest N τ = some (eI (leA T ok 495)) := by
  unfold fX5_rarest
  refine lp_fun (b := bX5_rarest_4 N τ) (fun k => (eI (leA T ok k), nI k)) 495 (N := N) (by omega) (fun k rec hk => ?_) (fun rec => ?_)
  · have hl := leA_lt (T := T) (ok := ok) k
    have g0 : ¬ (495 : Int32) ≤ nI k := by
      rw [show (495 : Int32) = nI 495 from rfl, le_F hk (by omega)]; exact not_false
    have ho := hok k hk
    have h1 : nI k + (1 : Int32) = nI (k + 1) := n_add k 1
    unfold bX5_rarest_4
    dsimp only
    rw [if_neg g0, inb_T hk (by decide), gbT, ix_n (by omega), h1]
    simp only [leA]
    by_cases h1 : gI τ 17 k = (0 : Int32)
    · rw [decide_eq_true h1] at ho
      rw [if_pos h1, if_pos ho]
      generalize leA T ok k = o at hl
      cases o with
      | none => rw [if_pos (show eI none < (0 : Int32) from by decide)]; rfl
      | some j =>
        have hj := hl j rfl
        rw [show eI (some j) = nI j from rfl, if_neg (show ¬ nI j < (0 : Int32) from by rw [show (0 : Int32) = nI 0 from rfl, l_F (Nat.zero_le _) (by omega)]; exact not_false), gbT, inb_T (by omega : j < 495) (by decide), gbT, ix_n (by omega), hT j (by omega), hT k hk, lt_d]
        simp only [le1]
        by_cases e : T j ≤ T k
        · rw [if_pos (nI_le e (hB k hk)), if_pos e]; rfl
        · rw [if_neg (nI_ge (by omega) (hB j (by omega))), if_neg e]; rfl
    · rw [decide_eq_false h1] at ho
      rw [if_neg h1, ho, if_neg (by decide)]
  · unfold bX5_rarest_4
    dsimp only
    rw [if_pos (show (495 : Int32) ≤ nI 495 from by decide)]
theorem R.free1 {σ τ : Mem} (h : R σ τ) (f g f' : Nat → Int32) : R (wI (wI σ 76 f) 75 g) (wI τ 16 f') := by
  obtain ⟨a', ⟨p', w', b', hn', hru', hg', hap', hl', hh', hb'⟩, c', d', e', f', g', i', j', k'⟩ := h
  exact ⟨a', ⟨p', w', b', hn', hru', hg', hap', hl', hh', hb'⟩, c', d', e', f', g', i', j', k'⟩
def SkP (n : Nat) (f : Nat → Nat) (s s' : Mem × Int32 × Int32) : Prop := ∃ (k : Nat) (T : Nat → Nat), k ≤ n ∧ s.2 = s'.2 ∧ s.2.2 = nI k ∧ R s.1 s'.1 ∧ (∀ r, r < 495 → gI s.1 75 r = nI (T r) ∧ gI s'.1 16 r = nI (T r) ∧ gI s'.1 17 r = nI 0 ∧ gI s'.1 13 r = nI (f r) ∧ f r ≤ T r ∧ T r ≤ f r + k ∧ (gI s.1 76 r = nI 0 ↔ T r = f r))
theorem upd_or {f : Nat → Int32} {k j : Nat} {v : Int32} : upd f k v j = if j = k then v else f j := by
  by_cases h : j = k
  · rw [if_pos h, h, up_s]
  · rw [if_neg h, up_n h]
theorem seekLp {N n : Nat} (hN : 300000 ≤ N) (hn : n ≤ 200) {f : Nat → Nat} (hf : ∀ r, r < 495 → f r ≤ 10000000) (x2 : Int32) {σ0 τ0 : Mem} {σ τ : Mem} (h : SkP n f (σ, (0 : Int32), (0 : Int32)) (τ, (0 : Int32), (0 : Int32))) : Op σ0 τ0 (lp (bX0_seek_40 N σ (nI n) x2) N (σ, (0 : Int32), (0 : Int32))) (lp (bX5_seek_38 N τ (nI n) x2) N (τ, (0 : Int32), (0 : Int32))) := by
  refine lp_two (P := SkP n f) (μ := fun s => n - ix s.2.2) (Q := fun F G => Op σ0 τ0 F G) ?_ N _ _ (by omega) h
  rintro ⟨s, c, i⟩ ⟨s', c', i'⟩ ⟨k, T, h1, h2, h3, h4, h5⟩
  dsimp only at h1 h2 h3 h4 h5
  cases h2
  subst h3
  have hT := leA_so (T := T) (ok := fun _ => true) (n := 0) rfl 495 (by decide)
  obtain ⟨q, hq⟩ := hT
  have hq5 := leA_lt _ _ hq
  have hX : fX0_leastOf N s (0 : Int32) = some (nI q) := by
    rw [leastX hN (T := T) (ok := fun _ => true) (fun r hr => (h5 r hr).1) (fun r hr => by have := h5 r hr; have := hf r hr; omega) (fun r hr => by rw [decide_eq_true rfl, Bool.true_or]), hq]; rfl
  have hM : fX5_rarest N s' = some (nI q) := by
    rw [rareM hN (T := T) (ok := fun _ => true) (fun r hr => (h5 r hr).2.1) (fun r hr => by have := h5 r hr; have := hf r hr; omega) (fun r hr => (decide_eq_true (h5 r hr).2.2.1).symm), hq]; rfl
  obtain ⟨q1, q2, q3, q4, q5, q6, q7⟩ := h5 q hq5
  have hfq := hf q hq5
  by_cases e : n ≤ k
  · left
    intro rec rec'
    unfold bX0_seek_40 bX5_seek_38
    dsimp only
    rw [if_pos (nI_le e (by omega)), if_pos (nI_le e (by omega)), hX, hM, Option.bind_some, Option.bind_some, inb_T hq5 (by decide), gbT, gbT, ix_n (by omega), q1, q2]
    by_cases h0 : x2 = (0 : Int32)
    · rw [if_pos h0, if_pos h0]; exact ⟨_, _, _, rfl, rfl, h4⟩
    · rw [if_neg h0, if_neg h0]; exact ⟨_, _, _, rfl, rfl, h4⟩
  · right
    refine ⟨(wI (wI s 76 (upd (gI s 76) q (nI 1))) 75 (upd (gI s 75) q (nI (T q + 1))), c + (if T q = f q then nI 1 else nI 0), nI (k + 1)), (wI s' 16 (upd (gI s' 16) q (nI (T q + 1))), c + (if T q = f q then nI 1 else nI 0), nI (k + 1)), ⟨k + 1, fun r => if r = q then T q + 1 else T r, by omega, rfl, rfl, h4.free1 _ _ _, ?_⟩, ?_, ?_, ?_⟩
    · intro r hr
      obtain ⟨r1, r2, r3, r4, r5, r6, r7⟩ := h5 r hr
      dsimp only
      simp (disch := first | omega | decide) only [pI_w, pL_w, pR_w, pC_w, nC_w, gI_wI, gI_wIn, gI_wL, gI_wR, gI_wC, gL_wL, gL_wLn, gL_wI, gL_wR, gL_wC, gR_wR, gR_wRn, gR_wI, gR_wL, gR_wC, gC_wI, gC_wL, gC_wR, gC_wC, gN_wI, gN_wL, gN_wR, gN_wC, wI_wI, wL_wL, wR_wR, wC_wC, up_s, up_n, upd_or]
      by_cases e2 : r = q
      · subst e2
        simp only [if_true]
        refine ⟨trivial, trivial, r3, r4, by omega, by omega, ⟨fun z => absurd z (by decide), fun z => by omega⟩⟩
      · simp only [if_neg e2]
        exact ⟨r1, r2, r3, r4, r5, by omega, r7⟩
    · show n - ix (nI (k + 1)) < n - ix (nI k)
      rw [ix_n (by omega), ix_n (by omega)]; omega
    · intro rec
      unfold bX0_seek_40
      dsimp only
      rw [if_neg (nI_ge (by omega) (by omega)), hX, Option.bind_some, inb_T hq5 (by decide), gbT, ix_n (by omega), lt_d, gbT, lt_d, gbT, gbT, lt_d, pI_w, pI_w, show gI (wI s 76 (upd (gI s 76) q (1 : Int32))) 75 = gI s 75 from rfl, q1, show (1 : Int32) = nI 1 from rfl, n_add, n_add]
      by_cases e2 : T q = f q
      · rw [if_pos (show gI s 76 q = (0 : Int32) from q7.mpr e2), if_pos e2]
      · rw [if_neg (show ¬ gI s 76 q = (0 : Int32) from fun z => e2 (q7.mp z)), if_neg e2]; rfl
    · intro rec
      unfold bX5_seek_38
      dsimp only
      rw [if_neg (nI_ge (by omega) (by omega)), hM, Option.bind_some, inb_T hq5 (by decide), gbT, gbT, ix_n (by omega), lt_d, gbT, gbT, lt_d, pI_w, q2, q4, show (1 : Int32) = nI 1 from rfl, n_add, n_add]
      by_cases e2 : T q = f q
      · rw [if_pos (congrArg nI e2), if_pos e2]
      · rw [if_neg (fun z => e2 ((nI_eq (by omega) (by omega)).mp z)), if_neg e2]; rfl
theorem op_seek {σ τ : Mem} (h : R σ τ) {N : Nat} (hN : 300000 ≤ N) (x y : Int32) : Op σ τ (fX0_seek N σ x y) (fX5_seek N τ x y) := by
  have hX : fX0_in N σ x.toInt64 (1 : Int64) (200 : Int64) = some (nb (inR x 1 200)) := in_R N σ x (a := 1) (b := 200) (by decide) (by decide)
  have hM : fX5_isIn N τ x.toInt64 (1 : Int64) (200 : Int64) = some (nb (inR x 1 200)) := isIn_R N τ x (a := 1) (b := 200) (by decide) (by decide)
  have hX2 : fX0_in N σ y.toInt64 (0 : Int64) (1 : Int64) = some (nb (inR y 0 1)) := in_R N σ y (a := 0) (b := 1) (by decide) (by decide)
  have hM2 : fX5_isIn N τ y.toInt64 (0 : Int64) (1 : Int64) = some (nb (inR y 0 1)) := isIn_R N τ y (a := 0) (b := 1) (by decide) (by decide)
  unfold fX0_seek fX5_seek
  rw [hX, hM, hX2, hM2]
  cases hx : inR x 1 200 with
  | false =>
    simp (disch := first | omega | decide) only [lt_d, gbT, Option.bind_some, cT2_l, cT2_r, mO_n, mO_s, lit, litL, nb_t, nb_f, need_1, need_0, ix_n, inb_T, le_T, le_F, l_T, l_F, e_F, e_R, if_true, if_false, n_add, n_mul, n_sub, n_l, fM_1, fM_2, fM_3, fM_4, fM_6, fM_7]
    exact Op.err h (by decide) (finds_n N σ (by decide)) rfl
  | true =>
    obtain ⟨n, hn1, hn2, rfl⟩ := inR_T (by decide) (by decide) hx
    rw [nb_t, Option.bind_some, if_neg ne1, Option.bind_some, Option.bind_some, if_neg ne1, Option.bind_some]
    cases hy : inR y 0 1 with
    | false =>
      simp (disch := first | omega | decide) only [lt_d, gbT, Option.bind_some, cT2_l, cT2_r, mO_n, mO_s, lit, litL, nb_t, nb_f, need_1, need_0, ix_n, inb_T, le_T, le_F, l_T, l_F, e_F, e_R, if_true, if_false, n_add, n_mul, n_sub, n_l, fM_1, fM_2, fM_3, fM_4, fM_6, fM_7]
      exact Op.err h (by decide) (finds_n N σ (by decide)) rfl
    | true =>
      obtain ⟨σ', x1, x2, x3, x4, x5⟩ := crossX h hN
      obtain ⟨τ', m1, m2, m3, m4, -⟩ := workM x3 hN
      have hcr := crB h
      have ht := tot_le h
      rw [nb_t, if_neg ne1, if_neg ne1, show fX0_need N σ (1 : Int32) (0 : Int32) = some (.inl (), σ) from need_1 N σ 0, Option.bind_some, cT2_l]
      unfold fX0_begins fX5_begins
      have hm2 := m2.2.2.1
      rw [m4] at hm2
      rw [x1, m1, Option.bind_some, Option.bind_some, begX hN (f := fun r => nI (crN (gI τ 1) r)) x2.2.2.1, begM hN (f := fun r => nI (crN (gI τ 1) r)) hm2, Option.bind_some, Option.bind_some]
      refine seekLp hN hn2 (f := crN (gI τ 1)) (fun r hr => ?_) y ⟨0, crN (gI τ 1), Nat.zero_le _, rfl, rfl, m3.free _ _ _ _, fun r hr => ⟨fil_in (f := fun r => nI (crN (gI τ 1) r)) hr, fil_in (f := fun r => nI (crN (gI τ 1) r)) hr, fil_in (f := fun _ => nI 0) hr, hm2 r hr, Nat.le_refl _, Nat.le_refl _, ⟨fun _ => rfl, fun _ => fil_in (f := fun _ => nI 0) hr⟩⟩⟩
      have h2 : crN (gI τ 1) r ≤ toN (gI τ 1) := sN_part hr
      omega
