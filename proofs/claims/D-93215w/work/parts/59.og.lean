/-! WORTH -/
set_option maxRecDepth 100000
theorem lN_tI {n : Nat} (h : n < 9223372036854775808) : (lN n).toInt = n := Int64.toInt_ofNat_of_lt h
theorem bm64 {x : Int} (h1 : -9223372036854775808 ≤ x) (h2 : x < 9223372036854775808) : x.bmod (2 ^ 64) = x := by
  rw [show (2 : Nat) ^ 64 = 18446744073709551616 from rfl]
  unfold Int.bmod
  simp only
  split <;> omega
theorem divL {a b : Nat} (ha : a < 9223372036854775808) (hb : b < 9223372036854775808) : lN a / lN b = lN (a / b) := by
  have h := Nat.div_le_self a b
  apply Int64.toInt_inj.mp
  rw [Int64.toInt_div, lN_tI ha, lN_tI hb, lN_tI (by omega), ← Int.ofNat_tdiv]
  generalize a / b = q at h ⊢
  exact bm64 (by omega) (by omega)
theorem sub0 {a f : Nat} (ha : a < 4611686018427387904) (hf : f < 4611686018427387904) : lN a - lN f ≤ (0 : Int64) ↔ lN a ≤ lN f := by
  rw [Int64.le_iff_toInt_le, Int64.le_iff_toInt_le, Int64.toInt_sub, lN_tI (by omega), lN_tI (by omega), bm64 (by omega) (by omega), show (0 : Int64).toInt = 0 from rfl]
  omega
def taxV (s : Nat → Int32) (x : Int64) : Int64 := if x ≤ (s 16).toInt64 then x else x - ((x - (s 16).toInt64) * (s 15).toInt64) / (100 : Int64)
def shV (s : Nat → Int32) (x : Int64) (k : Nat) : Int64 := (x * (s (16 - k)).toInt64) / (100 : Int64)
def tmV (s : Nat → Int32) (P : Int64) (x r : Nat) : Int64 := if pcn (rowT x &&& rowT r) ≤ 1 then 0 else taxV s (shV s P (pcn (rowT x &&& rowT r)) / lN (wnN s r (pcn (rowT x &&& rowT r)) + 1))
def wtV (s : Nat → Int32) (P : Int64) (x : Nat) : Int32 := (sL (tmV s P x) 495 / (495 : Int64)).toInt32
theorem shA {σ : Mem} {s : Nat → Int32} (hru : Rul (gI σ 2) s) {P k : Nat} (hP : P ≤ 1000000000) (hk : 2 ≤ k) (hk4 : k ≤ 4) : ∃ A, A ≤ 1000000000 ∧ shV s (lN P) k = lN A := by
  obtain ⟨n, hn, e⟩ := (hru (6 - k) (by omega)).2
  have hh : hiR (6 - k) = 100 := by
    have : k = 2 ∨ k = 3 ∨ k = 4 := by omega
    rcases this with rfl | rfl | rfl <;> rfl
  have hPn : P * n ≤ 1000000000 * 100 := Nat.mul_le_mul hP (by omega)
  refine ⟨P * n / 100, by omega, ?_⟩
  unfold shV
  rw [show 16 - k = 10 + (6 - k) from by omega, e, n_l (by omega), mulL, show (100 : Int64) = lN 100 from rfl, divL (by omega) (by omega)]
theorem shX {σ : Mem} {N : Nat} {s : Nat → Int32} (hru : Rul (gI σ 2) s) (P : Int64) {k : Nat} (hk : 2 ≤ k) (hk4 : k ≤ 4) : fX0_shareOf N σ P (nI k) = some (shV s P k) := by
  have h1 := (hru (6 - k) (by omega)).1
  unfold fX0_shareOf shV
  rw [show (6 : Int32) = nI 6 from rfl, n_sub (by omega), inb_T (by omega : 6 - k < 8) (by decide), gbT, ix_n (by omega), h1, show 10 + (6 - k) = 16 - k from by omega]
theorem shM {τ : Mem} {N : Nat} (P : Int64) {k : Nat} (hk : 2 ≤ k) (hk4 : k ≤ 4) : fX5_shareOf N τ P (nI k) = some (shV (gI τ 1) P k) := by
  unfold fX5_shareOf shV
  rw [show (16 : Int32) = nI 16 from rfl, n_sub (by omega), inb_T (by omega : 16 - k < 919) (by decide), gbT, ix_n (by omega)]
theorem taxX {σ : Mem} {N : Nat} {s : Nat → Int32} (hru : Rul (gI σ 2) s) {A : Nat} (hA : A ≤ 1000000000) : fX0_taxed N σ (lN A) = some (taxV s (lN A)) := by
  have h6 := (hru 6 (by omega)).1
  have h5 := (hru 5 (by omega)).1
  obtain ⟨n, hn, e⟩ := (hru 6 (by omega)).2
  have hh : hiR 6 = 999999 := rfl
  unfold fX0_taxed taxV
  rw [lt_d, h6, h5]
  show (if lN A - (s 16).toInt64 ≤ 0 then _ else some (lN A - (lN A - (s 16).toInt64) * (s 15).toInt64 / 100)) = _
  have e' : s 16 = nI n := e
  rw [e', n_l (by omega)]
  by_cases h : lN A ≤ lN n
  · rw [if_pos ((sub0 (by omega) (by omega)).mpr h), if_pos h]
  · rw [if_neg (fun z => h ((sub0 (by omega) (by omega)).mp z)), if_neg h]
theorem taxM (τ : Mem) (N : Nat) (x : Int64) : fX5_taxed N τ x = some (taxV (gI τ 1) x) := by
  unfold fX5_taxed taxV
  split <;> rfl
theorem wnB {σ τ : Mem} (h : R σ τ) {d k : Nat} : wnN (gI τ 1) d k ≤ 5199948 := Nat.le_trans (wnP_le (gI τ 1) d k (Nat.le_refl 495)) (tot_le h)
theorem worthX {σ τ : Mem} (h : R σ τ) {N : Nat} (hN : 300000 ≤ N) (hw : ∀ d k, d < 495 → k < 5 → gI σ (70 + k) d = nI (wnN (gI τ 1) d k)) {P x : Nat} (hP : P ≤ 1000000000) (hx : x < 495) : fX0_worthOf N σ (nI x) (lN P) = some (wtV (gI τ 1) (lN P) x) := by
  have h' := h
  obtain ⟨a, ⟨p, w, b, hn, hru, -⟩, -⟩ := h'
  unfold fX0_worthOf
  refine lp_fun (N := N) (b := bX0_worthOf_6 N σ (nI x) (lN P)) (fun r => (sL (tmV (gI τ 1) (lN P) x) r, nI r)) 495 (by omega) (fun r rec hr => ?_) (fun rec => ?_)
  · have hp : pcn (rowT x &&& rowT r) < 5 := Nat.lt_succ_of_le (pcn_and4 hx)
    have g0 : ¬ (495 : Int32) ≤ nI r := by
      rw [show (495 : Int32) = nI 495 from rfl, le_F hr (by omega)]; exact not_false
    have hs : sL (tmV (gI τ 1) (lN P) x) (r + 1) = sL (tmV (gI τ 1) (lN P) x) r + tmV (gI τ 1) (lN P) x r := rfl
    have hone : nI r + (1 : Int32) = nI (r + 1) := n_add r 1
    unfold bX0_worthOf_6
    dsimp only
    rw [if_neg g0, inb_T hx (by decide), gbT, inb_T hr (by decide), gbT, ix_n (by omega), ix_n (by omega), a.1 x hx, a.1 r hr, rankX hx hr, Option.bind_some, hone, hs]
    unfold tmV
    generalize hv : pcn (rowT x &&& rowT r) = v at hp
    by_cases e : v ≤ 1
    · rw [if_pos (show nI v ≤ (1 : Int32) from nI_le e (by decide)), if_pos e, Int64.add_zero]
    · obtain ⟨A, hA, eA⟩ := shA (k := v) hru hP (by omega) (by omega)
      have hB := wnB h (d := r) (k := v)
      have hd : A / (wnN (gI τ 1) r v + 1) ≤ A := Nat.div_le_self _ _
      rw [if_neg (show ¬ nI v ≤ (1 : Int32) from (nI_ge (by omega) (by omega) : ¬ nI v ≤ nI 1)), if_neg e, shX hru _ (by omega) (by omega), Option.bind_some, inb_T hp (by decide), gbT, gbT, ix_n (by omega), hw r v hr hp, show (1 : Int32) = nI 1 from rfl, n_add, n_l (by omega), nzL_n (by omega) (by omega), gbT, eA, divL (by omega) (by omega), taxX hru (by omega), Option.bind_some, lt_d]
  · unfold bX0_worthOf_6
    dsimp only
    rw [if_pos (show (495 : Int32) ≤ nI 495 from by decide)]; rfl
theorem worthM {σ τ : Mem} (h : R σ τ) {N : Nat} (hN : 300000 ≤ N) {P x : Nat} (hP : P ≤ 1000000000) (hx : x < 495) : ∃ τ', fX5_worthOf N τ (nI x) (lN P) = some (wtV (gI τ 1) (lN P) x, τ') ∧ MF τ' ∧ R σ τ' ∧ gI τ' 1 = gI τ 1 := by
  obtain ⟨τ', m1, m2, m3, m4, m5, m6⟩ := wonM h hN
  refine ⟨τ', ?_, m2, m4, m5⟩
  have a := m4.1
  unfold fX5_worthOf fX5_getsAll
  rw [m1, Option.bind_some]
  have key := lp_fun (N := N) (b := bX5_getsAll_10 N τ' (nI x) (lN P)) (fun r => (sL (tmV (gI τ 1) (lN P) x) r, nI r)) 495 (by omega) (r := some (sL (tmV (gI τ 1) (lN P) x) 495, τ')) (fun r rec hr => ?_) (fun rec => ?_)
  · rw [show lp (bX5_getsAll_10 N τ' (nI x) (lN P)) N ((0 : Int64), (0 : Int32)) = _ from key]; rfl
  · have hp : pcn (rowT x &&& rowT r) < 5 := Nat.lt_succ_of_le (pcn_and4 hx)
    have hlt : rowT x &&& rowT r < 4096 := Nat.lt_of_le_of_lt Nat.and_le_left (rowT_lt hx)
    have g0 : ¬ (495 : Int32) ≤ nI r := by
      rw [show (495 : Int32) = nI 495 from rfl, le_F hr (by omega)]; exact not_false
    have hs : sL (tmV (gI τ 1) (lN P) x) (r + 1) = sL (tmV (gI τ 1) (lN P) x) r + tmV (gI τ 1) (lN P) x r := rfl
    have hone : nI r + (1 : Int32) = nI (r + 1) := n_add r 1
    unfold bX5_getsAll_10
    dsimp only
    rw [if_neg g0, inb_T hx (by decide), gbT, inb_T hr (by decide), gbT, ix_n (by omega), ix_n (by omega), a.2.1 x hx, a.2.1 r hr, and_n, onesM a.2.2.2.1 hlt, Option.bind_some, hone, hs]
    unfold tmV
    generalize hv : pcn (rowT x &&& rowT r) = v at hp
    by_cases e : v ≤ 1
    · rw [if_pos (show nI v ≤ (1 : Int32) from nI_le e (by decide)), if_pos e, Int64.add_zero]
    · have hB := wnB h (d := r) (k := v)
      have hi : (3 : Int32) * nI r + nI v - (2 : Int32) = nI (3 * r + (v - 2)) := by
        rw [show (3 : Int32) = nI 3 from rfl, show (2 : Int32) = nI 2 from rfl, n_mul, n_add, n_sub (by omega)]
        congr 1; omega
      have hw := m3 r (v - 2) hr (by omega)
      rw [show v - 2 + 2 = v from by omega] at hw
      rw [if_neg (show ¬ nI v ≤ (1 : Int32) from (nI_ge (by omega) (by omega) : ¬ nI v ≤ nI 1)), if_neg e, shM _ (by omega) (by omega), Option.bind_some, hi, inb_T (by omega : 3 * r + (v - 2) < 1485) (by decide), gbT, ix_n (by omega), hw, show (1 : Int32) = nI 1 from rfl, n_add, n_l (by omega), nzL_n (by omega) (by omega), gbT, taxM, Option.bind_some, lt_d, m5]
  · unfold bX5_getsAll_10
    dsimp only
    rw [if_pos (show (495 : Int32) ≤ nI 495 from by decide)]
theorem potB {σ τ : Mem} (h : R σ τ) {c : Nat} (hc : c ≤ 99999999) : ∃ P, P ≤ 1000000000 ∧ potV (gI τ 1) (lN c) = lN P := by
  have ht := tot_le h
  obtain ⟨a, ⟨p, w, b, hn, hru, -⟩, -⟩ := h
  obtain ⟨n0, h0, e0⟩ := (hru 0 (by omega)).2
  obtain ⟨n1, h1, e1⟩ := (hru 1 (by omega)).2
  have f0 : hiR 0 = 99 := rfl
  have f1 : hiR 1 = 100 := rfl
  have e0' : gI τ 1 10 = nI n0 := e0
  have e1' : gI τ 1 11 = nI n1 := e1
  have m1 : toN (gI τ 1) * n0 ≤ 5199948 * 99 := Nat.mul_le_mul ht (by omega)
  have m2 : toN (gI τ 1) * n0 * n1 ≤ 5199948 * 99 * 100 := Nat.mul_le_mul m1 (by omega)
  refine ⟨c + toN (gI τ 1) * n0 * n1 / 100, by omega, ?_⟩
  unfold potV
  rw [e0', e1', n_l (by omega), n_l (by omega), mulL, mulL, show (100 : Int64) = lN 100 from rfl, divL (by omega) (by omega), l_add]
theorem pot17 {σ τ : Mem} (h : R σ τ) : ∃ c, c ≤ 99999999 ∧ gI τ 1 17 = nI c ∧ gI σ 2 7 = nI c := by
  obtain ⟨a, ⟨p, w, b, hn, hru, -⟩, -⟩ := h
  obtain ⟨n0, h0, e0⟩ := (hru 7 (by omega)).2
  exact ⟨n0, h0, e0, ((hru 7 (by omega)).1).trans e0⟩
theorem op_worth {σ τ : Mem} (h : R σ τ) {N : Nat} (hN : 300000 ≤ N) (x : Int32) : Op σ τ (fX0_worth N σ x) (fX5_worth N τ x) := by
  unfold fX0_worth fX5_worth
  rw [isPlX, isPlM]
  cases hx : inP x 495 with
  | false =>
    simp (disch := first | omega | decide) only [lt_d, gbT, Option.bind_some, cT2_l, cT2_r, mO_n, mO_s, lit, litL, nb_t, nb_f, need_1, need_0, ix_n, inb_T, le_T, le_F, l_T, l_F, e_F, e_R, if_true, if_false, n_add, n_mul, n_sub, n_l, fM_1, fM_2, fM_3, fM_4, fM_6, fM_7]
    exact Op.err h (by decide) (finds_n N σ (by decide)) rfl
  | true =>
    obtain ⟨r, hr, rfl⟩ := inP_T (by decide) hx
    obtain ⟨σ', x1, x2, x3, x4, x5, x6⟩ := wonX h hN
    obtain ⟨c, hc, c1, c2⟩ := pot17 x4
    obtain ⟨τ1, m1, m2, m3, m4⟩ := potM x4 hN (gI τ 1 17)
    obtain ⟨P, hP, eP⟩ := potB x4 hc
    obtain ⟨τ2, w1, w2, w3, w4⟩ := worthM m3 hN hP hr
    rw [m4] at w1
    rw [nb_t, Option.bind_some, Option.bind_some, if_neg ne1, show fX0_need N σ (nI 1) (0 : Int32) = some (.inl (), σ) from need_1 N σ 0, Option.bind_some, cT2_l, x1, Option.bind_some, potX x4 x2, Option.bind_some, m1, Option.bind_some, c1, c2, n_l (by omega), eP, worthX x4 hN x3 hP hr, Option.bind_some, w1, Option.bind_some]
    exact ⟨_, _, _, rfl, rfl, w3⟩
