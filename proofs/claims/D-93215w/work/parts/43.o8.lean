/-! OPERATIONS: copies between sheets -/
set_option maxRecDepth 100000
def cpL (nu : Nat → Int64) (a b n : Nat) : Nat → Int64 := fun j => if b ≤ j ∧ j < b + n then nu (a + (j - b)) else nu j
def cpB (nu : Nat → Int64) (a b n k : Nat) : Nat → Int64 := fun j => if b + (n - k) ≤ j ∧ j < b + n then nu (a + (j - b)) else nu j
theorem cpL_s {nu : Nat → Int64} {a b k : Nat} (h : b ≤ a) : vp_updL (cpL nu a b k) (b + k) (cpL nu a b k (a + k)) = cpL nu a b (k + 1) := by
  funext j
  have e0 : cpL nu a b k (a + k) = nu (a + k) := by
    unfold cpL
    by_cases q : b ≤ a + k ∧ a + k < b + k
    · omega
    · rw [if_neg q]
  rw [e0]
  by_cases e : j = b + k
  · subst e; rw [upL_s]; unfold cpL; rw [if_pos (by omega)]; congr 1; omega
  · rw [upL_n e]
    unfold cpL
    by_cases q : b ≤ j ∧ j < b + k
    · rw [if_pos q, if_pos (by omega)]
    · rw [if_neg q, if_neg (by omega)]
theorem cpB_s {nu : Nat → Int64} {a b n k : Nat} (h : a < b) (hk : k < n) : vp_updL (cpB nu a b n k) (b + (n - 1 - k)) (cpB nu a b n k (a + (n - 1 - k))) = cpB nu a b n (k + 1) := by
  funext j
  have e0 : cpB nu a b n k (a + (n - 1 - k)) = nu (a + (n - 1 - k)) := by
    unfold cpB
    rw [if_neg (by omega)]
  rw [e0]
  by_cases e : j = b + (n - 1 - k)
  · subst e; rw [upL_s]; unfold cpB; rw [if_pos (by omega)]; congr 1; omega
  · rw [upL_n e]
    unfold cpB
    by_cases q : b + (n - k) ≤ j ∧ j < b + n
    · rw [if_pos q, if_pos (by omega)]
    · rw [if_neg q, if_neg (by omega)]
theorem cpL_0 (nu : Nat → Int64) (a b : Nat) : cpL nu a b 0 = nu := by funext j; unfold cpL; rw [if_neg (by omega)]
theorem cpB_0 (nu : Nat → Int64) (a b n : Nat) : cpB nu a b n 0 = nu := by funext j; unfold cpB; rw [if_neg (by omega)]
theorem cpB_n (nu : Nat → Int64) (a b n : Nat) : cpB nu a b n n = cpL nu a b n := by funext j; unfold cpB cpL; rw [Nat.sub_self, Nat.add_zero]
theorem cpM {τ : Mem} {N a b n : Nat} (hN : 300000 ≤ N) (hn : n ≤ 40) (ha : a + n ≤ 160) (hb : b + n ≤ 160) : lp (bX5_copy_137 N τ (nI n) (nI a) (nI b)) N (τ, nI 0) = some (nI n, wL τ 11 (cpL (gL τ 11) a b n)) := by
  by_cases h : b ≤ a
  · have key := lp_fun (b := bX5_copy_137 N τ (nI n) (nI a) (nI b)) (fun k => (wL τ 11 (cpL (gL τ 11) a b k), nI k)) n (N := N) (by omega) (r := some (nI n, wL τ 11 (cpL (gL τ 11) a b n))) (fun k rec hk => ?_) (fun rec => ?_)
    · rw [cpL_0, wL_id] at key
      exact key
    · unfold bX5_copy_137
      simp (disch := first | omega | decide) only [lt_d, gbT, Option.bind_some, cT2_l, cT2_r, mO_n, mO_s, lit, litL, nb_t, nb_f, need_1, need_0, ix_n, inb_T, le_T, le_F, l_T, l_F, e_F, e_R, if_true, if_false, n_add, n_mul, n_sub, n_l, fM_1, fM_2, fM_3, fM_4, fM_6, fM_7, pI_w, pL_w, pR_w, pC_w, nC_w, gI_wI, gI_wIn, gI_wL, gI_wR, gI_wC, gL_wL, gL_wLn, gL_wI, gL_wR, gL_wC, gR_wR, gR_wRn, gR_wI, gR_wL, gR_wC, gC_wI, gC_wL, gC_wR, gC_wC, gN_wI, gN_wL, gN_wR, gN_wC, wI_wI, wL_wL, wR_wR, wC_wC, up_s, up_n, cpL_s h]
    · unfold bX5_copy_137
      simp (disch := first | omega | decide) only [lt_d, gbT, Option.bind_some, cT2_l, cT2_r, mO_n, mO_s, lit, litL, nb_t, nb_f, need_1, need_0, ix_n, inb_T, le_T, le_F, l_T, l_F, e_F, e_R, if_true, if_false, n_add, n_mul, n_sub, n_l, fM_1, fM_2, fM_3, fM_4, fM_6, fM_7, pI_w, pL_w, pR_w, pC_w, nC_w, gI_wI, gI_wIn, gI_wL, gI_wR, gI_wC, gL_wL, gL_wLn, gL_wI, gL_wR, gL_wC, gR_wR, gR_wRn, gR_wI, gR_wL, gR_wC, gC_wI, gC_wL, gC_wR, gC_wC, gN_wI, gN_wL, gN_wR, gN_wC, wI_wI, wL_wL, wR_wR, wC_wC, up_s, up_n]
  · have h : a < b := by omega
    have key := lp_fun (b := bX5_copy_137 N τ (nI n) (nI a) (nI b)) (fun k => (wL τ 11 (cpB (gL τ 11) a b n k), nI k)) n (N := N) (by omega) (r := some (nI n, wL τ 11 (cpL (gL τ 11) a b n))) (fun k rec hk => ?_) (fun rec => ?_)
    · rw [cpB_0, wL_id] at key
      exact key
    · unfold bX5_copy_137
      simp (disch := first | omega | decide) only [lt_d, gbT, Option.bind_some, cT2_l, cT2_r, mO_n, mO_s, lit, litL, nb_t, nb_f, need_1, need_0, ix_n, inb_T, le_T, le_F, l_T, l_F, e_F, e_R, if_true, if_false, n_add, n_mul, n_sub, n_l, fM_1, fM_2, fM_3, fM_4, fM_6, fM_7, pI_w, pL_w, pR_w, pC_w, nC_w, gI_wI, gI_wIn, gI_wL, gI_wR, gI_wC, gL_wL, gL_wLn, gL_wI, gL_wR, gL_wC, gR_wR, gR_wRn, gR_wI, gR_wL, gR_wC, gC_wI, gC_wL, gC_wR, gC_wC, gN_wI, gN_wL, gN_wR, gN_wC, wI_wI, wL_wL, wR_wR, wC_wC, up_s, up_n, cpB_s h hk]
    · unfold bX5_copy_137
      simp (disch := first | omega | decide) only [lt_d, gbT, Option.bind_some, cT2_l, cT2_r, mO_n, mO_s, lit, litL, nb_t, nb_f, need_1, need_0, ix_n, inb_T, le_T, le_F, l_T, l_F, e_F, e_R, if_true, if_false, n_add, n_mul, n_sub, n_l, fM_1, fM_2, fM_3, fM_4, fM_6, fM_7, pI_w, pL_w, pR_w, pC_w, nC_w, gI_wI, gI_wIn, gI_wL, gI_wR, gI_wC, gL_wL, gL_wLn, gL_wI, gL_wR, gL_wC, gR_wR, gR_wRn, gR_wI, gR_wL, gR_wC, gC_wI, gC_wL, gC_wR, gC_wC, gN_wI, gN_wL, gN_wR, gN_wC, wI_wI, wL_wL, wR_wR, wC_wC, up_s, up_n, cpB_n]
theorem lt64 {n : Nat} (hn : n ≤ 40) (x y : Int32) (hx : ¬ x < 0) (hy : ¬ y < 0) : ((nI n).toInt64 < x.toInt64 + y.toInt64) ↔ (nI n - x < y) := by
  rw [Int64.lt_iff_toInt_lt, Int32.lt_iff_toInt_lt, Int64.toInt_add, Int32.toInt_sub, Int32.toInt_toInt64, Int32.toInt_toInt64, Int32.toInt_toInt64, nI_toInt (by omega)]
  have h1 : ¬ x.toInt < 0 := fun q => hx (Int32.lt_iff_toInt_lt.mpr q)
  have h2 : ¬ y.toInt < 0 := fun q => hy (Int32.lt_iff_toInt_lt.mpr q)
  have b1 := Int32.toInt_lt x
  have b2 := Int32.toInt_lt y
  have b3 : (2 : Int) ^ 31 = 2147483648 := by decide
  rw [Int.bmod_eq_of_le (by omega) (by omega), Int.bmod_eq_of_le (by omega) (by omega)]
  omega
theorem cpy_Shs {σ τ : Mem} {t u : Nat} {cc : Nat} {from_ to n : Nat} {e' : va_E} (e : Shs (pk4 (gR σ 57 0) (gR σ 58 0) (gR σ 59 0) (gR σ 60 0)) (gC σ) (gI τ 9) (gI τ 10) (gL τ 11)) (hu : u < 4) (q1 : gR σ (57 + u) 0 = some cc) (hto : to + n ≤ 40) (hsh : She (some cc) (updC (gC σ) cc e') (gI τ 9 u) (gI τ 10 u) (fun i => cpL (gL τ 11) (40 * t + from_) (40 * u + to) n (40 * u + i))) : Shs (pk4 (gR σ 57 0) (gR σ 58 0) (gR σ 59 0) (gR σ 60 0)) (updC (gC σ) cc e') (gI τ 9) (gI τ 10) (cpL (gL τ 11) (40 * t + from_) (40 * u + to) n) := by
  refine ⟨fun v hv => ?_, e.2⟩
  by_cases eu : v = u
  · subst eu
    rw [sh_0 σ hv, q1]
    exact hsh
  · refine ((e.1 v hv).ne (fun z => eu (e.2 v u cc hv hu z (by rw [sh_0 σ hu]; exact q1)))).c (fun i hi => ?_)
    show cpL (gL τ 11) (40 * t + from_) (40 * u + to) n (40 * v + i) = gL τ 11 (40 * v + i)
    unfold cpL
    rw [if_neg (by omega)]
theorem okR_n {a b n A B : Nat} (h1 : a + n ≤ A) (h2 : b + n ≤ B) (hA : A ≤ 40) (hB : B ≤ 40) : okR (nI a) (nI b) (nI n) A B = true := by
  have e1 : ix (nI a) = a := ix_n (by omega)
  have e2 : ix (nI b) = b := ix_n (by omega)
  have e3 : ix (nI n) = n := ix_n (by omega)
  unfold okR
  rw [e1, e2, e3, decide_eq_false (nI_pos (by omega)), decide_eq_false (nI_pos (by omega)), decide_eq_false (nI_pos (by omega)), decide_eq_true h1, decide_eq_true h2]
  rfl
theorem ac3 {σ : Mem} {a b A B f t n : Nat} {f1 f2 : Nat → Int32} (ha : gC σ a = some (.inl (3, A, .inl f1))) (hb : gC σ b = some (.inl (3, B, .inl f2))) (h1 : f + n ≤ A) (h2 : t + n ≤ B) (hA : A ≤ 40) (hB : B ≤ 40) (hf : ∀ i, i < A → f1 i = (f1 i).toInt8.toInt32) : acD σ a (nI f) b (nI t) (nI n) = some (wC σ (updC (gC σ) b (.inl (3, B, .inl (cpF f1 f2 f t n)))) (gN σ)) := by
  have e1 : ix (nI f) = f := ix_n (by omega)
  have e2 : ix (nI t) = t := ix_n (by omega)
  have e3 : ix (nI n) = n := ix_n (by omega)
  have hall : (List.range n).all (fun i => okT 3 (f1 (f + i))) = true := List.all_eq_true.mpr fun i hi => by
    show fits .byte (.int (f1 (f + i))) = true
    rw [hf (f + i) (by have := List.mem_range.mp hi; omega)]
    exact pk_fb _
  unfold acD
  simp only [ha, hb, e1, e2, e3]
  rw [if_pos ⟨trivial, okR_n h1 h2 hA hB, Or.inr (Or.inl trivial), hall⟩, pC_w]
theorem ac4 {σ : Mem} {a b A B f t n : Nat} {f1 f2 : Nat → Int32} (ha : gC σ a = some (.inl (4, A, .inl f1))) (hb : gC σ b = some (.inl (4, B, .inl f2))) (h1 : f + n ≤ A) (h2 : t + n ≤ B) (hA : A ≤ 40) (hB : B ≤ 40) (hf : ∀ i, i < A → f1 i = (f1 i).toInt16.toInt32) : acD σ a (nI f) b (nI t) (nI n) = some (wC σ (updC (gC σ) b (.inl (4, B, .inl (cpF f1 f2 f t n)))) (gN σ)) := by
  have e1 : ix (nI f) = f := ix_n (by omega)
  have e2 : ix (nI t) = t := ix_n (by omega)
  have e3 : ix (nI n) = n := ix_n (by omega)
  have hall : (List.range n).all (fun i => okT 4 (f1 (f + i))) = true := List.all_eq_true.mpr fun i hi => by
    show fits .short (.int (f1 (f + i))) = true
    rw [hf (f + i) (by have := List.mem_range.mp hi; omega)]
    exact pk_fs _
  unfold acD
  simp only [ha, hb, e1, e2, e3]
  rw [if_pos ⟨trivial, okR_n h1 h2 hA hB, Or.inr (Or.inr trivial), hall⟩, pC_w]
theorem ac1 {σ : Mem} {a b A B f t n : Nat} {f1 f2 : Nat → Int64} (ha : gC σ a = some (.inl (1, A, .inr (.inl f1)))) (hb : gC σ b = some (.inl (1, B, .inr (.inl f2)))) (h1 : f + n ≤ A) (h2 : t + n ≤ B) (hA : A ≤ 40) (hB : B ≤ 40) : acD σ a (nI f) b (nI t) (nI n) = some (wC σ (updC (gC σ) b (.inl (1, B, .inr (.inl (cpF f1 f2 f t n))))) (gN σ)) := by
  have e1 : ix (nI f) = f := ix_n (by omega)
  have e2 : ix (nI t) = t := ix_n (by omega)
  have e3 : ix (nI n) = n := ix_n (by omega)
  unfold acD
  simp only [ha, hb, e1, e2, e3]
  rw [if_pos ⟨trivial, okR_n h1 h2 hA hB, trivial⟩, pC_w]
theorem cp_eq {α : Type} {f1 f2 : Nat → α} {nu : Nat → Int64} {g : α → Int64} {t u f to n A B i : Nat} (h1 : f + n ≤ A) (h2 : to + n ≤ B) (hB : B ≤ 40) (hi : i < B) (q1 : ∀ i, i < A → nu (40 * t + i) = g (f1 i)) (q2 : ∀ i, i < B → nu (40 * u + i) = g (f2 i)) : cpL nu (40 * t + f) (40 * u + to) n (40 * u + i) = g (cpF f1 f2 f to n i) := by
  unfold cpL cpF
  by_cases q : to ≤ i ∧ i < to + n
  · rw [if_pos (by omega), if_pos q, ← q1 (f + (i - to)) (by omega)]
    congr 1
    omega
  · rw [if_neg (by omega), if_neg q]
    exact q2 i hi
theorem cp_P {α : Type} {P : α → Prop} {f1 f2 : Nat → α} {f to n A B i : Nat} (h1 : f + n ≤ A) (hi : i < B) (q1 : ∀ i, i < A → P (f1 i)) (q2 : ∀ i, i < B → P (f2 i)) : P (cpF f1 f2 f to n i) := by
  unfold cpF
  by_cases q : to ≤ i ∧ i < to + n
  · rw [if_pos q]; exact q1 _ (by omega)
  · rw [if_neg q]; exact q2 i hi
set_option maxHeartbeats 8000000 in
theorem op_copy {σ τ : Mem} (h : R σ τ) {N : Nat} (hN : 300000 ≤ N) (x f y to n : Int32) : Op σ τ (fX0_copy N σ x f y to n) (fX5_copy N τ x f y to n) := by
  have h' := h
  obtain ⟨a, b, c, d, e, ff, g, i, j, k⟩ := h'
  unfold fX0_copy fX5_copy
  rw [isShM, shAt, Option.bind_some]
  have n10 : ¬ nI 1 = (0 : Int32) := by decide
  have n00 : nI 0 = (0 : Int32) := rfl
  have fM1 : fX5_finds N τ (-1000000001 : Int32) = some (cod 0, erM τ 0) := fM_1 N τ
  have fM3 : fX5_finds N τ (-1000000003 : Int32) = some (cod 2, erM τ 2) := fM_3 N τ
  have fM6 : fX5_finds N τ (-1000000006 : Int32) = some (cod 5, erM τ 5) := fM_6 N τ
  have nd0 : fX0_need N σ (0 : Int32) (0 : Int32) = _ := need_0 N σ 0
  cases hx : inP x 4 with
  | false =>
    rw [if_neg Bool.false_ne_true, Option.bind_some, cT2_r, nb_f, if_pos n00, fM1, isC_e, gbT, fnd_e N σ (by decide)]
    exact ⟨cod 0, erX σ 0, erM τ 0, rfl, rfl, h.err (by decide)⟩
  | true =>
    obtain ⟨t, ht, rfl⟩ := inP_T (by decide) hx
    rw [if_pos rfl, Option.bind_some, cT2_l, nb_t, if_neg n10, isShM, shAt, Option.bind_some]
    cases hy : inP y 4 with
    | false =>
      rw [if_neg Bool.false_ne_true, Option.bind_some, cT2_r, nb_f, if_pos n00, fM1, isC_e, gbT, fnd_e N σ (by decide)]
      exact ⟨cod 0, erX σ 0, erM τ 0, rfl, rfl, h.err (by decide)⟩
    | true =>
      obtain ⟨u, hu, rfl⟩ := inP_T (by decide) hy
      rw [if_pos rfl, Option.bind_some, cT2_l, nb_t, if_neg n10, inb_T ht (by decide), inb_T hu (by decide), gbT, gbT, gbT, gbT, gbT, gbT, ix_n (by omega), ix_n (by omega)]
      have hs := e.1 t ht
      rw [sh_0 σ ht] at hs
      have hs' := e.1 u hu
      rw [sh_0 σ hu] at hs'
      by_cases hb0 : (0 : Int32) ≤ gI τ 9 t
      · have hb0' : ¬ gI τ 9 t < (0 : Int32) := Int32.not_lt.mpr hb0
        obtain ⟨ca, na, q1, q2, q3, q4⟩ := hs.some_ hb0
        obtain ⟨gl, -, gw⟩ := She.get N q2 q4
        rw [thS N ht q1, Option.bind_some, cT2_l, mO_s, if_neg hb0']
        by_cases hb1 : (0 : Int32) ≤ gI τ 9 u
        · obtain ⟨cb, nb_, r1, r2, r3, r4⟩ := hs'.some_ hb1
          obtain ⟨gl', -, gw'⟩ := She.get N r2 r4
          rw [thS N hu r1, Option.bind_some, cT2_l, mO_s, if_pos hb1, gw, gw', Option.bind_some, Option.bind_some]
          by_cases hk : gI τ 9 t = gI τ 9 u
          · rw [if_pos hk, if_pos hk, show fX0_need N σ (1 : Int32) (2 : Int32) = _ from need_1 N σ 2, Option.bind_some, cT2_l]
            by_cases hf : f < 0
            · rw [if_pos hf, if_pos hf, nd0, Option.bind_some, cT2_r, fM1, isC_e, gbT, fnd_e N σ (by decide)]
              exact ⟨cod 0, erX σ 0, erM τ 0, rfl, rfl, h.err (by decide)⟩
            · by_cases hto : to < 0
              · rw [if_neg hf, if_neg hf, if_pos hto, if_pos hto, nd0, Option.bind_some, cT2_r, fM1, isC_e, gbT, fnd_e N σ (by decide)]
                exact ⟨cod 0, erX σ 0, erM τ 0, rfl, rfl, h.err (by decide)⟩
              · by_cases hn : n < 0
                · rw [if_neg hf, if_neg hf, if_neg hto, if_neg hto, if_pos hn, if_pos hn, nd0, Option.bind_some, cT2_r, fM1, isC_e, gbT, fnd_e N σ (by decide)]
                  exact ⟨cod 0, erX σ 0, erM τ 0, rfl, rfl, h.err (by decide)⟩
                · rw [if_neg hf, if_neg hf, if_neg hto, if_neg hto, if_neg hn, if_neg hn, show fX0_need N σ (1 : Int32) (0 : Int32) = _ from need_1 N σ 0, Option.bind_some, cT2_l, gl, Option.bind_some, q3, r3]
                  by_cases hA : nI na - f < n
                  · rw [if_pos ((lt64 q2 f n hf hn).mpr hA), if_pos hA, fM1]
                    unfold jX0_copy_105
                    rw [nd0, Option.bind_some, cT2_r, isC_e, gbT, fnd_e N σ (by decide)]
                    exact ⟨cod 0, erX σ 0, erM τ 0, rfl, rfl, h.err (by decide)⟩
                  · rw [if_neg (fun z => hA ((lt64 q2 f n hf hn).mp z)), if_neg hA, gl', Option.bind_some]
                    by_cases hB : nI nb_ - to < n
                    · rw [if_pos ((lt64 r2 to n hto hn).mpr hB), if_neg (show ¬ n ≤ nI nb_ - to from Int32.not_le.mpr hB), nd0, Option.bind_some, cT2_r, fM1, isC_e, gbT, fnd_e N σ (by decide)]
                      exact ⟨cod 0, erX σ 0, erM τ 0, rfl, rfl, h.err (by decide)⟩
                    · rw [if_neg (fun z => hB ((lt64 r2 to n hto hn).mp z)), if_pos (show n ≤ nI nb_ - to from Int32.not_lt.mp hB), show fX0_need N σ (1 : Int32) (0 : Int32) = _ from need_1 N σ 0, Option.bind_some, cT2_l]
                      obtain ⟨f, f3, rfl⟩ := nI_of hf
                      obtain ⟨to, to3, rfl⟩ := nI_of hto
                      obtain ⟨n, n3, rfl⟩ := nI_of hn
                      have hAn : f + n ≤ na := by
                        have z : ¬ ((nI na).toInt64 < (nI f).toInt64 + (nI n).toInt64) := fun z => hA ((lt64 q2 _ _ hf hn).mp z)
                        rw [n_l (by omega), n_l (by omega), n_l (by omega), l_add, pk_lLT (by omega) (by omega)] at z
                        omega
                      have hBn : to + n ≤ nb_ := by
                        have z : ¬ ((nI nb_).toInt64 < (nI to).toInt64 + (nI n).toInt64) := fun z => hB ((lt64 r2 _ _ hto hn).mp z)
                        rw [n_l (by omega), n_l (by omega), n_l (by omega), l_add, pk_lLT (by omega) (by omega)] at z
                        omega
                      have kM : (lt_ ((40 : Int32) * nI t + nI f) (fun v33 => lt_ ((40 : Int32) * nI u + nI to) (fun v34 => lp (bX5_copy_137 N τ (nI n) v33 v34) N (τ, (0 : Int32))))) = some (nI n, wL τ 11 (cpL (gL τ 11) (40 * t + f) (40 * u + to) n)) := by
                        show lp (bX5_copy_137 N τ (nI n) (nI 40 * nI t + nI f) (nI 40 * nI u + nI to)) N (τ, nI 0) = _
                        rw [n_mul, n_add, n_mul, n_add, cpM hN (by omega) (by omega) (by omega)]
                      rw [kM]
                      have main : ∀ e', acD σ ca (nI f) cb (nI to) (nI n) = some (wC σ (updC (gC σ) cb e') (gN σ)) → (∃ o, gC σ cb = some (.inl o)) → She (some cb) (updC (gC σ) cb e') (gI τ 9 u) (gI τ 10 u) (fun i => cpL (gL τ 11) (40 * t + f) (40 * u + to) n (40 * u + i)) → Op σ τ ((acD σ ca (nI f) cb (nI to) (nI n)).bind (fun σ75 => some (nI n, σ75))) (some (nI n, wL τ 11 (cpL (gL τ 11) (40 * t + f) (40 * u + to) n))) := by
                        rintro e' h1 ⟨o, h2⟩ h3
                        rw [h1]
                        exact ⟨_, _, _, rfl, rfl, h.cell h2 (cpy_Shs e hu r1 (by omega) h3)⟩
                      have no1 : ¬ nI 8 = nI 16 := by decide
                      have no2 : ¬ nI 8 = nI 64 := by decide
                      have no3 : ¬ nI 16 = nI 64 := by decide
                      rcases q4 with ⟨q4, f1, q5, q6⟩ | ⟨q4, f1, q5, q6⟩ | ⟨q4, f1, q5, q6⟩ <;> rcases r4 with ⟨r4, f2, r5, r6⟩ | ⟨r4, f2, r5, r6⟩ | ⟨r4, f2, r5, r6⟩
                      · exact main _ (ac3 q5 r5 hAn hBn q2 r2 (fun i hi => (q6 i hi).1)) ⟨_, r5⟩ (Or.inr ⟨cb, nb_, rfl, r2, r3, Or.inl ⟨r4, _, upC_s, fun i hi => ⟨cp_P (P := fun z : Int32 => z = z.toInt8.toInt32) hAn hi (fun i hi => (q6 i hi).1) (fun i hi => (r6 i hi).1), cp_eq (g := fun z : Int32 => z.toInt64) hAn hBn r2 hi (fun i hi => (q6 i hi).2) (fun i hi => (r6 i hi).2)⟩⟩⟩)
                      · exact absurd ((q4.symm.trans hk).trans r4) no1
                      · exact absurd ((q4.symm.trans hk).trans r4) no2
                      · exact absurd ((r4.symm.trans hk.symm).trans q4) no1
                      · exact main _ (ac4 q5 r5 hAn hBn q2 r2 (fun i hi => (q6 i hi).1)) ⟨_, r5⟩ (Or.inr ⟨cb, nb_, rfl, r2, r3, Or.inr (Or.inl ⟨r4, _, upC_s, fun i hi => ⟨cp_P (P := fun z : Int32 => z = z.toInt16.toInt32) hAn hi (fun i hi => (q6 i hi).1) (fun i hi => (r6 i hi).1), cp_eq (g := fun z : Int32 => z.toInt64) hAn hBn r2 hi (fun i hi => (q6 i hi).2) (fun i hi => (r6 i hi).2)⟩⟩)⟩)
                      · exact absurd ((q4.symm.trans hk).trans r4) no3
                      · exact absurd ((r4.symm.trans hk.symm).trans q4) no2
                      · exact absurd ((r4.symm.trans hk.symm).trans q4) no3
                      · exact main _ (ac1 q5 r5 hAn hBn q2 r2) ⟨_, r5⟩ (Or.inr ⟨cb, nb_, rfl, r2, r3, Or.inr (Or.inr ⟨r4, _, upC_s, fun i hi => cp_eq (g := fun z : Int64 => z) hAn hBn r2 hi (fun i hi => q6 i hi) (fun i hi => r6 i hi)⟩)⟩)
          · rw [if_neg hk, if_neg hk, show fX0_need N σ (0 : Int32) (2 : Int32) = _ from need_0 N σ 2, Option.bind_some, cT2_r, fM3, isC_e, gbT, fnd_e N σ (by decide)]
            exact ⟨cod 2, erX σ 2, erM τ 2, rfl, rfl, h.err (by decide)⟩
        · rw [thN N hu (hs'.none_ hb1), Option.bind_some, cT2_r, if_neg hb1, fM6, isC_e, gbT, fnd_e N σ (by decide)]
          exact ⟨cod 5, erX σ 5, erM τ 5, rfl, rfl, h.err (by decide)⟩
      · have hb0' : gI τ 9 t < (0 : Int32) := Int32.not_le.mp hb0
        rw [thN N ht (hs.none_ hb0), Option.bind_some, cT2_r, if_pos hb0', fM6, isC_e, gbT, fnd_e N σ (by decide)]
        exact ⟨cod 5, erX σ 5, erM τ 5, rfl, rfl, h.err (by decide)⟩
