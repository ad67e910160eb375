/-! THE LIKING'S TEXT as the reference reads it -/
set_option maxRecDepth 100000
def pst (f0 : Nat → Int32) (a o : Nat) (b : Bool) : Nat → Int32 := fun i => if i = 13 then nI a else if i = 14 then nI o else if i = 15 then nb b else f0 i
def SM (τ : Mem) (f0 : Nat → Int32) (a o : Nat) (b : Bool) : Mem := wI τ 0 (pst f0 a o b)
section
variable (τ : Mem) (f0 : Nat → Int32) (a o : Nat) (b : Bool)
theorem SM_13 : gI (SM τ f0 a o b) 0 13 = nI a := rfl
theorem SM_14 : gI (SM τ f0 a o b) 0 14 = nI o := rfl
theorem SM_15 : gI (SM τ f0 a o b) 0 15 = nb b := rfl
theorem SM_w13 (a' : Nat) : pI (SM τ f0 a o b) 0 13 (nI a') = SM τ f0 a' o b := by
  unfold SM
  rw [pI_w, wI_wI, gI_wI]
  congr 1
  funext i
  by_cases e : i = 13
  · subst e; rw [up_s]; rfl
  · rw [up_n e]; simp [pst, e]
theorem SM_w14 (o' : Nat) : pI (SM τ f0 a o b) 0 14 (nI o') = SM τ f0 a o' b := by
  unfold SM
  rw [pI_w, wI_wI, gI_wI]
  congr 1
  funext i
  by_cases e : i = 14
  · subst e; rw [up_s]; rfl
  · rw [up_n e]; simp [pst, e]
theorem SM_w15 (b' : Bool) : pI (SM τ f0 a o b) 0 15 (nb b') = SM τ f0 a o b' := by
  unfold SM
  rw [pI_w, wI_wI, gI_wI]
  congr 1
  funext i
  by_cases e : i = 15
  · subst e; rw [up_s]; rfl
  · rw [up_n e]; simp [pst, e]
end
theorem isInDg (N : Nat) (σ : Mem) (c : Int32) : fX5_isIn N σ c.toInt64 (48 : Int64) (57 : Int64) = some (nb (isDg c)) := isIn_R N σ c (a := 48) (b := 57) (by decide) (by decide)
/-- the bytes h up to n, the names' values v, as the reference finds them wherever it reads -/
def RdM (N : Nat) (τ : Mem) (f0 : Nat → Int32) (h : Nat → Int32) (n : Nat) (v : Nat → Int32) : Prop :=
  n ≤ 60 ∧ Bnd h n ∧ (∀ a o b, a ≤ n → fX5_byteHere N (SM τ f0 a o b) = some (h a)) ∧ (∀ a o b c, fX5_named N (SM τ f0 a o b) c = some (match nameS c with
    | some k => v k
    | none => -1)) ∧ ∀ k, k < 7 → ¬ v k < 0
def OkM (τ : Mem) (f0 : Nat → Int32) (v : Nat → Int32) (o : Nat) (F : Option (Int32 × Mem)) (r : PR) : Prop := ∃ x, F = some (x, SM τ f0 r.2.1 o (!r.1)) ∧ (r.1 = true → x = r.2.2 v)
section RM
variable {N : Nat} {τ : Mem} {f0 h : Nat → Int32} {n : Nat} {v : Nat → Int32}
theorem ne1 : ¬ nI 1 = (0 : Int32) := by decide
theorem takesT (H : RdM N τ f0 h n v) {a o : Nat} {c : Int32} (ha : a ≤ n) (e : h a = c) : fX5_takes N (SM τ f0 a o false) c = some (nI 1, SM τ f0 (a + 1) o false) := by
  unfold fX5_takes
  rw [SM_15, if_pos (show nb false = (0 : Int32) from rfl), H.2.2.1 a o false ha, Option.bind_some, if_pos e, lt_d, SM_13, show nI a + (1 : Int32) = nI (a + 1) from nI_1 a, SM_w13]
  rfl
theorem takesF (H : RdM N τ f0 h n v) {a o : Nat} {c : Int32} (ha : a ≤ n) (e : ¬ h a = c) : fX5_takes N (SM τ f0 a o false) c = some (nI 0, SM τ f0 a o false) := by
  unfold fX5_takes
  rw [SM_15, if_pos (show nb false = (0 : Int32) from rfl), H.2.2.1 a o false ha, Option.bind_some, if_neg e]
  rfl
theorem takesB {a o : Nat} {c : Int32} : fX5_takes N (SM τ f0 a o true) c = some (nI 0, SM τ f0 a o true) := by
  unfold fX5_takes
  rw [SM_15, if_neg (show ¬ nb true = (0 : Int32) from ne1)]
  rfl
theorem mustT (H : RdM N τ f0 h n v) {a o : Nat} {c : Int32} (ha : a ≤ n) (e : h a = c) : fX5_must N (SM τ f0 a o false) c = some ((), SM τ f0 (a + 1) o false) := by
  unfold fX5_must
  rw [takesT H ha e, Option.bind_some, if_neg ne1, lt_d]
  exact congrArg (fun z => some ((), z)) (SM_w15 τ f0 (a + 1) o false false)
theorem mustF (H : RdM N τ f0 h n v) {a o : Nat} {c : Int32} (ha : a ≤ n) (e : ¬ h a = c) : fX5_must N (SM τ f0 a o false) c = some ((), SM τ f0 a o true) := by
  unfold fX5_must
  rw [takesF H ha e, Option.bind_some, if_pos (show nI 0 = (0 : Int32) from rfl), lt_d]
  exact congrArg (fun z => some ((), z)) (SM_w15 τ f0 a o false true)
theorem mustB {a o : Nat} {c : Int32} : fX5_must N (SM τ f0 a o true) c = some ((), SM τ f0 a o true) := by
  unfold fX5_must
  rw [takesB, Option.bind_some, if_pos (show nI 0 = (0 : Int32) from rfl), lt_d]
  exact congrArg (fun z => some ((), z)) (SM_w15 τ f0 a o true true)
theorem numM (H : RdM N τ f0 h n v) (hN : 300000 ≤ N) {a o : Nat} (ha : a ≤ n) : fX5_number N (SM τ f0 a o false) = some ((numS h 3 a 0).2, SM τ f0 (numS h 3 a 0).1 o false) := by
  have step : ∀ (j k a : Nat) (x : Int32) (N' : Nat), a ≤ n → k + j = 3 → j < N' → lp (bX5_number_4 N (SM τ f0 0 o false)) N' (SM τ f0 a o false, x, nI k) = some ((numS h j a x).2, SM τ f0 (numS h j a x).1 o false) := by
    intro j
    induction j with
    | zero =>
      intro k a x N' ha hk hN'
      have : k = 3 := by omega
      subst this
      obtain ⟨M, rfl⟩ : ∃ M, N' = M + 1 := ⟨N' - 1, by omega⟩
      have hb : ∀ rec, bX5_number_4 N (SM τ f0 0 o false) rec (SM τ f0 a o false, x, nI 3) = some (x, SM τ f0 a o false) := by
        intro rec
        unfold bX5_number_4
        rw [if_pos (show (3 : Int32) ≤ nI 3 by decide)]
      exact hb _
    | succ j ih =>
      intro k a x N' ha hk hN'
      obtain ⟨M, rfl⟩ : ∃ M, N' = M + 1 := ⟨N' - 1, by omega⟩
      have hb : ∀ rec, bX5_number_4 N (SM τ f0 0 o false) rec (SM τ f0 a o false, x, nI k) = if isDg (h a) then rec (SM τ f0 (a + 1) o false, (10 * x + h a) - 48, nI (k + 1)) else some (x, SM τ f0 a o false) := by
        intro rec
        unfold bX5_number_4
        rw [if_neg (show ¬ (3 : Int32) ≤ nI k from nI_ge (a := k) (b := 3) (by omega) (by decide)), H.2.2.1 a o false ha, Option.bind_some, isInDg, Option.bind_some]
        cases isDg (h a) with
        | false =>
          rw [if_pos (show nb false = (0 : Int32) from rfl), if_neg Bool.false_ne_true]
        | true =>
          rw [if_neg (show ¬ nb true = (0 : Int32) from ne1), if_pos rfl, Option.bind_some, lt_d, lt_d, SM_13, show nI a + (1 : Int32) = nI (a + 1) from nI_1 a, SM_w13, show nI k + (1 : Int32) = nI (k + 1) from nI_1 k]
      show bX5_number_4 N (SM τ f0 0 o false) (lp (bX5_number_4 N (SM τ f0 0 o false)) M) (SM τ f0 a o false, x, nI k) = _
      rw [hb]
      unfold numS
      by_cases q : isDg (h a) = true
      · rw [if_pos q, if_pos q]
        exact ih (k + 1) (a + 1) _ M (by have := H.2.1.dg q; omega) (by omega) (by omega)
      · rw [if_neg q, if_neg q]
  have := step 3 0 a 0 N ha (by omega) (by omega)
  unfold fX5_number
  have e : ∀ σ' : Mem, bX5_number_4 N (SM τ f0 a o false) = bX5_number_4 N σ' := fun σ' => rfl
  rw [e (SM τ f0 0 o false)]
  exact this
theorem badF {rc : Nat → Mem → Option (Int32 × Mem)} {a o : Nat} : fX5_factor N rc (SM τ f0 a o true) = some (nI 0, SM τ f0 a o true) := by
  unfold fX5_factor
  rw [SM_15, if_neg (show ¬ nb true = (0 : Int32) from ne1)]
  rfl
theorem badT {rc : Nat → Mem → Option (Int32 × Mem)} {a o : Nat} (hN : 300000 ≤ N) (hr : rc 2 (SM τ f0 a o true) = some (nI 0, SM τ f0 a o true)) : fX5_term N rc (SM τ f0 a o true) = some (nI 0, SM τ f0 a o true) := by
  obtain ⟨M, hM⟩ : ∃ M, N = M + 1 := ⟨N - 1, by omega⟩
  have e : ∀ rec, bX5_term_5 N rc (SM τ f0 a o true) rec (SM τ f0 a o true, nI 0) = some (nI 0, SM τ f0 a o true) := by
    intro rec
    unfold bX5_term_5
    rw [takesB, Option.bind_some, if_pos (show nI 0 = (0 : Int32) from rfl)]
  unfold fX5_term
  rw [hr, Option.bind_some]
  generalize hb : bX5_term_5 N rc (SM τ f0 a o true) = b at e
  rw [hM]
  exact e _
theorem badS {rc : Nat → Mem → Option (Int32 × Mem)} {a o : Nat} (hN : 300000 ≤ N) (hr : rc 1 (SM τ f0 a o true) = some (nI 0, SM τ f0 a o true)) : fX5_sum N rc (SM τ f0 a o true) = some (nI 0, SM τ f0 a o true) := by
  obtain ⟨M, hM⟩ : ∃ M, N = M + 2 := ⟨N - 2, by omega⟩
  have e : ∀ rec, bX5_sum_7 N rc (SM τ f0 a o true) rec (SM τ f0 a o true, nI 0, nI 1) = rec (SM τ f0 a o true, nI 0, nI 0) := by
    intro rec
    unfold bX5_sum_7
    rw [if_neg ne1, takesB, Option.bind_some, if_pos (show nI 0 = (0 : Int32) from rfl), takesB, Option.bind_some, lt_d, if_pos (show nI 0 = (0 : Int32) from rfl), if_pos rfl]
    rfl
  have e2 : ∀ rec, bX5_sum_7 N rc (SM τ f0 a o true) rec (SM τ f0 a o true, nI 0, nI 0) = some (nI 0, SM τ f0 a o true) := by
    intro rec
    unfold bX5_sum_7
    rw [if_pos (show nI 0 = (0 : Int32) from rfl)]
  unfold fX5_sum
  rw [hr, Option.bind_some]
  generalize hb : bX5_sum_7 N rc (SM τ f0 a o true) = b at e e2
  rw [hM]
  show b (lp b (M + 1)) (SM τ f0 a o true, nI 0, nI 1) = _
  rw [e]
  exact e2 _
theorem badM (hN : 300000 ≤ N) {a o : Nat} (D : Nat) : recM N (D + 3) 0 (SM τ f0 a o true) = some (nI 0, SM τ f0 a o true) ∧ recM N (D + 3) 1 (SM τ f0 a o true) = some (nI 0, SM τ f0 a o true) := by
  have h2 : ∀ D, recM N (D + 1) 2 (SM τ f0 a o true) = some (nI 0, SM τ f0 a o true) := fun D => badF (N := N) (rc := recM N D)
  have h1 : ∀ D, recM N (D + 2) 1 (SM τ f0 a o true) = some (nI 0, SM τ f0 a o true) := fun D => badT (N := N) (rc := recM N (D + 1)) hN (h2 D)
  exact ⟨badS (N := N) (rc := recM N (D + 2)) hN (h1 D), h1 (D + 1)⟩
theorem nameS_lt {c : Int32} {k : Nat} (e : nameS c = some k) : k < 7 := by
  unfold nameS at e
  repeat' (split at e)
  all_goals first | (cases e; decide) | cases e
theorem n40 : nameS (nI 40) = none := by decide
theorem d40 : isDg (nI 40) = false := by decide
/-- one: a number, a name, or what the brackets hold -/
theorem facM (H : RdM N τ f0 h n v) (hN : 300000 ≤ N) {rc : Nat → Mem → Option (Int32 × Mem)} {sub : Option (Nat → PR)} {a o : Nat} (ha : a ≤ n) (hch : h a = nI 40 → OkM τ f0 v o (rc 3 (SM τ f0 a o false)) (oneS h sub a)) : OkM τ f0 v o (fX5_factor N rc (SM τ f0 a o false)) (oneS h sub a) := by
  unfold fX5_factor
  rw [SM_15, if_pos (show nb false = (0 : Int32) from rfl), H.2.2.1 a o false ha, Option.bind_some, isInDg, Option.bind_some]
  by_cases q1 : h a = nI 40
  · rw [q1, d40, if_pos (show nb false = (0 : Int32) from rfl), if_pos (show nI 40 = (40 : Int32) from rfl)]
    obtain ⟨x, e1, e2⟩ := hch q1
    rw [e1]
    exact ⟨x, rfl, e2⟩
  · cases hd : isDg (h a) with
    | true =>
      rw [if_neg (show ¬ nb true = (0 : Int32) from ne1), numM H hN ha]
      have eo : oneS h sub a = (true, (numS h 3 a 0).1, fun _ => (numS h 3 a 0).2) := by unfold oneS; rw [hd, if_pos rfl]
      rw [eo]
      exact ⟨_, rfl, fun _ => rfl⟩
    | false =>
      rw [if_pos (show nb false = (0 : Int32) from rfl), if_neg (show ¬ h a = (40 : Int32) from q1), H.2.2.2.1 a o false, Option.bind_some]
      cases hm : nameS (h a) with
      | some k =>
        have hk := nameS_lt hm
        have hlt := H.2.1.nm hm
        have hv : (0 : Int32) ≤ v k := Int32.not_lt.mp (H.2.2.2.2 k hk)
        have eo : oneS h sub a = (true, a + 1, fun w => w k) := by unfold oneS; rw [hd, if_neg Bool.false_ne_true, hm]
        rw [eo, lt_d, lt_d, if_pos hv]
        refine ⟨v k, ?_, fun _ => rfl⟩
        have e1 : pI (SM τ f0 a o false) 0 15 (0 : Int32) = SM τ f0 a o false := SM_w15 τ f0 a o false false
        rw [e1, SM_15, if_pos (show nb false = (0 : Int32) from rfl), SM_13, show nI a + (1 : Int32) = nI (a + 1) from nI_1 a, SM_w13]
        rfl
      | none =>
        have hv : ¬ (0 : Int32) ≤ -1 := by decide
        have eo : oneS h sub a = (false, a, fun _ => 0) := by unfold oneS; rw [hd, if_neg Bool.false_ne_true, hm]; exact if_neg q1
        rw [eo, lt_d, lt_d, if_neg hv]
        refine ⟨-1, ?_, fun q => by cases q⟩
        have e1 : pI (SM τ f0 a o false) 0 15 (1 : Int32) = SM τ f0 a o true := SM_w15 τ f0 a o false true
        rw [e1, SM_15, if_neg (show ¬ nb true = (0 : Int32) from ne1), SM_13, show nI a + (0 : Int32) = nI (a + 0) from n_add a 0, Nat.add_zero, SM_w13]
        rfl
/-- the loop behind a product's first -/
theorem mulM (H : RdM N τ f0 h n v) {rc : Nat → Mem → Option (Int32 × Mem)} {one : Nat → PR} (ho : Adv n one) {o : Nat} (h1 : ∀ a, a ≤ n → OkM τ f0 v o (rc 2 (SM τ f0 a o false)) (one a)) (σ0 : Mem) : ∀ (k a : Nat) (E : Den) (x : Int32) (N' : Nat), a ≤ n → n < a + k → k + 1 < N' → x = E v → OkM τ f0 v o (lp (bX5_term_5 N rc σ0) N' (SM τ f0 a o false, x)) (mulS h one k a E) := by
  intro k
  induction k with
  | zero => intro a E x N' h1 h2; omega
  | succ k ih =>
    intro a E x N' ha hk hN' hx
    obtain ⟨M, rfl⟩ : ∃ M, N' = M + 2 := ⟨N' - 2, by omega⟩
    have hb : ∀ rec, bX5_term_5 N rc σ0 rec (SM τ f0 a o false, x) = if h a = nI 42 then (rc 2 (SM τ f0 (a + 1) o false)).bind (fun q6 => rec (q6.2, x * q6.1)) else some (x, SM τ f0 a o false) := by
      intro rec
      unfold bX5_term_5
      by_cases q : h a = nI 42
      · rw [takesT H ha (show h a = (42 : Int32) from q), Option.bind_some, if_neg ne1, if_pos q]
        rfl
      · rw [takesF H ha (show ¬ h a = (42 : Int32) from q), Option.bind_some, if_pos (show nI 0 = (0 : Int32) from rfl), if_neg q]
    have hbad : ∀ rec a1 y, bX5_term_5 N rc σ0 rec (SM τ f0 a1 o true, y) = some (y, SM τ f0 a1 o true) := by
      intro rec a1 y
      unfold bX5_term_5
      rw [takesB, Option.bind_some, if_pos (show nI 0 = (0 : Int32) from rfl)]
    show OkM τ f0 v o (bX5_term_5 N rc σ0 (lp (bX5_term_5 N rc σ0) (M + 1)) (SM τ f0 a o false, x)) _
    rw [hb]
    unfold mulS
    by_cases q : h a = nI 42
    · have hlt := H.2.1.lt (by decide) q
      rw [if_pos q, if_pos q]
      obtain ⟨y, e1, e2⟩ := h1 (a + 1) (by omega)
      have hadv := ho (a + 1) (by omega)
      rw [e1, Option.bind_some]
      generalize hr : one (a + 1) = r at e1 e2 hadv
      obtain ⟨ok, a1, E1⟩ := r
      cases ok with
      | false =>
        refine ⟨x * y, ?_, fun q => by cases q⟩
        exact hbad (lp (bX5_term_5 N rc σ0) M) a1 (x * y)
      | true =>
        exact ih a1 (fun w => E w * E1 w) (x * y) (M + 1) hadv.2 (by have := hadv.1; simp only at this; omega) (by omega) (by rw [hx, e2 rfl])
    · rw [if_neg q, if_neg q]
      exact ⟨x, rfl, fun _ => hx⟩
theorem terM (H : RdM N τ f0 h n v) (hN : 300000 ≤ N) {rc : Nat → Mem → Option (Int32 × Mem)} {one : Nat → PR} (ho : Adv n one) {o : Nat} (h1 : ∀ a, a ≤ n → OkM τ f0 v o (rc 2 (SM τ f0 a o false)) (one a)) {a : Nat} (ha : a ≤ n) : OkM τ f0 v o (fX5_term N rc (SM τ f0 a o false)) (prodS h n one a) := by
  unfold fX5_term prodS
  obtain ⟨y, e1, e2⟩ := h1 a ha
  have hadv := ho a ha
  have hn := H.1
  rw [e1, Option.bind_some]
  generalize hr : one a = r at e1 e2 hadv
  obtain ⟨ok, a1, E1⟩ := r
  cases ok with
  | false =>
    obtain ⟨M, hM⟩ : ∃ M, N = M + 1 := ⟨N - 1, by omega⟩
    have hbad : ∀ rec, bX5_term_5 N rc (SM τ f0 a1 o true) rec (SM τ f0 a1 o true, y) = some (y, SM τ f0 a1 o true) := by
      intro rec
      unfold bX5_term_5
      rw [takesB, Option.bind_some, if_pos (show nI 0 = (0 : Int32) from rfl)]
    refine ⟨y, ?_, fun q => by cases q⟩
    show lp (bX5_term_5 N rc (SM τ f0 a1 o true)) N (SM τ f0 a1 o true, y) = _
    generalize bX5_term_5 N rc (SM τ f0 a1 o true) = b at hbad
    rw [hM]
    exact hbad _
  | true => exact mulM H ho h1 _ (n + 1) a1 E1 y N hadv.2 (by omega) (by omega) (e2 rfl)
end RM
