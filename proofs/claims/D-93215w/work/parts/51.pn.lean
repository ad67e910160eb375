/-! THE LIKING'S TEXT as the reference reads it, two -/
set_option maxRecDepth 100000
section RM
variable {N : Nat} {τ : Mem} {f0 h : Nat → Int32} {n : Nat} {v : Nat → Int32}
theorem addM (H : RdM N τ f0 h n v) {rc : Nat → Mem → Option (Int32 × Mem)} {prod : Nat → PR} (ho : Adv n prod) {o : Nat} (h1 : ∀ a, a ≤ n → OkM τ f0 v o (rc 1 (SM τ f0 a o false)) (prod a)) (σ0 : Mem) : ∀ (k a : Nat) (E : Den) (x : Int32) (N' : Nat), a ≤ n → n < a + k → k + 2 < N' → x = E v → OkM τ f0 v o (lp (bX5_sum_7 N rc σ0) N' (SM τ f0 a o false, x, nI 1)) (addS h prod k a E) := by
  intro k
  induction k with
  | zero => intro a E x N' h1 h2; omega
  | succ k ih =>
    intro a E x N' ha hk hN' hx
    obtain ⟨M, rfl⟩ : ∃ M, N' = M + 3 := ⟨N' - 3, by omega⟩
    have z0 : nI 0 = (0 : Int32) := rfl
    have hb : ∀ rec, bX5_sum_7 N rc σ0 rec (SM τ f0 a o false, x, nI 1) = if h a = nI 43 then (rc 1 (SM τ f0 (a + 1) o false)).bind (fun q8 => rec (q8.2, x + q8.1, nI 1)) else if h a = nI 45 then (rc 1 (SM τ f0 (a + 1) o false)).bind (fun q8 => rec (q8.2, x - q8.1, nI 1)) else rec (SM τ f0 a o false, x, nI 0) := by
      intro rec
      unfold bX5_sum_7
      rw [if_neg ne1]
      by_cases q : h a = nI 43
      · rw [takesT H ha (show h a = (43 : Int32) from q), Option.bind_some, if_neg ne1, if_pos q]
        unfold jX5_sum_36
        rw [if_neg (show ¬ (1 : Int32) = 0 by decide)]
        simp only [lt_d, if_neg ne1]
        rfl
      · rw [takesF H ha (show ¬ h a = (43 : Int32) from q), Option.bind_some, if_pos z0, if_neg q]
        by_cases q2 : h a = nI 45
        · rw [takesT H ha (show h a = (45 : Int32) from q2), Option.bind_some, lt_d, if_neg ne1, if_neg (show ¬ (1 : Int32) = 0 by decide), if_pos q2]
          simp only [lt_d, if_pos z0]
          rfl
        · rw [takesF H ha (show ¬ h a = (45 : Int32) from q2), Option.bind_some, lt_d, if_pos z0, if_pos rfl, if_neg q2]
          rfl
    have hend : ∀ rec m y, bX5_sum_7 N rc σ0 rec (m, y, nI 0) = some (y, m) := by
      intro rec m y
      unfold bX5_sum_7
      rw [if_pos z0]
    have hbad : ∀ rec a1 y, bX5_sum_7 N rc σ0 rec (SM τ f0 a1 o true, y, nI 1) = rec (SM τ f0 a1 o true, y, nI 0) := by
      intro rec a1 y
      unfold bX5_sum_7
      rw [if_neg ne1, takesB, Option.bind_some, if_pos z0, takesB, Option.bind_some, lt_d, if_pos z0, if_pos rfl]
      rfl
    show OkM τ f0 v o (bX5_sum_7 N rc σ0 (lp (bX5_sum_7 N rc σ0) (M + 2)) (SM τ f0 a o false, x, nI 1)) _
    rw [hb]
    have two : ∀ a1 y, lp (bX5_sum_7 N rc σ0) (M + 2) (SM τ f0 a1 o true, y, nI 1) = some (y, SM τ f0 a1 o true) := by
      intro a1 y
      show bX5_sum_7 N rc σ0 (lp (bX5_sum_7 N rc σ0) (M + 1)) (SM τ f0 a1 o true, y, nI 1) = _
      rw [hbad]
      exact hend _ _ _
    unfold addS
    by_cases q : h a = nI 43
    · have hlt := H.2.1.lt (by decide) q
      rw [if_pos q, if_pos q]
      obtain ⟨y, e1, e2⟩ := h1 (a + 1) (by omega)
      have hadv := ho (a + 1) (by omega)
      rw [e1, Option.bind_some]
      generalize hr : prod (a + 1) = r at e1 e2 hadv
      obtain ⟨ok, a1, E1⟩ := r
      cases ok with
      | false => exact ⟨x + y, two a1 (x + y), fun q => by cases q⟩
      | true => exact ih a1 (fun w => E w + E1 w) (x + y) (M + 2) hadv.2 (by have := hadv.1; simp only at this; omega) (by omega) (by rw [hx, e2 rfl])
    · rw [if_neg q, if_neg q]
      by_cases q2 : h a = nI 45
      · have hlt := H.2.1.lt (by decide) q2
        rw [if_pos q2, if_pos q2]
        obtain ⟨y, e1, e2⟩ := h1 (a + 1) (by omega)
        have hadv := ho (a + 1) (by omega)
        rw [e1, Option.bind_some]
        generalize hr : prod (a + 1) = r at e1 e2 hadv
        obtain ⟨ok, a1, E1⟩ := r
        cases ok with
        | false => exact ⟨x - y, two a1 (x - y), fun q => by cases q⟩
        | true => exact ih a1 (fun w => E w - E1 w) (x - y) (M + 2) hadv.2 (by have := hadv.1; simp only at this; omega) (by omega) (by rw [hx, e2 rfl])
      · rw [if_neg q2, if_neg q2]
        exact ⟨x, hend (lp (bX5_sum_7 N rc σ0) (M + 1)) _ x, fun _ => hx⟩
theorem sumM (H : RdM N τ f0 h n v) (hN : 300000 ≤ N) {rc : Nat → Mem → Option (Int32 × Mem)} {prod : Nat → PR} (ho : Adv n prod) {o : Nat} (h1 : ∀ a, a ≤ n → OkM τ f0 v o (rc 1 (SM τ f0 a o false)) (prod a)) {a : Nat} (ha : a ≤ n) : OkM τ f0 v o (fX5_sum N rc (SM τ f0 a o false)) (sumS h n prod a) := by
  unfold fX5_sum sumS
  obtain ⟨y, e1, e2⟩ := h1 a ha
  have hadv := ho a ha
  have hn := H.1
  have z0 : nI 0 = (0 : Int32) := rfl
  rw [e1, Option.bind_some]
  generalize hr : prod a = r at e1 e2 hadv
  obtain ⟨ok, a1, E1⟩ := r
  cases ok with
  | false =>
    obtain ⟨M, hM⟩ : ∃ M, N = M + 2 := ⟨N - 2, by omega⟩
    have hend : ∀ rec m y, bX5_sum_7 N rc (SM τ f0 a1 o true) rec (m, y, nI 0) = some (y, m) := by
      intro rec m y
      unfold bX5_sum_7
      rw [if_pos z0]
    have hbad : ∀ rec y, bX5_sum_7 N rc (SM τ f0 a1 o true) rec (SM τ f0 a1 o true, y, nI 1) = rec (SM τ f0 a1 o true, y, nI 0) := by
      intro rec y
      unfold bX5_sum_7
      rw [if_neg ne1, takesB, Option.bind_some, if_pos z0, takesB, Option.bind_some, lt_d, if_pos z0, if_pos rfl]
      rfl
    refine ⟨y, ?_, fun q => by cases q⟩
    show lp (bX5_sum_7 N rc (SM τ f0 a1 o true)) N (SM τ f0 a1 o true, y, nI 1) = _
    generalize bX5_sum_7 N rc (SM τ f0 a1 o true) = b at hbad hend
    rw [hM]
    show b (lp b (M + 1)) (SM τ f0 a1 o true, y, nI 1) = _
    rw [hbad]
    exact hend _ _ _
  | true => exact addM H ho h1 _ (n + 1) a1 E1 y N hadv.2 (by omega) (by omega) (e2 rfl)
theorem c75 {rc : Nat → Mem → Option (Int32 × Mem)} (H : RdM N τ f0 h n v) {a o : Nat} (ho : 1 ≤ o) (x : Int32) : (a ≤ n → h a = nI 41 → jX5_choice_75 N rc (SM τ f0 a o false) x = some (x, SM τ f0 (a + 1) (o - 1) false)) ∧ (a ≤ n → ¬ h a = nI 41 → jX5_choice_75 N rc (SM τ f0 a o false) x = some (x, SM τ f0 a (o - 1) true)) ∧ jX5_choice_75 N rc (SM τ f0 a o true) x = some (x, SM τ f0 a (o - 1) true) := by
  have e : nI o - (1 : Int32) = nI (o - 1) := n_sub ho
  refine ⟨fun ha q => ?_, fun ha q => ?_, ?_⟩
  · unfold jX5_choice_75
    rw [mustT H ha (show h a = (41 : Int32) from q), Option.bind_some, lt_d, SM_14, e, SM_w14]
  · unfold jX5_choice_75
    rw [mustF H ha (show ¬ h a = (41 : Int32) from q), Option.bind_some, lt_d, SM_14, e, SM_w14]
  · unfold jX5_choice_75
    rw [mustB, Option.bind_some, lt_d, SM_14, e, SM_w14]
/-- what brackets hold -/
theorem chM (H : RdM N τ f0 h n v) {rc : Nat → Mem → Option (Int32 × Mem)} {f : Nat → PR} (hf : Adv n f) {o a : Nat} (ho : o < 4) (h0 : ∀ a, a ≤ n → OkM τ f0 v (o + 1) (rc 0 (SM τ f0 a (o + 1) false)) (f a)) (hbad : ∀ a, rc 0 (SM τ f0 a (o + 1) true) = some (nI 0, SM τ f0 a (o + 1) true)) (ha : a ≤ n) (q : h a = nI 40) : OkM τ f0 v o (fX5_choice N rc (SM τ f0 a o false)) (oneS h (some f) a) := by
  have hlt := H.2.1.lt (by decide) q
  have z0 : nI 0 = (0 : Int32) := rfl
  have eo : oneS h (some f) a = thn (f (a + 1)) fun a1 E1 => if h a1 = nI 63 then thn (f (a1 + 1)) fun a2 E2 => if h a2 = nI 58 then thn (f (a2 + 1)) fun a3 E3 => if h a3 = nI 41 then (true, a3 + 1, fun v => if E1 v ≤ 0 then E3 v else E2 v) else (false, a3, E3) else (false, a2, E2) else if h a1 = nI 41 then (true, a1 + 1, E1) else (false, a1, E1) := by
    unfold oneS
    rw [q, d40, if_neg Bool.false_ne_true, n40]
    exact if_pos rfl
  rw [eo]
  unfold fX5_choice
  rw [SM_14, if_neg (show ¬ nI o = (4 : Int32) from fun z => absurd ((nI_eq (a := o) (b := 4) (by omega) (by omega)).mp z) (by omega)), lt_d, show nI o + (1 : Int32) = nI (o + 1) from nI_1 o, SM_w14, lt_d, SM_13, show nI a + (1 : Int32) = nI (a + 1) from nI_1 a, SM_w13]
  obtain ⟨x1, e1, e2⟩ := h0 (a + 1) (by omega)
  have d1 := hf (a + 1) (by omega)
  rw [e1, Option.bind_some]
  generalize hr : f (a + 1) = r at e1 e2 d1
  obtain ⟨ok1, a1, E1⟩ := r
  have d12 : a1 ≤ n := d1.2
  have d11 : a + 1 ≤ a1 := d1.1
  have x1s : nI (o + 1) = nI (o + 1) := rfl
  cases ok1 with
  | false =>
    refine ⟨x1, ?_, fun z => by cases z⟩
    show (fX5_takes N (SM τ f0 a1 (o + 1) true) (63 : Int32)).bind _ = _
    rw [takesB, Option.bind_some, if_pos z0]
    exact (c75 H (by omega) x1).2.2
  | true =>
    show OkM τ f0 v o ((fX5_takes N (SM τ f0 a1 (o + 1) false) (63 : Int32)).bind _) (if h a1 = nI 63 then _ else _)
    by_cases q2 : h a1 = nI 63
    · have l2 := H.2.1.lt (by decide) q2
      rw [takesT H d12 (show h a1 = (63 : Int32) from q2), Option.bind_some, if_neg ne1, if_pos q2]
      obtain ⟨x2, e3, e4⟩ := h0 (a1 + 1) (by omega)
      have d2 := hf (a1 + 1) (by omega)
      rw [e3, Option.bind_some]
      generalize hr2 : f (a1 + 1) = r2 at e3 e4 d2
      obtain ⟨ok2, a2, E2⟩ := r2
      have d22 : a2 ≤ n := d2.2
      cases ok2 with
      | false =>
        refine ⟨if x1 ≤ (0 : Int32) then nI 0 else x2, ?_, fun z => by cases z⟩
        show (fX5_must N (SM τ f0 a2 (o + 1) true) (58 : Int32)).bind _ = _
        rw [mustB, Option.bind_some, hbad, Option.bind_some, lt_d]
        exact (c75 H (by omega) _).2.2
      | true =>
        show OkM τ f0 v o ((fX5_must N (SM τ f0 a2 (o + 1) false) (58 : Int32)).bind _) (if h a2 = nI 58 then _ else _)
        by_cases q3 : h a2 = nI 58
        · have l3 := H.2.1.lt (by decide) q3
          rw [mustT H d22 (show h a2 = (58 : Int32) from q3), Option.bind_some, if_pos q3]
          obtain ⟨x3, e5, e6⟩ := h0 (a2 + 1) (by omega)
          have d3 := hf (a2 + 1) (by omega)
          rw [e5, Option.bind_some]
          generalize hr3 : f (a2 + 1) = r3 at e5 e6 d3
          obtain ⟨ok3, a3, E3⟩ := r3
          have d32 : a3 ≤ n := d3.2
          cases ok3 with
          | false =>
            exact ⟨_, (c75 (rc := rc) H (by omega) _).2.2, fun z => by cases z⟩
          | true =>
            show OkM τ f0 v o _ (if h a3 = nI 41 then _ else _)
            by_cases q4 : h a3 = nI 41
            · rw [if_pos q4]
              refine ⟨_, (c75 (rc := rc) H (by omega) _).1 d32 q4, fun _ => ?_⟩
              rw [e2 rfl, e4 rfl, e6 rfl]
            · rw [if_neg q4]
              exact ⟨_, (c75 (rc := rc) H (by omega) _).2.1 d32 q4, fun z => by cases z⟩
        · rw [mustF H d22 (show ¬ h a2 = (58 : Int32) from q3), Option.bind_some, if_neg q3, hbad, Option.bind_some, lt_d]
          exact ⟨_, (c75 (rc := rc) H (by omega) _).2.2, fun z => by cases z⟩
    · rw [takesF H d12 (show ¬ h a1 = (63 : Int32) from q2), Option.bind_some, if_pos z0, if_neg q2]
      by_cases q4 : h a1 = nI 41
      · rw [if_pos q4]
        exact ⟨_, (c75 (rc := rc) H (by omega) _).1 d12 q4, fun _ => e2 rfl⟩
      · rw [if_neg q4]
        exact ⟨_, (c75 (rc := rc) H (by omega) _).2.1 d12 q4, fun z => by cases z⟩
theorem ch4 {rc : Nat → Mem → Option (Int32 × Mem)} {a : Nat} (q : h a = nI 40) : OkM τ f0 v 4 (fX5_choice N rc (SM τ f0 a 4 false)) (oneS h none a) := by
  have eo : oneS h none a = (false, a, fun _ => 0) := by
    unfold oneS
    rw [q, d40, if_neg Bool.false_ne_true, n40]
    exact if_pos rfl
  rw [eo]
  unfold fX5_choice
  rw [SM_14, if_pos (show nI 4 = (4 : Int32) from rfl), lt_d]
  exact ⟨_, congrArg (fun z => some ((0 : Int32), z)) (SM_w15 τ f0 a 4 false true), fun z => by cases z⟩
/-- a sum with d brackets to open -/
theorem recM_ok (H : RdM N τ f0 h n v) (hN : 300000 ≤ N) : ∀ (d : Nat), d ≤ 4 → ∀ a, a ≤ n → OkM τ f0 v (4 - d) (recM N (4 * d + 8) 0 (SM τ f0 a (4 - d) false)) (sumD h n d a) := by
  intro d
  induction d with
  | zero =>
    intro _ a ha
    have o1 : Adv n (oneS h none) := one_adv H.2.1 (fun f e => by cases e)
    have hf : ∀ a, a ≤ n → OkM τ f0 v 4 (recM N 6 2 (SM τ f0 a 4 false)) (oneS h none a) := fun a ha => facM (rc := recM N 5) H hN ha (fun q => ch4 (N := N) (rc := recM N 4) q)
    have ht : ∀ a, a ≤ n → OkM τ f0 v 4 (recM N 7 1 (SM τ f0 a 4 false)) (prodS h n (oneS h none) a) := fun a ha => terM (rc := recM N 6) H hN o1 hf ha
    exact sumM (rc := recM N 7) H hN (prod_adv H.2.1 o1) ht ha
  | succ d ih =>
    intro hd a ha
    have o0 : Adv n (sumD h n d) := sumD_adv H.2.1 d
    have o1 : Adv n (oneS h (some (sumD h n d))) := one_adv H.2.1 (fun f e => by cases e; exact o0)
    have eo : 4 - d = (4 - (d + 1)) + 1 := by omega
    have ih' := ih (by omega)
    rw [eo] at ih'
    have hc : ∀ a, a ≤ n → h a = nI 40 → OkM τ f0 v (4 - (d + 1)) (recM N (4 * d + 9) 3 (SM τ f0 a (4 - (d + 1)) false)) (oneS h (some (sumD h n d)) a) := fun a ha q => chM (rc := recM N (4 * d + 8)) H o0 (by omega) ih' (fun a => (badM hN (4 * d + 5)).1) ha q
    have hf : ∀ a, a ≤ n → OkM τ f0 v (4 - (d + 1)) (recM N (4 * d + 10) 2 (SM τ f0 a (4 - (d + 1)) false)) (oneS h (some (sumD h n d)) a) := fun a ha => facM (rc := recM N (4 * d + 9)) H hN ha (fun q => hc a ha q)
    have ht : ∀ a, a ≤ n → OkM τ f0 v (4 - (d + 1)) (recM N (4 * d + 11) 1 (SM τ f0 a (4 - (d + 1)) false)) (prodS h n (oneS h (some (sumD h n d))) a) := fun a ha => terM (rc := recM N (4 * d + 10)) H hN o1 hf ha
    exact sumM (rc := recM N (4 * d + 11)) H hN (prod_adv H.2.1 o1) ht ha
theorem SM_ini (τ : Mem) (x : Int32) : pI (pI (pI (pI τ 0 17 x) 0 13 (0 : Int32)) 0 14 (0 : Int32)) 0 15 (0 : Int32) = SM τ (upd (gI τ 0) 17 x) 0 0 false := by
  simp only [pI_w, wI_wI, gI_wI]
  unfold SM
  congr 1
  funext i
  by_cases e15 : i = 15
  · subst e15; rw [up_s]; rfl
  · rw [up_n e15]
    by_cases e14 : i = 14
    · subst e14; rw [up_s]; rfl
    · rw [up_n e14]
      by_cases e13 : i = 13
      · subst e13; rw [up_s]; rfl
      · rw [up_n e13]; simp [pst, e13, e14, e15]
/-- the whole text read -/
theorem saysM {x : Int32} {b : Nat → Int32} (H : RdM N τ (upd (gI τ 0) 17 x) (hereS b n) n v) (hN : 300000 ≤ N) (hend : ∀ a o c, fX5_end N (SM τ (upd (gI τ 0) 17 x) a o c) = some (nI n)) : OkM τ (upd (gI τ 0) 17 x) v 0 (fX5_says N τ x) (whole b n) := by
  unfold fX5_says whole
  rw [lt_d, lt_d, lt_d, lt_d, SM_ini]
  obtain ⟨y, e1, e2⟩ := recM_ok H hN 4 (by omega) 0 (by omega)
  have hadv := sumD_adv H.2.1 4 0 (by omega)
  have hn := H.1
  have e1 : recM N 24 0 (SM τ (upd (gI τ 0) 17 x) 0 0 false) = _ := e1
  rw [e1, Option.bind_some]
  generalize sumD (hereS b n) n 4 0 = r at e1 e2 hadv
  obtain ⟨ok, a1, E1⟩ := r
  have h12 : a1 ≤ n := hadv.2
  cases ok with
  | false =>
    refine ⟨y, ?_, fun z => by cases z⟩
    show (if gI (SM τ (upd (gI τ 0) 17 x) a1 0 true) 0 15 = (0 : Int32) then _ else _) = _
    rw [SM_15, if_neg (show ¬ nb true = (0 : Int32) from ne1), lt_d]
    exact congrArg (fun z => some (y, z)) (SM_w15 τ _ a1 0 true true)
  | true =>
    refine ⟨y, ?_, fun _ => e2 rfl⟩
    show (if gI (SM τ (upd (gI τ 0) 17 x) a1 0 false) 0 15 = (0 : Int32) then _ else _) = _
    rw [SM_15, if_pos (show nb false = (0 : Int32) from rfl), hend, Option.bind_some, lt_d]
    show some (y, pI (SM τ (upd (gI τ 0) 17 x) a1 0 false) 0 15 (if nI n ≤ nI a1 then (0 : Int32) else (1 : Int32))) = some (y, SM τ _ a1 0 (!decide (n ≤ a1)))
    by_cases q : n ≤ a1
    · rw [if_pos (show nI n ≤ nI a1 from nI_le q (by omega)), decide_eq_true q]
      exact congrArg (fun z => some (y, z)) (SM_w15 τ _ a1 0 false false)
    · rw [if_neg (show ¬ nI n ≤ nI a1 from nI_ge (by omega) (by omega)), decide_eq_false q]
      exact congrArg (fun z => some (y, z)) (SM_w15 τ _ a1 0 false true)
end RM
theorem fSum_le12 (r : Nat) : fSum r 12 ≤ 144 := fSum_le r 12
theorem fGr_le (r : Nat) : ∀ k, fGr r k ≤ k
  | 0 => Nat.le_refl _
  | k + 1 => by
    have := fGr_le r k
    show (if bit r k = 0 then fGr r k else k) ≤ k + 1
    split <;> omega
theorem fEven_le (r : Nat) : ∀ k, fEven r k ≤ k
  | 0 => Nat.le_refl _
  | k + 1 => by
    have := fEven_le r k
    show fEven r k + _ ≤ k + 1
    split
    · omega
    · split <;> omega
theorem fLe_le (r : Nat) : ∀ k, fLe r k ≤ k
  | 0 => Nat.le_refl _
  | k + 1 => by
    have := fLe_le r k
    show (if bit r k = 0 then fLe r k else if fLe r k = 0 then k + 1 else fLe r k) ≤ k + 1
    split
    · omega
    · split <;> omega
theorem facT_le (r j : Nat) : facT r j ≤ 144 := by
  have h1 := fSum_le12 r; have h2 := fGr_le r 12; have h3 := fEven_le r 12; have h4 := fLong_le r 12; have h5 := fLe_le r 12
  unfold facT
  split <;> omega
theorem nmV_pos {s : Nat → Int32} {w r : Nat} (h1 : s 1 = nI w) (hw : w ≤ 40) (k : Nat) : ¬ nmV s r k < 0 := by
  unfold nmV
  by_cases e6 : k = 6
  · rw [if_pos e6, h1]; exact nI_pos (by omega)
  · rw [if_neg e6]
    by_cases e5 : k = 5
    · rw [if_pos e5]; have := pcn_le (rowT r &&& latN s); exact nI_pos (by omega)
    · rw [if_neg e5]; have := facT_le (rowT r) k; exact nI_pos (by omega)
/-- names, wherever the reading stands -/
theorem namedM {τ : Mem} {N w r : Nat} {f0 : Nat → Int32} {a o : Nat} {b : Bool} (hw : w ≤ 40) (h1 : gI τ 1 1 = nI w) (hr : r < 495) (h17 : f0 17 = nI r) (hb : ∀ q, q < 4096 → gI τ 6 q = nI (pcn q)) (hra : ∀ k, k < 495 → gI τ 4 k = nI (rowT k)) (hfa : ∀ k j, k < 495 → j < 5 → gI τ 7 (5 * k + j) = nI (facT (rowT k) j)) (c : Int32) : fX5_named N (SM τ f0 a o b) c = some (match nameS c with
    | some k => nmV (gI τ 1) r k
    | none => -1) := by
  have e17 : gI (SM τ f0 a o b) 0 17 = nI r := h17
  have hla : fX5_latest N (SM τ f0 a o b) = some (latV (gI τ 1)) := latM (τ := SM τ f0 a o b) hw h1
  have hrt := rowT_lt hr
  obtain ⟨ml, hml, el, el2⟩ := and_l (rowT r) (latV (gI τ 1)) hrt
  have hon : fX5_ones N (SM τ f0 a o b) (nI ml) = some (nI (pcn ml)) := onesM (τ := SM τ f0 a o b) hb hml
  have f4 : gI (SM τ f0 a o b) 7 (5 * r + 4) = _ := hfa r 4 hr (by omega)
  have f3 : gI (SM τ f0 a o b) 7 (5 * r + 3) = _ := hfa r 3 hr (by omega)
  have f2 : gI (SM τ f0 a o b) 7 (5 * r + 2) = _ := hfa r 2 hr (by omega)
  have f1 : gI (SM τ f0 a o b) 7 (5 * r + 1) = _ := hfa r 1 hr (by omega)
  have f0' : gI (SM τ f0 a o b) 7 (5 * r) = _ := hfa r 0 hr (by omega)
  have hro : gI (SM τ f0 a o b) 4 r = nI (rowT r) := hra r hr
  unfold fX5_named nameS
  by_cases c4 : c = nI 99
  · rw [if_pos (show c = (99 : Int32) from c4), if_pos c4]
    simp (disch := first | omega | decide) only [lt_d, gbT, Option.bind_some, cT2_l, cT2_r, mO_n, mO_s, lit, litL, nb_t, nb_f, need_1, need_0, ix_n, inb_T, le_T, le_F, l_T, l_F, e_F, e_R, if_true, if_false, n_add, n_mul, n_sub, n_l, fM_1, fM_2, fM_3, fM_4, fM_6, fM_7, e17, f4]
    rfl
  · rw [if_neg (show ¬ c = (99 : Int32) from c4), if_neg c4]
    by_cases c5 : c = nI 100
    · rw [if_pos (show c = (100 : Int32) from c5), if_pos c5]
      simp (disch := first | omega | decide) only [lt_d, gbT, Option.bind_some, cT2_l, cT2_r, mO_n, mO_s, lit, litL, nb_t, nb_f, need_1, need_0, ix_n, inb_T, le_T, le_F, l_T, l_F, e_F, e_R, if_true, if_false, n_add, n_mul, n_sub, n_l, fM_1, fM_2, fM_3, fM_4, fM_6, fM_7, e17, hla, hro, el, hon]
      rw [el2]; rfl
    · rw [if_neg (show ¬ c = (100 : Int32) from c5), if_neg c5]
      by_cases c3 : c = nI 101
      · rw [if_pos (show c = (101 : Int32) from c3), if_pos c3]
        simp (disch := first | omega | decide) only [lt_d, gbT, Option.bind_some, cT2_l, cT2_r, mO_n, mO_s, lit, litL, nb_t, nb_f, need_1, need_0, ix_n, inb_T, le_T, le_F, l_T, l_F, e_F, e_R, if_true, if_false, n_add, n_mul, n_sub, n_l, fM_1, fM_2, fM_3, fM_4, fM_6, fM_7, e17, f3]
        rfl
      · rw [if_neg (show ¬ c = (101 : Int32) from c3), if_neg c3]
        by_cases c2 : c = nI 103
        · rw [if_pos (show c = (103 : Int32) from c2), if_pos c2]
          simp (disch := first | omega | decide) only [lt_d, gbT, Option.bind_some, cT2_l, cT2_r, mO_n, mO_s, lit, litL, nb_t, nb_f, need_1, need_0, ix_n, inb_T, le_T, le_F, l_T, l_F, e_F, e_R, if_true, if_false, n_add, n_mul, n_sub, n_l, fM_1, fM_2, fM_3, fM_4, fM_6, fM_7, e17, f2]
          rfl
        · rw [if_neg (show ¬ c = (103 : Int32) from c2), if_neg c2]
          by_cases c1 : c = nI 108
          · rw [if_pos (show c = (108 : Int32) from c1), if_pos c1]
            simp (disch := first | omega | decide) only [lt_d, gbT, Option.bind_some, cT2_l, cT2_r, mO_n, mO_s, lit, litL, nb_t, nb_f, need_1, need_0, ix_n, inb_T, le_T, le_F, l_T, l_F, e_F, e_R, if_true, if_false, n_add, n_mul, n_sub, n_l, fM_1, fM_2, fM_3, fM_4, fM_6, fM_7, e17, f1]
            rfl
          · rw [if_neg (show ¬ c = (108 : Int32) from c1), if_neg c1]
            by_cases c0 : c = nI 115
            · rw [if_pos (show c = (115 : Int32) from c0), if_pos c0]
              simp (disch := first | omega | decide) only [lt_d, gbT, Option.bind_some, cT2_l, cT2_r, mO_n, mO_s, lit, litL, nb_t, nb_f, need_1, need_0, ix_n, inb_T, le_T, le_F, l_T, l_F, e_F, e_R, if_true, if_false, n_add, n_mul, n_sub, n_l, fM_1, fM_2, fM_3, fM_4, fM_6, fM_7, e17, f0']
              rfl
            · rw [if_neg (show ¬ c = (115 : Int32) from c0), if_neg c0]
              by_cases c6 : c = nI 119
              · rw [if_pos (show c = (119 : Int32) from c6), if_pos c6]
                rfl
              · rw [if_neg (show ¬ c = (119 : Int32) from c6), if_neg c6]
/-- the kept liking is read -/
theorem rdK {τ : Mem} {N w r z : Nat} (hw : w ≤ 40) (h1 : gI τ 1 1 = nI w) (hr : r < 495) (hb : ∀ q, q < 4096 → gI τ 6 q = nI (pcn q)) (hra : ∀ k, k < 495 → gI τ 4 k = nI (rowT k)) (hfa : ∀ k j, k < 495 → j < 5 → gI τ 7 (5 * k + j) = nI (facT (rowT k) j)) (h16 : gI τ 0 16 = nI 0) (hz : z ≤ 60) (h4 : gI τ 1 4 = nI z) : RdM N τ (upd (gI τ 0) 17 (nI r)) (hereS (byS (gI τ 1)) z) z (nmV (gI τ 1) r) ∧ ∀ a o c, fX5_end N (SM τ (upd (gI τ 0) 17 (nI r)) a o c) = some (nI z) := by
  have hend : ∀ a o c, fX5_end N (SM τ (upd (gI τ 0) 17 (nI r)) a o c) = some (nI z) := by
    intro a o c
    unfold fX5_end
    rw [show gI (SM τ (upd (gI τ 0) 17 (nI r)) a o c) 0 16 = nI 0 from h16, if_pos (show nI 0 = (0 : Int32) from rfl)]
    exact congrArg some h4
  refine ⟨⟨hz, hereS_b _ _, fun a o b ha => ?_, fun a o b c => namedM hw h1 hr up_s hb hra hfa c, fun k _ => nmV_pos h1 hw k⟩, hend⟩
  unfold fX5_byteHere
  rw [hend, Option.bind_some, SM_13, show gI (SM τ (upd (gI τ 0) 17 (nI r)) a o b) 0 16 = nI 0 from h16]
  unfold hereS
  by_cases q : a < z
  · rw [if_pos (show nI a < nI z from nI_lt q (by omega)), if_pos (show nI 0 = (0 : Int32) from rfl), if_pos q, show (44 : Int32) + nI a = nI (44 + a) from n_add 44 a, inb_T (by omega) (by decide), gbT, ix_n (by omega)]
    rfl
  · rw [if_neg (show ¬ nI a < nI z from nI_nlt (by omega) (by omega)), if_neg q]
/-- the tape is read -/
theorem rdT {τ : Mem} {N w r z : Nat} (hw : w ≤ 40) (h1 : gI τ 1 1 = nI w) (hr : r < 495) (hb : ∀ q, q < 4096 → gI τ 6 q = nI (pcn q)) (hra : ∀ k, k < 495 → gI τ 4 k = nI (rowT k)) (hfa : ∀ k j, k < 495 → j < 5 → gI τ 7 (5 * k + j) = nI (facT (rowT k) j)) (h16 : gI τ 0 16 = nI 1) (hz : z ≤ 60) (h9 : gI τ 0 9 = nI z) : RdM N τ (upd (gI τ 0) 17 (nI r)) (hereS (gI τ 8) z) z (nmV (gI τ 1) r) ∧ ∀ a o c, fX5_end N (SM τ (upd (gI τ 0) 17 (nI r)) a o c) = some (nI z) := by
  have hend : ∀ a o c, fX5_end N (SM τ (upd (gI τ 0) 17 (nI r)) a o c) = some (nI z) := by
    intro a o c
    unfold fX5_end
    rw [show gI (SM τ (upd (gI τ 0) 17 (nI r)) a o c) 0 16 = nI 1 from h16, if_neg ne1]
    exact congrArg some h9
  refine ⟨⟨hz, hereS_b _ _, fun a o b ha => ?_, fun a o b c => namedM hw h1 hr up_s hb hra hfa c, fun k _ => nmV_pos h1 hw k⟩, hend⟩
  unfold fX5_byteHere
  rw [hend, Option.bind_some, SM_13, show gI (SM τ (upd (gI τ 0) 17 (nI r)) a o b) 0 16 = nI 1 from h16]
  unfold hereS
  by_cases q : a < z
  · rw [if_pos (show nI a < nI z from nI_lt q (by omega)), if_neg ne1, if_pos q, inb_T (by omega) (by decide), gbT, ix_n (by omega)]
    rfl
  · rw [if_neg (show ¬ nI a < nI z from nI_nlt (by omega) (by omega)), if_neg q]
