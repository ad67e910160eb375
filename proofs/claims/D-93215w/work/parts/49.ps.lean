/-! THE LIKING'S TEXT: how far a reading goes; the reference's reading -/
set_option maxRecDepth 100000
def Adv (n : Nat) (f : Nat → PR) : Prop := ∀ a, a ≤ n → a ≤ (f a).2.1 ∧ (f a).2.1 ≤ n
theorem Adv.thn {n a0 : Nat} {r : PR} {k : Nat → Den → PR} (h1 : a0 ≤ r.2.1) (h2 : r.2.1 ≤ n) (hk : ∀ a E, a0 ≤ a → a ≤ n → a0 ≤ (k a E).2.1 ∧ (k a E).2.1 ≤ n) : a0 ≤ (thn r k).2.1 ∧ (thn r k).2.1 ≤ n := by
  obtain ⟨ok, a, E⟩ := r
  cases ok
  · exact ⟨h1, h2⟩
  · exact hk a E h1 h2
/-- a place whose byte is there lies ahead of the end -/
def Bnd (h : Nat → Int32) (n : Nat) : Prop := ∀ a, n ≤ a → h a = -1
theorem hereS_b (b : Nat → Int32) (n : Nat) : Bnd (hereS b n) n := fun a ha => by unfold hereS; rw [if_neg (by omega)]
theorem Bnd.lt {h : Nat → Int32} {n : Nat} (hb : Bnd h n) {a c : Nat} (hc : c < 2147483648) (e : h a = nI c) : a < n := by
  apply Nat.lt_of_not_le
  intro q
  rw [hb a q] at e
  have : ¬ nI c < 0 := nI_pos hc
  rw [← e] at this
  exact this (by decide)
theorem Bnd.dg {h : Nat → Int32} {n : Nat} (hb : Bnd h n) {a : Nat} (e : isDg (h a) = true) : a < n := by
  apply Nat.lt_of_not_le
  intro q
  rw [hb a q] at e
  exact absurd e (by decide)
theorem Bnd.nm {h : Nat → Int32} {n : Nat} (hb : Bnd h n) {a k : Nat} (e : nameS (h a) = some k) : a < n := by
  apply Nat.lt_of_not_le
  intro q
  rw [hb a q] at e
  have : nameS (-1) = none := by decide
  rw [this] at e
  cases e
theorem num_adv {h : Nat → Int32} {n : Nat} (hb : Bnd h n) : ∀ (k a : Nat) (v : Int32), a ≤ n → a ≤ (numS h k a v).1 ∧ (numS h k a v).1 ≤ n := by
  intro k
  induction k with
  | zero => intro a v ha; exact ⟨Nat.le_refl _, ha⟩
  | succ k ih =>
    intro a v ha
    unfold numS
    by_cases q : isDg (h a) = true
    · rw [if_pos q]
      have := hb.dg q
      have := ih (a + 1) ((10 * v + h a) - 48) (by omega)
      omega
    · rw [if_neg q]; exact ⟨Nat.le_refl _, ha⟩
theorem one_adv {h : Nat → Int32} {n : Nat} (hb : Bnd h n) {sub : Option (Nat → PR)} (hs : ∀ f, sub = some f → Adv n f) : Adv n (oneS h sub) := by
  intro a ha
  unfold oneS
  by_cases q : isDg (h a) = true
  · rw [if_pos q]
    exact num_adv hb 3 a 0 ha
  · rw [if_neg q]
    cases hn : nameS (h a) with
    | some k =>
      have := hb.nm hn
      exact ⟨by show a ≤ a + 1; omega, by show a + 1 ≤ n; omega⟩
    | none =>
      show a ≤ (if h a = nI 40 then _ else _ : PR).2.1 ∧ _
      by_cases q1 : h a = nI 40
      · simp only [q1, if_true]
        have hlt := hb.lt (by decide) q1
        cases hsub : sub with
        | none => exact ⟨Nat.le_refl _, ha⟩
        | some f =>
          have hf := hs f hsub
          have f1 := hf (a + 1) (by omega)
          refine Adv.thn (by omega) f1.2 (fun a1 E1 h1 h2 => ?_)
          by_cases q2 : h a1 = nI 63
          · simp only [q2, if_true]
            have l2 := hb.lt (by decide) q2
            have f2 := hf (a1 + 1) (by omega)
            refine Adv.thn (by omega) f2.2 (fun a2 E2 h3 h4 => ?_)
            by_cases q3 : h a2 = nI 58
            · simp only [q3, if_true]
              have l3 := hb.lt (by decide) q3
              have f3 := hf (a2 + 1) (by omega)
              refine Adv.thn (by omega) f3.2 (fun a3 E3 h5 h6 => ?_)
              by_cases q4 : h a3 = nI 41
              · simp only [q4, if_true]
                have l4 := hb.lt (by decide) q4
                exact ⟨by show a ≤ a3 + 1; omega, by show a3 + 1 ≤ n; omega⟩
              · simp only [q4, if_false]
                exact ⟨h5, h6⟩
            · simp only [q3, if_false]
              exact ⟨h3, h4⟩
          · simp only [q2, if_false]
            by_cases q4 : h a1 = nI 41
            · simp only [q4, if_true]
              have l4 := hb.lt (by decide) q4
              exact ⟨by show a ≤ a1 + 1; omega, by show a1 + 1 ≤ n; omega⟩
            · simp only [q4, if_false]
              exact ⟨h1, h2⟩
      · simp only [q1, if_false]
        exact ⟨Nat.le_refl _, ha⟩
theorem mul_adv {h : Nat → Int32} {n : Nat} (hb : Bnd h n) {one : Nat → PR} (ho : Adv n one) : ∀ (k a : Nat) (E : Den), a ≤ n → a ≤ (mulS h one k a E).2.1 ∧ (mulS h one k a E).2.1 ≤ n := by
  intro k
  induction k with
  | zero => intro a E ha; exact ⟨Nat.le_refl _, ha⟩
  | succ k ih =>
    intro a E ha
    unfold mulS
    by_cases q : h a = nI 42
    · simp only [q, if_true]
      have l := hb.lt (by decide) q
      have f1 := ho (a + 1) (by omega)
      refine Adv.thn (by omega) f1.2 (fun a1 E1 h1 h2 => ?_)
      have := ih a1 (fun v => E v * E1 v) h2
      omega
    · simp only [q, if_false]
      exact ⟨Nat.le_refl _, ha⟩
theorem prod_adv {h : Nat → Int32} {n : Nat} (hb : Bnd h n) {one : Nat → PR} (ho : Adv n one) : Adv n (prodS h n one) := fun a ha => by
  unfold prodS
  have f1 := ho a ha
  refine Adv.thn f1.1 f1.2 (fun a1 E1 h1 h2 => ?_)
  have := mul_adv hb ho (n + 1) a1 E1 h2
  omega
theorem add_adv {h : Nat → Int32} {n : Nat} (hb : Bnd h n) {one : Nat → PR} (ho : Adv n one) : ∀ (k a : Nat) (E : Den), a ≤ n → a ≤ (addS h one k a E).2.1 ∧ (addS h one k a E).2.1 ≤ n := by
  intro k
  induction k with
  | zero => intro a E ha; exact ⟨Nat.le_refl _, ha⟩
  | succ k ih =>
    intro a E ha
    unfold addS
    by_cases q : h a = nI 43
    · simp only [q, if_true]
      have l := hb.lt (by decide) q
      have f1 := ho (a + 1) (by omega)
      refine Adv.thn (by omega) f1.2 (fun a1 E1 h1 h2 => ?_)
      have := ih a1 (fun v => E v + E1 v) h2
      omega
    · simp only [q, if_false]
      by_cases q : h a = nI 45
      · simp only [q, if_true]
        have l := hb.lt (by decide) q
        have f1 := ho (a + 1) (by omega)
        refine Adv.thn (by omega) f1.2 (fun a1 E1 h1 h2 => ?_)
        have := ih a1 (fun v => E v - E1 v) h2
        omega
      · simp only [q, if_false]
        exact ⟨Nat.le_refl _, ha⟩
theorem sum_adv {h : Nat → Int32} {n : Nat} (hb : Bnd h n) {prod : Nat → PR} (ho : Adv n prod) : Adv n (sumS h n prod) := fun a ha => by
  unfold sumS
  have f1 := ho a ha
  refine Adv.thn f1.1 f1.2 (fun a1 E1 h1 h2 => ?_)
  have := add_adv hb ho (n + 1) a1 E1 h2
  omega
theorem sumD_adv {h : Nat → Int32} {n : Nat} (hb : Bnd h n) : ∀ d, Adv n (sumD h n d)
  | 0 => sum_adv hb (prod_adv hb (one_adv hb (fun f e => by cases e)))
  | d + 1 => sum_adv hb (prod_adv hb (one_adv hb (fun f e => by cases e; exact sumD_adv hb d)))
