/-! HOW MANY CELLS A FUNCTION MAKES -/
set_option maxRecDepth 100000
def Mo {β : Type} (P : Nat → Prop) (F : Option (β × Mem)) : Prop := ∀ ρ, F = some ρ → P (gN ρ.2)
section MO
variable {β α : Type} {P : Nat → Prop}
theorem mo_some {x : β} {σ : Mem} (h : P (gN σ)) : Mo P (some (x, σ)) := fun ρ e => by cases e; exact h
theorem mo_none : Mo P (none : Option (β × Mem)) := fun ρ e => by cases e
theorem mo_bind {f : Option α} {K : α → Option (β × Mem)} (h : ∀ q, f = some q → Mo P (K q)) : Mo P (f.bind K) := fun ρ e => by
  obtain ⟨q, h1, h2⟩ := Option.bind_eq_some_iff.mp e
  exact h q h1 ρ h2
theorem mo_gb {b : Bool} {F : Option (β × Mem)} (h : b = true → Mo P F) : Mo P (gb b F) := fun ρ e => by
  cases b with
  | true => exact h rfl ρ e
  | false => cases e
theorem mo_lt {v : α} {K : α → Option (β × Mem)} (h : Mo P (K v)) : Mo P (lt_ v K) := h
theorem mo_ite {c : Prop} [Decidable c] {F1 F2 : Option (β × Mem)} (h1 : c → Mo P F1) (h2 : ¬ c → Mo P F2) : Mo P (if c then F1 else F2) := by
  by_cases h : c
  · rw [if_pos h]; exact h1 h
  · rw [if_neg h]; exact h2 h
theorem mo_lp {S : Type} {b : (S → Option (β × Mem)) → S → Option (β × Mem)} {Q : S → Nat → Prop} (h : ∀ rec : S → Option (β × Mem), (∀ x, Mo (Q x) (rec x)) → ∀ x, Mo (Q x) (b rec x)) (N : Nat) : ∀ x, Mo (Q x) (lp b N x) := by
  induction N with
  | zero => intro x ρ e; cases e
  | succ n ih => exact h _ ih
end MO
theorem wV_gN {lo hi : Nat} {σ σ1 : Mem} {a k : Nat} {v : Value} (h : wV lo hi σ a k v = some σ1) : gN σ1 = gN σ := by
  unfold wV at h
  split at h
  · split at h
    · cases h; rfl
    · cases h
  · cases h
theorem nC_gN (σ : Mem) (e : va_E) : gN (nC σ e) = gN σ + 1 := rfl
theorem gnX16 {N : Nat} {σ : Mem} {x0 : Nat} {x1 : Int32} {ρ : Unit × Mem} (h : fX16_init N σ x0 x1 = some ρ) : gN ρ.2 = gN σ :=
  (mo_bind (P := fun n => n = gN σ) fun _ e => mo_some (wV_gN e)) ρ h
theorem gnX17 {N : Nat} {σ : Mem} {x0 : Nat} {x1 : Int32} {ρ : Unit × Mem} (h : fX17_init N σ x0 x1 = some ρ) : gN ρ.2 = gN σ := by
  refine (show Mo (fun n => n = gN σ) (fX17_init N σ x0 x1) from ?_) ρ h
  unfold fX17_init
  repeat (first | (refine mo_bind fun q e => ?_) | (refine mo_gb fun _ => ?_))
  exact mo_some (gnX16 (by assumption))
theorem gnX19 {N : Nat} {σ : Mem} {x0 : Nat} {x1 : Int32} {x2 x3 : Nat} {ρ : Unit × Mem} (h : fX19_init N σ x0 x1 x2 x3 = some ρ) : gN ρ.2 = gN σ :=
  (mo_bind (P := fun n => n = gN σ) fun _ e1 => mo_bind fun _ e2 => mo_bind fun _ e3 => mo_some ((wV_gN e3).trans ((wV_gN e2).trans (wV_gN e1)))) ρ h
theorem gnX20 {N : Nat} {σ : Mem} {x0 x1 x2 x3 : Nat} {ρ : Unit × Mem} (h : fX20_init N σ x0 x1 x2 x3 = some ρ) : gN ρ.2 = gN σ :=
  (mo_bind (P := fun n => n = gN σ) fun _ e1 => mo_bind fun _ e2 => mo_some ((wV_gN e2).trans (gnX19 e1))) ρ h
theorem gnTakes {N : Nat} {σ : Mem} {x0 : Nat} {x1 : Int32} {ρ : Int32 × Mem} (h : fX15_takes N σ x0 x1 = some ρ) : gN ρ.2 = gN σ :=
  (mo_gb (P := fun n => n = gN σ) fun _ => mo_bind fun _ _ => mo_lt (mo_ite (fun _ => mo_gb fun _ => mo_some rfl) (fun _ => mo_bind fun _ _ => mo_bind fun _ e => mo_gb fun _ => mo_some (wV_gN e)))) ρ h
theorem gnNumber {N : Nat} {σ : Mem} {x0 : Nat} {ρ : Option Nat × Mem} (h : fX15_number N σ x0 = some ρ) : gN ρ.2 = gN σ + 1 := by
  refine mo_lp (b := bX15_number_4 N σ x0) (Q := fun y n => n = gN y.1 + 1) (fun rec hrec y => ?_) N (σ, 0, 0) ρ h
  unfold bX15_number_4
  refine mo_ite (fun _ => mo_lt (mo_bind fun _ e => mo_some (gnX16 e))) (fun _ => mo_gb fun _ => mo_bind fun _ _ => mo_bind fun _ _ => mo_ite (fun _ => mo_lt (mo_bind fun _ e => mo_some (gnX16 e))) (fun _ => mo_gb fun _ => mo_bind fun _ _ => mo_lt (mo_bind fun _ _ => mo_bind fun σ20 e => ?_)))
  intro ρ' e'
  have h1 := hrec _ ρ' e'
  rw [← wV_gN e]
  exact h1
/-! a bound L on the heap's size: an answer under L is the answer under every bound that it keeps -/
def Ti {β : Type} (n : Nat) (F : Nat → Option (β × Mem)) : Prop := ∀ L ρ, F L = some ρ → n ≤ gN ρ.2 ∧ gN ρ.2 ≤ L ∧ ∀ L', gN ρ.2 ≤ L' → F L' = some ρ
section TI
variable {β α : Type} {n : Nat}
theorem ti_none : Ti n (fun _ => (none : Option (β × Mem))) := fun L ρ e => by cases e
/-- the answer, its size checked -/
theorem ti_some {x : β} {σ : Mem} (h : n ≤ gN σ) : Ti n (fun L => gb (decide (gN σ ≤ L)) (some (x, σ))) := fun L ρ e => by
  dsimp only at e
  by_cases hL : gN σ ≤ L
  · rw [decide_eq_true hL] at e
    cases e
    refine ⟨h, hL, fun L' h' => ?_⟩
    show gb (decide (gN σ ≤ L')) _ = _
    rw [decide_eq_true h']
    rfl
  · rw [decide_eq_false hL] at e; cases e
theorem ti_bind {f : Option α} {K : Nat → α → Option (β × Mem)} (h : ∀ q, f = some q → Ti n (fun L => K L q)) : Ti n (fun L => f.bind (K L)) := fun L ρ e => by
  obtain ⟨q, h1, h2⟩ := Option.bind_eq_some_iff.mp e
  obtain ⟨a, b, c⟩ := h q h1 L ρ h2
  refine ⟨a, b, fun L' h' => ?_⟩
  show f.bind (K L') = _
  rw [h1]
  exact c L' h'
theorem ti_gb {b : Bool} {F : Nat → Option (β × Mem)} (h : b = true → Ti n F) : Ti n (fun L => gb b (F L)) := fun L ρ e => by
  cases b with
  | true => exact h rfl L ρ e
  | false => cases e
theorem ti_gbL {m : Nat} {F : Nat → Option (β × Mem)} (hm : n ≤ m) (h : Ti m F) : Ti n (fun L => gb (decide (m ≤ L)) (F L)) := fun L ρ e => by
  dsimp only at e
  by_cases hL : m ≤ L
  · rw [decide_eq_true hL] at e
    obtain ⟨a, b, c⟩ := h L ρ e
    refine ⟨Nat.le_trans hm a, b, fun L' h' => ?_⟩
    show gb (decide (m ≤ L')) (F L') = _
    rw [decide_eq_true (Nat.le_trans a h')]
    exact c L' h'
  · rw [decide_eq_false hL] at e; cases e
theorem ti_ite {c : Prop} [Decidable c] {F1 F2 : Nat → Option (β × Mem)} (h1 : c → Ti n F1) (h2 : ¬ c → Ti n F2) : Ti n (fun L => if c then F1 L else F2 L) := by
  by_cases h : c
  · have e : (fun L => if c then F1 L else F2 L) = F1 := funext fun L => if_pos h
    rw [e]; exact h1 h
  · have e : (fun L => if c then F1 L else F2 L) = F2 := funext fun L => if_neg h
    rw [e]; exact h2 h
theorem ti_call {m : Nat} {α : Type} {f : Nat → Option (α × Mem)} {K : Nat → α × Mem → Option (β × Mem)} (hm : n ≤ m) (hf : Ti m f) (h : ∀ q, m ≤ gN q.2 → Ti (gN q.2) (fun L => K L q)) : Ti n (fun L => (f L).bind (K L)) := fun L ρ e => by
  obtain ⟨q, h1, h2⟩ := Option.bind_eq_some_iff.mp e
  obtain ⟨a1, b1, c1⟩ := hf L q h1
  obtain ⟨a2, b2, c2⟩ := h q a1 L ρ h2
  refine ⟨Nat.le_trans hm (Nat.le_trans a1 a2), b2, fun L' h' => ?_⟩
  show (f L').bind (K L') = _
  rw [c1 L' (Nat.le_trans a2 h')]
  exact c2 L' h'
end TI
