/-! Game.row at its call; the counters of a loop that makes one object a turn -/
set_option maxRecDepth 100000
theorem ix_succ {k : Int32} {n : Nat} (h : inb k n = true) (hn : n ≤ 1000) : ix (k + 1) = ix k + 1 := by
  have h1 := inb_lt h
  have h0 : ¬ k < 0 := by
    intro q
    simp [inb, q] at h
  have e := nn_toInt h0
  have e1 : (k + 1).toInt = k.toInt + 1 := by
    rw [Int32.toInt_add]
    have : (1 : Int32).toInt = 1 := rfl
    rw [this]
    unfold ix at h1
    rw [Int.bmod_eq_of_le] <;> omega
  show (k + 1).toInt.toNat = k.toInt.toNat + 1
  rw [e1]
  omega
theorem ixs1 {k : Int32} (h : inb k 12 = true) : ix k + 1 ≤ ix (k + 1) := Nat.le_of_eq (ix_succ h (by decide)).symm
theorem ixs2 {k : Int32} {s : Nat} (h : inb k 12 = true) (hs : s ≤ 7) : 7 * ix k + s ≤ 7 * ix (k + 1) := by rw [ix_succ h (by decide)]; omega
theorem ixc {k : Int32} {c s : Nat} (h : inb k 12 = true) (hc : c ≤ 1) (hs : s ≤ 7) : ix k + c ≤ 12 ∧ 7 * ix k + s ≤ 84 := by
  have := inb_lt h
  omega
theorem kX1_row {γ : Type} {Θ : ThT Mem} {g : GeoX} {cc : ByteArray} {nL : Nat} {rm : Room} {ret : Option FieldType} {hs : List (Nat × Nat × Nat × Nat)} {ini : Bool} {O : Outcome} {σ' : Mem} {ρ : γ} {σ : Mem} {cs : Nat × Nat} {pc : Nat} {lv : List (Nat × Value)} {st : List Value} (hc : Cx Θ (VX g) cc nL RX1 rm ret hs ini O σ') {K : Mem → Option γ} {kf kt N : Nat} {n : Int32}
    (hkf : kf < vK (VX g)) (hkt : kt < vK (VX g)) (hYf : vY (VX g) kf (σ.1 kf) (σ.2.1 kf) (σ.2.2.1 kf) = .inl (g.1.2.1 0, N, .inl (σ.1 kf))) (hYt : ∀ a, vY (VX g) kt a (σ.2.1 kt) (σ.2.2.1 kt) = .inl (g.1.2.1 0, N, .inl a)) (hv : Int32.ofNat N = n) (hn : ¬ n < 0 ∧ n.toNatClampNeg = N)
    (hR : 2 ≤ rm.frames ∧ 61 ≤ rm.locals) (hf : cs.1 ≤ rm.cells ∧ cs.2 ≤ rm.slots) (hrest : (st.map fun v => v.category).sum ≤ 8) (hd : decode cc pc = .ok (.invokestatic 60, 3)) (kk : ∀ σ1 : Mem, Sim Θ nL ρ σ1 (K σ1) cs (pc + 3) lv st) :
    Sim Θ nL ρ σ (lt_ (cpI σ kf kt) K) cs pc lv (.ref (vO (VX g) + kt) :: .ref (vO (VX g) + kf) :: st) :=
  s_callS hc (As := [.ref (vO (VX g) + kf), .ref (vO (VX g) + kt)]) (rest := st) (n := 2) (v1 := none) (σ1 := cpI σ kf kt) (cX1_row_ct hkf hkt hYf hYt hv hn) (lw_S q1027 q1028 q63 q1029) (by decide +kernel) rfl rfl hrest hR hf hd (kk _)
theorem s_lpc {Sg γ : Type} {Θ : ThT Sg} {nL : Nat} {ρ : γ} {pc : Nat} {st : List Value} {S : Type} {b : (S → Option γ) → S → Option γ} {sg : S → Sg} {lvs : S → List (Nat × Value)} {cf : S → Nat × Nat} (h : ∀ rec : S → Option γ, (∀ x : S, Sim Θ nL ρ (sg x) (rec x) (cf x) pc (lvs x) st) → ∀ x : S, Sim Θ nL ρ (sg x) (b rec x) (cf x) pc (lvs x) st) (N : Nat) : ∀ x : S, Sim Θ nL ρ (sg x) (lp b N x) (cf x) pc (lvs x) st := by
  induction N with
  | zero => intro x hF; cases hF
  | succ n ih => exact h _ ih
