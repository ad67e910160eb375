/-! Reader.must on its two roads -/
set_option maxRecDepth 100000
theorem must_inl {N : Nat} {σ σ1 : Mem} {x0 : Nat} {x1 : Int32} {v : Unit} (h : fX15_must N σ x0 x1 = some (.inl v, σ1)) : ¬ x1 = 0 ∧ σ1 = σ := by
  unfold fX15_must at h
  split at h
  · obtain ⟨q, -, h⟩ := Option.bind_eq_some_iff.mp (show Option.bind _ _ = _ from h)
    obtain ⟨q2, -, h⟩ := Option.bind_eq_some_iff.mp h
    cases h
  · rename_i hc
    cases h
    exact ⟨hc, rfl⟩
theorem cX15_must0 {g : GeoX} {N : Nat} {σ σ1 : Mem} {x0 : Nat} {x1 : Int32} {v : Unit} (h : fX15_must N σ x0 x1 = some (.inl v, σ1)) (l : Launch) : Ct (VX g) l yX15_must cX15_must 2 none (rk 4 0 0) [.ref (vO (VX g) + x0), .int x1] σ oV σ1 := by
  obtain ⟨hx, rfl⟩ := must_inl h
  refine Ct.of (by decide) (Nat.le_of_ble_eq_true rfl) (fun Θ hc ls hl => ?_)
  have key : Sim Θ 2 ((() : Unit), σ1) σ1 (if x1 = 0 then none else some ((), σ1)) (0, 0) 0 [(0, .ref (vO (VX g) + x0)), (1, .int x1)] [] := by
    have hz := hc.z
    refine s_iload_n hz dX15_must_0 rfl 1 rfl ?_
    refine s_if_ne (tgt := 16) hz dX15_must_1 rfl (fun h1 => ?_) (fun h1 => ?_)
    · exact s_vretM (ρ := ((), σ1)) hc dX15_must_16 (Nat.le_of_ble_eq_true rfl) (Nat.le_of_ble_eq_true rfl)
    · exact s_none
  exact key (by rw [if_neg hx]) ls hl
