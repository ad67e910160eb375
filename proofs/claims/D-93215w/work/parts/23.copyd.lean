/-! COPIES BETWEEN DYNAMIC ARRAYS OF NUMBERS -/
set_option maxRecDepth 100000
/-- what a copy writes -/
def cpF {α : Type} (f1 f2 : Nat → α) (sp dp n : Nat) : Nat → α := fun q => if dp ≤ q ∧ q < dp + n then f1 (sp + (q - dp)) else f2 q
def okR (sp dp n : Int32) (N1 N2 : Nat) : Bool := !(decide (sp < 0)) && !(decide (dp < 0)) && !(decide (n < 0)) && decide (ix sp + ix n ≤ N1) && decide (ix dp + ix n ≤ N2)
/-- ints of kind t: 0 int, 3 byte, 4 short -/
def okT (t : Nat) (x : Int32) : Bool := match t with
  | 0 => true
  | 3 => fits .byte (.int x)
  | 4 => fits .short (.int x)
  | _ => false
def acD (σ : Mem) (a : Nat) (sp : Int32) (b : Nat) (dp n : Int32) : Option Mem := match gC σ a with
  | some (.inl (t, N1, .inl f1)) => match gC σ b with
    | some (.inl (t2, N2, .inl f2)) => if t = t2 ∧ okR sp dp n N1 N2 = true ∧ (t = 0 ∨ t = 3 ∨ t = 4) ∧ (List.range (ix n)).all (fun i => okT t (f1 (ix sp + i))) = true then some (pC σ b (.inl (t2, N2, .inl (cpF f1 f2 (ix sp) (ix dp) (ix n))))) else none
    | _ => none
  | some (.inl (t, N1, .inr (.inl f1))) => match gC σ b with
    | some (.inl (t2, N2, .inr (.inl f2))) => if t = t2 ∧ okR sp dp n N1 N2 = true ∧ t = 1 then some (pC σ b (.inl (t2, N2, .inr (.inl (cpF f1 f2 (ix sp) (ix dp) (ix n)))))) else none
    | _ => none
  | _ => none
theorem acD_spec {σ σ1 : Mem} {a b : Nat} {sp dp n : Int32} (h : acD σ a sp b dp n = some σ1) :
    (∃ t N1 N2 f1 f2, gC σ a = some (.inl (t, N1, .inl f1)) ∧ gC σ b = some (.inl (t, N2, .inl f2)) ∧ okR sp dp n N1 N2 = true ∧ (t = 0 ∨ t = 3 ∨ t = 4) ∧ (∀ i, i < ix n → okT t (f1 (ix sp + i)) = true) ∧ σ1 = pC σ b (.inl (t, N2, .inl (cpF f1 f2 (ix sp) (ix dp) (ix n))))) ∨
    (∃ N1 N2 f1 f2, gC σ a = some (.inl (1, N1, .inr (.inl f1))) ∧ gC σ b = some (.inl (1, N2, .inr (.inl f2))) ∧ okR sp dp n N1 N2 = true ∧ σ1 = pC σ b (.inl (1, N2, .inr (.inl (cpF f1 f2 (ix sp) (ix dp) (ix n)))))) := by
  unfold acD at h
  split at h
  · rename_i t N1 f1 ha
    split at h
    · rename_i t2 N2 f2 hb
      split at h
      · rename_i hc
        obtain ⟨rfl, h1, h2, h3⟩ := hc
        cases h
        exact Or.inl ⟨t, N1, N2, f1, f2, ha, hb, h1, h2, fun i hi => List.all_eq_true.mp h3 i (List.mem_range.mpr hi), rfl⟩
      · cases h
    · cases h
  · rename_i t N1 f1 ha
    split at h
    · rename_i t2 N2 f2 hb
      split at h
      · rename_i hc
        obtain ⟨rfl, h1, rfl⟩ := hc
        cases h
        exact Or.inr ⟨N1, N2, f1, f2, ha, hb, h1, rfl⟩
      · cases h
    · cases h
  · cases h
theorem okR_spec {sp dp n : Int32} {N1 N2 : Nat} (h : okR sp dp n N1 N2 = true) : ¬ sp < 0 ∧ ¬ dp < 0 ∧ ¬ n < 0 ∧ ix sp + ix n ≤ N1 ∧ ix dp + ix n ≤ N2 := by
  simp only [okR, Bool.and_eq_true, Bool.not_eq_true', decide_eq_false_iff_not, decide_eq_true_eq] at h
  obtain ⟨⟨⟨⟨h1, h2⟩, h3⟩, h4⟩, h5⟩ := h
  exact ⟨h1, h2, h3, h4, h5⟩
section ACD
variable {γ : Type} {Θ : ThT Mem} {V : Mod} {cc : ByteArray} {nL : Nat} {own : String} {rm : Room} {ret : Option FieldType} {hs : List (Nat × Nat × Nat × Nat)} {ini : Bool} {O : Outcome} {σ' : Mem} {ρ : γ} {σ σ1 : Mem} {F : Option γ} {cs : Nat × Nat} {pc : Nat} {lv : List (Nat × Value)} {st : List Value}
theorem s_acD (hc : Cx Θ V cc nL own rm ret hs ini O σ') {a b index : Nat} {sp dp n : Int32} (h : acD σ a sp b dp n = some σ1) (hty : (∃ c0, (vT V)[0]? = some (c0, .int)) ∧ (∃ c1, (vT V)[1]? = some (c1, .long)) ∧ (∃ c3, (vT V)[3]? = some (c3, .byte)) ∧ ∃ c4, (vT V)[4]? = some (c4, .short))
    (hlink : Cond.methodLink own index arraycopyName ∈ lw_all) (hnat : Cond.native arraycopyName ∈ lw_all) (hstat : Cond.static arraycopyName ∈ lw_all) (hinit : Cond.initialized "java/lang/System" ∈ lw_all)
    (hf : 1 ≤ rm.frames ∧ 26 ≤ rm.locals) (hst : (st.map fun v => v.category).sum ≤ 8) (hd : decode cc pc = .ok (.invokestatic index, 3)) (kk : Sim Θ nL ρ σ1 F cs (pc + 3) lv st) :
    Sim Θ nL ρ σ F cs pc lv (.int n :: .int dp :: .ref (vO V + b) :: .int sp :: .ref (vO V + a) :: st) := by
  obtain ⟨p, l, e, s, m, args, below, meth, c, Q, rfl, hx, hb, hml, ho, hts, ⟨hK, hE⟩, hr, hlk, htab, hQ, hini⟩ := hc
  intro hF ls hl H locs hW hS
  have h8 : 2 * (F0 m pc ls st).monitorRoom + (st.map fun v => v.category).sum ≤ 8 := lv_room hst
  rcases acD_spec h with ⟨t, N1, N2, f1, f2, ha, hb', hR, ht, hfit, rfl⟩ | ⟨N1, N2, f1, f2, ha, hb', hR, rfl⟩
  · obtain ⟨h1, h2, h3, h4, h5⟩ := okR_spec hR
    obtain ⟨cA, ty, htt, hpr, hfi⟩ : ∃ (cA : ClassId) (ty : FieldType), (vT V)[t]? = some (cA, ty) ∧ refKind ty = false ∧ ∀ x, okT t x = true → fits ty (.int x) = true := by
      obtain ⟨⟨c0, t0⟩, -, ⟨c3, t3⟩, ⟨c4, t4⟩⟩ := hty
      rcases ht with rfl | rfl | rfl
      · exact ⟨c0, .int, t0, rfl, fun x _ => rfl⟩
      · exact ⟨c3, .byte, t3, rfl, fun x hx => hx⟩
      · exact ⟨c4, .short, t4, rfl, fun x hx => hx⟩
    have hPa := hW.dyn ha
    have hPb := hW.dyn hb'
    simp only [dE, vA_eq htt] at hPa hPb
    refine W.acp hx hb ho hts hlink hnat hstat hinit (sp := sp) (dp := dp) (n := n) (f1 := fun j => .int (f1 j)) (f2 := fun j => .int (f2 j)) (N1 := N1) (N2 := N2) (hPa 0 _ rfl) (hPb 0 _ rfl) ((hK.2 t _ htt).1 N1 _) ((hK.2 t _ htt).1 N2 _) hpr h1 h2 h3 h4 h5 (fun i hi => ⟨hfi _ (hfit i hi), fun x h => by cases h⟩) rfl (hl.1.trans hml.symm) rfl hd hf.1 (by show 2 * (F0 m pc ls st).monitorRoom + _ + 18 ≤ _; omega) fun H1 L e1 z oq hL => ?_
    refine kk hF ls hl H1 _ (hW.dput hb' ?_ z oq) ⟨by rw [z]; exact hS.1, fun q h1 h2 => ?_, fun q hq => ?_⟩
    · simp only [dE, vA_eq htt]
      show H1[vO V + b]? = some (vp_cell _ _)
      rw [e1, vp_cell_i]
      congr 1
      refine av_congr fun j hj => ?_
      show _ = Value.int (cpF f1 f2 (ix sp) (ix dp) (ix n) j)
      unfold cpF ix
      split <;> rfl
    · rw [oq q (fun e => h2 (by rw [e]; exact AA.dyn hW hb'))]
      exact hS.2.1 q h1 h2
    · rcases List.mem_append.mp hq with h | h
      · exact hS.2.2 q h
      · rw [hL q h]; exact AA.dyn hW hb'
  · obtain ⟨h1, h2, h3, h4, h5⟩ := okR_spec hR
    obtain ⟨-, ⟨cA, htt⟩, -, -⟩ := hty
    have hPa := hW.dyn ha
    have hPb := hW.dyn hb'
    simp only [dE, vA_eq htt] at hPa hPb
    refine W.acp hx hb ho hts hlink hnat hstat hinit (sp := sp) (dp := dp) (n := n) (f1 := fun j => .long (f1 j)) (f2 := fun j => .long (f2 j)) (N1 := N1) (N2 := N2) (hPa 0 _ rfl) (hPb 0 _ rfl) ((hK.2 1 _ htt).1 N1 _) ((hK.2 1 _ htt).1 N2 _) rfl h1 h2 h3 h4 h5 (fun i hi => ⟨rfl, fun x h => by cases h⟩) rfl (hl.1.trans hml.symm) rfl hd hf.1 (by show 2 * (F0 m pc ls st).monitorRoom + _ + 18 ≤ _; omega) fun H1 L e1 z oq hL => ?_
    refine kk hF ls hl H1 _ (hW.dput hb' ?_ z oq) ⟨by rw [z]; exact hS.1, fun q h1 h2 => ?_, fun q hq => ?_⟩
    · simp only [dE, vA_eq htt]
      show H1[vO V + b]? = some (vp_cell _ _)
      rw [e1, vp_cell_l]
      congr 1
      refine av_congr fun j hj => ?_
      show _ = Value.long (cpF f1 f2 (ix sp) (ix dp) (ix n) j)
      unfold cpF ix
      split <;> rfl
    · rw [oq q (fun e => h2 (by rw [e]; exact AA.dyn hW hb'))]
      exact hS.2.1 q h1 h2
    · rcases List.mem_append.mp hq with h | h
      · exact hS.2.2 q h
      · rw [hL q h]; exact AA.dyn hW hb'
end ACD
