/-! REFERENCES over Sim: null, arrays of references, dynamic arrays, casts, answers that are references -/
set_option maxRecDepth 100000
def aI (t : Nat) (σ : Mem) (a : Nat) (i : Int32) : Option Int32 := match gC σ a with
  | some (.inl (t', n, .inl f)) => if t' = t ∧ inb i n = true then some (f (ix i)) else none
  | _ => none
def aL (t : Nat) (σ : Mem) (a : Nat) (i : Int32) : Option Int64 := match gC σ a with
  | some (.inl (t', n, .inr (.inl f))) => if t' = t ∧ inb i n = true then some (f (ix i)) else none
  | _ => none
def uI (t : Nat) (σ : Mem) (a : Nat) (i : Int32) (v : Int32) : Option Mem := match gC σ a with
  | some (.inl (t', n, .inl f)) => if t' = t ∧ inb i n = true then some (pC σ a (.inl (t', n, .inl (upd f (ix i) v)))) else none
  | _ => none
def uL (t : Nat) (σ : Mem) (a : Nat) (i : Int32) (v : Int64) : Option Mem := match gC σ a with
  | some (.inl (t', n, .inr (.inl f))) => if t' = t ∧ inb i n = true then some (pC σ a (.inl (t', n, .inr (.inl (vp_updL f (ix i) v))))) else none
  | _ => none
/-- the kind and the length of a dynamic array of numbers -/
def aT (σ : Mem) (a : Nat) : Option (Nat × Nat) := match gC σ a with
  | some (.inl (t', n, .inl _)) => some (t', n)
  | some (.inl (t', n, .inr (.inl _))) => some (t', n)
  | _ => none
theorem aI_spec {t : Nat} {σ : Mem} {a : Nat} {i v : Int32} (h : aI t σ a i = some v) : ∃ n f, gC σ a = some (.inl (t, n, .inl f)) ∧ inb i n = true ∧ v = f (ix i) := by
  unfold aI at h
  split at h
  · rename_i t' n f he
    split at h
    · rename_i hr
      obtain ⟨rfl, hr⟩ := hr
      cases h
      exact ⟨n, f, he, hr, rfl⟩
    · cases h
  · cases h
theorem aL_spec {t : Nat} {σ : Mem} {a : Nat} {i : Int32} {v : Int64} (h : aL t σ a i = some v) : ∃ n f, gC σ a = some (.inl (t, n, .inr (.inl f))) ∧ inb i n = true ∧ v = f (ix i) := by
  unfold aL at h
  split at h
  · rename_i t' n f he
    split at h
    · rename_i hr
      obtain ⟨rfl, hr⟩ := hr
      cases h
      exact ⟨n, f, he, hr, rfl⟩
    · cases h
  · cases h
theorem uI_spec {t : Nat} {σ σ1 : Mem} {a : Nat} {i v : Int32} (h : uI t σ a i v = some σ1) : ∃ n f, gC σ a = some (.inl (t, n, .inl f)) ∧ inb i n = true ∧ σ1 = pC σ a (.inl (t, n, .inl (upd f (ix i) v))) := by
  unfold uI at h
  split at h
  · rename_i t' n f he
    split at h
    · rename_i hr
      obtain ⟨rfl, hr⟩ := hr
      cases h
      exact ⟨n, f, he, hr, rfl⟩
    · cases h
  · cases h
theorem uL_spec {t : Nat} {σ σ1 : Mem} {a : Nat} {i : Int32} {v : Int64} (h : uL t σ a i v = some σ1) : ∃ n f, gC σ a = some (.inl (t, n, .inr (.inl f))) ∧ inb i n = true ∧ σ1 = pC σ a (.inl (t, n, .inr (.inl (vp_updL f (ix i) v)))) := by
  unfold uL at h
  split at h
  · rename_i t' n f he
    split at h
    · rename_i hr
      obtain ⟨rfl, hr⟩ := hr
      cases h
      exact ⟨n, f, he, hr, rfl⟩
    · cases h
  · cases h
theorem aT_spec {σ : Mem} {a t n : Nat} (h : aT σ a = some (t, n)) : (∃ f, gC σ a = some (.inl (t, n, .inl f))) ∨ ∃ f, gC σ a = some (.inl (t, n, .inr (.inl f))) := by
  unfold aT at h
  split at h
  · rename_i t' n' f he
    cases h
    exact Or.inl ⟨f, he⟩
  · rename_i t' n' f he
    cases h
    exact Or.inr ⟨f, he⟩
  · cases h
section RF
variable {Sg γ : Type} {Θ : ThT Sg} {cc : ByteArray} {nL : Nat} {own : String} {ρ : γ} {σ : Sg} {F : Option γ} {cs : Nat × Nat} {pc : Nat} {lv : List (Nat × Value)} {st : List Value}
theorem s_aload_nN (hc : Cx0 Θ cc nL own) {k : Fin 4} {i : Nat} (hd : decode cc pc = .ok (.aload_n k, 1)) (hi : (k : Nat) = i) (j : Nat) (hj : lv[j]? = some (i, .null)) (kk : Sim Θ nL ρ σ F cs (pc + 1) lv (.null :: st)) : Sim Θ nL ρ σ F cs pc lv st := by
  obtain ⟨p, l, e, R, s, m, args, below, meth, c, Q, WW, A, rfl, hx, hb, hml, ho, hts⟩ := hc
  intro hF ls hl H locs hW hS
  exact lv_aload_nN hx hb hd hi (lv_at hl j hj) (kk hF ls hl H locs hW hS)
theorem s_aloadN (hc : Cx0 Θ cc nL own) {i : Nat} (hd : decode cc pc = .ok (.aload i, 2)) (j : Nat) (hj : lv[j]? = some (i, .null)) (kk : Sim Θ nL ρ σ F cs (pc + 2) lv (.null :: st)) : Sim Θ nL ρ σ F cs pc lv st := by
  obtain ⟨p, l, e, R, s, m, args, below, meth, c, Q, WW, A, rfl, hx, hb, hml, ho, hts⟩ := hc
  intro hF ls hl H locs hW hS
  exact lv_aloadN hx hb hd (lv_at hl j hj) (kk hF ls hl H locs hW hS)
theorem s_astore_nN (hc : Cx0 Θ cc nL own) {k : Fin 4} {i : Nat} {lv' : List (Nat × Value)} (hd : decode cc pc = .ok (.astore_n k, 1)) (hi : (k : Nat) = i) (hn : i < nL) (hq : (i, Value.null) :: lv.filter (fun q => !(q.1 == i) && !(q.1 + 1 == i && q.2.category == 2)) = lv') (kk : Sim Θ nL ρ σ F cs (pc + 1) lv' st) : Sim Θ nL ρ σ F cs pc lv (.null :: st) := by
  obtain ⟨p, l, e, R, s, m, args, below, meth, c, Q, WW, A, rfl, hx, hb, hml, ho, hts⟩ := hc
  intro hF ls hl H locs hW hS
  exact lv_astore_nN hx hb hd hi hl hn hq (fun ls' hl' => kk hF ls' hl' H locs hW hS)
theorem s_astoreN (hc : Cx0 Θ cc nL own) {i : Nat} {lv' : List (Nat × Value)} (hd : decode cc pc = .ok (.astore i, 2)) (hn : i < nL) (hq : (i, Value.null) :: lv.filter (fun q => !(q.1 == i) && !(q.1 + 1 == i && q.2.category == 2)) = lv') (kk : Sim Θ nL ρ σ F cs (pc + 2) lv' st) : Sim Θ nL ρ σ F cs pc lv (.null :: st) := by
  obtain ⟨p, l, e, R, s, m, args, below, meth, c, Q, WW, A, rfl, hx, hb, hml, ho, hts⟩ := hc
  intro hF ls hl H locs hW hS
  exact lv_astoreN hx hb hd hl hn hq (fun ls' hl' => kk hF ls' hl' H locs hW hS)
theorem s_ifnull (hc : Cx0 Θ cc nL own) {x : Nat} {off : Int} (hd : decode cc pc = .ok (.ifnull off, 3)) (kk : Sim Θ nL ρ σ F cs (pc + 3) lv st) : Sim Θ nL ρ σ F cs pc lv (.ref x :: st) := by
  obtain ⟨p, l, e, R, s, m, args, below, meth, c, Q, WW, A, rfl, hx, hb, hml, ho, hts⟩ := hc
  intro hF ls hl H locs hW hS
  exact lv_ifnull hx hb hd (kk hF ls hl H locs hW hS)
theorem s_ifnullN (hc : Cx0 Θ cc nL own) {off : Int} {tgt : Nat} (hd : decode cc pc = .ok (.ifnull off, 3)) (ht : (pc : Int) + off = (tgt : Int)) (kk : Sim Θ nL ρ σ F cs tgt lv st) : Sim Θ nL ρ σ F cs pc lv (.null :: st) := by
  obtain ⟨p, l, e, R, s, m, args, below, meth, c, Q, WW, A, rfl, hx, hb, hml, ho, hts⟩ := hc
  intro hF ls hl H locs hW hS
  exact lv_ifnullN hx hb hd ht (kk hF ls hl H locs hW hS)
theorem s_ifnonnull (hc : Cx0 Θ cc nL own) {x : Nat} {off : Int} {tgt : Nat} (hd : decode cc pc = .ok (.ifnonnull off, 3)) (ht : (pc : Int) + off = (tgt : Int)) (kk : Sim Θ nL ρ σ F cs tgt lv st) : Sim Θ nL ρ σ F cs pc lv (.ref x :: st) := by
  obtain ⟨p, l, e, R, s, m, args, below, meth, c, Q, WW, A, rfl, hx, hb, hml, ho, hts⟩ := hc
  intro hF ls hl H locs hW hS
  exact lv_ifnonnull hx hb hd ht (kk hF ls hl H locs hW hS)
theorem s_ifnonnullN (hc : Cx0 Θ cc nL own) {off : Int} (hd : decode cc pc = .ok (.ifnonnull off, 3)) (kk : Sim Θ nL ρ σ F cs (pc + 3) lv st) : Sim Θ nL ρ σ F cs pc lv (.null :: st) := by
  obtain ⟨p, l, e, R, s, m, args, below, meth, c, Q, WW, A, rfl, hx, hb, hml, ho, hts⟩ := hc
  intro hF ls hl H locs hW hS
  exact lv_ifnonnullN hx hb hd (kk hF ls hl H locs hW hS)
theorem s_castN (hc : Cx0 Θ cc nL own) {index : Nat} (hd : decode cc pc = .ok (.checkcast index, 3)) (kk : Sim Θ nL ρ σ F cs (pc + 3) lv (.null :: st)) : Sim Θ nL ρ σ F cs pc lv (.null :: st) := by
  obtain ⟨p, l, e, R, s, m, args, below, meth, c, Q, WW, A, rfl, hx, hb, hml, ho, hts⟩ := hc
  intro hF ls hl H locs hW hS
  exact lv_castN hx hb hd (kk hF ls hl H locs hW hS)
end RF
section RG
variable {γ : Type} {Θ : ThT Mem} {V : Mod} {cc : ByteArray} {nL : Nat} {own : String} {rm : Room} {ret : Option FieldType} {hs : List (Nat × Nat × Nat × Nat)} {ini : Bool} {O : Outcome} {σ' : Mem} {ρ : γ} {σ : Mem} {F : Option γ} {cs : Nat × Nat} {pc : Nat} {lv : List (Nat × Value)} {st : List Value}
/-- a fixed array of references to fixed cells -/
theorem s_aald (hc : Cx Θ V cc nL own rm ret hs ini O σ') {k t n b : Nat} {cA : ClassId} {ty : FieldType} {i : Int32} (hk : k < vK V) (hY : vY V k (σ.1 k) (σ.2.1 k) (σ.2.2.1 k) = .inl (cA, n, .inr (.inr (.inr (.inr (fun j => some (vO V + (b + j)))))))) (ht : (vT V)[t]? = some (cA, ty)) (href : ty.isReference = true) (hin : inb i n = true) (hd : decode cc pc = .ok (.aaload, 1)) (kk : Sim Θ nL ρ σ F cs (pc + 1) lv (.ref (vO V + (b + ix i)) :: st)) : Sim Θ nL ρ σ F cs pc lv (.int i :: .ref (vO V + k) :: st) := by
  obtain ⟨p, l, e, s, m, args, below, meth, c, Q, rfl, hx, hb, hml, ho, hts, ⟨hK, hE⟩, hr, hlk, htab, hQ, hini⟩ := hc
  intro hF ls hl H locs hW hS
  have hin' := inb_spec hin
  have hlt : i.toNatClampNeg < n := Nat.not_le.mp fun q => hin' (Or.inr q)
  exact W.aald (v := .ref (vO V + (b + ix i))) (ty := ty) hx hb ((hW.one hk hY) 0 _ rfl) ((hK.2 t _ ht).1 n (fun j => va_rf (some (vO V + (b + j))))) href (fun q => by cases q) (by show ¬ (i < 0 ∨ (arrV _ _ _).slots.size ≤ _); rw [arrV_size]; exact hin') (by show (arrV _ _ _).slots[_]? = _; rw [arrV_read _ _ hlt]; rfl) rfl rfl hd (kk hF ls hl H locs hW hS)
theorem vA_eq {V : Mod} {t : Nat} {cA : ClassId} {ty : FieldType} (h : (vT V)[t]? = some (cA, ty)) : vA V t = cA := by simp [vA, h]
theorem s_diald (hc : Cx Θ V cc nL own rm ret hs ini O σ') {a t : Nat} {cA : ClassId} {i : Int32} {v : Int32} (h : aI t σ a i = some v) (ht : (vT V)[t]? = some (cA, .int)) (hd : decode cc pc = .ok (.iaload, 1)) (kk : Sim Θ nL ρ σ F cs (pc + 1) lv (.int v :: st)) : Sim Θ nL ρ σ F cs pc lv (.int i :: .ref (vO V + a) :: st) := by
  obtain ⟨p, l, e, s, m, args, below, meth, c, Q, rfl, hx, hb, hml, ho, hts, ⟨hK, hE⟩, hr, hlk, htab, hQ, hini⟩ := hc
  intro hF ls hl H locs hW hS
  obtain ⟨n, f, ha, hin, rfl⟩ := aI_spec h
  have hP := hW.dyn ha
  simp only [dE, vA_eq ht] at hP
  exact va_iald hx hb hK hP 0 t rfl ht (inb_spec hin) hd (kk hF ls hl H locs hW hS)
theorem s_dbald (hc : Cx Θ V cc nL own rm ret hs ini O σ') {a t : Nat} {cA : ClassId} {i : Int32} {v : Int32} (h : aI t σ a i = some v) (ht : (vT V)[t]? = some (cA, .byte)) (hd : decode cc pc = .ok (.baload, 1)) (kk : Sim Θ nL ρ σ F cs (pc + 1) lv (.int v :: st)) : Sim Θ nL ρ σ F cs pc lv (.int i :: .ref (vO V + a) :: st) := by
  obtain ⟨p, l, e, s, m, args, below, meth, c, Q, rfl, hx, hb, hml, ho, hts, ⟨hK, hE⟩, hr, hlk, htab, hQ, hini⟩ := hc
  intro hF ls hl H locs hW hS
  obtain ⟨n, f, ha, hin, rfl⟩ := aI_spec h
  have hP := hW.dyn ha
  simp only [dE, vA_eq ht] at hP
  exact va_bald hx hb hK hP 0 t rfl ht (inb_spec hin) hd (kk hF ls hl H locs hW hS)
theorem s_dzald (hc : Cx Θ V cc nL own rm ret hs ini O σ') {a t : Nat} {cA : ClassId} {i : Int32} {v : Int32} (h : aI t σ a i = some v) (ht : (vT V)[t]? = some (cA, .boolean)) (hd : decode cc pc = .ok (.baload, 1)) (kk : Sim Θ nL ρ σ F cs (pc + 1) lv (.int v :: st)) : Sim Θ nL ρ σ F cs pc lv (.int i :: .ref (vO V + a) :: st) := by
  obtain ⟨p, l, e, s, m, args, below, meth, c, Q, rfl, hx, hb, hml, ho, hts, ⟨hK, hE⟩, hr, hlk, htab, hQ, hini⟩ := hc
  intro hF ls hl H locs hW hS
  obtain ⟨n, f, ha, hin, rfl⟩ := aI_spec h
  have hP := hW.dyn ha
  simp only [dE, vA_eq ht] at hP
  exact va_zald hx hb hK hP 0 t rfl ht (inb_spec hin) hd (kk hF ls hl H locs hW hS)
theorem s_dsald (hc : Cx Θ V cc nL own rm ret hs ini O σ') {a t : Nat} {cA : ClassId} {i : Int32} {v : Int32} (h : aI t σ a i = some v) (ht : (vT V)[t]? = some (cA, .short)) (hd : decode cc pc = .ok (.saload, 1)) (kk : Sim Θ nL ρ σ F cs (pc + 1) lv (.int v :: st)) : Sim Θ nL ρ σ F cs pc lv (.int i :: .ref (vO V + a) :: st) := by
  obtain ⟨p, l, e, s, m, args, below, meth, c, Q, rfl, hx, hb, hml, ho, hts, ⟨hK, hE⟩, hr, hlk, htab, hQ, hini⟩ := hc
  intro hF ls hl H locs hW hS
  obtain ⟨n, f, ha, hin, rfl⟩ := aI_spec h
  have hP := hW.dyn ha
  simp only [dE, vA_eq ht] at hP
  exact va_sald hx hb hK hP 0 t rfl ht (inb_spec hin) hd (kk hF ls hl H locs hW hS)
theorem s_dlald (hc : Cx Θ V cc nL own rm ret hs ini O σ') {a t : Nat} {cA : ClassId} {i : Int32} {v : Int64} (h : aL t σ a i = some v) (ht : (vT V)[t]? = some (cA, .long)) (hd : decode cc pc = .ok (.laload, 1)) (kk : Sim Θ nL ρ σ F cs (pc + 1) lv (.long v :: st)) : Sim Θ nL ρ σ F cs pc lv (.int i :: .ref (vO V + a) :: st) := by
  obtain ⟨p, l, e, s, m, args, below, meth, c, Q, rfl, hx, hb, hml, ho, hts, ⟨hK, hE⟩, hr, hlk, htab, hQ, hini⟩ := hc
  intro hF ls hl H locs hW hS
  obtain ⟨n, f, ha, hin, rfl⟩ := aL_spec h
  have hP := hW.dyn ha
  simp only [dE, vA_eq ht] at hP
  exact va_lald hx hb hK hP 0 t rfl ht (inb_spec hin) hd (kk hF ls hl H locs hW hS)
theorem s_diast (hc : Cx Θ V cc nL own rm ret hs ini O σ') {a t : Nat} {cA : ClassId} {i : Int32} {x : Int32} {σ1 : Mem} (h : uI t σ a i x = some σ1) (ht : (vT V)[t]? = some (cA, .int))  (hd : decode cc pc = .ok (.iastore, 1)) (kk : Sim Θ nL ρ σ1 F cs (pc + 1) lv st) : Sim Θ nL ρ σ F cs pc lv (.int x :: .int i :: .ref (vO V + a) :: st) := by
  obtain ⟨p, l, e, s, m, args, below, meth, c, Q, rfl, hx, hb, hml, ho, hts, ⟨hK, hE⟩, hr, hlk, htab, hQ, hini⟩ := hc
  intro hF ls hl H locs hW hS
  obtain ⟨n, f, ha, hin, rfl⟩ := uI_spec h
  have hP := hW.dyn ha
  simp only [dE, vA_eq ht] at hP
  refine W.iast hx hb (hP 0 _ rfl) ((hK.2 t _ ht).1 n (fun j => .int (f j))) (fun q => by cases q) (by show ¬ (i < 0 ∨ (arrV _ _ _).slots.size ≤ _); rw [arrV_size]; exact inb_spec hin) rfl rfl hd fun H1 e1 z oq => ?_
  refine kk hF ls hl H1 _ (hW.dput ha ?_ z oq) (hS.put z oq (AA.dyn hW ha))
  simp only [dE, vA_eq ht]
  show H1[vO V + a]? = some (vp_cell _ _)
  rw [e1, vp_cell_i, vp_cell_i, arrV_store]
  congr 2
  funext q
  by_cases hq : q = ix i
  · subst hq; simp [updV, upd, ix]
  · simp [updV, upd, hq]
    intro h9; exact absurd h9 hq
theorem s_dbast (hc : Cx Θ V cc nL own rm ret hs ini O σ') {a t : Nat} {cA : ClassId} {i : Int32} {x : Int32} {σ1 : Mem} (h : uI t σ a i x = some σ1) (ht : (vT V)[t]? = some (cA, .byte)) (hn : narrow .byte (.int x) = .int x) (hd : decode cc pc = .ok (.bastore, 1)) (kk : Sim Θ nL ρ σ1 F cs (pc + 1) lv st) : Sim Θ nL ρ σ F cs pc lv (.int x :: .int i :: .ref (vO V + a) :: st) := by
  obtain ⟨p, l, e, s, m, args, below, meth, c, Q, rfl, hx, hb, hml, ho, hts, ⟨hK, hE⟩, hr, hlk, htab, hQ, hini⟩ := hc
  intro hF ls hl H locs hW hS
  obtain ⟨n, f, ha, hin, rfl⟩ := uI_spec h
  have hP := hW.dyn ha
  simp only [dE, vA_eq ht] at hP
  refine W.bast hx hb (hP 0 _ rfl) ((hK.2 t _ ht).1 n (fun j => .int (f j))) (fun q => by cases q) (by show ¬ (i < 0 ∨ (arrV _ _ _).slots.size ≤ _); rw [arrV_size]; exact inb_spec hin) rfl rfl hd fun H1 e1 z oq => ?_
  refine kk hF ls hl H1 _ (hW.dput ha ?_ z oq) (hS.put z oq (AA.dyn hW ha))
  simp only [dE, vA_eq ht]
  show H1[vO V + a]? = some (vp_cell _ _)
  rw [e1, hn, vp_cell_i, vp_cell_i, arrV_store]
  congr 2
  funext q
  by_cases hq : q = ix i
  · subst hq; simp [updV, upd, ix]
  · simp [updV, upd, hq]
    intro h9; exact absurd h9 hq
theorem s_dsast (hc : Cx Θ V cc nL own rm ret hs ini O σ') {a t : Nat} {cA : ClassId} {i : Int32} {x : Int32} {σ1 : Mem} (h : uI t σ a i x = some σ1) (ht : (vT V)[t]? = some (cA, .short)) (hn : narrow .short (.int x) = .int x) (hd : decode cc pc = .ok (.sastore, 1)) (kk : Sim Θ nL ρ σ1 F cs (pc + 1) lv st) : Sim Θ nL ρ σ F cs pc lv (.int x :: .int i :: .ref (vO V + a) :: st) := by
  obtain ⟨p, l, e, s, m, args, below, meth, c, Q, rfl, hx, hb, hml, ho, hts, ⟨hK, hE⟩, hr, hlk, htab, hQ, hini⟩ := hc
  intro hF ls hl H locs hW hS
  obtain ⟨n, f, ha, hin, rfl⟩ := uI_spec h
  have hP := hW.dyn ha
  simp only [dE, vA_eq ht] at hP
  refine W.sast hx hb (hP 0 _ rfl) ((hK.2 t _ ht).1 n (fun j => .int (f j))) (fun q => by cases q) (by show ¬ (i < 0 ∨ (arrV _ _ _).slots.size ≤ _); rw [arrV_size]; exact inb_spec hin) rfl rfl hd fun H1 e1 z oq => ?_
  refine kk hF ls hl H1 _ (hW.dput ha ?_ z oq) (hS.put z oq (AA.dyn hW ha))
  simp only [dE, vA_eq ht]
  show H1[vO V + a]? = some (vp_cell _ _)
  rw [e1, hn, vp_cell_i, vp_cell_i, arrV_store]
  congr 2
  funext q
  by_cases hq : q = ix i
  · subst hq; simp [updV, upd, ix]
  · simp [updV, upd, hq]
    intro h9; exact absurd h9 hq
theorem s_dlast (hc : Cx Θ V cc nL own rm ret hs ini O σ') {a t : Nat} {cA : ClassId} {i : Int32} {x : Int64} {σ1 : Mem} (h : uL t σ a i x = some σ1) (ht : (vT V)[t]? = some (cA, .long))  (hd : decode cc pc = .ok (.lastore, 1)) (kk : Sim Θ nL ρ σ1 F cs (pc + 1) lv st) : Sim Θ nL ρ σ F cs pc lv (.long x :: .int i :: .ref (vO V + a) :: st) := by
  obtain ⟨p, l, e, s, m, args, below, meth, c, Q, rfl, hx, hb, hml, ho, hts, ⟨hK, hE⟩, hr, hlk, htab, hQ, hini⟩ := hc
  intro hF ls hl H locs hW hS
  obtain ⟨n, f, ha, hin, rfl⟩ := uL_spec h
  have hP := hW.dyn ha
  simp only [dE, vA_eq ht] at hP
  refine W.last hx hb (hP 0 _ rfl) ((hK.2 t _ ht).1 n (fun j => .long (f j))) (fun q => by cases q) (by show ¬ (i < 0 ∨ (arrV _ _ _).slots.size ≤ _); rw [arrV_size]; exact inb_spec hin) rfl rfl hd fun H1 e1 z oq => ?_
  refine kk hF ls hl H1 _ (hW.dput ha ?_ z oq) (hS.put z oq (AA.dyn hW ha))
  simp only [dE, vA_eq ht]
  show H1[vO V + a]? = some (vp_cell _ _)
  rw [e1, vp_cell_l, vp_cell_l, arrV_store]
  congr 2
  funext q
  by_cases hq : q = ix i
  · subst hq; simp [updV, vp_updL, ix]
  · simp [updV, vp_updL, hq]
    intro h9; exact absurd h9 hq
theorem s_dalen (hc : Cx Θ V cc nL own rm ret hs ini O σ') {a t n : Nat} {cA : ClassId} {ty : FieldType} (h : aT σ a = some (t, n)) (ht : (vT V)[t]? = some (cA, ty)) (hd : decode cc pc = .ok (.arraylength, 1)) (kk : Sim Θ nL ρ σ F cs (pc + 1) lv (.int (nI n) :: st)) : Sim Θ nL ρ σ F cs pc lv (.ref (vO V + a) :: st) := by
  obtain ⟨p, l, e, s, m, args, below, meth, c, Q, rfl, hx, hb, hml, ho, hts, ⟨hK, hE⟩, hr, hlk, htab, hQ, hini⟩ := hc
  intro hF ls hl H locs hW hS
  rcases aT_spec h with ⟨f, ha⟩ | ⟨f, ha⟩
  · have hP := hW.dyn ha
    simp only [dE, vA_eq ht] at hP
    exact va_alen (v := nI n) hx hb hK hP 0 t rfl ht rfl hd (kk hF ls hl H locs hW hS)
  · have hP := hW.dyn ha
    simp only [dE, vA_eq ht] at hP
    exact va_alen (v := nI n) hx hb hK hP 0 t rfl ht rfl hd (kk hF ls hl H locs hW hS)
theorem s_alen (hc : Cx Θ V cc nL own rm ret hs ini O σ') {k t : Nat} {cA : ClassId} {ty : FieldType} {x : vp_A} {v : Int32} (hk : k < vK V) (hY : vY V k (σ.1 k) (σ.2.1 k) (σ.2.2.1 k) = .inl (cA, x)) (ht : (vT V)[t]? = some (cA, ty)) (hv : Int32.ofNat x.1 = v) (hd : decode cc pc = .ok (.arraylength, 1)) (kk : Sim Θ nL ρ σ F cs (pc + 1) lv (.int v :: st)) : Sim Θ nL ρ σ F cs pc lv (.ref (vO V + k) :: st) := by
  obtain ⟨p, l, e, s, m, args, below, meth, c, Q, rfl, hx, hb, hml, ho, hts, ⟨hK, hE⟩, hr, hlk, htab, hQ, hini⟩ := hc
  intro hF ls hl H locs hW hS
  exact va_alen (v := v) hx hb hK (hW.one hk hY) 0 t rfl ht hv hd (kk hF ls hl H locs hW hS)
/-- a dynamic array of numbers has the class of its kind -/
theorem aT_cell {V : Mod} {σ : Mem} {H : Heap} {s : State} {a t n : Nat} {cA : ClassId} {ty : FieldType} (h : aT σ a = some (t, n)) (ht : (vT V)[t]? = some (cA, ty)) (hW : Wd V σ H) : ∃ x : vp_A, va_P (vD V) (vCl V) [(vO V + a, .inl (cA, x))] H := by
  rcases aT_spec h with ⟨f, ha⟩ | ⟨f, ha⟩
  · have hP := hW.dyn ha
    simp only [dE, vA_eq ht] at hP
    exact ⟨_, hP⟩
  · have hP := hW.dyn ha
    simp only [dE, vA_eq ht] at hP
    exact ⟨_, hP⟩
/-- the name of an array class of numbers -/
def nmT (ty : FieldType) : String := "[" ++ ty.toString
theorem s_dcast (hc : Cx Θ V cc nL own rm ret hs ini O σ') {a t n index : Nat} {cA : ClassId} {ty : FieldType} (h : aT σ a = some (t, n)) (ht : (vT V)[t]? = some (cA, ty)) (hprim : ∀ C, ty ≠ .object C) (hq : Cond.classLink own index (nmT ty) ∈ lw_all) (hd : decode cc pc = .ok (.checkcast index, 3)) (kk : Sim Θ nL ρ σ F cs (pc + 3) lv (.ref (vO V + a) :: st)) : Sim Θ nL ρ σ F cs pc lv (.ref (vO V + a) :: st) := by
  obtain ⟨p, l, e, s, m, args, below, meth, c, Q, rfl, hx, hb, hml, ho, hts, ⟨hK, hE⟩, hr, hlk, htab, hQ, hini⟩ := hc
  intro hF ls hl H locs hW hS
  obtain ⟨x, hP⟩ := aT_cell (s := s) h ht hW
  have hra := (hK.2 t _ ht).2
  exact va_castA hx hb ho (hts _ hq) hP 0 rfl (by cases ty with
    | object C => exact absurd rfl (hprim C)
    | _ => exact hra) hd (kk hF ls hl H locs hW hS)
theorem s_dinstY (hc : Cx Θ V cc nL own rm ret hs ini O σ') {a t n index : Nat} {cA : ClassId} {ty : FieldType} (h : aT σ a = some (t, n)) (ht : (vT V)[t]? = some (cA, ty)) (hprim : ∀ C, ty ≠ .object C) (hq : Cond.classLink own index (nmT ty) ∈ lw_all) (hd : decode cc pc = .ok (.instanceof index, 3)) (kk : Sim Θ nL ρ σ F cs (pc + 3) lv (.int 1 :: st)) : Sim Θ nL ρ σ F cs pc lv (.ref (vO V + a) :: st) := by
  obtain ⟨p, l, e, s, m, args, below, meth, c, Q, rfl, hx, hb, hml, ho, hts, ⟨hK, hE⟩, hr, hlk, htab, hQ, hini⟩ := hc
  intro hF ls hl H locs hW hS
  obtain ⟨x, hP⟩ := aT_cell (s := s) h ht hW
  have hra := (hK.2 t _ ht).2
  have hnm : s.vm.findClass (nmT ty) = some cA := by cases ty with
    | object C => exact absurd rfl (hprim C)
    | _ => exact hra
  have hvm0 : (vp_cell cA x).vm = .none := by
    obtain ⟨n, f | f | f | f | f⟩ := x <;> rfl
  have hcl0 : (vp_cell cA x).cls = cA := by
    obtain ⟨n, f | f | f | f | f⟩ := x <;> rfl
  intro T hT X
  obtain ⟨vm', X', stp⟩ := X.instanceofYes hx ho (hts _ hq) (by rw [hT]; exact hP 0 _ rfl) (by rw [hvm0]; rfl) hnm (by rw [hcl0]; exact va_asg _ _) (g := F0 m pc ls (.ref (vO V + a) :: st)) rfl rfl (by rw [hb]; exact hd)
  obtain ⟨t, a1, b1⟩ := (kk hF ls hl H locs hW hS) (T.setVm vm') hT X'
  exact ⟨t, stp t a1, b1⟩
theorem s_dinstN (hc : Cx Θ V cc nL own rm ret hs ini O σ') {a t n index : Nat} {cA : ClassId} {ty : FieldType} {nm : String} (h : aT σ a = some (t, n)) (ht : (vT V)[t]? = some (cA, ty)) (hprim : ∀ C, ty ≠ .object C) (hN : ∀ U, vE V U → va_Nc (nmT ty) nm U) (hq : Cond.classLink own index nm ∈ lw_all) (hd : decode cc pc = .ok (.instanceof index, 3)) (kk : Sim Θ nL ρ σ F cs (pc + 3) lv (.int 0 :: st)) : Sim Θ nL ρ σ F cs pc lv (.ref (vO V + a) :: st) := by
  obtain ⟨p, l, e, s, m, args, below, meth, c, Q, rfl, hx, hb, hml, ho, hts, hK, hr, hlk, htab, hQ, hini⟩ := hc
  intro hF ls hl H locs hW hS
  obtain ⟨x, hP⟩ := aT_cell (s := s) h ht hW
  have hra := (hK.1.2 t _ ht).2
  have hnm : s.vm.findClass (nmT ty) = some cA := by cases ty with
    | object C => exact absurd rfl (hprim C)
    | _ => exact hra
  have hvm0 : (vp_cell cA x).vm = .none := by
    obtain ⟨n, f | f | f | f | f⟩ := x <;> rfl
  have hcl0 : (vp_cell cA x).cls = cA := by
    obtain ⟨n, f | f | f | f | f⟩ := x <;> rfl
  exact va_instNo hx hb ho (hts _ hq) (hN s hK.here) ⟨_, hP 0 _ rfl, by rw [hvm0]; rfl, by rw [hcl0]; exact hnm⟩ hd (kk hF ls hl H locs hW hS)
/-- a cast of an object to a class or an interface above its own -/
theorem s_ocast (hc : Cx Θ V cc nL own rm ret hs ini O σ') {a ci index : Nat} {q : vw_C} {nm : String} (hcl : (vCl V)[ci]? = some q) (hob : Ob V σ a ci) (hN : ∀ U, vE V U → va_Nw (.castable q.1 nm) U) (hq : Cond.classLink own index nm ∈ lw_all) (hd : decode cc pc = .ok (.checkcast index, 3)) (kk : Sim Θ nL ρ σ F cs (pc + 3) lv (.ref (vO V + a) :: st)) : Sim Θ nL ρ σ F cs pc lv (.ref (vO V + a) :: st) := by
  obtain ⟨p, l, e, s, m, args, below, meth, c, Q, rfl, hx, hb, hml, ho, hts, hK, hr, hlk, htab, hQ, hini⟩ := hc
  intro hF ls hl H locs hW hS
  exact va_castY hx hb ho (hts _ hq) (hN s hK.here) (hob.recv hK.1 hW hcl) hd (kk hF ls hl H locs hW hS)
theorem s_ocastS (hc : Cx Θ V cc nL own rm ret hs ini O σ') {a ci index : Nat} {q : vw_C} (hcl : (vCl V)[ci]? = some q) (hob : Ob V σ a ci) (hq : Cond.classLink own index q.1 ∈ lw_all) (hd : decode cc pc = .ok (.checkcast index, 3)) (kk : Sim Θ nL ρ σ F cs (pc + 3) lv (.ref (vO V + a) :: st)) : Sim Θ nL ρ σ F cs pc lv (.ref (vO V + a) :: st) := by
  obtain ⟨p, l, e, s, m, args, below, meth, c, Q, rfl, hx, hb, hml, ho, hts, hK, hr, hlk, htab, hQ, hini⟩ := hc
  intro hF ls hl H locs hW hS
  exact va_castS hx hb ho (hts _ hq) (hK.1.1 ci q hcl).2 (hob.recv hK.1 hW hcl) hd (kk hF ls hl H locs hW hS)
/-- a new array of numbers, of at most B places -/
theorem s_newarr (hc : Cx Θ V cc nL own rm ret hs ini O σ') {K : Mem → Option γ} {B t : Nat} {atype : ArrayType} {ty : FieldType} {cA : ClassId} {x : Int32} {e0 : (Nat → Int32) ⊕ (Nat → Int64) ⊕ (Nat → UInt32) ⊕ (Nat → UInt64) ⊕ (Nat → Option Nat)} (hin : inb x (B + 1) = true) (hB : B ≤ 100000) (hty : newarray.typeOf atype = ty) (ht : (vT V)[t]? = some (cA, ty)) (hprim : ∀ C, ty ≠ .object C) (he : ∀ (cA : ClassId) (N : Nat), vp_cell cA (N, e0) = arrV cA N (fun _ => defaultValue ty)) (hbytes : componentBytes ty ≤ 8) (hq : Cond.arrayClass ty ∈ lw_all) (hcs : cs.1 + 1 ≤ rm.cells ∧ cs.2 + B ≤ rm.slots) (hd : decode cc pc = .ok (.newarray atype, 2))
    (kk : ∀ σ1 : Mem, Sim Θ nL ρ σ1 (K σ1) (cs.1 + 1, cs.2 + B) (pc + 2) lv (.ref (vO V + gN σ) :: st)) : Sim Θ nL ρ σ (lt_ (nC σ (.inl (t, ix x, e0))) K) cs pc lv (.int x :: st) := by
  subst hty
  obtain ⟨p, l, e, s, m, args, below, meth, c, Q, rfl, hx, hb, hml, ho, hts, ⟨hK, hE⟩, hr, hlk, htab, hQ, hini⟩ := hc
  intro hF ls hl H locs hW hS
  have hin' := inb_spec hin
  have hx0 : ¬ x < 0 := fun h => hin' (Or.inl h)
  have hxB : ix x ≤ B := by
    have : ¬ B + 1 ≤ x.toNatClampNeg := fun h => hin' (Or.inr h)
    show x.toNatClampNeg ≤ B
    omega
  have hz : H.size = vO V + σ.2.2.2.2 := hW.2.2.1
  refine va_newaK hx hb (hts _ hq) rfl hd rfl hx0 rfl (Nat.le_trans (Nat.mul_le_mul hxB hbytes) (by omega)) hcs.1 (Nat.le_trans (Nat.add_le_add_left hxB _) hcs.2) hz fun H1 cB e1 z1 o1 hAr hNm => ?_
  have hcB : cB = cA := by
    have hra := (hK.2 t _ ht).2
    have : s.vm.findClass ("[" ++ (newarray.typeOf atype).toString) = some cA := by
      generalize hg : newarray.typeOf atype = ty at hra hprim ⊢
      cases ty with
      | object C => exact absurd rfl (hprim C)
      | _ => exact hra
    exact Option.some.inj (hNm.symm.trans this)
  subst hcB
  refine W.widen (k := cs.1 + 1) (n := cs.2 + B) (Nat.le_refl _) (Nat.add_le_add_left hxB _) ?_
  refine kk (nC σ (.inl (t, ix x, e0))) hF ls hl H1 locs (hW.newc ?_ (by rw [hz]; exact z1) (fun q h => o1 q (by rw [← hz]; exact h))) (hS.grow (by rw [hz]; exact z1) (fun q h => o1 q (by rw [← hz]; exact h)))
  rw [hz]
  simp only [dE, vA_eq ht]
  show H1[_]? = some (vp_cell _ _)
  rw [he]
  exact e1
end RG
section RT
variable {Θ : ThT Mem} {V : Mod} {cc : ByteArray} {nL : Nat} {own : String} {rm : Room} {rt : FieldType} {ret : Option FieldType} {hs : List (Nat × Nat × Nat × Nat)} {ini : Bool} {σ : Mem} {cs : Nat × Nat} {pc : Nat} {lv : List (Nat × Value)}
theorem s_aret {ρ : Option Nat} {a : Nat} (hc : Cx Θ V cc nL own rm (some rt) hs ini (oR (vO V) ρ) σ) (hrt : (∃ n, rt = .object n) ∨ ∃ t, rt = .array t) (hd : decode cc pc = .ok (.areturn, 1)) (h1 : cs.1 ≤ rm.cells) (h2 : cs.2 ≤ rm.slots) : Sim Θ nL ρ σ (some (some a)) cs pc lv [.ref (vO V + a)] := by
  obtain ⟨p, l, e, s, m, args, below, meth, c, Q, rfl, hx, hb, hml, ho, hts, ⟨hK, hE⟩, hr, hlk, htab, hQ, hini⟩ := hc
  intro hF ls hl H locs hW hS
  cases hF
  refine W.widen h1 h2 (W.mono (fun t h => hQ t (MQ.toT h)) ?_)
  exact W.aret hx hb hr hrt (Or.inr ⟨_, rfl⟩) (fun t ht hw => ⟨rfl, by rw [ht]; exact hW, hS.F ht⟩) hS.2.2 hd hlk
theorem s_aretM {ρ : Option Nat × Mem} {a : Nat} (hc : Cx Θ V cc nL own rm (some rt) hs ini (oR (vO V) ρ.1) ρ.2) (hrt : (∃ n, rt = .object n) ∨ ∃ t, rt = .array t) (hd : decode cc pc = .ok (.areturn, 1)) (h1 : cs.1 ≤ rm.cells) (h2 : cs.2 ≤ rm.slots) : Sim Θ nL ρ σ (some (some a, σ)) cs pc lv [.ref (vO V + a)] := by
  obtain ⟨p, l, e, s, m, args, below, meth, c, Q, rfl, hx, hb, hml, ho, hts, ⟨hK, hE⟩, hr, hlk, htab, hQ, hini⟩ := hc
  intro hF ls hl H locs hW hS
  cases hF
  refine W.widen h1 h2 (W.mono (fun t h => hQ t (MQ.toT h)) ?_)
  exact W.aret hx hb hr hrt (Or.inr ⟨_, rfl⟩) (fun t ht hw => ⟨rfl, by rw [ht]; exact hW, hS.F ht⟩) hS.2.2 hd hlk
theorem s_aretT {ρ : (Option Nat ⊕ Nat) × Mem} {a : Nat} (hc : Cx Θ V cc nL own rm (some rt) hs ini (oT (oR (vO V)) ρ.1 (vO V)) ρ.2) (hrt : (∃ n, rt = .object n) ∨ ∃ t, rt = .array t) (hd : decode cc pc = .ok (.areturn, 1)) (h1 : cs.1 ≤ rm.cells) (h2 : cs.2 ≤ rm.slots) : Sim Θ nL ρ σ (some (.inl (some a), σ)) cs pc lv [.ref (vO V + a)] := by
  obtain ⟨p, l, e, s, m, args, below, meth, c, Q, rfl, hx, hb, hml, ho, hts, ⟨hK, hE⟩, hr, hlk, htab, hQ, hini⟩ := hc
  intro hF ls hl H locs hW hS
  cases hF
  refine W.widen h1 h2 (W.mono (fun t h => hQ t (MQ.toT h)) ?_)
  exact W.aret hx hb hr hrt (Or.inr ⟨_, rfl⟩) (fun t ht hw => ⟨rfl, by rw [ht]; exact hW, hS.F ht⟩) hS.2.2 hd hlk
theorem s_aretN {ρ : Option Nat}  (hc : Cx Θ V cc nL own rm (some rt) hs ini (oR (vO V) ρ) σ) (hrt : (∃ n, rt = .object n) ∨ ∃ t, rt = .array t) (hd : decode cc pc = .ok (.areturn, 1)) (h1 : cs.1 ≤ rm.cells) (h2 : cs.2 ≤ rm.slots) : Sim Θ nL ρ σ (some (none)) cs pc lv [.null] := by
  obtain ⟨p, l, e, s, m, args, below, meth, c, Q, rfl, hx, hb, hml, ho, hts, ⟨hK, hE⟩, hr, hlk, htab, hQ, hini⟩ := hc
  intro hF ls hl H locs hW hS
  cases hF
  refine W.widen h1 h2 (W.mono (fun t h => hQ t (MQ.toT h)) ?_)
  exact W.aret hx hb hr hrt (Or.inl rfl) (fun t ht hw => ⟨rfl, by rw [ht]; exact hW, hS.F ht⟩) hS.2.2 hd hlk
theorem s_aretNM {ρ : Option Nat × Mem}  (hc : Cx Θ V cc nL own rm (some rt) hs ini (oR (vO V) ρ.1) ρ.2) (hrt : (∃ n, rt = .object n) ∨ ∃ t, rt = .array t) (hd : decode cc pc = .ok (.areturn, 1)) (h1 : cs.1 ≤ rm.cells) (h2 : cs.2 ≤ rm.slots) : Sim Θ nL ρ σ (some (none, σ)) cs pc lv [.null] := by
  obtain ⟨p, l, e, s, m, args, below, meth, c, Q, rfl, hx, hb, hml, ho, hts, ⟨hK, hE⟩, hr, hlk, htab, hQ, hini⟩ := hc
  intro hF ls hl H locs hW hS
  cases hF
  refine W.widen h1 h2 (W.mono (fun t h => hQ t (MQ.toT h)) ?_)
  exact W.aret hx hb hr hrt (Or.inl rfl) (fun t ht hw => ⟨rfl, by rw [ht]; exact hW, hS.F ht⟩) hS.2.2 hd hlk
theorem s_aretNT {ρ : (Option Nat ⊕ Nat) × Mem}  (hc : Cx Θ V cc nL own rm (some rt) hs ini (oT (oR (vO V)) ρ.1 (vO V)) ρ.2) (hrt : (∃ n, rt = .object n) ∨ ∃ t, rt = .array t) (hd : decode cc pc = .ok (.areturn, 1)) (h1 : cs.1 ≤ rm.cells) (h2 : cs.2 ≤ rm.slots) : Sim Θ nL ρ σ (some (.inl (none), σ)) cs pc lv [.null] := by
  obtain ⟨p, l, e, s, m, args, below, meth, c, Q, rfl, hx, hb, hml, ho, hts, ⟨hK, hE⟩, hr, hlk, htab, hQ, hini⟩ := hc
  intro hF ls hl H locs hW hS
  cases hF
  refine W.widen h1 h2 (W.mono (fun t h => hQ t (MQ.toT h)) ?_)
  exact W.aret hx hb hr hrt (Or.inl rfl) (fun t ht hw => ⟨rfl, by rw [ht]; exact hW, hS.F ht⟩) hS.2.2 hd hlk
theorem s_iretT {ρ : (Int32 ⊕ Nat) × Mem} (hc : Cx Θ V cc nL own rm (some .int) hs ini (oT oI ρ.1 (vO V)) ρ.2) {x : Int32}  (hd : decode cc pc = .ok (.ireturn, 1)) (h1 : cs.1 ≤ rm.cells) (h2 : cs.2 ≤ rm.slots) : Sim Θ nL ρ σ (some (.inl x, σ)) cs pc lv [.int x] := by
  obtain ⟨p, l, e, s, m, args, below, meth, c, Q, rfl, hx, hb, hml, ho, hts, ⟨hK, hE⟩, hr, hlk, htab, hQ, hini⟩ := hc
  intro hF ls hl H locs hW hS
  cases hF
  refine W.widen h1 h2 (W.mono (fun t h => hQ t (MQ.toT h)) ?_)
  exact W.iret hx hb hr (fun t ht hw => ⟨rfl, by rw [ht]; exact hW, hS.F ht⟩) hS.2.2 hd hlk
theorem s_zretT {ρ : (Int32 ⊕ Nat) × Mem} (hc : Cx Θ V cc nL own rm (some .boolean) hs ini (oT oI ρ.1 (vO V)) ρ.2) {x : Int32} (hn : narrow .boolean (.int x) = .int x) (hd : decode cc pc = .ok (.ireturn, 1)) (h1 : cs.1 ≤ rm.cells) (h2 : cs.2 ≤ rm.slots) : Sim Θ nL ρ σ (some (.inl x, σ)) cs pc lv [.int x] := by
  obtain ⟨p, l, e, s, m, args, below, meth, c, Q, rfl, hx, hb, hml, ho, hts, ⟨hK, hE⟩, hr, hlk, htab, hQ, hini⟩ := hc
  intro hF ls hl H locs hW hS
  cases hF
  refine W.widen h1 h2 (W.mono (fun t h => hQ t (MQ.toT h)) ?_)
  exact W.zret hx hb hr hn (fun t ht hw => ⟨rfl, by rw [ht]; exact hW, hS.F ht⟩) hS.2.2 hd hlk
theorem s_lretT {ρ : (Int64 ⊕ Nat) × Mem} (hc : Cx Θ V cc nL own rm (some .long) hs ini (oT oL ρ.1 (vO V)) ρ.2) {x : Int64}  (hd : decode cc pc = .ok (.lreturn, 1)) (h1 : cs.1 ≤ rm.cells) (h2 : cs.2 ≤ rm.slots) : Sim Θ nL ρ σ (some (.inl x, σ)) cs pc lv [.long x] := by
  obtain ⟨p, l, e, s, m, args, below, meth, c, Q, rfl, hx, hb, hml, ho, hts, ⟨hK, hE⟩, hr, hlk, htab, hQ, hini⟩ := hc
  intro hF ls hl H locs hW hS
  cases hF
  refine W.widen h1 h2 (W.mono (fun t h => hQ t (MQ.toT h)) ?_)
  exact W.lret hx hb hr (fun t ht hw => ⟨rfl, by rw [ht]; exact hW, hS.F ht⟩) hS.2.2 hd hlk
theorem s_vretT {ρ : (Unit ⊕ Nat) × Mem} (hc : Cx Θ V cc nL own rm none hs ini (oT (fun _ => oV) ρ.1 (vO V)) ρ.2)   (hd : decode cc pc = .ok (.return_, 1)) (h1 : cs.1 ≤ rm.cells) (h2 : cs.2 ≤ rm.slots) : Sim Θ nL ρ σ (some (.inl (), σ)) cs pc lv [] := by
  obtain ⟨p, l, e, s, m, args, below, meth, c, Q, rfl, hx, hb, hml, ho, hts, ⟨hK, hE⟩, hr, hlk, htab, hQ, hini⟩ := hc
  intro hF ls hl H locs hW hS
  cases hF
  refine W.widen h1 h2 (W.mono (fun t h => hQ t (MQ.toT h)) ?_)
  exact W.vret hx hb hr (fun t ht hw => ⟨rfl, by rw [ht]; exact hW, hS.F ht⟩) hS.2.2 hd hlk
end RT
