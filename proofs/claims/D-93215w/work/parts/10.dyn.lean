/-! DYNAMIC CELLS: objects and arrays that a module makes while it runs -/
set_option maxRecDepth 100000
def dI (lo hi : Nat) (σ : Mem) (a k : Nat) : Option Int32 := match gC σ a with
  | some (.inr (c, fs)) => if lo ≤ c ∧ c < hi then (match fs[k]? with
    | some (.int v) => some v
    | _ => none) else none
  | _ => none
def dR (lo hi : Nat) (σ : Mem) (a k : Nat) : Option (Option Nat) := match gC σ a with
  | some (.inr (c, fs)) => if lo ≤ c ∧ c < hi then (match fs[k]? with
    | some (.ref r) => some (some r)
    | some .null => some none
    | _ => none) else none
  | _ => none
def dC (lo hi : Nat) (σ : Mem) (a : Nat) : Option Nat := match gC σ a with
  | some (.inr (c, _)) => if lo ≤ c ∧ c < hi then some c else none
  | _ => none
def wV (lo hi : Nat) (σ : Mem) (a k : Nat) (v : Value) : Option Mem := match gC σ a with
  | some (.inr (c, fs)) => if (lo ≤ c ∧ c < hi) ∧ k < fs.length then some (pC σ a (.inr (c, fs.set k v))) else none
  | _ => none
theorem dI_spec {lo hi : Nat} {σ : Mem} {a k : Nat} {v : Int32} (h : dI lo hi σ a k = some v) : ∃ c fs, gC σ a = some (.inr (c, fs)) ∧ lo ≤ c ∧ c < hi ∧ fs[k]? = some (.int v) := by
  unfold dI at h
  split at h
  · rename_i c fs he
    split at h
    · rename_i hr
      split at h
      · rename_i w hw
        cases h
        exact ⟨c, fs, he, hr.1, hr.2, hw⟩
      · cases h
    · cases h
  · cases h
theorem dR_spec {lo hi : Nat} {σ : Mem} {a k : Nat} {v : Option Nat} (h : dR lo hi σ a k = some v) : ∃ c fs, gC σ a = some (.inr (c, fs)) ∧ lo ≤ c ∧ c < hi ∧ fs[k]? = some (va_rf v) := by
  unfold dR at h
  split at h
  · rename_i c fs he
    split at h
    · rename_i hr
      split at h
      · rename_i w hw
        cases h
        exact ⟨c, fs, he, hr.1, hr.2, hw⟩
      · rename_i hw
        cases h
        exact ⟨c, fs, he, hr.1, hr.2, hw⟩
      · cases h
    · cases h
  · cases h
theorem dC_spec {lo hi : Nat} {σ : Mem} {a c : Nat} (h : dC lo hi σ a = some c) : ∃ fs, gC σ a = some (.inr (c, fs)) ∧ lo ≤ c ∧ c < hi := by
  unfold dC at h
  split at h
  · rename_i c' fs he
    split at h
    · rename_i hr
      cases h
      exact ⟨fs, he, hr.1, hr.2⟩
    · cases h
  · cases h
theorem wV_spec {lo hi : Nat} {σ σ1 : Mem} {a k : Nat} {v : Value} (h : wV lo hi σ a k v = some σ1) : ∃ c fs, gC σ a = some (.inr (c, fs)) ∧ lo ≤ c ∧ c < hi ∧ k < fs.length ∧ σ1 = pC σ a (.inr (c, fs.set k v)) := by
  unfold wV at h
  split at h
  · rename_i c fs he
    split at h
    · rename_i hr
      cases h
      exact ⟨c, fs, he, hr.1.1, hr.1.2, hr.2, rfl⟩
    · cases h
  · cases h
theorem Wd.dyn {V : Mod} {σ : Mem} {H : Heap} {a : Nat} {e : va_E} (h : Wd V σ H) (ha : gC σ a = some e) : va_P (vD V) (vCl V) [(vO V + a, dE V e)] H := by
  intro j q hq
  cases j with
  | zero => cases hq; exact (h.2.1 a e ha).2
  | succ j => cases hq
theorem AA.dyn {V : Mod} {σ : Mem} {H : Heap} {a : Nat} {e : va_E} (h : Wd V σ H) (ha : gC σ a = some e) : AA V (vO V + a) := Or.inr (Nat.add_le_add_left (h.2.1 a e ha).1 _)
theorem Wd.dput {V : Mod} {σ : Mem} {H H1 : Heap} {a : Nat} {e0 e : va_E} (h : Wd V σ H) (ha : gC σ a = some e0) (he : va_at (vD V) (vCl V) (vO V + a, dE V e) H1) (z : H1.size = H.size) (oq : ∀ q : Nat, q ≠ vO V + a → H1[q]? = H[q]?) : Wd V (pC σ a e) H1 := by
  obtain ⟨h1, h2, h3, h4, h5, h6⟩ := h
  have hza := (h2 a e0 ha).1
  refine ⟨fun j hj => (h1 j hj).kept (oq _ (by show vO V + j ≠ vO V + a; omega)), fun b e' hb => ?_, by rw [z]; exact h3, h4, h5, fun q cell hq => ⟨(h6 q cell hq).1, by rw [oq q (by have := (h6 q cell hq).1; omega)]; exact (h6 q cell hq).2⟩⟩
  by_cases q : b = a
  · subst q
    have : (pC σ b e).2.2.2.1 b = some e := by simp [pC]
    rw [this] at hb
    cases hb
    exact ⟨hza, he⟩
  · have : (pC σ a e).2.2.2.1 b = σ.2.2.2.1 b := by simp [pC, q]
    rw [this] at hb
    obtain ⟨g1, g2⟩ := h2 b e' hb
    exact ⟨g1, g2.kept (oq _ (by show vO V + b ≠ vO V + a; omega))⟩
theorem Wd.newc {V : Mod} {σ : Mem} {H H1 : Heap} {e : va_E} (h : Wd V σ H) (he : va_at (vD V) (vCl V) (H.size, dE V e) H1) (z : H1.size = H.size + 1) (oq : ∀ q : Nat, q < H.size → H1[q]? = H[q]?) : Wd V (nC σ e) H1 := by
  obtain ⟨h1, h2, h3, h4, h5, h6⟩ := h
  refine ⟨fun j hj => (h1 j hj).kept (oq _ (h1 j hj).lt), fun b e' hb => ?_, by rw [z, h3]; rfl, h4, Nat.le_succ_of_le h5, fun q cell hq => ⟨(h6 q cell hq).1, by rw [oq q (Array.getElem?_eq_some_iff.mp (h6 q cell hq).2).1]; exact (h6 q cell hq).2⟩⟩
  by_cases q : b = σ.2.2.2.2
  · subst q
    have : (nC σ e).2.2.2.1 σ.2.2.2.2 = some e := by simp [nC]
    rw [this] at hb
    cases hb
    exact ⟨h5, by rw [← h3]; exact he⟩
  · have : (nC σ e).2.2.2.1 b = σ.2.2.2.1 b := by simp [nC, q]
    rw [this] at hb
    obtain ⟨g1, g2⟩ := h2 b e' hb
    exact ⟨g1, g2.kept (oq _ g2.lt)⟩
theorem va_S.grow {A : Nat → Prop} {H0 H H1 : Heap} {locs : List Loc} (hS : va_S A H0 H locs) (z : H1.size = H.size + 1) (oq : ∀ q : Nat, q < H.size → H1[q]? = H[q]?) : va_S A H0 H1 locs := ⟨Nat.le_trans hS.1 (by omega), fun x h1 h2 => (oq x (Nat.lt_of_lt_of_le h1 hS.1)).trans (hS.2.1 x h1 h2), hS.2.2⟩
theorem map_set {o : Nat} {fs : List Value} {k : Nat} {v : Value} : (fs.set k v).map (rv o) = (fs.map (rv o)).set k (rv o v) := by simp [List.map_set]
section DYN
variable {γ : Type} {Θ : ThT Mem} {V : Mod} {cc : ByteArray} {nL : Nat} {own : String} {rm : Room} {ret : Option FieldType} {hs : List (Nat × Nat × Nat × Nat)} {ini : Bool} {O : Outcome} {σ' : Mem} {ρ : γ} {σ : Mem} {F : Option γ} {cs : Nat × Nat} {pc : Nat} {lv : List (Nat × Value)} {st : List Value}
theorem s_dget (hc : Cx Θ V cc nL own rm ret hs ini O σ') {ref C : String} {T : u_T} {N ci index a : Nat} {fs : List Value} {v : Value} (ha : gC σ a = some (.inr (ci, fs))) (hin : ∀ w ∈ u_ws C T N, w ∈ lw_all) (hcl : (vCl V)[ci]? = some (C, T, N)) (f : Nat) (hf : f < N) (hq : Cond.fieldLink own index ref (T f).2.1 (T f).2.2.1 ∈ lw_all) (hsame : ∀ (s : State) (args : Array Value), (∀ w ∈ lw_all, w.before args s = true) → ∀ x, s.fieldFound? (T f).1 (T f).2.1 (T f).2.2.1 = some x → s.fieldFound? ref (T f).2.1 (T f).2.2.1 = some x) (hv : fs[f]? = some v) (hd : decode cc pc = .ok (.getfield index, 3)) (kk : Sim Θ nL ρ σ F cs (pc + 3) lv (rv (vO V) v :: st)) : Sim Θ nL ρ σ F cs pc lv (.ref (vO V + a) :: st) := by
  obtain ⟨p, l, e, s, m, args, below, meth, c, Q, rfl, hx, hb, hml, ho, hts, ⟨hK, hE⟩, hr, hlk, htab, hQ, hini⟩ := hc
  intro hF ls hl H locs hW hS
  exact va_get hx hb hts hin ho hK (hW.dyn ha) 0 rfl hcl f hf (hts _ hq) (hsame s args hts) (by rw [List.getElem?_map, hv]; rfl) hd (kk hF ls hl H locs hW hS)
theorem s_dput (hc : Cx Θ V cc nL own rm ret hs ini O σ') {ref C : String} {T : u_T} {N ci index a : Nat} {fs : List Value} {v : Value} (ha : gC σ a = some (.inr (ci, fs))) (hin : ∀ w ∈ u_ws C T N, w ∈ lw_all) {ty0 : Nat → FieldType} (hty : ∀ k, k < N → parseFieldDescriptor (T k).2.2.1 = some (ty0 k)) (hnm : ∀ a, a < N → ∀ b, b < N → a ≠ b → (T a).2.1 ≠ (T b).2.1) (hcl : (vCl V)[ci]? = some (C, T, N)) (f : Nat) (hf : f < N) (hq : Cond.fieldLink own index ref (T f).2.1 (T f).2.2.1 ∈ lw_all) (hsame : ∀ (s : State) (args : Array Value), (∀ w ∈ lw_all, w.before args s = true) → ∀ x, s.fieldFound? (T f).1 (T f).2.1 (T f).2.2.1 = some x → s.fieldFound? ref (T f).2.1 (T f).2.2.1 = some x) {ty : FieldType} (hdt : parseFieldDescriptor (T f).2.2.1 = some ty) (hn : narrow ty (rv (vO V) v) = rv (vO V) v) (hfit : fits ty (rv (vO V) v) = true) (hlen : f < fs.length)
    (hfin : (T f).2.2.2 = false ∨ ((T f).2.2.2 = true ∧ ini = true ∧ (T f).1 = own)) (hd : decode cc pc = .ok (.putfield index, 3)) (kk : Sim Θ nL ρ (pC σ a (.inr (ci, fs.set f v))) F cs (pc + 3) lv st) : Sim Θ nL ρ σ F cs pc lv (rv (vO V) v :: .ref (vO V + a) :: st) := by
  obtain ⟨p, l, e, s, m, args, below, meth, c, Q, rfl, hx, hb, hml, ho, hts, ⟨hK, hE⟩, hr, hlk, htab, hQ, hini⟩ := hc
  intro hF ls hl H locs hW hS
  have hap := va_apart (own := own) hts hin ty0 hty hnm hK hcl
  obtain ⟨r, h1, cell, q1, q2, q3, q4⟩ := (hW.dyn ha) 0 _ rfl
  have hr : r = (C, T, N) := Option.some.inj (h1.symm.trans hcl)
  subst hr
  obtain ⟨hS1, hfc, kC, hkC, hkind⟩ := hK.1 ci _ hcl
  obtain ⟨cf, kf, fi, fd, hi, hsl⟩ := hS1 f hf
  have hlay := hts _ (hin _ (u_in_lay hf))
  unfold u_lay at hlay
  have hst := (u_facts hfc hkC (u_lays hts hin hf) hi).1
  have fin : ∀ H' : Heap, H'[vO V + a]? = some (cell.setSlot fd.slot (rv (vO V) v)) → H'.size = H.size → (∀ q, q ≠ vO V + a → H'[q]? = H[q]?) → W p l e rm s m args below meth c H' (locs ++ [⟨vO V + a, fd.slot⟩]) cs.1 cs.2 Q (F0 m (pc + 3) ls st) := by
    intro H' e1 e2 e3
    rw [hsl] at e1 ⊢
    refine kk hF ls hl H' _ (hW.dput ha ?_ e2 e3) (hS.put e2 e3 (AA.dyn hW ha))
    show ∃ r, _ ∧ _
    rw [map_set]
    exact ⟨_, hcl, t_OB.to (V := updV (vp_V (fs.map (rv (vO V)))) f (rv (vO V) v)) ⟨_, e1, q2, q3, t_set q4 hap hf _⟩ (fun j _ => vp_updV_set (by simpa using hlen) _ j)⟩
  rcases hfin with hfin | ⟨hfin, hi1, hdecl⟩
  · rw [if_neg (by rw [hfin]; decide)] at hlay
    have h6 := u_store hfc hkC hkind hlay hi hdt hn hfit
    exact W.putK hx hb (f := fd) ⟨ho, hts _ hq, ⟨_, _, _, hsame s args hts _ hi⟩, hst⟩ (by rw [q2]; exact h6) q1 q3 (by rw [hsl]; exact k2_hasslot (q4 f hf)) rfl rfl hd fin
  · rw [if_pos hfin] at hlay
    have hcf : m.cls = cf := by
      obtain ⟨_, _, c', _, _, _, -, -, hf', -, -, -, hown2, -⟩ := Cond.laysFinal_spec hlay
      have e1 : c' = cf := by have := hi.symm.trans hf'; simp at this; exact this.1.symm
      rw [hdecl] at hown2
      rw [← e1]; exact Option.some.inj (ho.symm.trans hown2)
    have h6 := u_fits hfc hkC hkind (Or.inr hlay) hi hdt hn hfit
    exact W.putFinK hx hb ho (hts _ hq) (hsame s args hts _ hi) hst hcf (hini hi1) (by rw [q2]; exact h6) q1 q3 (by rw [hsl]; exact k2_hasslot (q4 f hf)) rfl rfl hd fin
theorem s_new (hc : Cx Θ V cc nL own rm ret hs ini O σ') {K : Mem → Option γ} {C : String} {T : u_T} {N ci index : Nat} {fs : List Value} (hin : ∀ w ∈ u_ws C T N, w ∈ lw_all) {ty : Nat → FieldType} (hty : ∀ k, k < N → parseFieldDescriptor (T k).2.2.1 = some (ty k)) (hcl : (vCl V)[ci]? = some (C, T, N)) (q1 : Cond.classLink own index C ∈ lw_all) (q2 : Cond.instantiable C N ∈ lw_all) (q3 : Cond.initialized C ∈ lw_all) (hfs : ∀ j, j < N → defaultValue (ty j) = vp_V (fs.map (rv (vO V))) j) (hcs : cs.1 + 1 ≤ rm.cells ∧ cs.2 + N ≤ rm.slots) (hd : decode cc pc = .ok (.new index, 3))
    (kk : ∀ σ1 : Mem, Sim Θ nL ρ σ1 (K σ1) (cs.1 + 1, cs.2 + N) (pc + 3) lv (.ref (vO V + gN σ) :: st)) : Sim Θ nL ρ σ (lt_ (nC σ (.inr (ci, fs))) K) cs pc lv st := by
  obtain ⟨p, l, e, s, m, args, below, meth, c, Q, rfl, hx, hb, hml, ho, hts, ⟨hK, hE⟩, hr, hlk, htab, hQ, hini⟩ := hc
  intro hF ls hl H locs hW hS
  have hKn := hK.1 ci _ hcl
  refine W.newcK hx hb ho (hts _ q1) (hts _ q2) (hts _ q3) rfl hd hcs.1 hcs.2 hKn.2.1 hW.2.2.1 fun H1 kC hkC e1 z1 o1 => ?_
  have hz : H.size = vO V + σ.2.2.2.2 := hW.2.2.1
  refine kk (nC σ (.inr (ci, fs))) hF ls hl H1 locs (hW.newc ?_ (by rw [hz]; exact z1) (fun q h => o1 q (by rw [← hz]; exact h))) (hS.grow (by rw [hz]; exact z1) (fun q h => o1 q (by rw [← hz]; exact h)))
  rw [hz]
  exact ⟨_, hcl, (u_born ty hts hin hKn hkC e1 hty).to hfs⟩
end DYN
