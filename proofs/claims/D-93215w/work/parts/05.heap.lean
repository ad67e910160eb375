/-! ROWS OVER THE FIXED CELLS OF A MODULE, calls, returns, switches -/
set_option maxRecDepth 100000
abbrev oI (x : Int32) : Outcome := .returned (some (.int x))
abbrev oL (x : Int64) : Outcome := .returned (some (.long x))
abbrev oV : Outcome := .returned none
abbrev oR (o : Nat) (x : Option Nat) : Outcome := .returned (some (va_rf (x.map (o + ·))))
theorem Wd.put {V : Mod} {σ σ1 : Mem} {H H1 : Heap} {k : Nat} (h : Wd V σ H) (hk : k < vK V) (he : va_at (vD V) (vCl V) (vO V + k, vY V k (σ1.1 k) (σ1.2.1 k) (σ1.2.2.1 k)) H1)
    (ho : ∀ j, j ≠ k → σ1.1 j = σ.1 j ∧ σ1.2.1 j = σ.2.1 j ∧ σ1.2.2.1 j = σ.2.2.1 j) (hC : σ1.2.2.2 = σ.2.2.2) (z : H1.size = H.size) (oq : ∀ q : Nat, q ≠ vO V + k → H1[q]? = H[q]?) : Wd V σ1 H1 := by
  obtain ⟨h1, h2, h3, h4, h5, h6⟩ := h
  refine ⟨fun j hj => ?_, fun a e ha => ?_, by rw [z, h3, hC], h4, by rw [hC]; exact h5, fun q cell hq => ⟨(h6 q cell hq).1, by rw [oq q (by have := (h6 q cell hq).1; omega)]; exact (h6 q cell hq).2⟩⟩
  · by_cases q : j = k
    · subst q; exact he
    · obtain ⟨e1, e2, e3⟩ := ho j q
      rw [e1, e2, e3]
      exact (h1 j hj).kept (oq _ (by show vO V + j ≠ vO V + k; omega))
  · rw [hC] at ha
    obtain ⟨g1, g2⟩ := h2 a e ha
    exact ⟨g1, g2.kept (oq _ (by show vO V + a ≠ vO V + k; omega))⟩
theorem Wd.one {V : Mod} {σ : Mem} {H : Heap} {k : Nat} (h : Wd V σ H) (hk : k < vK V) {e : va_E} (hY : vY V k (σ.1 k) (σ.2.1 k) (σ.2.2.1 k) = e) : va_P (vD V) (vCl V) [(vO V + k, e)] H := by
  intro j q hq
  cases j with
  | zero => cases hq; rw [← hY]; exact h.1 k hk
  | succ j => cases hq
theorem pI_row (σ : Mem) (k j : Nat) (x : Int32) : (pI σ k j x).1 k = upd (σ.1 k) j x := by
  funext i; simp [pI, upd]
theorem pL_row (σ : Mem) (k j : Nat) (x : Int64) : (pL σ k j x).2.1 k = vp_updL (σ.2.1 k) j x := by
  funext i; simp [pL, vp_updL]
theorem pI_ne (σ : Mem) (k i : Nat) (x : Int32) : ∀ j, j ≠ k → (pI σ k i x).1 j = σ.1 j ∧ (pI σ k i x).2.1 j = σ.2.1 j ∧ (pI σ k i x).2.2.1 j = σ.2.2.1 j := fun j hj => ⟨by funext i'; simp [pI, hj], rfl, rfl⟩
theorem pL_ne (σ : Mem) (k i : Nat) (x : Int64) : ∀ j, j ≠ k → (pL σ k i x).1 j = σ.1 j ∧ (pL σ k i x).2.1 j = σ.2.1 j ∧ (pL σ k i x).2.2.1 j = σ.2.2.1 j := fun j hj => ⟨rfl, by funext i'; simp [pL, hj], rfl⟩
theorem pR_ne (σ : Mem) (k i : Nat) (x : Option Nat) : ∀ j, j ≠ k → (pR σ k i x).1 j = σ.1 j ∧ (pR σ k i x).2.1 j = σ.2.1 j ∧ (pR σ k i x).2.2.1 j = σ.2.2.1 j := fun j hj => ⟨rfl, rfl, by funext i'; simp [pR, hj]⟩
theorem AA.fix {V : Mod} {k : Nat} (hk : k < vK V) : AA V (vO V + k) := Or.inl ⟨Nat.le_add_right _ _, Nat.add_lt_add_left hk _⟩
theorem D1 {A : Nat → Prop} {a : Nat} {e : va_E} (h : A a) : va_D A [(a, e)] := by
  refine ⟨fun i j p q hi hj _ => ?_, fun k q hk => ?_⟩
  · have h1 := (List.getElem?_eq_some_iff.mp hi).1
    have h2 := (List.getElem?_eq_some_iff.mp hj).1
    simp at h1 h2
    omega
  · cases k with
    | zero => cases hk; exact h
    | succ k => cases hk
section SIMH
variable {γ : Type} {Θ : ThT Mem} {V : Mod} {cc : ByteArray} {nL : Nat} {own : String} {rm : Room} {ret : Option FieldType} {hs : List (Nat × Nat × Nat × Nat)} {ini : Bool} {O : Outcome} {σ' : Mem} {ρ : γ} {σ : Mem} {F : Option γ} {cs : Nat × Nat} {pc : Nat} {lv : List (Nat × Value)} {st : List Value}
theorem s_bind {β : Type} {f : Option β} {K : β → Option γ} (h : ∀ q : β, f = some q → Sim Θ nL ρ σ (K q) cs pc lv st) : Sim Θ nL ρ σ (f.bind K) cs pc lv st := by
  intro hF
  cases hf : f with
  | none => rw [hf] at hF; cases hF
  | some q => rw [hf] at hF; exact h q hf hF
theorem s_ite {c : Prop} [Decidable c] {F1 F2 : Option γ} (h1 : c → Sim Θ nL ρ σ F1 cs pc lv st) (h2 : ¬ c → Sim Θ nL ρ σ F2 cs pc lv st) : Sim Θ nL ρ σ (if c then F1 else F2) cs pc lv st := by
  by_cases h : c
  · rw [if_pos h]; exact h1 h
  · rw [if_neg h]; exact h2 h
theorem s_get (hc : Cx Θ V cc nL own rm ret hs ini O σ') {ref C : String} {T : u_T} {N ci index k : Nat} {fs : List Value} {v : Value} (hin : ∀ w ∈ u_ws C T N, w ∈ lw_all) (hk : k < vK V) (hY : vY V k (σ.1 k) (σ.2.1 k) (σ.2.2.1 k) = .inr (ci, fs)) (hcl : (vCl V)[ci]? = some (C, T, N)) (f : Nat) (hf : f < N) (hq : Cond.fieldLink own index ref (T f).2.1 (T f).2.2.1 ∈ lw_all) (hsame : ∀ (s : State) (args : Array Value), (∀ w ∈ lw_all, w.before args s = true) → ∀ x, s.fieldFound? (T f).1 (T f).2.1 (T f).2.2.1 = some x → s.fieldFound? ref (T f).2.1 (T f).2.2.1 = some x) (hv : fs[f]? = some v) (hd : decode cc pc = .ok (.getfield index, 3)) (kk : Sim Θ nL ρ σ F cs (pc + 3) lv (v :: st)) : Sim Θ nL ρ σ F cs pc lv (.ref (vO V + k) :: st) := by
  obtain ⟨p, l, e, s, m, args, below, meth, c, Q, rfl, hx, hb, hml, ho, hts, ⟨hK, hE⟩, hr, hlk, htab, hQ, hini⟩ := hc
  intro hF ls hl H locs hW hS
  exact va_get hx hb hts hin ho hK (hW.one hk hY) 0 rfl hcl f hf (hts _ hq) (hsame s args hts) hv hd (kk hF ls hl H locs hW hS)
/-- a field is put: the general row -/
theorem s_put (hc : Cx Θ V cc nL own rm ret hs ini O σ') {ref C : String} {T : u_T} {N ci index k : Nat} {fs : List Value} {v : Value} {σ1 : Mem} (hin : ∀ w ∈ u_ws C T N, w ∈ lw_all) {ty0 : Nat → FieldType} (hty : ∀ k, k < N → parseFieldDescriptor (T k).2.2.1 = some (ty0 k)) (hnm : ∀ a, a < N → ∀ b, b < N → a ≠ b → (T a).2.1 ≠ (T b).2.1) (hk : k < vK V) (hY : vY V k (σ.1 k) (σ.2.1 k) (σ.2.2.1 k) = .inr (ci, fs)) (hcl : (vCl V)[ci]? = some (C, T, N)) (f : Nat) (hf : f < N) (hq : Cond.fieldLink own index ref (T f).2.1 (T f).2.2.1 ∈ lw_all) (hsame : ∀ (s : State) (args : Array Value), (∀ w ∈ lw_all, w.before args s = true) → ∀ x, s.fieldFound? (T f).1 (T f).2.1 (T f).2.2.1 = some x → s.fieldFound? ref (T f).2.1 (T f).2.2.1 = some x) (hfin : (T f).2.2.2 = false) {ty : FieldType} (hdt : parseFieldDescriptor (T f).2.2.1 = some ty) (hn : narrow ty v = v) (hfit : fits ty v = true) (hlen : f < fs.length)
    (hY1 : vY V k (σ1.1 k) (σ1.2.1 k) (σ1.2.2.1 k) = .inr (ci, fs.set f v)) (hne : ∀ j, j ≠ k → σ1.1 j = σ.1 j ∧ σ1.2.1 j = σ.2.1 j ∧ σ1.2.2.1 j = σ.2.2.1 j) (hC : σ1.2.2.2 = σ.2.2.2) (hd : decode cc pc = .ok (.putfield index, 3)) (kk : Sim Θ nL ρ σ1 F cs (pc + 3) lv st) : Sim Θ nL ρ σ F cs pc lv (v :: .ref (vO V + k) :: st) := by
  obtain ⟨p, l, e, s, m, args, below, meth, c, Q, rfl, hx, hb, hml, ho, hts, ⟨hK, hE⟩, hr, hlk, htab, hQ, hini⟩ := hc
  intro hF ls hl H locs hW hS
  have hap := va_apart (own := own) hts hin ty0 hty hnm hK hcl
  obtain ⟨r, h1, cell, q1, q2, q3, q4⟩ := (hW.one hk hY) 0 _ rfl
  have hr : r = (C, T, N) := Option.some.inj (h1.symm.trans hcl)
  subst hr
  obtain ⟨hS1, hfc, kC, hkC, hkind⟩ := hK.1 ci _ hcl
  obtain ⟨cf, kf, fi, fd, hi, hsl⟩ := hS1 f hf
  have hlay := hts _ (hin _ (u_in_lay hf))
  unfold u_lay at hlay
  rw [if_neg (by rw [hfin]; decide)] at hlay
  have hst := (u_facts hfc hkC (u_lays hts hin hf) hi).1
  have h6 := u_store hfc hkC hkind hlay hi hdt hn hfit
  refine W.putK hx hb (f := fd) ⟨ho, hts _ hq, ⟨_, _, _, hsame s args hts _ hi⟩, hst⟩ (by rw [q2]; exact h6) q1 q3 (by rw [hsl]; exact k2_hasslot (q4 f hf)) rfl rfl hd fun H' e1 e2 e3 => ?_
  rw [hsl] at e1 ⊢
  refine kk hF ls hl H' _ (hW.put hk ?_ hne hC e2 e3) (hS.put e2 e3 (AA.fix hk))
  rw [hY1]
  exact ⟨_, hcl, t_OB.to (V := updV (vp_V fs) f v) ⟨_, e1, q2, q3, t_set q4 hap hf v⟩ (fun j _ => vp_updV_set hlen v j)⟩

theorem s_iald (hc : Cx Θ V cc nL own rm ret hs ini O σ') {k t n j : Nat} {cA : ClassId} {i : Int32} (hk : k < vK V) (hY : vY V k (σ.1 k) (σ.2.1 k) (σ.2.2.1 k) = .inl (cA, n, .inl (σ.1 k))) (ht : (vT V)[t]? = some (cA, .int)) (hin : inb i n = true) (hj : ix i = j) (hd : decode cc pc = .ok (.iaload, 1)) (kk : Sim Θ nL ρ σ F cs (pc + 1) lv (.int (gI σ k j) :: st)) : Sim Θ nL ρ σ F cs pc lv (.int i :: .ref (vO V + k) :: st) := by
  subst hj
  obtain ⟨p, l, e, s, m, args, below, meth, c, Q, rfl, hx, hb, hml, ho, hts, ⟨hK, hE⟩, hr, hlk, htab, hQ, hini⟩ := hc
  intro hF ls hl H locs hW hS
  exact va_iald hx hb hK (hW.one hk hY) 0 t rfl ht (inb_spec hin) hd (kk hF ls hl H locs hW hS)
theorem s_bald (hc : Cx Θ V cc nL own rm ret hs ini O σ') {k t n j : Nat} {cA : ClassId} {i : Int32} (hk : k < vK V) (hY : vY V k (σ.1 k) (σ.2.1 k) (σ.2.2.1 k) = .inl (cA, n, .inl (σ.1 k))) (ht : (vT V)[t]? = some (cA, .byte)) (hin : inb i n = true) (hj : ix i = j) (hd : decode cc pc = .ok (.baload, 1)) (kk : Sim Θ nL ρ σ F cs (pc + 1) lv (.int (gI σ k j) :: st)) : Sim Θ nL ρ σ F cs pc lv (.int i :: .ref (vO V + k) :: st) := by
  subst hj
  obtain ⟨p, l, e, s, m, args, below, meth, c, Q, rfl, hx, hb, hml, ho, hts, ⟨hK, hE⟩, hr, hlk, htab, hQ, hini⟩ := hc
  intro hF ls hl H locs hW hS
  exact va_bald hx hb hK (hW.one hk hY) 0 t rfl ht (inb_spec hin) hd (kk hF ls hl H locs hW hS)
theorem s_zald (hc : Cx Θ V cc nL own rm ret hs ini O σ') {k t n j : Nat} {cA : ClassId} {i : Int32} (hk : k < vK V) (hY : vY V k (σ.1 k) (σ.2.1 k) (σ.2.2.1 k) = .inl (cA, n, .inl (σ.1 k))) (ht : (vT V)[t]? = some (cA, .boolean)) (hin : inb i n = true) (hj : ix i = j) (hd : decode cc pc = .ok (.baload, 1)) (kk : Sim Θ nL ρ σ F cs (pc + 1) lv (.int (gI σ k j) :: st)) : Sim Θ nL ρ σ F cs pc lv (.int i :: .ref (vO V + k) :: st) := by
  subst hj
  obtain ⟨p, l, e, s, m, args, below, meth, c, Q, rfl, hx, hb, hml, ho, hts, ⟨hK, hE⟩, hr, hlk, htab, hQ, hini⟩ := hc
  intro hF ls hl H locs hW hS
  exact va_zald hx hb hK (hW.one hk hY) 0 t rfl ht (inb_spec hin) hd (kk hF ls hl H locs hW hS)
theorem s_lald (hc : Cx Θ V cc nL own rm ret hs ini O σ') {k t n j : Nat} {cA : ClassId} {i : Int32} (hk : k < vK V) (hY : vY V k (σ.1 k) (σ.2.1 k) (σ.2.2.1 k) = .inl (cA, n, .inr (.inl (σ.2.1 k)))) (ht : (vT V)[t]? = some (cA, .long)) (hin : inb i n = true) (hj : ix i = j) (hd : decode cc pc = .ok (.laload, 1)) (kk : Sim Θ nL ρ σ F cs (pc + 1) lv (.long (gL σ k j) :: st)) : Sim Θ nL ρ σ F cs pc lv (.int i :: .ref (vO V + k) :: st) := by
  subst hj
  obtain ⟨p, l, e, s, m, args, below, meth, c, Q, rfl, hx, hb, hml, ho, hts, ⟨hK, hE⟩, hr, hlk, htab, hQ, hini⟩ := hc
  intro hF ls hl H locs hW hS
  exact va_lald hx hb hK (hW.one hk hY) 0 t rfl ht (inb_spec hin) hd (kk hF ls hl H locs hW hS)
theorem s_iast (hc : Cx Θ V cc nL own rm ret hs ini O σ') {K : Mem → Option γ} {k t n j : Nat} {cA : ClassId} {i : Int32} {x : Int32} (hk : k < vK V) (hY : ∀ a, vY V k a (σ.2.1 k) (σ.2.2.1 k) = .inl (cA, n, .inl a)) (ht : (vT V)[t]? = some (cA, .int)) (hin : inb i n = true) (hj : ix i = j) (hd : decode cc pc = .ok (.iastore, 1)) (kk : ∀ σ1 : Mem, Sim Θ nL ρ σ1 (K σ1) cs (pc + 1) lv st) : Sim Θ nL ρ σ (lt_ (pI σ k j x) K) cs pc lv (.int x :: .int i :: .ref (vO V + k) :: st) := by
  subst hj
  obtain ⟨p, l, e, s, m, args, below, meth, c, Q, rfl, hx, hb, hml, ho, hts, ⟨hK, hE⟩, hr, hlk, htab, hQ, hini⟩ := hc
  intro hF ls hl H locs hW hS
  refine W.iast hx hb ((hW.one hk (hY _)) 0 _ rfl) ((hK.2 t _ ht).1 n (fun j => .int (σ.1 k j))) (fun q => by cases q) (by show ¬ (i < 0 ∨ (arrV _ _ _).slots.size ≤ _); rw [arrV_size]; exact inb_spec hin) rfl rfl hd fun H1 e1 z oq => ?_
  refine kk (pI σ k (ix i) x) hF ls hl H1 _ (hW.put hk ?_ (pI_ne σ k (ix i) x) rfl z oq) (hS.put z oq (AA.fix hk))
  rw [pI_row]
  show va_at _ _ (vO V + k, vY V k (upd (σ.1 k) (ix i) x) (σ.2.1 k) (σ.2.2.1 k)) H1
  rw [hY]
  show H1[vO V + k]? = some (vp_cell _ _)
  rw [e1, vp_cell_i, vp_cell_i, arrV_store]
  congr 2
  funext q
  by_cases hq : q = ix i
  · subst hq; simp [updV, upd, ix]
  · simp [updV, upd, hq]
    intro h9; exact absurd h9 hq
theorem s_last (hc : Cx Θ V cc nL own rm ret hs ini O σ') {K : Mem → Option γ} {k t n j : Nat} {cA : ClassId} {i : Int32} {x : Int64} (hk : k < vK V) (hY : ∀ b, vY V k (σ.1 k) b (σ.2.2.1 k) = .inl (cA, n, .inr (.inl b))) (ht : (vT V)[t]? = some (cA, .long)) (hin : inb i n = true) (hj : ix i = j) (hd : decode cc pc = .ok (.lastore, 1)) (kk : ∀ σ1 : Mem, Sim Θ nL ρ σ1 (K σ1) cs (pc + 1) lv st) : Sim Θ nL ρ σ (lt_ (pL σ k j x) K) cs pc lv (.long x :: .int i :: .ref (vO V + k) :: st) := by
  subst hj
  obtain ⟨p, l, e, s, m, args, below, meth, c, Q, rfl, hx, hb, hml, ho, hts, ⟨hK, hE⟩, hr, hlk, htab, hQ, hini⟩ := hc
  intro hF ls hl H locs hW hS
  refine W.last hx hb ((hW.one hk (hY _)) 0 _ rfl) ((hK.2 t _ ht).1 n (fun j => .long (σ.2.1 k j))) (fun q => by cases q) (by show ¬ (i < 0 ∨ (arrV _ _ _).slots.size ≤ _); rw [arrV_size]; exact inb_spec hin) rfl rfl hd fun H1 e1 z oq => ?_
  refine kk (pL σ k (ix i) x) hF ls hl H1 _ (hW.put hk ?_ (pL_ne σ k (ix i) x) rfl z oq) (hS.put z oq (AA.fix hk))
  rw [pL_row]
  show va_at _ _ (vO V + k, vY V k (σ.1 k) (vp_updL (σ.2.1 k) (ix i) x) (σ.2.2.1 k)) H1
  rw [hY]
  show H1[vO V + k]? = some (vp_cell _ _)
  rw [e1, vp_cell_l, vp_cell_l, arrV_store]
  congr 2
  funext q
  by_cases hq : q = ix i
  · subst hq; simp [updV, vp_updL, ix]
  · simp [updV, vp_updL, hq]
    intro h9; exact absurd h9 hq
theorem s_zast (hc : Cx Θ V cc nL own rm ret hs ini O σ') {K : Mem → Option γ} {k t n j : Nat} {cA : ClassId} {i x : Int32} (hk : k < vK V) (hY : ∀ a, vY V k a (σ.2.1 k) (σ.2.2.1 k) = .inl (cA, n, .inl a)) (ht : (vT V)[t]? = some (cA, .boolean)) (hin : inb i n = true) (hj : ix i = j) (hn : narrow .boolean (.int x) = .int x) (hd : decode cc pc = .ok (.bastore, 1)) (kk : ∀ σ1 : Mem, Sim Θ nL ρ σ1 (K σ1) cs (pc + 1) lv st) : Sim Θ nL ρ σ (lt_ (pI σ k j x) K) cs pc lv (.int x :: .int i :: .ref (vO V + k) :: st) := by
  subst hj
  obtain ⟨p, l, e, s, m, args, below, meth, c, Q, rfl, hx, hb, hml, ho, hts, ⟨hK, hE⟩, hr, hlk, htab, hQ, hini⟩ := hc
  intro hF ls hl H locs hW hS
  refine W.zast hx hb ((hW.one hk (hY _)) 0 _ rfl) ((hK.2 t _ ht).1 n (fun j => .int (σ.1 k j))) (fun q => by cases q) (by show ¬ (i < 0 ∨ (arrV _ _ _).slots.size ≤ _); rw [arrV_size]; exact inb_spec hin) rfl rfl hd fun H1 e1 z oq => ?_
  refine kk (pI σ k (ix i) x) hF ls hl H1 _ (hW.put hk ?_ (pI_ne σ k (ix i) x) rfl z oq) (hS.put z oq (AA.fix hk))
  rw [pI_row]
  show va_at _ _ (vO V + k, vY V k (upd (σ.1 k) (ix i) x) (σ.2.1 k) (σ.2.2.1 k)) H1
  rw [hY]
  show H1[vO V + k]? = some (vp_cell _ _)
  rw [e1, hn, vp_cell_i, vp_cell_i, arrV_store]
  congr 2
  funext q
  by_cases hq : q = ix i
  · subst hq; simp [updV, upd, ix]
  · simp [updV, upd, hq]
    intro h9; exact absurd h9 hq
theorem s_bast (hc : Cx Θ V cc nL own rm ret hs ini O σ') {K : Mem → Option γ} {k t n j : Nat} {cA : ClassId} {i x : Int32} (hk : k < vK V) (hY : ∀ a, vY V k a (σ.2.1 k) (σ.2.2.1 k) = .inl (cA, n, .inl a)) (ht : (vT V)[t]? = some (cA, .byte)) (hin : inb i n = true) (hj : ix i = j) (hn : narrow .byte (.int x) = .int x) (hd : decode cc pc = .ok (.bastore, 1)) (kk : ∀ σ1 : Mem, Sim Θ nL ρ σ1 (K σ1) cs (pc + 1) lv st) : Sim Θ nL ρ σ (lt_ (pI σ k j x) K) cs pc lv (.int x :: .int i :: .ref (vO V + k) :: st) := by
  subst hj
  obtain ⟨p, l, e, s, m, args, below, meth, c, Q, rfl, hx, hb, hml, ho, hts, ⟨hK, hE⟩, hr, hlk, htab, hQ, hini⟩ := hc
  intro hF ls hl H locs hW hS
  refine W.bast hx hb ((hW.one hk (hY _)) 0 _ rfl) ((hK.2 t _ ht).1 n (fun j => .int (σ.1 k j))) (fun q => by cases q) (by show ¬ (i < 0 ∨ (arrV _ _ _).slots.size ≤ _); rw [arrV_size]; exact inb_spec hin) rfl rfl hd fun H1 e1 z oq => ?_
  refine kk (pI σ k (ix i) x) hF ls hl H1 _ (hW.put hk ?_ (pI_ne σ k (ix i) x) rfl z oq) (hS.put z oq (AA.fix hk))
  rw [pI_row]
  show va_at _ _ (vO V + k, vY V k (upd (σ.1 k) (ix i) x) (σ.2.1 k) (σ.2.2.1 k)) H1
  rw [hY]
  show H1[vO V + k]? = some (vp_cell _ _)
  rw [e1, hn, vp_cell_i, vp_cell_i, arrV_store]
  congr 2
  funext q
  by_cases hq : q = ix i
  · subst hq; simp [updV, upd, ix]
  · simp [updV, upd, hq]
    intro h9; exact absurd h9 hq
end SIMH
section SIMT
variable {Θ : ThT Mem} {V : Mod} {cc : ByteArray} {nL : Nat} {own : String} {rm : Room} {hs : List (Nat × Nat × Nat × Nat)} {ini : Bool} {σ : Mem} {cs : Nat × Nat} {pc : Nat} {lv : List (Nat × Value)}
theorem s_iretM {ρ : Int32 × Mem} (hc : Cx Θ V cc nL own rm (some .int) hs ini (oI ρ.1) ρ.2) {x : Int32}  (hd : decode cc pc = .ok (.ireturn, 1)) (h1 : cs.1 ≤ rm.cells) (h2 : cs.2 ≤ rm.slots) : Sim Θ nL ρ σ (some (x, σ)) cs pc lv [.int x] := by
  obtain ⟨p, l, e, s, m, args, below, meth, c, Q, rfl, hx, hb, hml, ho, hts, ⟨hK, hE⟩, hr, hlk, htab, hQ, hini⟩ := hc
  intro hF ls hl H locs hW hS
  cases hF
  refine W.widen h1 h2 (W.mono (fun t h => hQ t (MQ.toT h)) ?_)
  exact W.iret hx hb hr (fun t ht hw => ⟨rfl, by rw [ht]; exact hW, hS.F ht⟩) hS.2.2 hd hlk
theorem s_iret {ρ : Int32} (hc : Cx Θ V cc nL own rm (some .int) hs ini (oI ρ) σ) {x : Int32}  (hd : decode cc pc = .ok (.ireturn, 1)) (h1 : cs.1 ≤ rm.cells) (h2 : cs.2 ≤ rm.slots) : Sim Θ nL ρ σ (some x) cs pc lv [.int x] := by
  obtain ⟨p, l, e, s, m, args, below, meth, c, Q, rfl, hx, hb, hml, ho, hts, ⟨hK, hE⟩, hr, hlk, htab, hQ, hini⟩ := hc
  intro hF ls hl H locs hW hS
  cases hF
  refine W.widen h1 h2 (W.mono (fun t h => hQ t (MQ.toT h)) ?_)
  exact W.iret hx hb hr (fun t ht hw => ⟨rfl, by rw [ht]; exact hW, hS.F ht⟩) hS.2.2 hd hlk
theorem s_zretM {ρ : Int32 × Mem} (hc : Cx Θ V cc nL own rm (some .boolean) hs ini (oI ρ.1) ρ.2) {x : Int32} (hn : narrow .boolean (.int x) = .int x) (hd : decode cc pc = .ok (.ireturn, 1)) (h1 : cs.1 ≤ rm.cells) (h2 : cs.2 ≤ rm.slots) : Sim Θ nL ρ σ (some (x, σ)) cs pc lv [.int x] := by
  obtain ⟨p, l, e, s, m, args, below, meth, c, Q, rfl, hx, hb, hml, ho, hts, ⟨hK, hE⟩, hr, hlk, htab, hQ, hini⟩ := hc
  intro hF ls hl H locs hW hS
  cases hF
  refine W.widen h1 h2 (W.mono (fun t h => hQ t (MQ.toT h)) ?_)
  exact W.zret hx hb hr hn (fun t ht hw => ⟨rfl, by rw [ht]; exact hW, hS.F ht⟩) hS.2.2 hd hlk
theorem s_zret {ρ : Int32} (hc : Cx Θ V cc nL own rm (some .boolean) hs ini (oI ρ) σ) {x : Int32} (hn : narrow .boolean (.int x) = .int x) (hd : decode cc pc = .ok (.ireturn, 1)) (h1 : cs.1 ≤ rm.cells) (h2 : cs.2 ≤ rm.slots) : Sim Θ nL ρ σ (some x) cs pc lv [.int x] := by
  obtain ⟨p, l, e, s, m, args, below, meth, c, Q, rfl, hx, hb, hml, ho, hts, ⟨hK, hE⟩, hr, hlk, htab, hQ, hini⟩ := hc
  intro hF ls hl H locs hW hS
  cases hF
  refine W.widen h1 h2 (W.mono (fun t h => hQ t (MQ.toT h)) ?_)
  exact W.zret hx hb hr hn (fun t ht hw => ⟨rfl, by rw [ht]; exact hW, hS.F ht⟩) hS.2.2 hd hlk
theorem s_lretM {ρ : Int64 × Mem} (hc : Cx Θ V cc nL own rm (some .long) hs ini (oL ρ.1) ρ.2) {x : Int64}  (hd : decode cc pc = .ok (.lreturn, 1)) (h1 : cs.1 ≤ rm.cells) (h2 : cs.2 ≤ rm.slots) : Sim Θ nL ρ σ (some (x, σ)) cs pc lv [.long x] := by
  obtain ⟨p, l, e, s, m, args, below, meth, c, Q, rfl, hx, hb, hml, ho, hts, ⟨hK, hE⟩, hr, hlk, htab, hQ, hini⟩ := hc
  intro hF ls hl H locs hW hS
  cases hF
  refine W.widen h1 h2 (W.mono (fun t h => hQ t (MQ.toT h)) ?_)
  exact W.lret hx hb hr (fun t ht hw => ⟨rfl, by rw [ht]; exact hW, hS.F ht⟩) hS.2.2 hd hlk
theorem s_lret {ρ : Int64} (hc : Cx Θ V cc nL own rm (some .long) hs ini (oL ρ) σ) {x : Int64}  (hd : decode cc pc = .ok (.lreturn, 1)) (h1 : cs.1 ≤ rm.cells) (h2 : cs.2 ≤ rm.slots) : Sim Θ nL ρ σ (some x) cs pc lv [.long x] := by
  obtain ⟨p, l, e, s, m, args, below, meth, c, Q, rfl, hx, hb, hml, ho, hts, ⟨hK, hE⟩, hr, hlk, htab, hQ, hini⟩ := hc
  intro hF ls hl H locs hW hS
  cases hF
  refine W.widen h1 h2 (W.mono (fun t h => hQ t (MQ.toT h)) ?_)
  exact W.lret hx hb hr (fun t ht hw => ⟨rfl, by rw [ht]; exact hW, hS.F ht⟩) hS.2.2 hd hlk
theorem s_vretM {ρ : Unit × Mem} (hc : Cx Θ V cc nL own rm none hs ini (oV) ρ.2)   (hd : decode cc pc = .ok (.return_, 1)) (h1 : cs.1 ≤ rm.cells) (h2 : cs.2 ≤ rm.slots) : Sim Θ nL ρ σ (some ((), σ)) cs pc lv [] := by
  obtain ⟨p, l, e, s, m, args, below, meth, c, Q, rfl, hx, hb, hml, ho, hts, ⟨hK, hE⟩, hr, hlk, htab, hQ, hini⟩ := hc
  intro hF ls hl H locs hW hS
  cases hF
  refine W.widen h1 h2 (W.mono (fun t h => hQ t (MQ.toT h)) ?_)
  exact W.vret hx hb hr (fun t ht hw => ⟨rfl, by rw [ht]; exact hW, hS.F ht⟩) hS.2.2 hd hlk
theorem s_vret {ρ : Unit} (hc : Cx Θ V cc nL own rm none hs ini (oV) σ)   (hd : decode cc pc = .ok (.return_, 1)) (h1 : cs.1 ≤ rm.cells) (h2 : cs.2 ≤ rm.slots) : Sim Θ nL ρ σ (some ()) cs pc lv [] := by
  obtain ⟨p, l, e, s, m, args, below, meth, c, Q, rfl, hx, hb, hml, ho, hts, ⟨hK, hE⟩, hr, hlk, htab, hQ, hini⟩ := hc
  intro hF ls hl H locs hW hS
  cases hF
  refine W.widen h1 h2 (W.mono (fun t h => hQ t (MQ.toT h)) ?_)
  exact W.vret hx hb hr (fun t ht hw => ⟨rfl, by rw [ht]; exact hW, hS.F ht⟩) hS.2.2 hd hlk
end SIMT
section SIMC
variable {γ : Type} {Θ : ThT Mem} {V : Mod} {cc : ByteArray} {nL : Nat} {own : String} {rm : Room} {ret : Option FieldType} {hs : List (Nat × Nat × Nat × Nat)} {ini : Bool} {O : Outcome} {σ' : Mem} {ρ : γ} {σ : Mem} {F : Option γ} {cs : Nat × Nat} {pc : Nat} {lv : List (Nat × Value)} {st : List Value}
theorem s_run (hc : Cx Θ V cc nL own rm ret hs ini O σ') {v1 : Option Value} {σ1 : Mem} {mc ms : Nat} {stk rest : List Value}
    (hrun : ∀ p l e s m args below meth c H locs ls, CallFix p m c cc nL s args lw_all own → KK V s → Wd V σ H → lv_has ls nL lv → ∃ a, va_Run p l e rm s m args below meth c H locs cs.1 cs.2 mc ms (F0 m pc ls stk) rest (Qo V (.returned v1) σ1 a) (AA V))
    (kk : Sim Θ nL ρ σ1 F (cs.1 + mc, cs.2 + ms) (pc + 3) lv (v1.toList ++ rest)) : Sim Θ nL ρ σ F cs pc lv stk := by
  obtain ⟨p, l, e, s, m, args, below, meth, c, Q, rfl, hx, hb, hml, ho, hts, ⟨hK, hE⟩, hr, hlk, htab, hQ, hini⟩ := hc
  intro hF ls hl H locs hW hS T hT X
  obtain ⟨a, hrun⟩ := hrun p l e s m args below meth c H locs ls ⟨hx, hb, hml, ho, hts⟩ ⟨hK, hE⟩ hW hl
  obtain ⟨v, st₀, t, T', L, h0, X', hL, e1, e2, ⟨q1, q2, hz, hk⟩, stp⟩ := hrun T hT X
  cases q1
  rw [h0] at hz hk
  obtain ⟨t2, a1, b1⟩ := kk hF ls hl T'.heap (locs ++ L) (by rw [e1]; exact q2)
    ⟨Nat.le_trans hS.1 (by rw [e1]; exact hz), fun q h1 h2 => by rw [e1, hk q (Nat.lt_of_lt_of_le h1 hS.1) h2]; exact hS.2.1 q h1 h2, fun q hq => by
      rcases List.mem_append.mp hq with h | h
      · exact hS.2.2 q h
      · exact hL q h⟩ T' rfl X'
  exact ⟨t2, stp t2 a1, b1⟩
theorem Ct.blind {V : Mod} {av : List Value} {σ : Mem} : FrameBlind (va_Pc av (fun U => Wd V σ U.heap ∧ KK V U)) := fun a U g mk q => ⟨q.1, q.2.1, KK.warm (U := U.calling g mk a) q.2.2 (State.WarmedH.refl U)⟩
theorem s_callV (hc : Cx Θ V cc nL own rm ret hs ini O σ') {v1 : Option Value} {σ1 : Mem} {y : MethodName} {bytes : ByteArray} {maxL n k index ci : Nat} {rc : Option FieldType} {rmc : Room} {As rest stk : List Value} {fs : List Value} {q : vw_C}
    (hM : ∀ l, Ct V l y bytes maxL rc rmc (.ref (vO V + k) :: As) σ (.returned v1) σ1) (hG : GoodIn lw_all (wsV own index q.1 y (ws_ y bytes maxL rc)))
    (hd0 : y.cls = q.1 ∧ y.cls ≠ "java/lang/invoke/MethodHandle" ∧ y.cls ≠ "java/lang/invoke/VarHandle" ∧ (parseMethodDescriptor y.desc).map (fun d => d.parameters.length) = some n)
    (hk : k < vK V) (hcl : (vCl V)[ci]? = some q) (hY : vY V k (σ.1 k) (σ.2.1 k) (σ.2.2.1 k) = .inr (ci, fs)) (hn : As.length = n) (hstk : stk = As.reverse ++ .ref (vO V + k) :: rest) (hrest : (rest.map fun v => v.category).sum ≤ 8)
    (hR : rmc.frames + 1 ≤ rm.frames ∧ 8 + (maxL + 11) + rmc.locals ≤ rm.locals) (hf : cs.1 + rmc.cells ≤ rm.cells ∧ cs.2 + rmc.slots ≤ rm.slots) (hd : decode cc pc = .ok (.invokevirtual index, 3))
    (kk : Sim Θ nL ρ σ1 F (cs.1 + rmc.cells, cs.2 + rmc.slots) (pc + 3) lv (v1.toList ++ rest)) : Sim Θ nL ρ σ F cs pc lv stk := by
  subst hstk
  refine s_run hc (fun p l e s m args below meth c H locs ls S hK hW hl => ⟨(.ref (vO V + k) :: As).toArray, ?_⟩) kk
  exact va_runV (As := As) (rest := rest) S (hM l).met (cwV n S.2.2.2.2 hG rfl rfl rfl hd0 hR) ⟨Ct.blind, va_recv hK.1 (hW.one hk hY) (ci := ci) (q0 := 0) hcl rfl, fun U hU hw => ⟨rfl, by rw [hU]; exact hW, hK.warm hw⟩⟩ rfl hn hl.1 rfl (lv_room hrest) hd hf
theorem s_callS (hc : Cx Θ V cc nL own rm ret hs ini O σ') {v1 : Option Value} {σ1 : Mem} {y : MethodName} {bytes : ByteArray} {maxL n index : Nat} {rc : Option FieldType} {rmc : Room} {As rest stk : List Value}
    (hM : ∀ l, Ct V l y bytes maxL rc rmc As σ (.returned v1) σ1) (hG : GoodIn lw_all (va_wsS own index y (ws_ y bytes maxL rc)))
    (hd0 : y.cls ≠ "java/lang/invoke/MethodHandle" ∧ y.cls ≠ "java/lang/invoke/VarHandle" ∧ (parseMethodDescriptor y.desc).map (fun d => d.parameters.length) = some n)
    (hn : As.length = n) (hstk : stk = As.reverse ++ rest) (hrest : (rest.map fun v => v.category).sum ≤ 8)
    (hR : rmc.frames + 1 ≤ rm.frames ∧ 8 + (maxL + 11) + rmc.locals ≤ rm.locals) (hf : cs.1 + rmc.cells ≤ rm.cells ∧ cs.2 + rmc.slots ≤ rm.slots) (hd : decode cc pc = .ok (.invokestatic index, 3))
    (kk : Sim Θ nL ρ σ1 F (cs.1 + rmc.cells, cs.2 + rmc.slots) (pc + 3) lv (v1.toList ++ rest)) : Sim Θ nL ρ σ F cs pc lv stk := by
  subst hstk
  refine s_run hc (fun p l e s m args below meth c H locs ls S hK hW hl => ⟨As.toArray, ?_⟩) kk
  exact va_runS (As := As) (rest := rest) S (hM l).met (va_cwS n S.2.2.2.2 hG rfl rfl rfl hd0 hR) ⟨Ct.blind, fun U hU hw => ⟨rfl, by rw [hU]; exact hW, hK.warm hw⟩⟩ rfl hn hl.1 rfl (lv_room hrest) hd hf
end SIMC
theorem lc_ne {x : Int32} {k : Int32} (h : ¬ x = k) : x.toInt ≠ k.toInt := fun q => h (Int32.toInt_inj.mp q)
theorem lc_eq (x y : Int64) : lg_cmp x y = 0 ↔ x = y := by
  unfold lg_cmp
  by_cases h1 : x > y
  · rw [if_pos h1]
    have : ¬ x = y := fun q => by subst q; exact absurd h1 (by rw [gt_iff_lt, Int64.lt_iff_toInt_lt]; omega)
    simp [this]
  · rw [if_neg h1]
    by_cases h2 : x = y
    · simp [h2]
    · rw [if_neg h2]; simp [h2]
theorem lc_cases (x y : Int64) : (y < x ∧ lg_cmp x y = 1) ∨ (x = y ∧ lg_cmp x y = 0) ∨ (x < y ∧ lg_cmp x y = -1) := by
  unfold lg_cmp
  by_cases h1 : x > y
  · exact Or.inl ⟨h1, by rw [if_pos h1]⟩
  · by_cases h2 : x = y
    · exact Or.inr (Or.inl ⟨h2, by rw [if_neg h1, if_pos h2]⟩)
    · refine Or.inr (Or.inr ⟨?_, by rw [if_neg h1, if_neg h2]⟩)
      rw [gt_iff_lt, Int64.lt_iff_toInt_lt] at h1
      rw [Int64.lt_iff_toInt_lt]
      have : x.toInt ≠ y.toInt := fun q => h2 (Int64.toInt_inj.mp q)
      omega
theorem lc_lt (x y : Int64) : lg_cmp x y < 0 ↔ x < y := by
  rcases lc_cases x y with ⟨h, e⟩ | ⟨h, e⟩ | ⟨h, e⟩ <;> rw [e] <;> (try rw [Int64.lt_iff_toInt_lt] at h) <;> rw [Int64.lt_iff_toInt_lt]
  · exact ⟨fun q => absurd q (by decide), fun q => absurd q (by omega)⟩
  · subst h; exact ⟨fun q => absurd q (by decide), fun q => absurd q (by omega)⟩
  · exact ⟨fun _ => h, fun _ => by decide⟩
theorem lc_gt (x y : Int64) : 0 < lg_cmp x y ↔ y < x := by
  rcases lc_cases x y with ⟨h, e⟩ | ⟨h, e⟩ | ⟨h, e⟩ <;> rw [e] <;> (try rw [Int64.lt_iff_toInt_lt] at h) <;> rw [Int64.lt_iff_toInt_lt]
  · exact ⟨fun _ => h, fun _ => by decide⟩
  · subst h; exact ⟨fun q => absurd q (by decide), fun q => absurd q (by omega)⟩
  · exact ⟨fun q => absurd q (by decide), fun q => absurd q (by omega)⟩
theorem lc_ge (x y : Int64) : 0 ≤ lg_cmp x y ↔ y ≤ x := by
  rcases lc_cases x y with ⟨h, e⟩ | ⟨h, e⟩ | ⟨h, e⟩ <;> rw [e] <;> (try rw [Int64.lt_iff_toInt_lt] at h) <;> rw [Int64.le_iff_toInt_le]
  · exact ⟨fun _ => by omega, fun _ => by decide⟩
  · subst h; exact ⟨fun _ => by omega, fun _ => by decide⟩
  · exact ⟨fun q => absurd q (by decide), fun q => absurd q (by omega)⟩
theorem lc_le (x y : Int64) : lg_cmp x y ≤ 0 ↔ x ≤ y := by
  rcases lc_cases x y with ⟨h, e⟩ | ⟨h, e⟩ | ⟨h, e⟩ <;> rw [e] <;> (try rw [Int64.lt_iff_toInt_lt] at h) <;> rw [Int64.le_iff_toInt_le]
  · exact ⟨fun q => absurd q (by decide), fun q => absurd q (by omega)⟩
  · subst h; exact ⟨fun _ => by omega, fun _ => by decide⟩
  · exact ⟨fun _ => by omega, fun _ => by decide⟩
section SIML
variable {Sg γ : Type} {Θ : ThT Sg} {cc : ByteArray} {nL : Nat} {own : String} {ρ : γ} {σ : Sg} {F : Option γ} {cs : Nat × Nat} {pc : Nat} {lv : List (Nat × Value)} {st : List Value}
theorem s_lcmp_eq (hc : Cx0 Θ cc nL own) {F1 F2 : Option γ} {x y : Int64} {off : Int} {tgt : Nat} (hd1 : decode cc pc = .ok (.lcmp, 1)) (hd : decode cc (pc + 1) = .ok (.ifCond .eq off, 3)) (ht : ((pc + 1 : Nat) : Int) + off = (tgt : Int)) (kt : (x = y) → Sim Θ nL ρ σ F1 cs tgt lv st) (kf : ¬ (x = y) → Sim Θ nL ρ σ F2 cs (pc + 1 + 3) lv st) : Sim Θ nL ρ σ (if x = y then F1 else F2) cs pc lv (.long y :: .long x :: st) := by
  obtain ⟨p, l, e, R, s, m, args, below, meth, c, Q, WW, A, rfl, hx, hb, hml, ho, hts⟩ := hc
  intro hF ls hl H locs hW hS
  refine W.lcmp hx hb hd1 ?_
  exact lv_if_eq hx hb hd ht (fun q => kt ((lc_eq x y).mp q) (by rw [if_pos ((lc_eq x y).mp q)] at hF; exact hF) ls hl H locs hW hS) (fun q => kf (fun z => q ((lc_eq x y).mpr z)) (by rw [if_neg (fun z => q ((lc_eq x y).mpr z))] at hF; exact hF) ls hl H locs hW hS)
theorem s_lcmp_ne (hc : Cx0 Θ cc nL own) {F1 F2 : Option γ} {x y : Int64} {off : Int} {tgt : Nat} (hd1 : decode cc pc = .ok (.lcmp, 1)) (hd : decode cc (pc + 1) = .ok (.ifCond .ne off, 3)) (ht : ((pc + 1 : Nat) : Int) + off = (tgt : Int)) (kt : ¬ (x = y) → Sim Θ nL ρ σ F2 cs tgt lv st) (kf : (x = y) → Sim Θ nL ρ σ F1 cs (pc + 1 + 3) lv st) : Sim Θ nL ρ σ (if x = y then F1 else F2) cs pc lv (.long y :: .long x :: st) := by
  obtain ⟨p, l, e, R, s, m, args, below, meth, c, Q, WW, A, rfl, hx, hb, hml, ho, hts⟩ := hc
  intro hF ls hl H locs hW hS
  refine W.lcmp hx hb hd1 ?_
  exact lv_if_ne hx hb hd ht (fun q => kt (fun z => q ((lc_eq x y).mpr z)) (by rw [if_neg (fun z => q ((lc_eq x y).mpr z))] at hF; exact hF) ls hl H locs hW hS) (fun q => kf ((lc_eq x y).mp q) (by rw [if_pos ((lc_eq x y).mp q)] at hF; exact hF) ls hl H locs hW hS)
theorem s_lcmp_lt (hc : Cx0 Θ cc nL own) {F1 F2 : Option γ} {x y : Int64} {off : Int} {tgt : Nat} (hd1 : decode cc pc = .ok (.lcmp, 1)) (hd : decode cc (pc + 1) = .ok (.ifCond .lt off, 3)) (ht : ((pc + 1 : Nat) : Int) + off = (tgt : Int)) (kt : (x < y) → Sim Θ nL ρ σ F1 cs tgt lv st) (kf : ¬ (x < y) → Sim Θ nL ρ σ F2 cs (pc + 1 + 3) lv st) : Sim Θ nL ρ σ (if x < y then F1 else F2) cs pc lv (.long y :: .long x :: st) := by
  obtain ⟨p, l, e, R, s, m, args, below, meth, c, Q, WW, A, rfl, hx, hb, hml, ho, hts⟩ := hc
  intro hF ls hl H locs hW hS
  refine W.lcmp hx hb hd1 ?_
  exact lv_if_lt hx hb hd ht (fun q => kt ((lc_lt x y).mp q) (by rw [if_pos ((lc_lt x y).mp q)] at hF; exact hF) ls hl H locs hW hS) (fun q => kf (fun z => q ((lc_lt x y).mpr z)) (by rw [if_neg (fun z => q ((lc_lt x y).mpr z))] at hF; exact hF) ls hl H locs hW hS)
theorem s_lcmp_ge (hc : Cx0 Θ cc nL own) {F1 F2 : Option γ} {x y : Int64} {off : Int} {tgt : Nat} (hd1 : decode cc pc = .ok (.lcmp, 1)) (hd : decode cc (pc + 1) = .ok (.ifCond .ge off, 3)) (ht : ((pc + 1 : Nat) : Int) + off = (tgt : Int)) (kt : (y ≤ x) → Sim Θ nL ρ σ F1 cs tgt lv st) (kf : ¬ (y ≤ x) → Sim Θ nL ρ σ F2 cs (pc + 1 + 3) lv st) : Sim Θ nL ρ σ (if y ≤ x then F1 else F2) cs pc lv (.long y :: .long x :: st) := by
  obtain ⟨p, l, e, R, s, m, args, below, meth, c, Q, WW, A, rfl, hx, hb, hml, ho, hts⟩ := hc
  intro hF ls hl H locs hW hS
  refine W.lcmp hx hb hd1 ?_
  exact lv_if_ge hx hb hd ht (fun q => kt ((lc_ge x y).mp q) (by rw [if_pos ((lc_ge x y).mp q)] at hF; exact hF) ls hl H locs hW hS) (fun q => kf (fun z => q ((lc_ge x y).mpr z)) (by rw [if_neg (fun z => q ((lc_ge x y).mpr z))] at hF; exact hF) ls hl H locs hW hS)
theorem s_lcmp_gt (hc : Cx0 Θ cc nL own) {F1 F2 : Option γ} {x y : Int64} {off : Int} {tgt : Nat} (hd1 : decode cc pc = .ok (.lcmp, 1)) (hd : decode cc (pc + 1) = .ok (.ifCond .gt off, 3)) (ht : ((pc + 1 : Nat) : Int) + off = (tgt : Int)) (kt : (y < x) → Sim Θ nL ρ σ F1 cs tgt lv st) (kf : ¬ (y < x) → Sim Θ nL ρ σ F2 cs (pc + 1 + 3) lv st) : Sim Θ nL ρ σ (if y < x then F1 else F2) cs pc lv (.long y :: .long x :: st) := by
  obtain ⟨p, l, e, R, s, m, args, below, meth, c, Q, WW, A, rfl, hx, hb, hml, ho, hts⟩ := hc
  intro hF ls hl H locs hW hS
  refine W.lcmp hx hb hd1 ?_
  exact lv_if_gt hx hb hd ht (fun q => kt ((lc_gt x y).mp q) (by rw [if_pos ((lc_gt x y).mp q)] at hF; exact hF) ls hl H locs hW hS) (fun q => kf (fun z => q ((lc_gt x y).mpr z)) (by rw [if_neg (fun z => q ((lc_gt x y).mpr z))] at hF; exact hF) ls hl H locs hW hS)
theorem s_lcmp_le (hc : Cx0 Θ cc nL own) {F1 F2 : Option γ} {x y : Int64} {off : Int} {tgt : Nat} (hd1 : decode cc pc = .ok (.lcmp, 1)) (hd : decode cc (pc + 1) = .ok (.ifCond .le off, 3)) (ht : ((pc + 1 : Nat) : Int) + off = (tgt : Int)) (kt : (x ≤ y) → Sim Θ nL ρ σ F1 cs tgt lv st) (kf : ¬ (x ≤ y) → Sim Θ nL ρ σ F2 cs (pc + 1 + 3) lv st) : Sim Θ nL ρ σ (if x ≤ y then F1 else F2) cs pc lv (.long y :: .long x :: st) := by
  obtain ⟨p, l, e, R, s, m, args, below, meth, c, Q, WW, A, rfl, hx, hb, hml, ho, hts⟩ := hc
  intro hF ls hl H locs hW hS
  refine W.lcmp hx hb hd1 ?_
  exact lv_if_le hx hb hd ht (fun q => kt ((lc_le x y).mp q) (by rw [if_pos ((lc_le x y).mp q)] at hF; exact hF) ls hl H locs hW hS) (fun q => kf (fun z => q ((lc_le x y).mpr z)) (by rw [if_neg (fun z => q ((lc_le x y).mpr z))] at hF; exact hF) ls hl H locs hW hS)
theorem s_tblIn (hc : Cx0 Θ cc nL own) {dflt lo hi : Int} {offs : Array Int} {len : Nat} {x k : Int32} {off : Int} {tgt : Nat} (hd : decode cc pc = .ok (.tableswitch dflt lo hi offs, len)) (hk : x = k) (h1 : ¬ k.toInt < lo) (h2 : ¬ hi < k.toInt) (hof : offs[(k.toInt - lo).toNat]? = some off) (ht : (pc : Int) + off = (tgt : Int)) (kk : Sim Θ nL ρ σ F cs tgt lv st) : Sim Θ nL ρ σ F cs pc lv (.int x :: st) := by
  subst hk
  obtain ⟨p, l, e, R, s, m, args, below, meth, c, Q, WW, A, rfl, hx, hb, hml, ho, hts⟩ := hc
  intro hF ls hl H locs hW hS
  exact lv_tableIn hx hb hd h1 h2 hof ht (kk hF ls hl H locs hW hS)
theorem s_tblOut (hc : Cx0 Θ cc nL own) {dflt lo hi : Int} {offs : Array Int} {len : Nat} {x : Int32} {tgt : Nat} (hd : decode cc pc = .ok (.tableswitch dflt lo hi offs, len)) (h : x.toInt < lo ∨ hi < x.toInt) (ht : (pc : Int) + dflt = (tgt : Int)) (kk : Sim Θ nL ρ σ F cs tgt lv st) : Sim Θ nL ρ σ F cs pc lv (.int x :: st) := by
  obtain ⟨p, l, e, R, s, m, args, below, meth, c, Q, WW, A, rfl, hx, hb, hml, ho, hts⟩ := hc
  intro hF ls hl H locs hW hS
  exact lv_tableOut hx hb hd h ht (kk hF ls hl H locs hW hS)
theorem s_lookup (hc : Cx0 Θ cc nL own) {dflt : Int} {ps : Array (Int × Int)} {len : Nat} {x : Int32} {off : Int} {tgt : Nat} (hd : decode cc pc = .ok (.lookupswitch dflt ps, len)) (hp : (ps.toList.zip (ps.toList.drop 1)).all (fun (a, next) => a.1 < next.1) = true) (hof : Op.lookupswitch.offset ps.toList dflt x.toInt = off) (ht : (pc : Int) + off = (tgt : Int)) (kk : Sim Θ nL ρ σ F cs tgt lv st) : Sim Θ nL ρ σ F cs pc lv (.int x :: st) := by
  obtain ⟨p, l, e, R, s, m, args, below, meth, c, Q, WW, A, rfl, hx, hb, hml, ho, hts⟩ := hc
  intro hF ls hl H locs hW hS
  exact lv_lookup hx hb hd hp hof ht (kk hF ls hl H locs hW hS)
theorem s_tblD (hc : Cx0 Θ cc nL own) {dflt lo hi : Int} {offs : Array Int} {len : Nat} {x : Int32} {tgt : Nat} (us : List Int) (hd : decode cc pc = .ok (.tableswitch dflt lo hi offs, len)) (hall : ((List.range offs.size).all fun i => us.contains (lo + i) || decide (offs[i]? = some dflt)) = true ∧ lo + offs.size = hi + 1) (h : ∀ u ∈ us, x.toInt ≠ u) (ht : (pc : Int) + dflt = (tgt : Int)) (kk : Sim Θ nL ρ σ F cs tgt lv st) : Sim Θ nL ρ σ F cs pc lv (.int x :: st) := by
  obtain ⟨p, l, e, R, s, m, args, below, meth, c, Q, WW, A, rfl, hx, hb, hml, ho, hts⟩ := hc
  intro hF ls hl H locs hW hS
  by_cases h1 : x.toInt < lo
  · exact lv_tableOut hx hb hd (Or.inl h1) ht (kk hF ls hl H locs hW hS)
  · by_cases h2 : hi < x.toInt
    · exact lv_tableOut hx hb hd (Or.inr h2) ht (kk hF ls hl H locs hW hS)
    · have hr : (x.toInt - lo).toNat < offs.size := by have := hall.2; omega
      have h3 := List.all_eq_true.mp hall.1 (x.toInt - lo).toNat (List.mem_range.mpr hr)
      have h4 : lo + ((x.toInt - lo).toNat : Int) = x.toInt := by omega
      rw [h4, Bool.or_eq_true, decide_eq_true_eq] at h3
      rcases h3 with h3 | h3
      · exact absurd rfl (h _ (List.elem_iff.mp h3))
      · exact lv_tableIn hx hb hd h1 h2 h3 ht (kk hF ls hl H locs hW hS)
end SIML
theorem s_lcmp_eq_ {Sg γ : Type} {Θ : ThT Sg} {cc : ByteArray} {nL : Nat} {own : String} {ρ : γ} {σ : Sg} {F : Option γ} {cs : Nat × Nat} {pc : Nat} {lv : List (Nat × Value)} {st : List Value} (hc : Cx0 Θ cc nL own) {x y : Int64} {off : Int} {tgt : Nat} (hd1 : decode cc pc = .ok (.lcmp, 1)) (hd : decode cc (pc + 1) = .ok (.ifCond .eq off, 3)) (ht : ((pc + 1 : Nat) : Int) + off = (tgt : Int)) (kt : (x = y) → Sim Θ nL ρ σ F cs tgt lv st) (kf : ¬ (x = y) → Sim Θ nL ρ σ F cs (pc + 1 + 3) lv st) : Sim Θ nL ρ σ F cs pc lv (.long y :: .long x :: st) := by
  obtain ⟨p, l, e, R, s, m, args, below, meth, c, Q, WW, A, rfl, hx, hb, hml, ho, hts⟩ := hc
  intro hF ls hl H locs hW hS
  refine W.lcmp hx hb hd1 ?_
  exact lv_if_eq hx hb hd ht (fun q => kt ((lc_eq x y).mp q) hF ls hl H locs hW hS) (fun q => kf (fun z => q ((lc_eq x y).mpr z)) hF ls hl H locs hW hS)
theorem s_lcmp_ne_ {Sg γ : Type} {Θ : ThT Sg} {cc : ByteArray} {nL : Nat} {own : String} {ρ : γ} {σ : Sg} {F : Option γ} {cs : Nat × Nat} {pc : Nat} {lv : List (Nat × Value)} {st : List Value} (hc : Cx0 Θ cc nL own) {x y : Int64} {off : Int} {tgt : Nat} (hd1 : decode cc pc = .ok (.lcmp, 1)) (hd : decode cc (pc + 1) = .ok (.ifCond .ne off, 3)) (ht : ((pc + 1 : Nat) : Int) + off = (tgt : Int)) (kt : ¬ (x = y) → Sim Θ nL ρ σ F cs tgt lv st) (kf : (x = y) → Sim Θ nL ρ σ F cs (pc + 1 + 3) lv st) : Sim Θ nL ρ σ F cs pc lv (.long y :: .long x :: st) := by
  obtain ⟨p, l, e, R, s, m, args, below, meth, c, Q, WW, A, rfl, hx, hb, hml, ho, hts⟩ := hc
  intro hF ls hl H locs hW hS
  refine W.lcmp hx hb hd1 ?_
  exact lv_if_ne hx hb hd ht (fun q => kt (fun z => q ((lc_eq x y).mpr z)) hF ls hl H locs hW hS) (fun q => kf ((lc_eq x y).mp q) hF ls hl H locs hW hS)
theorem s_lcmp_lt_ {Sg γ : Type} {Θ : ThT Sg} {cc : ByteArray} {nL : Nat} {own : String} {ρ : γ} {σ : Sg} {F : Option γ} {cs : Nat × Nat} {pc : Nat} {lv : List (Nat × Value)} {st : List Value} (hc : Cx0 Θ cc nL own) {x y : Int64} {off : Int} {tgt : Nat} (hd1 : decode cc pc = .ok (.lcmp, 1)) (hd : decode cc (pc + 1) = .ok (.ifCond .lt off, 3)) (ht : ((pc + 1 : Nat) : Int) + off = (tgt : Int)) (kt : (x < y) → Sim Θ nL ρ σ F cs tgt lv st) (kf : ¬ (x < y) → Sim Θ nL ρ σ F cs (pc + 1 + 3) lv st) : Sim Θ nL ρ σ F cs pc lv (.long y :: .long x :: st) := by
  obtain ⟨p, l, e, R, s, m, args, below, meth, c, Q, WW, A, rfl, hx, hb, hml, ho, hts⟩ := hc
  intro hF ls hl H locs hW hS
  refine W.lcmp hx hb hd1 ?_
  exact lv_if_lt hx hb hd ht (fun q => kt ((lc_lt x y).mp q) hF ls hl H locs hW hS) (fun q => kf (fun z => q ((lc_lt x y).mpr z)) hF ls hl H locs hW hS)
theorem s_lcmp_ge_ {Sg γ : Type} {Θ : ThT Sg} {cc : ByteArray} {nL : Nat} {own : String} {ρ : γ} {σ : Sg} {F : Option γ} {cs : Nat × Nat} {pc : Nat} {lv : List (Nat × Value)} {st : List Value} (hc : Cx0 Θ cc nL own) {x y : Int64} {off : Int} {tgt : Nat} (hd1 : decode cc pc = .ok (.lcmp, 1)) (hd : decode cc (pc + 1) = .ok (.ifCond .ge off, 3)) (ht : ((pc + 1 : Nat) : Int) + off = (tgt : Int)) (kt : (y ≤ x) → Sim Θ nL ρ σ F cs tgt lv st) (kf : ¬ (y ≤ x) → Sim Θ nL ρ σ F cs (pc + 1 + 3) lv st) : Sim Θ nL ρ σ F cs pc lv (.long y :: .long x :: st) := by
  obtain ⟨p, l, e, R, s, m, args, below, meth, c, Q, WW, A, rfl, hx, hb, hml, ho, hts⟩ := hc
  intro hF ls hl H locs hW hS
  refine W.lcmp hx hb hd1 ?_
  exact lv_if_ge hx hb hd ht (fun q => kt ((lc_ge x y).mp q) hF ls hl H locs hW hS) (fun q => kf (fun z => q ((lc_ge x y).mpr z)) hF ls hl H locs hW hS)
theorem s_lcmp_gt_ {Sg γ : Type} {Θ : ThT Sg} {cc : ByteArray} {nL : Nat} {own : String} {ρ : γ} {σ : Sg} {F : Option γ} {cs : Nat × Nat} {pc : Nat} {lv : List (Nat × Value)} {st : List Value} (hc : Cx0 Θ cc nL own) {x y : Int64} {off : Int} {tgt : Nat} (hd1 : decode cc pc = .ok (.lcmp, 1)) (hd : decode cc (pc + 1) = .ok (.ifCond .gt off, 3)) (ht : ((pc + 1 : Nat) : Int) + off = (tgt : Int)) (kt : (y < x) → Sim Θ nL ρ σ F cs tgt lv st) (kf : ¬ (y < x) → Sim Θ nL ρ σ F cs (pc + 1 + 3) lv st) : Sim Θ nL ρ σ F cs pc lv (.long y :: .long x :: st) := by
  obtain ⟨p, l, e, R, s, m, args, below, meth, c, Q, WW, A, rfl, hx, hb, hml, ho, hts⟩ := hc
  intro hF ls hl H locs hW hS
  refine W.lcmp hx hb hd1 ?_
  exact lv_if_gt hx hb hd ht (fun q => kt ((lc_gt x y).mp q) hF ls hl H locs hW hS) (fun q => kf (fun z => q ((lc_gt x y).mpr z)) hF ls hl H locs hW hS)
theorem s_lcmp_le_ {Sg γ : Type} {Θ : ThT Sg} {cc : ByteArray} {nL : Nat} {own : String} {ρ : γ} {σ : Sg} {F : Option γ} {cs : Nat × Nat} {pc : Nat} {lv : List (Nat × Value)} {st : List Value} (hc : Cx0 Θ cc nL own) {x y : Int64} {off : Int} {tgt : Nat} (hd1 : decode cc pc = .ok (.lcmp, 1)) (hd : decode cc (pc + 1) = .ok (.ifCond .le off, 3)) (ht : ((pc + 1 : Nat) : Int) + off = (tgt : Int)) (kt : (x ≤ y) → Sim Θ nL ρ σ F cs tgt lv st) (kf : ¬ (x ≤ y) → Sim Θ nL ρ σ F cs (pc + 1 + 3) lv st) : Sim Θ nL ρ σ F cs pc lv (.long y :: .long x :: st) := by
  obtain ⟨p, l, e, R, s, m, args, below, meth, c, Q, WW, A, rfl, hx, hb, hml, ho, hts⟩ := hc
  intro hF ls hl H locs hW hS
  refine W.lcmp hx hb hd1 ?_
  exact lv_if_le hx hb hd ht (fun q => kt ((lc_le x y).mp q) hF ls hl H locs hW hS) (fun q => kf (fun z => q ((lc_le x y).mpr z)) hF ls hl H locs hW hS)

