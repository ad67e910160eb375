/-! MORE CALLS, references, throws over Sim -/
set_option maxRecDepth 100000
def oT {β : Type} (f : β → Outcome) (x : β ⊕ Nat) (o : Nat) : Outcome := match x with
  | .inl v => f v
  | .inr a => .threw (o + a)
def cT {β γ : Type} (x : β ⊕ Nat) (k1 : β → Option γ) (k2 : Nat → Option γ) : Option γ := match x with
  | .inl v => k1 v
  | .inr a => k2 a
def mO {γ : Type} (x : Option Nat) (k1 : Option γ) (k2 : Nat → Option γ) : Option γ := match x with
  | none => k1
  | some a => k2 a
/-- an object of the class with number ci lies at a -/
def Ob (V : Mod) (σ : Mem) (a ci : Nat) : Prop := (∃ fs, a < vK V ∧ vY V a (σ.1 a) (σ.2.1 a) (σ.2.2.1 a) = .inr (ci, fs)) ∨ ∃ fs, gC σ a = some (.inr (ci, fs))
theorem Ob.recv {V : Mod} {σ : Mem} {a ci : Nat} {q : vw_C} {s : State} {H : Heap} (h : Ob V σ a ci) (hK : va_K (vD V) (vCl V) (vT V) s) (hW : Wd V σ H) (hcl : (vCl V)[ci]? = some q) : ∃ cell : Cell, H[vO V + a]? = some cell ∧ cell.vm.isStatics = false ∧ s.vm.findClass q.1 = some cell.cls := by
  rcases h with ⟨fs, hk, hY⟩ | ⟨fs, ha⟩
  · exact va_recv hK (hW.one hk hY) (ci := ci) (q0 := 0) hcl rfl
  · exact va_recv hK (hW.dyn ha) (ci := ci) (q0 := 0) hcl rfl
theorem Ob.classAt {V : Mod} {σ : Mem} {a ci : Nat} {q : vw_C} {s : State} {H : Heap} (h : Ob V σ a ci) (hK : va_K (vD V) (vCl V) (vT V) s) (hW : Wd V σ H) (hcl : (vCl V)[ci]? = some q) : ∃ cell : Cell, H[vO V + a]? = some cell ∧ cell.vm.isStatics = false ∧ ClassAt s q.1 cell.cls := by
  obtain ⟨cell, h1, h2, h3⟩ := h.recv hK hW hcl
  have h4 := (hK.1 ci q hcl).2
  have e : (vD V).1 ci = cell.cls := Option.some.inj (h4.1.symm.trans h3)
  exact ⟨cell, h1, h2, by rw [← e]; exact h4⟩
theorem Ob.dyn {V : Mod} {σ : Mem} {a ci : Nat} {fs : List Value} (h : gC σ a = some (.inr (ci, fs))) : Ob V σ a ci := Or.inr ⟨fs, h⟩
theorem Ob.fix {V : Mod} {σ : Mem} {a ci : Nat} {fs : List Value} (hk : a < vK V) (h : vY V a (σ.1 a) (σ.2.1 a) (σ.2.2.1 a) = .inr (ci, fs)) : Ob V σ a ci := Or.inl ⟨fs, hk, h⟩
section SIMD
variable {γ : Type} {Θ : ThT Mem} {V : Mod} {cc : ByteArray} {nL : Nat} {own : String} {rm : Room} {ret : Option FieldType} {hs : List (Nat × Nat × Nat × Nat)} {ini : Bool} {O : Outcome} {σ' : Mem} {ρ : γ} {σ : Mem} {F : Option γ} {cs : Nat × Nat} {pc : Nat} {lv : List (Nat × Value)} {st : List Value}
variable {v1 : Option Value} {σ1 : Mem} {x y : MethodName} {bytes : ByteArray} {maxL n a index ci : Nat} {rc : Option FieldType} {rmc : Room} {As rest stk : List Value} {q : vw_C} {host owner : String}
theorem s_callVo (hc : Cx Θ V cc nL own rm ret hs ini O σ')
    (hM : ∀ l, Ct V l y bytes maxL rc rmc (.ref (vO V + a) :: As) σ (.returned v1) σ1) (hG : GoodIn lw_all (wsV own index q.1 y (ws_ y bytes maxL rc)))
    (hd0 : y.cls = q.1 ∧ y.cls ≠ "java/lang/invoke/MethodHandle" ∧ y.cls ≠ "java/lang/invoke/VarHandle" ∧ (parseMethodDescriptor y.desc).map (fun d => d.parameters.length) = some n)
    (hcl : (vCl V)[ci]? = some q) (hob : Ob V σ a ci) (hn : As.length = n) (hstk : stk = As.reverse ++ .ref (vO V + a) :: rest) (hrest : (rest.map fun v => v.category).sum ≤ 8)
    (hR : rmc.frames + 1 ≤ rm.frames ∧ 8 + (maxL + 11) + rmc.locals ≤ rm.locals) (hf : cs.1 + rmc.cells ≤ rm.cells ∧ cs.2 + rmc.slots ≤ rm.slots) (hd : decode cc pc = .ok (.invokevirtual index, 3))
    (kk : Sim Θ nL ρ σ1 F (cs.1 + rmc.cells, cs.2 + rmc.slots) (pc + 3) lv (v1.toList ++ rest)) : Sim Θ nL ρ σ F cs pc lv stk := by
  subst hstk
  refine s_run hc (fun p l e s m args below meth c H locs ls S hK hW hl => ⟨(.ref (vO V + a) :: As).toArray, ?_⟩) kk
  exact va_runV (As := As) (rest := rest) S (hM l).met (cwV n S.2.2.2.2 hG rfl rfl rfl hd0 hR) ⟨Ct.blind, hob.recv hK.1 hW hcl, fun U hU hw => ⟨rfl, by rw [hU]; exact hW, hK.warm hw⟩⟩ rfl hn hl.1 rfl (lv_room hrest) hd hf
/-- a call that goes to the method y that overrides x -/
theorem s_callUo (hc : Cx Θ V cc nL own rm ret hs ini O σ')
    (hM : ∀ l, Ct V l y bytes maxL rc rmc (.ref (vO V + a) :: As) σ (.returned v1) σ1) (hG : GoodIn lw_all (va_wsO own index q.1 owner x y (ws_ y bytes maxL rc)))
    {b0 : ByteArray} {m0 : Nat} {r0 : Option FieldType} (h0 : Cond.code ⟨owner, x.name, x.desc⟩ b0 m0 r0 ∈ lw_all)
    (hd0 : owner ≠ "java/lang/invoke/MethodHandle" ∧ owner ≠ "java/lang/invoke/VarHandle" ∧ (parseMethodDescriptor x.desc).map (fun d => d.parameters.length) = some n)
    (hcl : (vCl V)[ci]? = some q) (hob : Ob V σ a ci) (hn : As.length = n) (hstk : stk = As.reverse ++ .ref (vO V + a) :: rest) (hrest : (rest.map fun v => v.category).sum ≤ 8)
    (hR : rmc.frames + 1 ≤ rm.frames ∧ 8 + (maxL + 11) + rmc.locals ≤ rm.locals) (hf : cs.1 + rmc.cells ≤ rm.cells ∧ cs.2 + rmc.slots ≤ rm.slots) (hd : decode cc pc = .ok (.invokevirtual index, 3))
    (kk : Sim Θ nL ρ σ1 F (cs.1 + rmc.cells, cs.2 + rmc.slots) (pc + 3) lv (v1.toList ++ rest)) : Sim Θ nL ρ σ F cs pc lv stk := by
  subst hstk
  refine s_run hc (fun p l e s m args below meth c H locs ls S hK hW hl => ⟨(.ref (vO V + a) :: As).toArray, ?_⟩) kk
  exact va_runU (As := As) (rest := rest) S (hM l).met (va_cwO n S.2.2.2.2 hG rfl rfl rfl h0 hd0 hR) ⟨Ct.blind, hob.recv hK.1 hW hcl, fun U hU hw => ⟨rfl, by rw [hU]; exact hW, hK.warm hw⟩⟩ rfl hn hl.1 rfl (lv_room hrest) hd hf
theorem s_callSU (hc : Cx Θ V cc nL own rm ret hs ini O σ')
    (hM : ∀ l, Ct V l y bytes maxL rc rmc (.ref (vO V + a) :: As) σ (.returned v1) σ1) (hG : GoodIn lw_all (va_wsSU own index y (ws_ y bytes maxL rc)))
    (hd0 : y.name ≠ "<init>" ∧ (parseMethodDescriptor y.desc).map (fun d => d.parameters.length) = some n)
    (hcl : (vCl V)[ci]? = some q) (hob : Ob V σ a ci) (hn : As.length = n) (hstk : stk = As.reverse ++ .ref (vO V + a) :: rest) (hrest : (rest.map fun v => v.category).sum ≤ 8)
    (hR : rmc.frames + 1 ≤ rm.frames ∧ 8 + (maxL + 11) + rmc.locals ≤ rm.locals) (hf : cs.1 + rmc.cells ≤ rm.cells ∧ cs.2 + rmc.slots ≤ rm.slots) (hd : decode cc pc = .ok (.invokespecial index, 3))
    (kk : Sim Θ nL ρ σ1 F (cs.1 + rmc.cells, cs.2 + rmc.slots) (pc + 3) lv (v1.toList ++ rest)) : Sim Θ nL ρ σ F cs pc lv stk := by
  subst hstk
  refine s_run hc (fun p l e s m args below meth c H locs ls S hK hW hl => ⟨(.ref (vO V + a) :: As).toArray, ?_⟩) kk
  exact va_runSU (As := As) (rest := rest) (hK.1.1 ci q hcl).2 S (hM l).met (va_cwSU n S.2.2.2.2 hG rfl rfl rfl hd0 hR) ⟨Ct.blind, hob.recv hK.1 hW hcl, fun U hU hw => ⟨rfl, by rw [hU]; exact hW, hK.warm hw⟩⟩ rfl hn hl.1 rfl (lv_room hrest) hd hf
theorem s_callI (hc : Cx Θ V cc nL own rm ret hs ini O σ')
    (hM : ∀ l, Ct V l y bytes maxL none rmc (.ref (vO V + a) :: As) σ (.returned none) σ1) (q1 : Cond.code y bytes maxL none ∈ lw_all) (q2 : Cond.initialized y.cls ∈ lw_all) (q3 : Cond.methodLink own index y ∈ lw_all) (q4 : Cond.instanceMethod y ∈ lw_all)
    (hd0 : y.name = "<init>" ∧ y.cls ≠ "java/lang/invoke/MethodHandle" ∧ y.cls ≠ "java/lang/invoke/VarHandle" ∧ (parseMethodDescriptor y.desc).map (fun d => d.parameters.length) = some n)
    (hn : As.length = n) (hstk : stk = As.reverse ++ .ref (vO V + a) :: rest) (hrest : (rest.map fun v => v.category).sum ≤ 8)
    (hR : rmc.frames + 1 ≤ rm.frames ∧ 8 + (maxL + 11) + rmc.locals ≤ rm.locals) (hf : cs.1 + rmc.cells ≤ rm.cells ∧ cs.2 + rmc.slots ≤ rm.slots) (hd : decode cc pc = .ok (.invokespecial index, 3))
    (kk : Sim Θ nL ρ σ1 F (cs.1 + rmc.cells, cs.2 + rmc.slots) (pc + 3) lv rest) : Sim Θ nL ρ σ F cs pc lv stk := by
  subst hstk
  refine s_run hc (v1 := none) (fun p l e s m args below meth c H locs ls S hK hW hl => ⟨(.ref (vO V + a) :: As).toArray, ?_⟩) kk
  exact va_runI (As := As) (rest := rest) S (hM l).met (cwI n S.2.2.2.2 (lw_meth q1) rfl rfl rfl (S.2.2.2.2 _ q2) (S.2.2.2.2 _ q3) (S.2.2.2.2 _ q4) hd0.1 hd0.2 hR) ⟨Ct.blind, fun U hU hw => ⟨rfl, by rw [hU]; exact hW, hK.warm hw⟩⟩ rfl hn hl.1 rfl (lv_room hrest) hd hf
theorem s_callIN (hc : Cx Θ V cc nL own rm ret hs ini O σ')
    (hM : ∀ l, Ct V l y bytes maxL none rmc (.ref (vO V + a) :: As) σ (.returned none) σ1) (q1 : Cond.code y bytes maxL none ∈ lw_all) (q2 : Cond.initialized y.cls ∈ lw_all) (q3 : ∀ U, vE V U → va_Nw (.methodLinkNest own index y host) U) (q4 : Cond.instanceMethod y ∈ lw_all)
    (hd0 : y.name = "<init>" ∧ y.cls ≠ "java/lang/invoke/MethodHandle" ∧ y.cls ≠ "java/lang/invoke/VarHandle" ∧ (parseMethodDescriptor y.desc).map (fun d => d.parameters.length) = some n)
    (hn : As.length = n) (hstk : stk = As.reverse ++ .ref (vO V + a) :: rest) (hrest : (rest.map fun v => v.category).sum ≤ 8)
    (hR : rmc.frames + 1 ≤ rm.frames ∧ 8 + (maxL + 11) + rmc.locals ≤ rm.locals) (hf : cs.1 + rmc.cells ≤ rm.cells ∧ cs.2 + rmc.slots ≤ rm.slots) (hd : decode cc pc = .ok (.invokespecial index, 3))
    (kk : Sim Θ nL ρ σ1 F (cs.1 + rmc.cells, cs.2 + rmc.slots) (pc + 3) lv rest) : Sim Θ nL ρ σ F cs pc lv stk := by
  subst hstk
  refine s_run hc (v1 := none) (fun p l e s m args below meth c H locs ls S hK hW hl => ⟨(.ref (vO V + a) :: As).toArray, ?_⟩) kk
  exact va_runIN (As := As) (rest := rest) S (hM l).met ⟨va_cnB n S.2.2.2.2 (lw_meth q1) rfl rfl rfl (q3 s hK.here) (S.2.2.2.2 _ q2) hd0.2 hR, hd0.1, S.2.2.2.2 _ q4⟩ ⟨Ct.blind, fun U hU hw => ⟨rfl, by rw [hU]; exact hW, hK.warm hw⟩⟩ rfl hn hl.1 rfl (lv_room hrest) hd hf
theorem s_callSN (hc : Cx Θ V cc nL own rm ret hs ini O σ')
    (hM : ∀ l, Ct V l y bytes maxL rc rmc As σ (.returned v1) σ1) (q1 : Cond.code y bytes maxL rc ∈ lw_all) (q2 : Cond.initialized y.cls ∈ lw_all) (q3 : ∀ U, vE V U → va_Nw (.methodLinkNest own index y host) U) (q4 : Cond.static y ∈ lw_all)
    (hd0 : y.cls ≠ "java/lang/invoke/MethodHandle" ∧ y.cls ≠ "java/lang/invoke/VarHandle" ∧ (parseMethodDescriptor y.desc).map (fun d => d.parameters.length) = some n)
    (hn : As.length = n) (hstk : stk = As.reverse ++ rest) (hrest : (rest.map fun v => v.category).sum ≤ 8)
    (hR : rmc.frames + 1 ≤ rm.frames ∧ 8 + (maxL + 11) + rmc.locals ≤ rm.locals) (hf : cs.1 + rmc.cells ≤ rm.cells ∧ cs.2 + rmc.slots ≤ rm.slots) (hd : decode cc pc = .ok (.invokestatic index, 3))
    (kk : Sim Θ nL ρ σ1 F (cs.1 + rmc.cells, cs.2 + rmc.slots) (pc + 3) lv (v1.toList ++ rest)) : Sim Θ nL ρ σ F cs pc lv stk := by
  subst hstk
  refine s_run hc (fun p l e s m args below meth c H locs ls S hK hW hl => ⟨As.toArray, ?_⟩) kk
  exact va_runSN (As := As) (rest := rest) S (hM l).met ⟨va_cnB n S.2.2.2.2 (lw_meth q1) rfl rfl rfl (q3 s hK.here) (S.2.2.2.2 _ q2) hd0 hR, S.2.2.2.2 _ q4, trivial⟩ ⟨Ct.blind, fun U hU hw => ⟨rfl, by rw [hU]; exact hW, hK.warm hw⟩⟩ rfl hn hl.1 rfl (lv_room hrest) hd hf
theorem s_run5 (hc : Cx Θ V cc nL own rm ret hs ini O σ') {mc ms : Nat}
    (hrun : ∀ p l e s m args below meth c H locs ls, CallFix p m c cc nL s args lw_all own → KK V s → Wd V σ H → lv_has ls nL lv → ∃ a, va_Run5 p l e rm s m args below meth c H locs cs.1 cs.2 mc ms (F0 m pc ls stk) rest (Qo V (.returned v1) σ1 a) (AA V))
    (kk : Sim Θ nL ρ σ1 F (cs.1 + mc, cs.2 + ms) (pc + 5) lv (v1.toList ++ rest)) : Sim Θ nL ρ σ F cs pc lv stk := by
  obtain ⟨p, l, e, s, m, args, below, meth, c, Q, rfl, hx, hb, hml, ho, hts, ⟨hK, hE⟩, hr, hlk, htab, hQ, hini⟩ := hc
  intro hF ls hl H locs hW hS T hT X
  obtain ⟨a, hrun⟩ := hrun p l e s m args below meth c H locs ls ⟨hx, hb, hml, ho, hts⟩ ⟨hK, hE⟩ hW hl
  obtain ⟨v, st₀, t, T', L, h0, X', hL, e1, e2, ⟨q1, q2, hz, hk⟩, stp⟩ := hrun T hT X
  cases q1
  rw [h0] at hz hk
  obtain ⟨t2, a1, b1⟩ := kk hF ls hl T'.heap (locs ++ L) (by rw [e1]; exact q2)
    ⟨Nat.le_trans hS.1 (by rw [e1]; exact hz), fun q h1 h2 => by rw [e1, hk q (Nat.lt_of_lt_of_le h1 hS.1) h2]; exact hS.2.1 q h1 h2, fun q hq => by
      rcases List.mem_append.mp hq with h | h
      · exact hS.2.2 q h
      · exact hL q h⟩ T' rfl X'
  exact ⟨t2, stp t2 a1, b1⟩
/-- a call through an interface -/
theorem s_callF (hc : Cx Θ V cc nL own rm ret hs ini O σ') {count : Nat}
    (hM : ∀ l, Ct V l y bytes maxL rc rmc (.ref (vO V + a) :: As) σ (.returned v1) σ1) (hG : GoodIn lw_all (va_wsF own index q.1 x y (ws_ y bytes maxL rc))) (hFw : ∀ U, vE V U → va_Fw q.1 x y U)
    (hd0 : x.cls ≠ "java/lang/invoke/MethodHandle" ∧ x.cls ≠ "java/lang/invoke/VarHandle" ∧ (parseMethodDescriptor x.desc).map (fun d => d.parameters.length) = some n)
    (hcl : (vCl V)[ci]? = some q) (hob : Ob V σ a ci) (hn : As.length = n) (hstk : stk = As.reverse ++ .ref (vO V + a) :: rest) (hrest : (rest.map fun v => v.category).sum ≤ 8)
    (hR : rmc.frames + 1 ≤ rm.frames ∧ 8 + (maxL + 11) + rmc.locals ≤ rm.locals) (hf : cs.1 + rmc.cells ≤ rm.cells ∧ cs.2 + rmc.slots ≤ rm.slots) (hd : decode cc pc = .ok (.invokeinterface index count, 5))
    (kk : Sim Θ nL ρ σ1 F (cs.1 + rmc.cells, cs.2 + rmc.slots) (pc + 5) lv (v1.toList ++ rest)) : Sim Θ nL ρ σ F cs pc lv stk := by
  subst hstk
  refine s_run5 hc (fun p l e s m args below meth c H locs ls S hK hW hl => ⟨(.ref (vO V + a) :: As).toArray, ?_⟩) kk
  exact va_runF (As := As) (rest := rest) (hK.1.1 ci q hcl).2 S (hM l).met (va_cwF n S.2.2.2.2 hG rfl rfl rfl (hFw s hK.here) hd0 hR) ⟨Ct.blind, hob.recv hK.1 hW hcl, fun U hU hw => ⟨rfl, by rw [hU]; exact hW, hK.warm hw⟩⟩ rfl hn hl.1 rfl (lv_room hrest) hd hf
theorem s_objInit (hc : Cx Θ V cc nL own rm ret hs ini O σ') (q1 : Cond.methodLink own index objectInit ∈ lw_all) (q2 : Cond.instanceMethod objectInit ∈ lw_all) (q3 : Cond.code objectInit ⟨#[0xb1]⟩ 1 none ∈ lw_all) (hfr : 1 ≤ rm.frames) (hlo : (st.map fun v => v.category).sum + 12 ≤ rm.locals) (hd : decode cc pc = .ok (.invokespecial index, 3)) (kk : Sim Θ nL ρ σ F cs (pc + 3) lv st) : Sim Θ nL ρ σ F cs pc lv (.ref a :: st) := by
  obtain ⟨p, l, e, s, m, args, below, meth, c, Q, rfl, hx, hb, hml, ho, hts, ⟨hK, hE⟩, hr, hlk, htab, hQ, hini⟩ := hc
  intro hF ls hl H locs hW hS
  exact W.objInit hx hb ho (hts _ q1) (hts _ q2) (hts _ q3) rfl (by rw [hml]; exact hl.1) rfl hd hfr (by show 2 * 0 + _ + 12 ≤ _; omega) (kk hF ls hl H locs hW hS)
/-- the callee throws, the method's own handler catches -/
theorem s_callSh (hc : Cx Θ V cc nL own rm ret hs ini O σ') {b i s0 e0 hp ct : Nat} (hM : ∀ l, Ct V l y bytes maxL rc rmc As σ (.threw (vO V + b)) σ1) (hG : GoodIn lw_all (va_wsS own index y (ws_ y bytes maxL rc)))
    (hd0 : y.cls ≠ "java/lang/invoke/MethodHandle" ∧ y.cls ≠ "java/lang/invoke/VarHandle" ∧ (parseMethodDescriptor y.desc).map (fun d => d.parameters.length) = some n)
    (hn : As.length = n) (hstk : stk = As.reverse ++ rest) (hrest : (rest.map fun v => v.category).sum ≤ 8)
    (hR : rmc.frames + 1 ≤ rm.frames ∧ 8 + (maxL + 11) + rmc.locals ≤ rm.locals) (hf : cs.1 + rmc.cells ≤ rm.cells ∧ cs.2 + rmc.slots ≤ rm.slots) (hd : decode cc pc = .ok (.invokestatic index, 3))
    (hi : hs[i]? = some (s0, e0, hp, ct)) (hpre : ((hs.take i).all fun q => !(decide (q.1 ≤ pc) && decide (pc < q.2.1))) = true) (hin : s0 ≤ pc ∧ pc < e0) (h0 : ct ≠ 0) (hcl : (vCl V)[ci]? = some q) (hlink : Cond.classLink own ct q.1 ∈ lw_all) (hob : Ob V σ1 b ci)
    (kk : Sim Θ nL ρ σ1 F (cs.1 + rmc.cells, cs.2 + rmc.slots) hp lv [.ref (vO V + b)]) : Sim Θ nL ρ σ F cs pc lv stk := by
  subst hstk
  obtain ⟨p, l, e, s, m, args, below, meth, c, Q, rfl, hx, hb, hml, ho, hts, hK, hr, hlk, htab, hQ, hini⟩ := hc
  intro hF ls hl H locs hW hS
  refine tc_S ⟨hx, hb, hml, ho, hts⟩ (hM l) (va_cwS n hts hG rfl rfl rfl hd0 hR) hK hW hS hn hl.1 hrest hd hf (fun H1 locs1 hW1 hS1 => ?_)
  exact tx_catch htab hi hpre hin h0 ho (hts _ hlink) (hob.classAt hK.1 hW1 hcl) (kk hF ls hl H1 locs1 hW1 hS1)
theorem s_callVh (hc : Cx Θ V cc nL own rm ret hs ini O σ') {b i s0 e0 hp ct cj : Nat} {q' : vw_C} (hM : ∀ l, Ct V l y bytes maxL rc rmc (.ref (vO V + a) :: As) σ (.threw (vO V + b)) σ1) (hG : GoodIn lw_all (wsV own index q'.1 y (ws_ y bytes maxL rc)))
    (hd0 : y.cls = q'.1 ∧ y.cls ≠ "java/lang/invoke/MethodHandle" ∧ y.cls ≠ "java/lang/invoke/VarHandle" ∧ (parseMethodDescriptor y.desc).map (fun d => d.parameters.length) = some n)
    (hcl' : (vCl V)[cj]? = some q') (hob' : Ob V σ a cj) (hn : As.length = n) (hstk : stk = As.reverse ++ .ref (vO V + a) :: rest) (hrest : (rest.map fun v => v.category).sum ≤ 8)
    (hR : rmc.frames + 1 ≤ rm.frames ∧ 8 + (maxL + 11) + rmc.locals ≤ rm.locals) (hf : cs.1 + rmc.cells ≤ rm.cells ∧ cs.2 + rmc.slots ≤ rm.slots) (hd : decode cc pc = .ok (.invokevirtual index, 3))
    (hi : hs[i]? = some (s0, e0, hp, ct)) (hpre : ((hs.take i).all fun q => !(decide (q.1 ≤ pc) && decide (pc < q.2.1))) = true) (hin : s0 ≤ pc ∧ pc < e0) (h0 : ct ≠ 0) (hcl : (vCl V)[ci]? = some q) (hlink : Cond.classLink own ct q.1 ∈ lw_all) (hob : Ob V σ1 b ci)
    (kk : Sim Θ nL ρ σ1 F (cs.1 + rmc.cells, cs.2 + rmc.slots) hp lv [.ref (vO V + b)]) : Sim Θ nL ρ σ F cs pc lv stk := by
  subst hstk
  obtain ⟨p, l, e, s, m, args, below, meth, c, Q, rfl, hx, hb, hml, ho, hts, hK, hr, hlk, htab, hQ, hini⟩ := hc
  intro hF ls hl H locs hW hS
  refine tc_V ⟨hx, hb, hml, ho, hts⟩ (hM l) (cwV n hts hG rfl rfl rfl hd0 hR) (hob'.recv hK.1 hW hcl') hK hW hS hn hl.1 hrest hd hf (fun H1 locs1 hW1 hS1 => ?_)
  exact tx_catch htab hi hpre hin h0 ho (hts _ hlink) (hob.classAt hK.1 hW1 hcl) (kk hF ls hl H1 locs1 hW1 hS1)
theorem s_athrowh (hc : Cx Θ V cc nL own rm ret hs ini O σ') {b i s0 e0 hp ct : Nat} (hd : decode cc pc = .ok (.athrow, 1))
    (hi : hs[i]? = some (s0, e0, hp, ct)) (hpre : ((hs.take i).all fun q => !(decide (q.1 ≤ pc) && decide (pc < q.2.1))) = true) (hin : s0 ≤ pc ∧ pc < e0) (h0 : ct ≠ 0) (hcl : (vCl V)[ci]? = some q) (hlink : Cond.classLink own ct q.1 ∈ lw_all) (hob : Ob V σ b ci)
    (kk : Sim Θ nL ρ σ F cs hp lv [.ref (vO V + b)]) : Sim Θ nL ρ σ F cs pc lv (.ref (vO V + b) :: st) := by
  obtain ⟨p, l, e, s, m, args, below, meth, c, Q, rfl, hx, hb, hml, ho, hts, hK, hr, hlk, htab, hQ, hini⟩ := hc
  intro hF ls hl H locs hW hS
  exact tx_athrow hx hb hd (tx_catch htab hi hpre hin h0 ho (hts _ hlink) (hob.classAt hK.1 hW hcl) (kk hF ls hl H locs hW hS))
theorem tx_none {c : Code} {hs : List (Nat × Nat × Nat × Nat)} {pc : Nat} (htab : c.exceptionTable.toList.map (fun h => (h.startPc, h.endPc, h.handlerPc, h.catchType)) = hs) (hout : (hs.all fun q => !(decide (q.1 ≤ pc) && decide (pc < q.2.1))) = true) : ∀ x ∈ c.exceptionTable.toList, covers x pc = false := by
  intro y hy
  have h1 : (y.startPc, y.endPc, y.handlerPc, y.catchType) ∈ hs := by
    rw [← htab]
    exact List.mem_map.mpr ⟨y, hy, rfl⟩
  have h2 := List.all_eq_true.mp hout _ h1
  simp only [Bool.not_eq_true'] at h2
  exact h2
end SIMD
section SIMO
variable {β : Type} {Θ : ThT Mem} {V : Mod} {cc : ByteArray} {nL : Nat} {own : String} {rm : Room} {ret : Option FieldType} {hs : List (Nat × Nat × Nat × Nat)} {ini : Bool} {f : β → Outcome} {ρ : (β ⊕ Nat) × Mem} {σ : Mem} {cs : Nat × Nat} {pc : Nat} {lv : List (Nat × Value)} {st : List Value}
variable {σ1 : Mem} {y : MethodName} {bytes : ByteArray} {maxL n a index b cj : Nat} {rc : Option FieldType} {rmc : Room} {As rest stk : List Value} {q' : vw_C}
/-- the callee throws, and so does this method -/
theorem s_callSt (hc : Cx Θ V cc nL own rm ret hs ini (oT f ρ.1 (vO V)) ρ.2) (hM : ∀ l, Ct V l y bytes maxL rc rmc As σ (.threw (vO V + b)) σ1) (hG : GoodIn lw_all (va_wsS own index y (ws_ y bytes maxL rc)))
    (hd0 : y.cls ≠ "java/lang/invoke/MethodHandle" ∧ y.cls ≠ "java/lang/invoke/VarHandle" ∧ (parseMethodDescriptor y.desc).map (fun d => d.parameters.length) = some n)
    (hn : As.length = n) (hstk : stk = As.reverse ++ rest) (hrest : (rest.map fun v => v.category).sum ≤ 8)
    (hR : rmc.frames + 1 ≤ rm.frames ∧ 8 + (maxL + 11) + rmc.locals ≤ rm.locals) (hf : cs.1 + rmc.cells ≤ rm.cells ∧ cs.2 + rmc.slots ≤ rm.slots) (hd : decode cc pc = .ok (.invokestatic index, 3))
    (hout : (hs.all fun q => !(decide (q.1 ≤ pc) && decide (pc < q.2.1))) = true) : Sim Θ nL ρ σ (some (.inr b, σ1)) cs pc lv stk := by
  subst hstk
  obtain ⟨p, l, e, s, m, args, below, meth, c, Q, rfl, hx, hb, hml, ho, hts, hK, hr, hlk, htab, hQ, hini⟩ := hc
  intro hF ls hl H locs hW hS
  cases hF
  refine tc_S ⟨hx, hb, hml, ho, hts⟩ (hM l) (va_cwS n hts hG rfl rfl rfl hd0 hR) hK hW hS hn hl.1 hrest hd hf (fun H1 locs1 hW1 hS1 => ?_)
  exact tx_out (tx_none htab hout) hlk hQ hf.1 hf.2 hW1 hS1
theorem s_callVt (hc : Cx Θ V cc nL own rm ret hs ini (oT f ρ.1 (vO V)) ρ.2) (hM : ∀ l, Ct V l y bytes maxL rc rmc (.ref (vO V + a) :: As) σ (.threw (vO V + b)) σ1) (hG : GoodIn lw_all (wsV own index q'.1 y (ws_ y bytes maxL rc)))
    (hd0 : y.cls = q'.1 ∧ y.cls ≠ "java/lang/invoke/MethodHandle" ∧ y.cls ≠ "java/lang/invoke/VarHandle" ∧ (parseMethodDescriptor y.desc).map (fun d => d.parameters.length) = some n)
    (hcl' : (vCl V)[cj]? = some q') (hob' : Ob V σ a cj) (hn : As.length = n) (hstk : stk = As.reverse ++ .ref (vO V + a) :: rest) (hrest : (rest.map fun v => v.category).sum ≤ 8)
    (hR : rmc.frames + 1 ≤ rm.frames ∧ 8 + (maxL + 11) + rmc.locals ≤ rm.locals) (hf : cs.1 + rmc.cells ≤ rm.cells ∧ cs.2 + rmc.slots ≤ rm.slots) (hd : decode cc pc = .ok (.invokevirtual index, 3))
    (hout : (hs.all fun q => !(decide (q.1 ≤ pc) && decide (pc < q.2.1))) = true) : Sim Θ nL ρ σ (some (.inr b, σ1)) cs pc lv stk := by
  subst hstk
  obtain ⟨p, l, e, s, m, args, below, meth, c, Q, rfl, hx, hb, hml, ho, hts, hK, hr, hlk, htab, hQ, hini⟩ := hc
  intro hF ls hl H locs hW hS
  cases hF
  refine tc_V ⟨hx, hb, hml, ho, hts⟩ (hM l) (cwV n hts hG rfl rfl rfl hd0 hR) (hob'.recv hK.1 hW hcl') hK hW hS hn hl.1 hrest hd hf (fun H1 locs1 hW1 hS1 => ?_)
  exact tx_out (tx_none htab hout) hlk hQ hf.1 hf.2 hW1 hS1
theorem s_athrowt (hc : Cx Θ V cc nL own rm ret hs ini (oT f ρ.1 (vO V)) ρ.2) (hd : decode cc pc = .ok (.athrow, 1)) (h1 : cs.1 ≤ rm.cells) (h2 : cs.2 ≤ rm.slots) (hout : (hs.all fun q => !(decide (q.1 ≤ pc) && decide (pc < q.2.1))) = true) : Sim Θ nL ρ σ (some (.inr b, σ)) cs pc lv (.ref (vO V + b) :: st) := by
  obtain ⟨p, l, e, s, m, args, below, meth, c, Q, rfl, hx, hb, hml, ho, hts, hK, hr, hlk, htab, hQ, hini⟩ := hc
  intro hF ls hl H locs hW hS
  cases hF
  exact tx_athrow hx hb hd (tx_out (tx_none htab hout) hlk hQ h1 h2 hW hS)
end SIMO
