/-! A CALLEE THAT THROWS -/
set_option maxRecDepth 100000
section TB
variable {p : Program} {l : Launch} {e : Env} {R : Room} {s : State} {m : MethodId} {args : Array Value} {below : List Frame} {meth : Method} {c : Code} {locs : List Loc} {cells slots : Nat}
set_option maxHeartbeats 4000000 in
theorem tb_back {V : Mod} {y : MethodName} {bytes : ByteArray} {maxL : Nat} {rc : Option FieldType} {rmc : Room} {av : List Value} {σ σ1 : Mem} {a : Nat} {U : State} (hM : Ct V l y bytes maxL rc rmc av σ (.threw a) σ1) (X : Stand p l e R s m args below meth c U locs cells slots)
    (hws : ∀ w ∈ ws_ y bytes maxL rc, w.before av.toArray U = true) (hinit : (Cond.initialized y.cls).before av.toArray U = true) (hfr : rmc.frames + 1 ≤ R.frames) (hlo : 8 + (maxL + 11) + rmc.locals ≤ R.locals) (hcs : cells + rmc.cells ≤ R.cells ∧ slots + rmc.slots ≤ R.slots) (hW0 : Wd V σ U.heap) (hK0 : KK V U)
    {g : JFrame} (hg : g.method = m) (hsize : g.locals.size = c.maxLocals) {ig : Instr} {len : Nat} (hdg : decode c.code g.pc = .ok (ig, len)) (hWt : 2 * g.monitorRoom + (g.stack.map fun v => v.category).sum ≤ 8) {mk : MethodId} (hn : U.methodNamed? y = some mk) :
    ∃ (T' : State) (L : List Loc), Stand p l e R s m args below meth c T' (locs ++ L) (cells + rmc.cells) (slots + rmc.slots) ∧ Wd V σ1 T'.heap ∧ (∀ q ∈ L, AA V q.base) ∧ U.heap.size ≤ T'.heap.size ∧ (∀ q : Nat, q < U.heap.size → ¬ AA V q → T'.heap[q]? = U.heap[q]?) ∧ Steps p.tables e below (doInvoke e (U.setTop g) [] mk av.toArray).1 ((T'.setTop g).pushFrame (.throwing a)) := by
  obtain ⟨methY, cY, hmY, hcY, -, hlY, -, -, -, -⟩ := Cond.code_spec hn (hws _ List.mem_cons_self)
  obtain ⟨kY, hkY, -⟩ := className_of_methodNamed hn
  have hinitY : kY.init = .initialized := Cond.initialized_spec (findClass_of_methodNamed hn) hkY hinit
  have h : At U g.method c below := by rw [hg]; exact X.here
  have happ : (headSpec (ws_ y bytes maxL rc) rmc).appliesLoose y e.platform (U.calling g mk av.toArray) = true :=
    Spec.appliesLoose_calling (g := g) h hdg hn hkY hinitY
      (X.room_calling (g := g) (R' := rmc) hsize hmY hcY hfr (by rw [hlY]; omega) hcs.1 hcs.2) (atoms_intro hws)
  obtain ⟨mid, hmid⟩ := h.above
  have hfrm : (U.setTop g).frames = (.java g :: mid) ++ below := by rw [State.frames_setTop' g h.top, hmid]; rfl
  obtain ⟨o, s₂, hsteps, -, hend, hq, L, hE, hL⟩ := Steps.callFree hM p X.admits X.cas X.clock (acts := []) hfrm happ (Ct.blind _ U g mk ⟨rfl, hW0, hK0⟩) trivial
  obtain ⟨rfl, hW1, hz, hk⟩ := hq
  rw [State.frames_setTop' g h.top, X.tail] at hend
  obtain ⟨T', X', -, -, ht⟩ := X.outOfThrown hg hend hE.1 hE.2
  have hheap : s₂.heap = T'.heap := by rw [ht]; simp [State.pushFrame, State.setFrames, State.setTop, State.modifyTopJava]
  rw [hheap] at hW1 hz hk
  refine ⟨T', L, X', hW1, hL, hz, hk, ?_⟩
  rw [← ht]
  exact hsteps
end TB
section TC
variable {p : Program} {l : Launch} {e : Env} {R : Room} {s : State} {m : MethodId} {args : Array Value} {below : List Frame} {meth : Method} {c : Code} {H : Heap} {locs : List Loc} {cells slots : Nat} {Q : State → Prop}
theorem tc_S {V : Mod} {y : MethodName} {bytes cc : ByteArray} {maxL n index pc nL : Nat} {rc : Option FieldType} {rmc : Room} {As rest : List Value} {σ σ1 : Mem} {a : Nat} {own : String} {ls : Array Slot} (S : CallFix p m c cc nL s args lw_all own) (hM : Ct V l y bytes maxL rc rmc As σ (.threw a) σ1)
    (cw : CallB R s args own index y bytes maxL rc (ws_ y bytes maxL rc) rmc rmc.cells rmc.slots n ∧ (Cond.static y).before args s = true) (hK : KK V s) (hW : Wd V σ H) (hS : va_S (AA V) s.heap H locs) (hn : As.length = n) (hsize : ls.size = nL) (hrest : (rest.map fun v => v.category).sum ≤ 8) (hdg : decode cc pc = .ok (.invokestatic index, 3)) (hf : cells + rmc.cells ≤ R.cells ∧ slots + rmc.slots ≤ R.slots)
    (kk : ∀ (H1 : Heap) (locs1 : List Loc), Wd V σ1 H1 → va_S (AA V) s.heap H1 locs1 → Thr p l e R s m args below meth c H1 locs1 (cells + rmc.cells) (slots + rmc.slots) Q (F0 m pc ls rest) a) : W p l e R s m args below meth c H locs cells slots Q (F0 m pc ls (As.reverse ++ rest)) := by
  obtain ⟨⟨-, -, hfr, hlo, hws, hcw, hcode, hini, hy, hlen, hl⟩, hstt⟩ := cw
  obtain ⟨hx, hb, hml, ho, hts⟩ := S
  intro T hT X
  obtain ⟨mk, hnamed⟩ := Cond.code_named hcode
  obtain ⟨methM, cM, hmethM, -, -, -, -, -, -, hsigM⟩ := Cond.code_spec hnamed hcode
  have hstatic : methM.isStatic = true := Cond.static_spec hnamed hmethM hstt
  obtain ⟨kP, hkP, -⟩ := className_of_methodNamed hnamed
  have hinitP : kP.init = .initialized := Cond.initialized_spec (findClass_of_methodNamed hnamed) hkP hini
  obtain ⟨vm₁, X₁, hstep₁⟩ := X.invokestatic hx ho hl hnamed hmethM hstatic hkP hinitP hy (g := F0 m pc ls (As.reverse ++ rest)) rfl (argsL := As) (rest := rest) (hn.trans (hlen _ hsigM)) rfl (by rw [hb]; exact hdg)
  obtain ⟨T', L, X', hW1, hL, hz, hk, hsteps⟩ := tb_back hM X₁ (fun w hw => hws w hw _ _ X₁.warmed) (word_at X₁.warmed (Or.inl (by first | rfl | simp [Cond.onTables, Cond.keeps, Cond.steady])) hini) hfr hlo hf (by show Wd V σ T.heap; rw [hT]; exact hW) (hK.warm X₁.warmed) (g := F0 m pc ls rest) rfl (hsize.trans hml.symm) (by rw [hb]; exact hdg) (lv_room hrest) (X₁.named hnamed)
  have hz' : H.size ≤ T'.heap.size := by rw [← hT]; exact hz
  have hk' : ∀ q : Nat, q < H.size → ¬ AA V q → T'.heap[q]? = H[q]? := fun q h1 h2 => by rw [← hT] at h1 ⊢; exact hk q h1 h2
  obtain ⟨t, a1, b1⟩ := kk T'.heap (locs ++ L) hW1 ⟨Nat.le_trans hS.1 hz', fun q h1 h2 => by rw [hk' q (Nat.lt_of_lt_of_le h1 hS.1) h2]; exact hS.2.1 q h1 h2, fun q hq => by
      rcases List.mem_append.mp hq with h | h
      · exact hS.2.2 q h
      · exact hL q h⟩ T' rfl X'
  exact ⟨t, hstep₁ _ fun acts => by rw [doInvoke_state]; exact hsteps.trans a1, b1⟩
theorem tc_V {V : Mod} {y : MethodName} {bytes cc : ByteArray} {maxL n index pc nL b : Nat} {rc : Option FieldType} {rmc : Room} {As rest : List Value} {σ σ1 : Mem} {a : Nat} {own C : String} {ls : Array Slot} (S : CallFix p m c cc nL s args lw_all own) (hM : Ct V l y bytes maxL rc rmc (.ref b :: As) σ (.threw a) σ1)
    (cw : CallW R s args own C index y bytes maxL rc (ws_ y bytes maxL rc) rmc rmc.cells rmc.slots n) (hrc : ∃ cellB : Cell, H[b]? = some cellB ∧ cellB.vm.isStatics = false ∧ s.vm.findClass C = some cellB.cls) (hK : KK V s) (hW : Wd V σ H) (hS : va_S (AA V) s.heap H locs) (hn : As.length = n) (hsize : ls.size = nL) (hrest : (rest.map fun v => v.category).sum ≤ 8) (hdg : decode cc pc = .ok (.invokevirtual index, 3)) (hf : cells + rmc.cells ≤ R.cells ∧ slots + rmc.slots ≤ R.slots)
    (kk : ∀ (H1 : Heap) (locs1 : List Loc), Wd V σ1 H1 → va_S (AA V) s.heap H1 locs1 → Thr p l e R s m args below meth c H1 locs1 (cells + rmc.cells) (slots + rmc.slots) Q (F0 m pc ls rest) a) : W p l e R s m args below meth c H locs cells slots Q (F0 m pc ls (As.reverse ++ .ref b :: rest)) := by
  obtain ⟨⟨-, -, hfr, hlo, hws, hcw, hcode, hini, hy, hlen, hl⟩, hinst, hsel⟩ := cw
  obtain ⟨hx, hb, hml, ho, hts⟩ := S
  intro T hT X
  obtain ⟨cellB, hcell, hobj, hcls⟩ := hrc
  obtain ⟨mk, methM, hnamed, hmethM, hstM, habM⟩ := Cond.instanceMethod_spec hinst
  obtain ⟨methM', cM, hmethM', -, -, -, -, -, -, hsigM⟩ := Cond.code_spec hnamed hcode
  cases hmethM.symm.trans hmethM'
  obtain ⟨c2, r2, m2, q1, q2, q3, q4, kP, hkP, hkPi⟩ := Cond.selects_spec hsel
  cases hcls.symm.trans q1
  cases (State.methodFound?_of_named hnamed hy).symm.trans q2
  cases hnamed.symm.trans q3
  have hselP : selectMethod e.platform s.vm cellB.cls mk = .method mk := by rw [Launch.admits_selectMethod X.admits]; exact q4
  obtain ⟨vm₁, X₁, hstep₁⟩ := X.invokevirtual hx ho hl hnamed hmethM hstM hkP hkPi hy (a := b) (cell := cellB) (by rw [hT]; exact hcell)
    (fun z h => by rw [h] at hobj; cases hobj) hselP hmethM habM hkP hkPi (g := F0 m pc ls (As.reverse ++ .ref b :: rest)) rfl (argsL := As) (rest := rest) (hn.trans (hlen _ hsigM)) rfl (by rw [hb]; exact hdg)
  obtain ⟨T', L, X', hW1, hL, hz, hk, hsteps⟩ := tb_back hM X₁ (fun w hw => hws w hw _ _ X₁.warmed) (word_at X₁.warmed (Or.inl (by first | rfl | simp [Cond.onTables, Cond.keeps, Cond.steady])) hini) hfr hlo hf (by show Wd V σ T.heap; rw [hT]; exact hW) (hK.warm X₁.warmed) (g := F0 m pc ls rest) rfl (hsize.trans hml.symm) (by rw [hb]; exact hdg) (lv_room hrest) (X₁.named hnamed)
  have hz' : H.size ≤ T'.heap.size := by rw [← hT]; exact hz
  have hk' : ∀ q : Nat, q < H.size → ¬ AA V q → T'.heap[q]? = H[q]? := fun q h1 h2 => by rw [← hT] at h1 ⊢; exact hk q h1 h2
  obtain ⟨t, a1, b1⟩ := kk T'.heap (locs ++ L) hW1 ⟨Nat.le_trans hS.1 hz', fun q h1 h2 => by rw [hk' q (Nat.lt_of_lt_of_le h1 hS.1) h2]; exact hS.2.1 q h1 h2, fun q hq => by
      rcases List.mem_append.mp hq with h | h
      · exact hS.2.2 q h
      · exact hL q h⟩ T' rfl X'
  exact ⟨t, hstep₁ _ fun acts => by rw [doInvoke_state]; exact hsteps.trans a1, b1⟩
end TC
