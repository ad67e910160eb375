/-! THROWS: athrow, a callee that throws, the handler of the method itself -/
set_option maxRecDepth 100000
section TX
variable {p : Program} {l : Launch} {e : Env} {R : Room} {s : State} {m : MethodId} {args : Array Value} {below : List Frame} {meth : Method} {c : Code} {H : Heap} {locs : List Loc} {cells slots : Nat} {Q : State → Prop}
/-- the exception a is being thrown over the frame g -/
def Thr (p : Program) (l : Launch) (e : Env) (R : Room) (s : State) (m : MethodId) (args : Array Value) (below : List Frame) (meth : Method) (c : Code) (H : Heap) (locs : List Loc) (cells slots : Nat) (Q : State → Prop) (g : JFrame) (a : Nat) : Prop :=
  ∀ T : State, T.heap = H → Stand p l e R s m args below meth c T locs cells slots → ∃ t, Steps p.tables e below ((T.setTop g).pushFrame (.throwing a)) t ∧ Q t
theorem tx_athrow {cc : ByteArray} (hexec : p.tables.exec = Jvm.exec) (hb : c.code = cc) {pc a : Nat} {ls : Array Slot} {st : List Value} (hdg : decode cc pc = .ok (.athrow, 1)) (k : Thr p l e R s m args below meth c H locs cells slots Q (F0 m pc ls st) a) : W p l e R s m args below meth c H locs cells slots Q (F0 m pc ls (.ref a :: st)) := by
  intro T hT X
  obtain ⟨t, h1, h2⟩ := k T hT X
  refine ⟨t, ?_, h2⟩
  have hdg' : decode c.code pc = .ok (.athrow, 1) := by rw [hb]; exact hdg
  jvm_step X.here [hexec, hdg', athrow.wp_sem]
  exact h1
theorem tx_out {V : Mod} {σ : Mem} {a pc : Nat} {ls : Array Slot} {st : List Value} (hout : ∀ x ∈ c.exceptionTable.toList, covers x pc = false) (hlocks : meth.locks = false) (hQ : ∀ t, MQT below (Qo V (.threw a) σ) args s R.cells R.slots (AA V) t → Q t) (h1 : cells ≤ R.cells) (h2 : slots ≤ R.slots) (hW : Wd V σ H) (hS : va_S (AA V) s.heap H locs) : Thr p l e R s m args below meth c H locs cells slots Q (F0 m pc ls st) a := by
  intro T hT X0
  have X := stand_widen X0 h1 h2
  obtain ⟨a1, a2, a3, a4, a5⟩ := X.leaveThrown a (g := F0 m pc ls st) rfl rfl rfl hout hlocks
  exact ⟨_, a1, hQ _ ⟨_, a2, a3, ⟨rfl, by show Wd V σ T.heap; rw [hT]; exact hW, hS.F (by show T.heap = H; exact hT)⟩, locs, ⟨a4, a5⟩, hS.2.2⟩⟩
theorem tx_find {s : State} {e : Env} {f : JFrame} {a : Nat} {x : ExceptionTableEntry} {t : List ExceptionTableEntry} {cC : ClassId} {cell : Cell} (hx : covers x f.pc = true) (h0 : x.catchType ≠ 0) (hl : s.vm.ClassLinks e.platform f.method.cls x.catchType cC) (hcell : s.heap[a]? = some cell) (hobj : ∀ k, cell.vm ≠ .statics k)
    (hk : ∃ k, s.vm.classes[cell.cls]? = some k) (hc : ∃ k, s.vm.classes[cC]? = some k) (hfit : s.vm.assignable cell.cls cC = true) (Qh : Handler → Pre) (E : CtlPost) (d : Bool) (acts : List Action) :
    wp (findHandler.go f a (x :: t)) Qh E e d acts s ↔ Qh (.found x.handlerPc) d acts (s.setVm (s.vm.noted f.method.cls x.catchType (.cls cC))) := by
  simp only [covers] at hx
  obtain ⟨ha, ht⟩ := (resolveClass_links e.toSetting hl).op (op := VmOp.resolveClass f.method.cls x.catchType) rfl
  have hal : s.vm.Alike (s.vm.noted f.method.cls x.catchType (.cls cC)) := (Vm.Alike.refl s.vm).noted _ _ _
  obtain ⟨k1, hk1⟩ := hk
  obtain ⟨k2, hk2⟩ := hc
  obtain ⟨k1', hk1', -⟩ := hal.2.2 _ _ hk1
  obtain ⟨k2', hk2', -⟩ := hal.2.2 _ _ hk2
  have hfit' : (s.vm.noted f.method.cls x.catchType (.cls cC)).assignable cell.cls cC = true := by rw [hal.assignable]; exact hfit
  simp [findHandler.go, hx, h0, ha, ht, hcell, hobj, hk1', hk2', hfit', VmOp.dirties, VmOp.acts]
theorem tx_skip {s : State} {e : Env} {f : JFrame} {a : Nat} {x : ExceptionTableEntry} {rest : List ExceptionTableEntry} {vm' : Vm} {h : Handler} (hx : ∀ (Qh : Handler → Pre) (E : CtlPost) (d : Bool) (acts : List Action), wp (findHandler.go f a (x :: rest)) Qh E e d acts s ↔ Qh h d acts (s.setVm vm')) : ∀ pre : List ExceptionTableEntry, (∀ y ∈ pre, covers y f.pc = false) → ∀ (Qh : Handler → Pre) (E : CtlPost) (d : Bool) (acts : List Action), wp (findHandler.go f a (pre ++ x :: rest)) Qh E e d acts s ↔ Qh h d acts (s.setVm vm') := by
  intro pre
  induction pre with
  | nil => intro _; exact hx
  | cons y ys ih =>
    intro hs Qh E d acts
    rw [List.cons_append, W.findHandler_go_skip (hs y List.mem_cons_self)]
    exact ih (fun z hz => hs z (List.mem_cons_of_mem _ hz)) Qh E d acts
set_option maxHeartbeats 4000000 in
theorem tx_catch {pc a i s0 e0 hp ct : Nat} {ls : Array Slot} {st : List Value} {hs : List (Nat × Nat × Nat × Nat)} {own name : String} (htab : c.exceptionTable.toList.map (fun h => (h.startPc, h.endPc, h.handlerPc, h.catchType)) = hs) (hi : hs[i]? = some (s0, e0, hp, ct)) (hpre : ((hs.take i).all fun q => !(decide (q.1 ≤ pc) && decide (pc < q.2.1))) = true) (hin : s0 ≤ pc ∧ pc < e0) (h0 : ct ≠ 0)
    (hown : s.vm.findClass own = some m.cls) (hlink : (Cond.classLink own ct name).before args s = true) (hr : ∃ cell : Cell, H[a]? = some cell ∧ cell.vm.isStatics = false ∧ ClassAt s name cell.cls) (k : W p l e R s m args below meth c H locs cells slots Q (F0 m hp ls [.ref a])) : Thr p l e R s m args below meth c H locs cells slots Q (F0 m pc ls st) a := by
  intro T hT X
  obtain ⟨cell, hcell, hobj, hca⟩ := hr
  have hcls := hca.1
  rw [← hT] at hcell
  have hi2 : ∃ x, c.exceptionTable.toList[i]? = some x ∧ (x.startPc, x.endPc, x.handlerPc, x.catchType) = (s0, e0, hp, ct) := by
    rw [← htab, List.getElem?_map] at hi
    cases hx : c.exceptionTable.toList[i]? with
    | none => rw [hx] at hi; cases hi
    | some x => rw [hx] at hi; exact ⟨x, rfl, Option.some.inj hi⟩
  obtain ⟨x, hx, hxe⟩ := hi2
  simp only [Prod.mk.injEq] at hxe
  obtain ⟨e1, e2, e3, e4⟩ := hxe
  have hsplit : c.exceptionTable.toList = c.exceptionTable.toList.take i ++ x :: c.exceptionTable.toList.drop (i + 1) := by
    obtain ⟨hlt, hget⟩ := List.getElem?_eq_some_iff.mp hx
    rw [← hget, List.getElem_cons_drop, List.take_append_drop]
  have hskip : ∀ y ∈ c.exceptionTable.toList.take i, covers y pc = false := by
    intro y hy
    have h1 : (y.startPc, y.endPc, y.handlerPc, y.catchType) ∈ hs.take i := by
      rw [← htab, ← List.map_take]
      exact List.mem_map.mpr ⟨y, hy, rfl⟩
    have h2 := List.all_eq_true.mp hpre _ h1
    simp only [Bool.not_eq_true'] at h2
    exact h2
  have hcov : covers x pc = true := by simp only [covers, e1, e2, Bool.and_eq_true, decide_eq_true_eq]; exact hin
  have hpl : e.platform.magicAccessors = ({} : Platform).magicAccessors := by rw [X.admits.platform]
  obtain ⟨c', hc', hcl⟩ := Cond.classLink_spec hown hlink e.platform hpl
  cases hcls.symm.trans hc'
  obtain ⟨dk, _, _, kt, hd, _, _, _, _, hkt, _, hopen⟩ := hcl.here
  have hcl₀ := X.warmed.classLinks hcl
  have hW' : s.WarmedH (T.vm.noted m.cls ct (.cls cell.cls)) := X.warmed.noted hd hopen (State.rightAt_cls hcl)
  obtain ⟨kt', hkt', -⟩ := X.warmed.alike.2.2 _ _ hkt
  have hfit' : T.vm.assignable cell.cls cell.cls = true := by rw [X.warmed.alike.assignable]; exact va_assign hca
  obtain ⟨t, a1, b1⟩ := k (T.setVm (T.vm.noted m.cls ct (.cls cell.cls))) hT (X.noted hW')
  refine ⟨t, ?_, b1⟩
  have hfind : ∀ (Qh : Handler → Pre) (E : CtlPost) (d : Bool) (acts : List Action), wp (findHandler (F0 m pc ls st) a) Qh E e d acts ((T.setTop (F0 m pc ls st)).pushFrame (.throwing a)) ↔ Qh (.found hp) d acts (((T.setTop (F0 m pc ls st)).pushFrame (.throwing a)).setVm (T.vm.noted m.cls ct (.cls cell.cls))) := by
    intro Qh E d acts
    rw [W.findHandler_eq (s := (T.setTop (F0 m pc ls st)).pushFrame (.throwing a)) (f := F0 m pc ls st) (meth := meth) (code := c) X.method' X.code, hsplit]
    subst e3; subst e4
    exact tx_skip (fun Qh E d acts => tx_find (s := (T.setTop (F0 m pc ls st)).pushFrame (.throwing a)) (f := F0 m pc ls st) hcov h0 hcl₀ hcell (VmData.ne_statics_of hobj) ⟨kt', hkt'⟩ ⟨kt', hkt'⟩ hfit' Qh E d acts) _ hskip Qh E d acts
  obtain ⟨hgo, hw⟩ := X.here.throwing a (g := F0 m pc ls st)
  refine Steps.head hgo hw ?_
  have hstep : (stepThrowing e ((T.setTop (F0 m pc ls st)).pushFrame (.throwing a)) a (.java (F0 m pc ls st) :: T.frames.tail)).Is ((((T.setTop (F0 m pc ls st)).pushFrame (.throwing a)).setVm (T.vm.noted m.cls ct (.cls cell.cls))).setFrames (.java { (F0 m pc ls st) with pc := hp, stack := [.ref a] } :: T.frames.tail)) [] := by
    simp only [stepThrowing, searchFrame, vmDo]
    generalize hr : Sem.go _ e false [] _ = res
    obtain ⟨as, rfl, ha⟩ := Sem.eq_ok_of hr (a := Handler.found hp) (s' := ((T.setTop (F0 m pc ls st)).pushFrame (.throwing a)).setVm (T.vm.noted m.cls ct (.cls cell.cls))) (acts' := []) (by simp [hfind _ _ _ _])
    exact ⟨rfl, ha⟩
  rw [stepThread_throwing (frames_entered X.here.top _), hstep.1]
  obtain ⟨g₀, hg⟩ := Option.isSome_iff_exists.mp X.here.top
  obtain ⟨r, hr⟩ := State.topJava?_eq_some.mp hg
  have hr' : (T.setVm (T.vm.noted m.cls ct (.cls cell.cls))).frames = .java g₀ :: r := hr
  rw [State.setTop_of_frames _ hr'] at a1
  have hfin : ((((T.setTop (F0 m pc ls st)).pushFrame (.throwing a)).setVm (T.vm.noted m.cls ct (.cls cell.cls))).setFrames (.java { (F0 m pc ls st) with pc := hp, stack := [.ref a] } :: T.frames.tail)) = (T.setVm (T.vm.noted m.cls ct (.cls cell.cls))).setFrames (.java (F0 m hp ls [.ref a]) :: r) := by
    rw [hr, List.tail_cons, State.pushFrame, State.setTop_of_frames _ hr]
    have q1 : ∀ (u : State) (vm' : Vm) (F G : List Frame), ((u.setFrames F).setVm vm').setFrames G = (u.setVm vm').setFrames G := fun u vm' F G => by
      have : (u.setFrames F).setVm vm' = (u.setVm vm').setFrames F := rfl
      rw [this, State.setFrames_setFrames]
    rw [q1, q1]
  rw [hfin]
  exact a1
end TX
