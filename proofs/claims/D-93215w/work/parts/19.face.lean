/-! A CALL THROUGH AN INTERFACE THAT LANDS IN A DEFAULT METHOD -/
set_option maxRecDepth 100000
theorem ld_spec {args : Array Value} {s : State} {C : String} {x y : MethodName} (h : (Cond.landsInDefault C x y).before args s = true) : ∃ c r m, s.vm.findClass C = some c ∧ s.methodFound? x.cls x.name x.desc = some r ∧ s.methodNamed? y = some m ∧ selectMethod {} s.vm c r = .method m := by
  simp only [Cond.before, Cond.holds, Cond.value] at h
  cases hc : s.vm.findClass C with
  | none => simp [hc] at h
  | some c =>
  cases hr : s.methodFound? x.cls x.name x.desc with
  | none => simp [hc, hr] at h
  | some r =>
  cases hm : s.methodNamed? y with
  | none => simp [hc, hr, hm] at h
  | some m =>
  cases hrm : s.vm.method? r with
  | none => simp [hc, hr, hm, hrm] at h
  | some rm =>
  simp only [hc, hr, hm, hrm, Option.map_some, beq_iff_eq, Option.some.injEq] at h
  split at h
  · rename_i m' hsel
    simp only [Bool.and_eq_true, decide_eq_true_eq] at h
    refine ⟨c, r, m, rfl, rfl, rfl, ?_⟩
    rw [hsel]
    obtain ⟨⟨⟨⟨h1, -⟩, -⟩, -⟩, -⟩ := h
    rw [h1]
  · cases h
theorem steps_wk {tb : Tables} {e : Env} {f : Frame} {below : List Frame} {a b : State} (h : Steps tb e (f :: below) a b) : Steps tb e below a b := by
  obtain ⟨n, h1, h2⟩ := h
  exact ⟨n, h1, fun j hj => Within.weaken (mid := [f]) (h2 j hj)⟩
/-- a method's body, without the word that its class has been initialised -/
def CtB (V : Mod) (y : MethodName) (cc : ByteArray) (nL : Nat) (ret : Option FieldType) (rm : Room) (av : List Value) (σ : Mem) (O : Outcome) (σ' : Mem) : Prop :=
  ∀ Θ, Cx Θ V cc nL y.cls rm ret [] false O σ' → ∀ ls : Array Slot, lv_has ls nL (lv_args 0 av) → Θ σ 0 0 0 ls []
section FD
variable {γ : Type} {Θ : ThT Mem} {V : Mod} {cc : ByteArray} {nL : Nat} {own : String} {rm : Room} {ret : Option FieldType} {hs : List (Nat × Nat × Nat × Nat)} {ini : Bool} {O : Outcome} {σ' : Mem} {ρ : γ} {σ : Mem} {F : Option γ} {cs : Nat × Nat} {pc : Nat} {lv : List (Nat × Value)} {st : List Value}
variable {v1 : Option Value} {σ1 : Mem} {x y : MethodName} {bytes : ByteArray} {maxL n a index ci : Nat} {rc : Option FieldType} {rmc : Room} {As rest stk : List Value} {q : vw_C}
set_option maxHeartbeats 4000000 in
theorem s_callFD (hc : Cx Θ V cc nL own rm ret hs ini O σ') {count : Nat}
    (hM : CtB V y bytes maxL rc rmc (.ref (vO V + a) :: As) σ (.returned v1) σ1) (hpl : plainName y.cls = true) (hnl : (lg_sl (.ref (vO V + a) :: As)).length ≤ maxL) (q1 : Cond.methodLink own index x ∈ lw_all) (q2 : Cond.instanceMethod y ∈ lw_all) (q3 : Cond.code y bytes maxL rc ∈ lw_all)
    (hv : ∀ U, vE V U → va_Nw (.landsInDefault q.1 x y) U ∧ va_Nw (.declares x) U ∧ va_Nw (.interfaceMethod x.cls x.cls x.name x.desc) U ∧ va_Nw (.publicMethod y) U ∧ va_Nw (.unhidden q.1 x.name x.desc) U ∧ va_Nw (.castable q.1 x.cls) U)
    (hd0 : x.cls ≠ "java/lang/invoke/MethodHandle" ∧ x.cls ≠ "java/lang/invoke/VarHandle" ∧ (parseMethodDescriptor x.desc).map (fun d => d.parameters.length) = some n)
    (hcl : (vCl V)[ci]? = some q) (hob : Ob V σ a ci) (hn : As.length = n) (hstk : stk = As.reverse ++ .ref (vO V + a) :: rest) (hrest : (rest.map fun v => v.category).sum ≤ 8)
    (hR : rmc.frames + 1 ≤ rm.frames ∧ 8 + (maxL + 11) + rmc.locals ≤ rm.locals) (hf : cs.1 + rmc.cells ≤ rm.cells ∧ cs.2 + rmc.slots ≤ rm.slots) (hd : decode cc pc = .ok (.invokeinterface index count, 5))
    (kk : Sim Θ nL ρ σ1 F (cs.1 + rmc.cells, cs.2 + rmc.slots) (pc + 5) lv (v1.toList ++ rest)) : Sim Θ nL ρ σ F cs pc lv stk := by
  subst hstk
  refine s_run5 hc (fun p l e s m args below meth c H locs ls S hK hW hl => ⟨(.ref (vO V + a) :: As).toArray, ?_⟩) kk
  obtain ⟨hx, hb, hml, ho, hts⟩ := S
  obtain ⟨w1, w2, w3, w4, w5, w6⟩ := hv s hK.here
  have hdecl : (Cond.declares x).before args s = true := va_Nw.use rfl w2
  have hface : (Cond.interfaceMethod x.cls x.cls x.name x.desc).before args s = true := va_Nw.use rfl w3
  have hpub : (Cond.publicMethod y).before args s = true := va_Nw.use rfl w4
  have hunh : (Cond.unhidden q.1 x.name x.desc).before args s = true := va_Nw.use rfl w5
  have hcast : (Cond.castable q.1 x.cls).before args s = true := va_Nw.use rfl w6
  obtain ⟨cellB, hcell, hobj, hcls⟩ := hob.recv hK.1 hW hcl
  obtain ⟨-, kB, hkB, -⟩ := (hK.1.1 ci q hcl).2
  have ecB : (vD V).1 ci = cellB.cls := Option.some.inj ((hK.1.1 ci q hcl).2.1.symm.trans hcls)
  rw [ecB] at hkB
  intro T hT X
  obtain ⟨r0, r, hnn, hrm, hstR, hsigR⟩ := Cond.declares_spec hdecl
  obtain ⟨cL, kL, r1, hcL, hkL, hiL, hfoundL, hn1⟩ := Cond.interfaceMethod_spec hface
  cases hnn.symm.trans hn1
  have hr0cls : r0.cls = cL := Option.some.inj ((findClass_of_methodNamed hnn).symm.trans hcL)
  obtain ⟨hnameR, hdescR⟩ := name_of_methodNamed hnn hrm
  obtain ⟨mk, methM, hnamed, hmethM, -, habM⟩ := Cond.instanceMethod_spec (hts _ q2)
  obtain ⟨c2, r2, m2, e1, e2, e3, e4⟩ := ld_spec w1
  cases hcls.symm.trans e1
  cases hfoundL.symm.trans e2
  cases hnamed.symm.trans e3
  have hselP : selectMethod e.platform s.vm cellB.cls r0 = .method mk := by rw [Launch.admits_selectMethod X.admits]; exact e4
  have hpubM : hasFlag methM.accessFlags Acc.public_ = true := Cond.publicMethod_spec hnamed hmethM hpub
  have hway : ((cellB.cls :: s.vm.superclasses cellB.cls).any fun k => (declaredIn s.vm r.name r.desc k).any fun (_, z) => z.isPrivate || z.isStatic) = false := by
    rw [hnameR, hdescR]; exact Cond.unhidden_spec hcls hunh
  obtain ⟨c3, t3, f1, f2, f3⟩ := Cond.castable_spec hcast
  cases hcls.symm.trans f1
  cases hcL.symm.trans f2
  have hlen : ∀ sig, parseMethodDescriptor x.desc = some sig → As.length = sig.parameters.length := fun sig h => by
    have h2 := hd0.2.2
    rw [h] at h2
    exact hn.trans (Option.some.inj h2).symm
  obtain ⟨vm₁, X₁, hstep₁⟩ := X.invokeinterface hx ho (hts _ q1) hnn hrm hstR (by rw [hr0cls]; exact hkL) hiL ⟨hd0.1, hd0.2.1⟩ (a := vO V + a) (cell := cellB) (kcell := kB) (by rw [hT]; exact hcell)
    (fun z h => by rw [h] at hobj; cases hobj) hkB (by rw [hr0cls]; exact f3) hselP hmethM hway hpubM habM (g := F0 m pc ls (As.reverse ++ .ref (vO V + a) :: rest)) rfl (argsL := As) (rest := rest) (hlen _ hsigR) rfl (by rw [hb]; exact hd)
  have hnT := X₁.named hnamed
  have hwsU : ∀ w ∈ ws_ y bytes maxL rc, w.before (Value.ref (vO V + a) :: As).toArray (T.setVm vm₁) = true := fun w hw => pay_in hts (lw_meth q3) w hw _ _ X₁.warmed
  obtain ⟨methY, cY, hmY, hcY, hbY, hlY, hrY, hlkY, heY, -⟩ := Cond.code_spec hnT (hwsU _ List.mem_cons_self)
  have h8 : 2 * (F0 m pc ls rest).monitorRoom + ((F0 m pc ls rest).stack.map fun v => v.category).sum ≤ 8 := lv_room hrest
  obtain ⟨Y, hent⟩ := X₁.into (g := F0 m pc ls rest) rfl (hl.1.trans hml.symm) (by rw [hb]; exact hd) (Value.ref (vO V + a) :: As).toArray (R' := rmc) hmY hcY hlkY (State.plainMethod.of_named (plainFor_of_name hpl) hnT hmY) hR.1 (by rw [hlY]; omega) hf.1 hf.2
  obtain ⟨-, hWc, hKc⟩ := Ct.blind (V := V) (σ := σ) _ (T.setVm vm₁) (F0 m pc ls rest) mk ⟨rfl, by show Wd V σ T.heap; rw [hT]; exact hW, hK.warm X₁.warmed⟩
  have hcx : Cx (Th p l e rmc ((T.setVm vm₁).calling (F0 m pc ls rest) mk (Value.ref (vO V + a) :: As).toArray) mk (Value.ref (vO V + a) :: As).toArray (.java (F0 m pc ls rest) :: below) methY cY (MQT (.java (F0 m pc ls rest) :: below) (Qo V (.returned v1) σ1) (Value.ref (vO V + a) :: As).toArray ((T.setVm vm₁).calling (F0 m pc ls rest) mk (Value.ref (vO V + a) :: As).toArray) rmc.cells rmc.slots (AA V)) (Wd V) (AA V)) V bytes maxL y.cls rmc rc [] false (.returned v1) σ1 :=
    ⟨p, l, e, _, mk, _, _, methY, cY, _, rfl, hx, hbY, hlY, findClass_of_methodNamed (s := T.setVm vm₁) hnT, fun w hw => by rw [State.calling_eq X₁.here.top, Cond.before_setFrames]; exact hwsU w (List.mem_cons_of_mem _ hw), hKc, hrY, hlkY, by rw [List.map_eq_nil_iff, Array.toList_eq_nil_iff]; exact Array.isEmpty_iff.mp heY, fun t h => h, fun h => by cases h⟩
  obtain ⟨t, a1, o, b1, b2, ⟨b3, b4, b5⟩, L, b6, b7⟩ := hM _ hcx _ (lv_entry _ (n := maxL) hnl) _ [] hWc va_S.rf _ (by simp [State.calling, State.pushFrame, State.setFrames, State.setTop, State.modifyTopJava]) Y
  cases b3
  obtain ⟨T', X', -, -, ht⟩ := X₁.outOf (g := F0 m pc ls rest) rfl (by rw [hb]; exact hd) b2 b6.1 b6.2
  have hh1 : T'.heap = t.heap := by rw [ht]; simp [State.setTop, State.modifyTopJava, State.setFrames]
  have hh2 : T'.vm = t.vm := by rw [ht]; simp [State.setTop, State.modifyTopJava, State.setFrames]
  refine ⟨v1, (T.setVm vm₁).calling (F0 m pc ls rest) mk (Value.ref (vO V + a) :: As).toArray, t, T', L, hT, X', b7, hh1, hh2, ⟨rfl, b4, b5⟩, fun target h => hstep₁ _ fun acts => ?_⟩
  rw [hent acts]
  rw [lg_entry_eq, hlY]
  rw [lg_entry_eq, hlY] at a1
  exact (steps_wk a1).trans (by rw [ht]; exact h)
end FD
