/-! GENERIC LAYER: memory of a module, worlds, the judgement Sim, rows of the stack instructions -/
set_option maxRecDepth 100000
abbrev Mem : Type := (Nat → Nat → Int32) × (Nat → Nat → Int64) × (Nat → Nat → Option Nat) × (Nat → Option va_E) × Nat
def gI (σ : Mem) (c i : Nat) : Int32 := σ.1 c i
def gL (σ : Mem) (c i : Nat) : Int64 := σ.2.1 c i
def gR (σ : Mem) (c i : Nat) : Option Nat := σ.2.2.1 c i
def gC (σ : Mem) (a : Nat) : Option va_E := σ.2.2.2.1 a
def gN (σ : Mem) : Nat := σ.2.2.2.2
def pI (σ : Mem) (c i : Nat) (v : Int32) : Mem := (fun c' i' => if c' = c ∧ i' = i then v else σ.1 c' i', σ.2)
def pL (σ : Mem) (c i : Nat) (v : Int64) : Mem := (σ.1, fun c' i' => if c' = c ∧ i' = i then v else σ.2.1 c' i', σ.2.2)
def pR (σ : Mem) (c i : Nat) (v : Option Nat) : Mem := (σ.1, σ.2.1, fun c' i' => if c' = c ∧ i' = i then v else σ.2.2.1 c' i', σ.2.2.2)
def pC (σ : Mem) (a : Nat) (v : va_E) : Mem := (σ.1, σ.2.1, σ.2.2.1, fun a' => if a' = a then some v else σ.2.2.2.1 a', σ.2.2.2.2)
/-- a new dynamic cell, at the heap's end -/
def nC (σ : Mem) (v : va_E) : Mem := (σ.1, σ.2.1, σ.2.2.1, fun a' => if a' = σ.2.2.2.2 then some v else σ.2.2.2.1 a', σ.2.2.2.2 + 1)
def ix (i : Int32) : Nat := i.toNatClampNeg
def inb (i : Int32) (n : Nat) : Bool := !(decide (i < 0)) && decide (i.toNatClampNeg < n)
def gb {α : Type} (b : Bool) (k : Option α) : Option α := match b with
  | true => k
  | false => none
def lt_ {α β : Type} (v : α) (k : α → β) : β := k v
def lp {S T : Type} (b : (S → Option T) → S → Option T) : Nat → S → Option T
  | 0 => fun _ => none
  | n + 1 => fun s => b (lp b n) s
theorem inb_spec {i : Int32} {n : Nat} (h : inb i n = true) : vp_in i n := by
  simp only [inb, Bool.and_eq_true, Bool.not_eq_true', decide_eq_false_iff_not, decide_eq_true_eq] at h
  intro q
  rcases q with q | q
  · exact h.1 q
  · omega
theorem gb_some {α : Type} {b : Bool} {k : Option α} {r : α} (h : gb b k = some r) : b = true ∧ k = some r := by
  cases b with
  | true => exact ⟨rfl, h⟩
  | false => cases h
abbrev Mod : Type := va_G × List vw_C × List (ClassId × FieldType) × (Nat → (Nat → Int32) → (Nat → Int64) → (Nat → Option Nat) → va_E) × Nat × Nat × Nat × (Nat → Option Cell) × (State → Prop)
def vD (V : Mod) : va_G := V.1
def vCl (V : Mod) : List vw_C := V.2.1
def vT (V : Mod) : List (ClassId × FieldType) := V.2.2.1
def vY (V : Mod) : Nat → (Nat → Int32) → (Nat → Int64) → (Nat → Option Nat) → va_E := V.2.2.2.1
def vK (V : Mod) : Nat := V.2.2.2.2.1
def vO (V : Mod) : Nat := V.2.2.2.2.2.1
def vZ (V : Mod) : Nat := V.2.2.2.2.2.2.1
def vF (V : Mod) : Nat → Option Cell := V.2.2.2.2.2.2.2.1
def vE (V : Mod) : State → Prop := V.2.2.2.2.2.2.2.2
/-- references are kept relative to the module's first cell -/
def rv (o : Nat) (v : Value) : Value := match v with
  | .ref r => .ref (o + r)
  | v => v
def vA (V : Mod) (t : Nat) : ClassId := ((vT V)[t]?.getD (0, .int)).1
def dE (V : Mod) (e : va_E) : va_E := match e with
  | .inl (t, x) => .inl (vA V t, x)
  | .inr (c, fs) => .inr (c, fs.map (rv (vO V)))
def Wd (V : Mod) (σ : Mem) (H : Heap) : Prop := (∀ k, k < vK V → va_at (vD V) (vCl V) (vO V + k, vY V k (σ.1 k) (σ.2.1 k) (σ.2.2.1 k)) H) ∧ (∀ a e, σ.2.2.2.1 a = some e → vZ V ≤ a ∧ va_at (vD V) (vCl V) (vO V + a, dE V e) H) ∧ H.size = vO V + σ.2.2.2.2 ∧ vK V ≤ vZ V ∧ vZ V ≤ σ.2.2.2.2 ∧ ∀ q cell, vF V q = some cell → q < vO V ∧ H[q]? = some cell
def KK (V : Mod) (s : State) : Prop := va_K (vD V) (vCl V) (vT V) s ∧ ∀ U : State, s.WarmedH U.vm → vE V U
theorem KK.warm {V : Mod} {s U : State} (h : KK V s) (hW : s.WarmedH U.vm) : KK V U := ⟨va_K.moved hW.alike h.1, fun U' h' => h.2 U' (State.WarmedH.trans hW h')⟩
theorem KK.here {V : Mod} {s : State} (h : KK V s) : vE V s := h.2 s (State.WarmedH.refl s)
def AA (V : Mod) : Nat → Prop := fun q => (vO V ≤ q ∧ q < vO V + vK V) ∨ vO V + vZ V ≤ q
abbrev ThT (Sg : Type) : Type := Sg → Nat → Nat → Nat → Array Slot → List Value → Prop
def Th {Sg : Type} (p : Program) (l : Launch) (e : Env) (R : Room) (s : State) (m : MethodId) (args : Array Value) (below : List Frame) (meth : Method) (c : Code) (Q : State → Prop) (WW : Sg → Heap → Prop) (A : Nat → Prop) : ThT Sg :=
  fun σ cells slots pc ls st => ∀ (H : Heap) (locs : List Loc), WW σ H → va_S A s.heap H locs → W p l e R s m args below meth c H locs cells slots Q (F0 m pc ls st)
/-- the walk's fixed part, hidden: the machine, the code, the words -/
def Cx0 {Sg : Type} (Θ : ThT Sg) (cc : ByteArray) (nL : Nat) (own : String) : Prop :=
  ∃ p l e R s m args below meth c Q WW A, Θ = Th p l e R s m args below meth c Q WW A ∧ p.tables.exec = Jvm.exec ∧ c.code = cc ∧ c.maxLocals = nL ∧ s.vm.findClass own = some m.cls ∧ ∀ w ∈ lw_all, w.before args s = true
def Qo (V : Mod) (O : Outcome) (σ' : Mem) : Array Value → State → Outcome → State → Prop := fun _ st oc t => oc = O ∧ Wd V σ' t.heap ∧ va_F (AA V) st t
/-- a method's end, whether it returns or throws -/
def EndT (st t : State) (L : List Loc) (mc ms : Nat) : Prop := st.WarmedH t.vm ∧ st.sameButNew ({ t with vm := st.vm } : State) L mc ms
def MQT (below : List Frame) (Qc : Array Value → State → Outcome → State → Prop) (a : Array Value) (s : State) (mc ms : Nat) (free : Addr → Prop) : State → Prop := fun t =>
  ∃ o, t.status = .running ∧ Ended t below o ∧ Qc a s o t ∧ ∃ L, EndT s t L mc ms ∧ ∀ q ∈ L, free q.base
theorem MQ.toT {below : List Frame} {Qc : Array Value → State → Outcome → State → Prop} {a : Array Value} {s : State} {mc ms : Nat} {free : Addr → Prop} {t : State} (h : MQ below Qc a s mc ms free t) : MQT below Qc a s mc ms free t := by
  obtain ⟨o, h1, h2, h3, L, h4, h5⟩ := h
  exact ⟨o, h1, h2, h3, L, h4.2, h5⟩
theorem W.mono {p : Program} {l : Launch} {e : Env} {R : Room} {s : State} {m : MethodId} {args : Array Value} {below : List Frame} {meth : Method} {c : Code} {H : Heap} {locs : List Loc} {cells slots : Nat} {Q Q' : State → Prop} {g : JFrame} (h : ∀ t, Q t → Q' t) (w : W p l e R s m args below meth c H locs cells slots Q g) : W p l e R s m args below meth c H locs cells slots Q' g := by
  intro T hT X
  obtain ⟨t, a, b⟩ := w T hT X
  exact ⟨t, a, h t b⟩
/-- the same for a method of a module: its world, its room, its answer -/
def Cx (Θ : ThT Mem) (V : Mod) (cc : ByteArray) (nL : Nat) (own : String) (rm : Room) (ret : Option FieldType) (hs : List (Nat × Nat × Nat × Nat)) (ini : Bool) (O : Outcome) (σ' : Mem) : Prop :=
  ∃ p l e s m args below meth c Q, Θ = Th p l e rm s m args below meth c Q (Wd V) (AA V) ∧ p.tables.exec = Jvm.exec ∧ c.code = cc ∧ c.maxLocals = nL ∧ s.vm.findClass own = some m.cls ∧ (∀ w ∈ lw_all, w.before args s = true) ∧ KK V s ∧ meth.sig.returnType = ret ∧ meth.locks = false ∧
    c.exceptionTable.toList.map (fun h => (h.startPc, h.endPc, h.handlerPc, h.catchType)) = hs ∧ (∀ t, MQT below (Qo V O σ') args s rm.cells rm.slots (AA V) t → Q t) ∧ (ini = true → meth.name = "<init>")
theorem Cx.z {Θ : ThT Mem} {V : Mod} {cc : ByteArray} {nL : Nat} {own : String} {rm : Room} {ret : Option FieldType} {hs : List (Nat × Nat × Nat × Nat)} {ini : Bool} {O : Outcome} {σ' : Mem} (h : Cx Θ V cc nL own rm ret hs ini O σ') : Cx0 Θ cc nL own := by
  obtain ⟨p, l, e, s, m, args, below, meth, c, Q, e1, e2, e3, e4, e5, e6, -⟩ := h
  exact ⟨p, l, e, _, s, m, args, below, meth, c, _, _, _, e1, e2, e3, e4, e5, e6⟩
def Sim {Sg γ : Type} (Θ : ThT Sg) (nL : Nat) (ρ : γ) (σ : Sg) (F : Option γ) (cs : Nat × Nat) (pc : Nat) (lv : List (Nat × Value)) (st : List Value) : Prop :=
  F = some ρ → ∀ ls : Array Slot, lv_has ls nL lv → Θ σ cs.1 cs.2 pc ls st
/-- a contract: from the world σ, the answer O (returned or thrown) and the world σ' -/
def CtW (ws : List Cond) (V : Mod) (l : Launch) (y : MethodName) (rm : Room) (av : List Value) (σ : Mem) (O : Outcome) (σ' : Mem) : Prop :=
  MetFree l y (headSpec ws rm) (va_Pc av (fun U => Wd V σ U.heap ∧ KK V U)) (fun _ _ _ _ _ => True) (fun a st o t => Qo V O σ' a st o t ∧ ∃ L, EndT st t L rm.cells rm.slots ∧ ∀ q ∈ L, AA V q.base)
abbrev Ct (V : Mod) (l : Launch) (y : MethodName) (cc : ByteArray) (nL : Nat) (ret : Option FieldType) (rm : Room) (av : List Value) (σ : Mem) (O : Outcome) (σ' : Mem) : Prop := CtW (ws_ y cc nL ret) V l y rm av σ O σ'
/-- one that returns, in the kit's form -/
theorem CtW.met {ws : List Cond} {V : Mod} {l : Launch} {y : MethodName} {rm : Room} {av : List Value} {σ : Mem} {v : Option Value} {σ' : Mem} (h : CtW ws V l y rm av σ (.returned v) σ') : Met l y ws rm (va_Pc av (fun U => Wd V σ U.heap ∧ KK V U)) (Qo V (.returned v) σ') rm.cells rm.slots (AA V) := by
  intro p e ha hc hk s m args below hf happ hP hK
  obtain ⟨n, o, h1, h2, h3, h4, L, h5, h6⟩ := h p e ha hc hk s m args below hf happ hP hK
  exact ⟨n, o, h1, h2, h3, h4, L, ⟨⟨v, h4.1⟩, h5⟩, h6⟩
set_option maxHeartbeats 4000000 in
theorem Ct.ofFI (ini : Bool) {V : Mod} {l : Launch} {y : MethodName} {cc : ByteArray} {nL : Nat} {ret : Option FieldType} {rm : Room} {av : List Value} {σ : Mem} {O : Outcome} {σ' : Mem} (hy : plainFor y = true) (hi : ini = true → y.name = "<init>") (hn : (lg_sl av).length ≤ nL)
    (body : ∀ Θ, Cx Θ V cc nL y.cls rm ret [] ini O σ' → ∀ ls : Array Slot, lv_has ls nL (lv_args 0 av) → Θ σ 0 0 0 ls []) : Ct V l y cc nL ret rm av σ O σ' := by
  refine MetFree.of_bodySF (code := cc) (maxLocals := nL) (ret := ret) hy ?_ ?_
  · intro args s m h hn
    obtain ⟨meth, c, h1, h2, h3, h4, h5, h6, -, -⟩ := Cond.code_spec hn (atoms_spec (ws := ws_ y cc nL ret) h _ List.mem_cons_self)
    exact ⟨meth, c, h1, h2, h3, h4, h5, h6⟩
  · intro p e s m args below meth c s₁ B hml hv _
    obtain ⟨rfl, hW, hK⟩ := hv
    have hts0 := atoms_spec (ws := ws_ y cc nL ret) B.pre
    have hts : ∀ w ∈ lw_all, w.before _ s = true := fun w h => hts0 w (List.mem_cons_of_mem _ h)
    have hl := lv_entry av (n := nL) hn
    have hnoh := B.noHandlers (hts0 _ List.mem_cons_self)
    have hh0 : s₁.heap = s.heap := by rw [B.state]; rfl
    rw [lg_entry_eq]
    obtain ⟨t, a1, o, b1, b2, b3⟩ := body _ ⟨p, l, e, s, m, _, below, meth, c, MQT below (Qo V O σ') av.toArray s rm.cells rm.slots (AA V), rfl, B.exec, B.bytes, hml, findClass_of_methodNamed B.named, hts, hK, B.returns, B.notSynchronized, by rw [List.map_eq_nil_iff, Array.toList_eq_nil_iff]; exact Array.isEmpty_iff.mp hnoh, fun t h => h, fun h => (name_of_methodNamed B.named B.method).1.trans (hi h)⟩ _ hl s.heap [] hW va_S.rf s₁ hh0 (Stand.of_body B)
    exact ⟨t, o, a1, b1, b2, b3⟩
theorem Ct.of {V : Mod} {l : Launch} {y : MethodName} {cc : ByteArray} {nL : Nat} {ret : Option FieldType} {rm : Room} {av : List Value} {σ : Mem} {O : Outcome} {σ' : Mem} (hy : plainName y.cls = true) (hn : (lg_sl av).length ≤ nL)
    (body : ∀ Θ, Cx Θ V cc nL y.cls rm ret [] false O σ' → ∀ ls : Array Slot, lv_has ls nL (lv_args 0 av) → Θ σ 0 0 0 ls []) : Ct V l y cc nL ret rm av σ O σ' := Ct.ofFI false (plainFor_of_name hy) (fun h => by cases h) hn body
set_option maxHeartbeats 4000000 in
/-- the same for a method with handlers -/
theorem CtW.ofH {V : Mod} {l : Launch} {y : MethodName} {cc : ByteArray} {nL : Nat} {ret : Option FieldType} {hs : List (Nat × Nat × Nat × Nat)} {rm : Room} {av : List Value} {σ : Mem} {O : Outcome} {σ' : Mem} (hy : plainName y.cls = true) (hn : (lg_sl av).length ≤ nL)
    (body : ∀ Θ, Cx Θ V cc nL y.cls rm ret hs false O σ' → ∀ ls : Array Slot, lv_has ls nL (lv_args 0 av) → Θ σ 0 0 0 ls []) : CtW (wsW_ y cc nL ret hs) V l y rm av σ O σ' := by
  refine MetFree.of_bodyS (code := cc) (maxLocals := nL) (ret := ret) hy ?_ ?_
  · intro args s m h hn
    obtain ⟨m9, meth, c, hn9, h1, h2, h3, h4, -, h5, h6, -⟩ := Cond.codeWith_spec (atoms_spec (ws := wsW_ y cc nL ret hs) h _ List.mem_cons_self)
    cases hn.symm.trans hn9
    exact ⟨meth, c, h1, h2, h3, h4, h5, h6⟩
  · intro p e s m args below meth c s₁ B hml hv _
    obtain ⟨rfl, hW, hK⟩ := hv
    have hts0 := atoms_spec (ws := wsW_ y cc nL ret hs) B.pre
    have hts : ∀ w ∈ lw_all, w.before _ s = true := fun w h => hts0 w (List.mem_cons_of_mem _ h)
    have hl := lv_entry av (n := nL) hn
    obtain ⟨m9, meth9, c9, hn9, hm9, hc9, -, -, htab, -, -, -⟩ := Cond.codeWith_spec (hts0 _ List.mem_cons_self)
    cases B.named.symm.trans hn9
    cases B.method.symm.trans hm9
    cases (Stand.of_body B).code.symm.trans hc9
    have hh0 : s₁.heap = s.heap := by rw [B.state]; rfl
    rw [lg_entry_eq]
    obtain ⟨t, a1, o, b1, b2, b3⟩ := body _ ⟨p, l, e, s, m, _, below, meth, c, MQT below (Qo V O σ') av.toArray s rm.cells rm.slots (AA V), rfl, B.exec, B.bytes, hml, findClass_of_methodNamed B.named, hts, hK, B.returns, B.notSynchronized, htab, fun t h => h, fun h => by cases h⟩ _ hl s.heap [] hW va_S.rf s₁ hh0 (Stand.of_body B)
    exact ⟨t, o, a1, b1, b2, b3⟩
section SIMR
variable {Sg γ : Type} {Θ : ThT Sg} {cc : ByteArray} {nL : Nat} {own : String} {ρ : γ} {σ : Sg} {F : Option γ} {cs : Nat × Nat} {pc : Nat} {lv : List (Nat × Value)} {st : List Value}
/-- fewer locals, in another order -/
theorem s_sub {lv' : List (Nat × Value)} (ks : List Nat) (hl : lv_pick lv ks = lv') (kk : Sim Θ nL ρ σ F cs pc lv' st) : Sim Θ nL ρ σ F cs pc lv st := fun hF ls h => kk hF ls (lv_sub h ks hl)
theorem s_eq {F' : Option γ} (h : F = F') (kk : Sim Θ nL ρ σ F' cs pc lv st) : Sim Θ nL ρ σ F cs pc lv st := h ▸ kk
theorem s_none : Sim Θ nL ρ σ none cs pc lv st := fun h => by cases h
theorem s_gb {b : Bool} (kk : b = true → Sim Θ nL ρ σ F cs pc lv st) : Sim Θ nL ρ σ (gb b F) cs pc lv st := fun hF => kk (gb_some hF).1 (gb_some hF).2
theorem s_lt {α : Type} {v : α} {K : α → Option γ} (kk : ∀ x : α, x = v → Sim Θ nL ρ σ (K x) cs pc lv st) : Sim Θ nL ρ σ (lt_ v K) cs pc lv st := kk v rfl
/-- a loop: its head, for every state of the loop -/
theorem s_lp {S : Type} {b : (S → Option γ) → S → Option γ} {sg : S → Sg} {lvs : S → List (Nat × Value)} (h : ∀ rec : S → Option γ, (∀ x : S, Sim Θ nL ρ (sg x) (rec x) cs pc (lvs x) st) → ∀ x : S, Sim Θ nL ρ (sg x) (b rec x) cs pc (lvs x) st) (N : Nat) : ∀ x : S, Sim Θ nL ρ (sg x) (lp b N x) cs pc (lvs x) st := by
  induction N with
  | zero => intro x hF; cases hF
  | succ n ih => exact h _ ih

theorem s_iconst (hc : Cx0 Θ cc nL own) {n : Int} {v : Int32} (hd : decode cc pc = .ok (.iconst n, 1)) (hv : Int32.ofInt n = v) (kk : Sim Θ nL ρ σ F cs (pc + 1) lv (.int v :: st)) : Sim Θ nL ρ σ F cs pc lv (st) := by
  obtain ⟨p, l, e, R, s, m, args, below, meth, c, Q, WW, A, rfl, hx, hb, hml, ho, hts⟩ := hc
  intro hF ls hl H locs hW hS
  exact lv_iconst hx hb hd hv (kk hF ls hl H locs hW hS)
theorem s_bipush (hc : Cx0 Θ cc nL own) {n : Int} {v : Int32} (hd : decode cc pc = .ok (.bipush n, 2)) (hv : (Int8.ofInt n).toInt32 = v) (kk : Sim Θ nL ρ σ F cs (pc + 2) lv (.int v :: st)) : Sim Θ nL ρ σ F cs pc lv (st) := by
  obtain ⟨p, l, e, R, s, m, args, below, meth, c, Q, WW, A, rfl, hx, hb, hml, ho, hts⟩ := hc
  intro hF ls hl H locs hW hS
  exact lv_bipush hx hb hd hv (kk hF ls hl H locs hW hS)
theorem s_sipush (hc : Cx0 Θ cc nL own) {n : Int} {v : Int32} (hd : decode cc pc = .ok (.sipush n, 3)) (hv : (Int16.ofInt n).toInt32 = v) (kk : Sim Θ nL ρ σ F cs (pc + 3) lv (.int v :: st)) : Sim Θ nL ρ σ F cs pc lv (st) := by
  obtain ⟨p, l, e, R, s, m, args, below, meth, c, Q, WW, A, rfl, hx, hb, hml, ho, hts⟩ := hc
  intro hF ls hl H locs hW hS
  exact lv_sipush hx hb hd hv (kk hF ls hl H locs hW hS)
theorem s_lconst (hc : Cx0 Θ cc nL own) {n : Fin 2} {v : Int64} (hd : decode cc pc = .ok (.lconst n, 1)) (hv : Int64.ofNat (n : Nat) = v) (kk : Sim Θ nL ρ σ F cs (pc + 1) lv (.long v :: st)) : Sim Θ nL ρ σ F cs pc lv (st) := by
  obtain ⟨p, l, e, R, s, m, args, below, meth, c, Q, WW, A, rfl, hx, hb, hml, ho, hts⟩ := hc
  intro hF ls hl H locs hW hS
  exact lv_lconst hx hb hd hv (kk hF ls hl H locs hW hS)
theorem s_ldc (hc : Cx0 Θ cc nL own) {index : Nat} {v : Int32} (hd : decode cc pc = .ok (.ldc index, 2)) (hq : Cond.constant own index v ∈ lw_all) (kk : Sim Θ nL ρ σ F cs (pc + 2) lv (.int v :: st)) : Sim Θ nL ρ σ F cs pc lv (st) := by
  obtain ⟨p, l, e, R, s, m, args, below, meth, c, Q, WW, A, rfl, hx, hb, hml, ho, hts⟩ := hc
  intro hF ls hl H locs hW hS
  exact lv_ldc hx hb ho (hts _ hq) hd (kk hF ls hl H locs hW hS)
theorem s_ldcw (hc : Cx0 Θ cc nL own) {index : Nat} {v : Int32} (hd : decode cc pc = .ok (.ldc_w index, 3)) (hq : Cond.constant own index v ∈ lw_all) (kk : Sim Θ nL ρ σ F cs (pc + 3) lv (.int v :: st)) : Sim Θ nL ρ σ F cs pc lv (st) := by
  obtain ⟨p, l, e, R, s, m, args, below, meth, c, Q, WW, A, rfl, hx, hb, hml, ho, hts⟩ := hc
  intro hF ls hl H locs hW hS
  exact lv_ldcw hx hb ho (hts _ hq) hd (kk hF ls hl H locs hW hS)
theorem s_ldc2 (hc : Cx0 Θ cc nL own) {index : Nat} {v : Int64} (hd : decode cc pc = .ok (.ldc2_w index, 3)) (hq : Cond.constantLong own index v ∈ lw_all) (kk : Sim Θ nL ρ σ F cs (pc + 3) lv (.long v :: st)) : Sim Θ nL ρ σ F cs pc lv (st) := by
  obtain ⟨p, l, e, R, s, m, args, below, meth, c, Q, WW, A, rfl, hx, hb, hml, ho, hts⟩ := hc
  intro hF ls hl H locs hW hS
  exact lv_ldc2 hx hb ho (hts _ hq) hd (kk hF ls hl H locs hW hS)
theorem s_null (hc : Cx0 Θ cc nL own)  (hd : decode cc pc = .ok (.aconst_null, 1)) (kk : Sim Θ nL ρ σ F cs (pc + 1) lv (.null :: st)) : Sim Θ nL ρ σ F cs pc lv (st) := by
  obtain ⟨p, l, e, R, s, m, args, below, meth, c, Q, WW, A, rfl, hx, hb, hml, ho, hts⟩ := hc
  intro hF ls hl H locs hW hS
  exact lv_null hx hb hd (kk hF ls hl H locs hW hS)
theorem s_iload_n (hc : Cx0 Θ cc nL own) {k : Fin 4} {i : Nat} {x : Int32} (hd : decode cc pc = .ok (.iload_n k, 1)) (hi : (k : Nat) = i) (j : Nat) (hj : lv[j]? = some (i, .int x)) (kk : Sim Θ nL ρ σ F cs (pc + 1) lv (.int x :: st)) : Sim Θ nL ρ σ F cs pc lv (st) := by
  obtain ⟨p, l, e, R, s, m, args, below, meth, c, Q, WW, A, rfl, hx, hb, hml, ho, hts⟩ := hc
  intro hF ls hl H locs hW hS
  exact lv_iload_n hx hb hd hi (lv_at hl j hj) (kk hF ls hl H locs hW hS)
theorem s_iload (hc : Cx0 Θ cc nL own) {i : Nat} {x : Int32} (hd : decode cc pc = .ok (.iload i, 2)) (j : Nat) (hj : lv[j]? = some (i, .int x)) (kk : Sim Θ nL ρ σ F cs (pc + 2) lv (.int x :: st)) : Sim Θ nL ρ σ F cs pc lv (st) := by
  obtain ⟨p, l, e, R, s, m, args, below, meth, c, Q, WW, A, rfl, hx, hb, hml, ho, hts⟩ := hc
  intro hF ls hl H locs hW hS
  exact lv_iload hx hb hd (lv_at hl j hj) (kk hF ls hl H locs hW hS)
theorem s_lload_n (hc : Cx0 Θ cc nL own) {k : Fin 4} {i : Nat} {x : Int64} (hd : decode cc pc = .ok (.lload_n k, 1)) (hi : (k : Nat) = i) (j : Nat) (hj : lv[j]? = some (i, .long x)) (kk : Sim Θ nL ρ σ F cs (pc + 1) lv (.long x :: st)) : Sim Θ nL ρ σ F cs pc lv (st) := by
  obtain ⟨p, l, e, R, s, m, args, below, meth, c, Q, WW, A, rfl, hx, hb, hml, ho, hts⟩ := hc
  intro hF ls hl H locs hW hS
  exact lv_lload_n hx hb hd hi (lv_at hl j hj) (kk hF ls hl H locs hW hS)
theorem s_lload (hc : Cx0 Θ cc nL own) {i : Nat} {x : Int64} (hd : decode cc pc = .ok (.lload i, 2)) (j : Nat) (hj : lv[j]? = some (i, .long x)) (kk : Sim Θ nL ρ σ F cs (pc + 2) lv (.long x :: st)) : Sim Θ nL ρ σ F cs pc lv (st) := by
  obtain ⟨p, l, e, R, s, m, args, below, meth, c, Q, WW, A, rfl, hx, hb, hml, ho, hts⟩ := hc
  intro hF ls hl H locs hW hS
  exact lv_lload hx hb hd (lv_at hl j hj) (kk hF ls hl H locs hW hS)
theorem s_aload_n (hc : Cx0 Θ cc nL own) {k : Fin 4} {i x : Nat} (hd : decode cc pc = .ok (.aload_n k, 1)) (hi : (k : Nat) = i) (j : Nat) (hj : lv[j]? = some (i, .ref x)) (kk : Sim Θ nL ρ σ F cs (pc + 1) lv (.ref x :: st)) : Sim Θ nL ρ σ F cs pc lv (st) := by
  obtain ⟨p, l, e, R, s, m, args, below, meth, c, Q, WW, A, rfl, hx, hb, hml, ho, hts⟩ := hc
  intro hF ls hl H locs hW hS
  exact lv_aload_n hx hb hd hi (lv_at hl j hj) (kk hF ls hl H locs hW hS)
theorem s_aload (hc : Cx0 Θ cc nL own) {i x : Nat} (hd : decode cc pc = .ok (.aload i, 2)) (j : Nat) (hj : lv[j]? = some (i, .ref x)) (kk : Sim Θ nL ρ σ F cs (pc + 2) lv (.ref x :: st)) : Sim Θ nL ρ σ F cs pc lv (st) := by
  obtain ⟨p, l, e, R, s, m, args, below, meth, c, Q, WW, A, rfl, hx, hb, hml, ho, hts⟩ := hc
  intro hF ls hl H locs hW hS
  exact lv_aload hx hb hd (lv_at hl j hj) (kk hF ls hl H locs hW hS)
theorem s_istore_n (hc : Cx0 Θ cc nL own) {k : Fin 4} {i : Nat} {x : Int32} {lv' : List (Nat × Value)} (hd : decode cc pc = .ok (.istore_n k, 1)) (hi : (k : Nat) = i) (hn : i < nL) (hq : (i, Value.int x) :: lv.filter (fun q => !(q.1 == i) && !(q.1 + 1 == i && q.2.category == 2)) = lv') (kk : Sim Θ nL ρ σ F cs (pc + 1) lv' (st)) : Sim Θ nL ρ σ F cs pc lv (.int x :: st) := by
  obtain ⟨p, l, e, R, s, m, args, below, meth, c, Q, WW, A, rfl, hx, hb, hml, ho, hts⟩ := hc
  intro hF ls hl H locs hW hS
  exact lv_istore_n hx hb hd hi hl hn hq (fun ls' hl' => kk hF ls' hl' H locs hW hS)
theorem s_istore (hc : Cx0 Θ cc nL own) {i : Nat} {x : Int32} {lv' : List (Nat × Value)} (hd : decode cc pc = .ok (.istore i, 2)) (hn : i < nL) (hq : (i, Value.int x) :: lv.filter (fun q => !(q.1 == i) && !(q.1 + 1 == i && q.2.category == 2)) = lv') (kk : Sim Θ nL ρ σ F cs (pc + 2) lv' (st)) : Sim Θ nL ρ σ F cs pc lv (.int x :: st) := by
  obtain ⟨p, l, e, R, s, m, args, below, meth, c, Q, WW, A, rfl, hx, hb, hml, ho, hts⟩ := hc
  intro hF ls hl H locs hW hS
  exact lv_istore hx hb hd hl hn hq (fun ls' hl' => kk hF ls' hl' H locs hW hS)
theorem s_lstore_n (hc : Cx0 Θ cc nL own) {k : Fin 4} {i : Nat} {x : Int64} {lv' : List (Nat × Value)} (hd : decode cc pc = .ok (.lstore_n k, 1)) (hi : (k : Nat) = i) (hn : i + 1 < nL) (hq : (i, Value.long x) :: lv.filter (fun q => !(q.1 == i) && (!(q.1 == i + 1) && !(q.1 + 1 == i && q.2.category == 2))) = lv') (kk : Sim Θ nL ρ σ F cs (pc + 1) lv' (st)) : Sim Θ nL ρ σ F cs pc lv (.long x :: st) := by
  obtain ⟨p, l, e, R, s, m, args, below, meth, c, Q, WW, A, rfl, hx, hb, hml, ho, hts⟩ := hc
  intro hF ls hl H locs hW hS
  exact lv_lstore_n hx hb hd hi hl hn hq (fun ls' hl' => kk hF ls' hl' H locs hW hS)
theorem s_lstore (hc : Cx0 Θ cc nL own) {i : Nat} {x : Int64} {lv' : List (Nat × Value)} (hd : decode cc pc = .ok (.lstore i, 2)) (hn : i + 1 < nL) (hq : (i, Value.long x) :: lv.filter (fun q => !(q.1 == i) && (!(q.1 == i + 1) && !(q.1 + 1 == i && q.2.category == 2))) = lv') (kk : Sim Θ nL ρ σ F cs (pc + 2) lv' (st)) : Sim Θ nL ρ σ F cs pc lv (.long x :: st) := by
  obtain ⟨p, l, e, R, s, m, args, below, meth, c, Q, WW, A, rfl, hx, hb, hml, ho, hts⟩ := hc
  intro hF ls hl H locs hW hS
  exact lv_lstore hx hb hd hl hn hq (fun ls' hl' => kk hF ls' hl' H locs hW hS)
theorem s_astore_n (hc : Cx0 Θ cc nL own) {k : Fin 4} {i : Nat} {x : Nat} {lv' : List (Nat × Value)} (hd : decode cc pc = .ok (.astore_n k, 1)) (hi : (k : Nat) = i) (hn : i < nL) (hq : (i, Value.ref x) :: lv.filter (fun q => !(q.1 == i) && !(q.1 + 1 == i && q.2.category == 2)) = lv') (kk : Sim Θ nL ρ σ F cs (pc + 1) lv' (st)) : Sim Θ nL ρ σ F cs pc lv (.ref x :: st) := by
  obtain ⟨p, l, e, R, s, m, args, below, meth, c, Q, WW, A, rfl, hx, hb, hml, ho, hts⟩ := hc
  intro hF ls hl H locs hW hS
  exact lv_astore_n hx hb hd hi hl hn hq (fun ls' hl' => kk hF ls' hl' H locs hW hS)
theorem s_astore (hc : Cx0 Θ cc nL own) {i : Nat} {x : Nat} {lv' : List (Nat × Value)} (hd : decode cc pc = .ok (.astore i, 2)) (hn : i < nL) (hq : (i, Value.ref x) :: lv.filter (fun q => !(q.1 == i) && !(q.1 + 1 == i && q.2.category == 2)) = lv') (kk : Sim Θ nL ρ σ F cs (pc + 2) lv' (st)) : Sim Θ nL ρ σ F cs pc lv (.ref x :: st) := by
  obtain ⟨p, l, e, R, s, m, args, below, meth, c, Q, WW, A, rfl, hx, hb, hml, ho, hts⟩ := hc
  intro hF ls hl H locs hW hS
  exact lv_astore hx hb hd hl hn hq (fun ls' hl' => kk hF ls' hl' H locs hW hS)
theorem s_iinc (hc : Cx0 Θ cc nL own) {i : Nat} {n : Int} {x v : Int32} {lv' : List (Nat × Value)} (hd : decode cc pc = .ok (.iinc i n, 3)) (j : Nat) (hj : lv[j]? = some (i, .int x)) (hv : Int32.ofInt n = v) (hn : i < nL) (hq : (i, Value.int (x + v)) :: lv.filter (fun q => !(q.1 == i) && !(q.1 + 1 == i && q.2.category == 2)) = lv') (kk : Sim Θ nL ρ σ F cs (pc + 3) lv' (st)) : Sim Θ nL ρ σ F cs pc lv (st) := by
  obtain ⟨p, l, e, R, s, m, args, below, meth, c, Q, WW, A, rfl, hx, hb, hml, ho, hts⟩ := hc
  intro hF ls hl H locs hW hS
  subst hv
  exact lv_iinc hx hb hd hl hj rfl hn hq (fun ls' hl' => kk hF ls' hl' H locs hW hS)
theorem s_iadd (hc : Cx0 Θ cc nL own) {x y : Int32} (hd : decode cc pc = .ok (.iadd, 1)) (kk : Sim Θ nL ρ σ F cs (pc + 1) lv (.int (x + y) :: st)) : Sim Θ nL ρ σ F cs pc lv (.int y :: .int x :: st) := by
  obtain ⟨p, l, e, R, s, m, args, below, meth, c, Q, WW, A, rfl, hx, hb, hml, ho, hts⟩ := hc
  intro hF ls hl H locs hW hS
  exact lv_iadd hx hb hd (kk hF ls hl H locs hW hS)
theorem s_isub (hc : Cx0 Θ cc nL own) {x y : Int32} (hd : decode cc pc = .ok (.isub, 1)) (kk : Sim Θ nL ρ σ F cs (pc + 1) lv (.int (x - y) :: st)) : Sim Θ nL ρ σ F cs pc lv (.int y :: .int x :: st) := by
  obtain ⟨p, l, e, R, s, m, args, below, meth, c, Q, WW, A, rfl, hx, hb, hml, ho, hts⟩ := hc
  intro hF ls hl H locs hW hS
  exact lv_isub hx hb hd (kk hF ls hl H locs hW hS)
theorem s_imul (hc : Cx0 Θ cc nL own) {x y : Int32} (hd : decode cc pc = .ok (.imul, 1)) (kk : Sim Θ nL ρ σ F cs (pc + 1) lv (.int (x * y) :: st)) : Sim Θ nL ρ σ F cs pc lv (.int y :: .int x :: st) := by
  obtain ⟨p, l, e, R, s, m, args, below, meth, c, Q, WW, A, rfl, hx, hb, hml, ho, hts⟩ := hc
  intro hF ls hl H locs hW hS
  exact lv_imul hx hb hd (kk hF ls hl H locs hW hS)
theorem s_iand (hc : Cx0 Θ cc nL own) {x y : Int32} (hd : decode cc pc = .ok (.iand, 1)) (kk : Sim Θ nL ρ σ F cs (pc + 1) lv (.int (x &&& y) :: st)) : Sim Θ nL ρ σ F cs pc lv (.int y :: .int x :: st) := by
  obtain ⟨p, l, e, R, s, m, args, below, meth, c, Q, WW, A, rfl, hx, hb, hml, ho, hts⟩ := hc
  intro hF ls hl H locs hW hS
  exact lv_iand hx hb hd (kk hF ls hl H locs hW hS)
theorem s_ior (hc : Cx0 Θ cc nL own) {x y : Int32} (hd : decode cc pc = .ok (.ior, 1)) (kk : Sim Θ nL ρ σ F cs (pc + 1) lv (.int (x ||| y) :: st)) : Sim Θ nL ρ σ F cs pc lv (.int y :: .int x :: st) := by
  obtain ⟨p, l, e, R, s, m, args, below, meth, c, Q, WW, A, rfl, hx, hb, hml, ho, hts⟩ := hc
  intro hF ls hl H locs hW hS
  exact lv_ior hx hb hd (kk hF ls hl H locs hW hS)
theorem s_ixor (hc : Cx0 Θ cc nL own) {x y : Int32} (hd : decode cc pc = .ok (.ixor, 1)) (kk : Sim Θ nL ρ σ F cs (pc + 1) lv (.int (x ^^^ y) :: st)) : Sim Θ nL ρ σ F cs pc lv (.int y :: .int x :: st) := by
  obtain ⟨p, l, e, R, s, m, args, below, meth, c, Q, WW, A, rfl, hx, hb, hml, ho, hts⟩ := hc
  intro hF ls hl H locs hW hS
  exact lv_ixor hx hb hd (kk hF ls hl H locs hW hS)
theorem s_ishl (hc : Cx0 Θ cc nL own) {x y : Int32} (hd : decode cc pc = .ok (.ishl, 1)) (kk : Sim Θ nL ρ σ F cs (pc + 1) lv (.int (x <<< (y &&& 31)) :: st)) : Sim Θ nL ρ σ F cs pc lv (.int y :: .int x :: st) := by
  obtain ⟨p, l, e, R, s, m, args, below, meth, c, Q, WW, A, rfl, hx, hb, hml, ho, hts⟩ := hc
  intro hF ls hl H locs hW hS
  exact lv_ishl hx hb hd (kk hF ls hl H locs hW hS)
theorem s_ishr (hc : Cx0 Θ cc nL own) {x y : Int32} (hd : decode cc pc = .ok (.ishr, 1)) (kk : Sim Θ nL ρ σ F cs (pc + 1) lv (.int (x >>> (y &&& 31)) :: st)) : Sim Θ nL ρ σ F cs pc lv (.int y :: .int x :: st) := by
  obtain ⟨p, l, e, R, s, m, args, below, meth, c, Q, WW, A, rfl, hx, hb, hml, ho, hts⟩ := hc
  intro hF ls hl H locs hW hS
  exact lv_ishr hx hb hd (kk hF ls hl H locs hW hS)
theorem s_iushr (hc : Cx0 Θ cc nL own) {x y : Int32} (hd : decode cc pc = .ok (.iushr, 1)) (kk : Sim Θ nL ρ σ F cs (pc + 1) lv (.int (x.toUInt32 >>> (y.toUInt32 &&& Int32.toUInt32 31)).toInt32 :: st)) : Sim Θ nL ρ σ F cs pc lv (.int y :: .int x :: st) := by
  obtain ⟨p, l, e, R, s, m, args, below, meth, c, Q, WW, A, rfl, hx, hb, hml, ho, hts⟩ := hc
  intro hF ls hl H locs hW hS
  exact lv_iushr hx hb hd rfl (kk hF ls hl H locs hW hS)
theorem s_ineg (hc : Cx0 Θ cc nL own) {x : Int32} (hd : decode cc pc = .ok (.ineg, 1)) (kk : Sim Θ nL ρ σ F cs (pc + 1) lv (.int (-x) :: st)) : Sim Θ nL ρ σ F cs pc lv (.int x :: st) := by
  obtain ⟨p, l, e, R, s, m, args, below, meth, c, Q, WW, A, rfl, hx, hb, hml, ho, hts⟩ := hc
  intro hF ls hl H locs hW hS
  exact lv_ineg hx hb hd (kk hF ls hl H locs hW hS)
theorem s_ladd (hc : Cx0 Θ cc nL own) {x y : Int64} (hd : decode cc pc = .ok (.ladd, 1)) (kk : Sim Θ nL ρ σ F cs (pc + 1) lv (.long (x + y) :: st)) : Sim Θ nL ρ σ F cs pc lv (.long y :: .long x :: st) := by
  obtain ⟨p, l, e, R, s, m, args, below, meth, c, Q, WW, A, rfl, hx, hb, hml, ho, hts⟩ := hc
  intro hF ls hl H locs hW hS
  exact lv_ladd hx hb hd (kk hF ls hl H locs hW hS)
theorem s_lsub (hc : Cx0 Θ cc nL own) {x y : Int64} (hd : decode cc pc = .ok (.lsub, 1)) (kk : Sim Θ nL ρ σ F cs (pc + 1) lv (.long (x - y) :: st)) : Sim Θ nL ρ σ F cs pc lv (.long y :: .long x :: st) := by
  obtain ⟨p, l, e, R, s, m, args, below, meth, c, Q, WW, A, rfl, hx, hb, hml, ho, hts⟩ := hc
  intro hF ls hl H locs hW hS
  exact lv_lsub hx hb hd (kk hF ls hl H locs hW hS)
theorem s_lmul (hc : Cx0 Θ cc nL own) {x y : Int64} (hd : decode cc pc = .ok (.lmul, 1)) (kk : Sim Θ nL ρ σ F cs (pc + 1) lv (.long (x * y) :: st)) : Sim Θ nL ρ σ F cs pc lv (.long y :: .long x :: st) := by
  obtain ⟨p, l, e, R, s, m, args, below, meth, c, Q, WW, A, rfl, hx, hb, hml, ho, hts⟩ := hc
  intro hF ls hl H locs hW hS
  exact lv_lmul hx hb hd (kk hF ls hl H locs hW hS)
theorem s_land (hc : Cx0 Θ cc nL own) {x y : Int64} (hd : decode cc pc = .ok (.land, 1)) (kk : Sim Θ nL ρ σ F cs (pc + 1) lv (.long (x &&& y) :: st)) : Sim Θ nL ρ σ F cs pc lv (.long y :: .long x :: st) := by
  obtain ⟨p, l, e, R, s, m, args, below, meth, c, Q, WW, A, rfl, hx, hb, hml, ho, hts⟩ := hc
  intro hF ls hl H locs hW hS
  exact lv_land hx hb hd (kk hF ls hl H locs hW hS)
theorem s_lor (hc : Cx0 Θ cc nL own) {x y : Int64} (hd : decode cc pc = .ok (.lor, 1)) (kk : Sim Θ nL ρ σ F cs (pc + 1) lv (.long (x ||| y) :: st)) : Sim Θ nL ρ σ F cs pc lv (.long y :: .long x :: st) := by
  obtain ⟨p, l, e, R, s, m, args, below, meth, c, Q, WW, A, rfl, hx, hb, hml, ho, hts⟩ := hc
  intro hF ls hl H locs hW hS
  exact lv_lor hx hb hd (kk hF ls hl H locs hW hS)
theorem s_lshl (hc : Cx0 Θ cc nL own) {x : Int64} {y : Int32} (hd : decode cc pc = .ok (.lshl, 1)) (kk : Sim Θ nL ρ σ F cs (pc + 1) lv (.long (x <<< (y.toInt64 &&& 63)) :: st)) : Sim Θ nL ρ σ F cs pc lv (.int y :: .long x :: st) := by
  obtain ⟨p, l, e, R, s, m, args, below, meth, c, Q, WW, A, rfl, hx, hb, hml, ho, hts⟩ := hc
  intro hF ls hl H locs hW hS
  exact lv_lshl hx hb hd rfl (kk hF ls hl H locs hW hS)
theorem s_i2l (hc : Cx0 Θ cc nL own) {x : Int32} (hd : decode cc pc = .ok (.i2l, 1)) (kk : Sim Θ nL ρ σ F cs (pc + 1) lv (.long x.toInt64 :: st)) : Sim Θ nL ρ σ F cs pc lv (.int x :: st) := by
  obtain ⟨p, l, e, R, s, m, args, below, meth, c, Q, WW, A, rfl, hx, hb, hml, ho, hts⟩ := hc
  intro hF ls hl H locs hW hS
  exact lv_i2l hx hb hd rfl (kk hF ls hl H locs hW hS)
theorem s_l2i (hc : Cx0 Θ cc nL own) {x : Int64} (hd : decode cc pc = .ok (.l2i, 1)) (kk : Sim Θ nL ρ σ F cs (pc + 1) lv (.int x.toInt32 :: st)) : Sim Θ nL ρ σ F cs pc lv (.long x :: st) := by
  obtain ⟨p, l, e, R, s, m, args, below, meth, c, Q, WW, A, rfl, hx, hb, hml, ho, hts⟩ := hc
  intro hF ls hl H locs hW hS
  exact lv_l2i hx hb hd rfl (kk hF ls hl H locs hW hS)
theorem s_i2b (hc : Cx0 Θ cc nL own) {x : Int32} (hd : decode cc pc = .ok (.i2b, 1)) (kk : Sim Θ nL ρ σ F cs (pc + 1) lv (.int x.toInt8.toInt32 :: st)) : Sim Θ nL ρ σ F cs pc lv (.int x :: st) := by
  obtain ⟨p, l, e, R, s, m, args, below, meth, c, Q, WW, A, rfl, hx, hb, hml, ho, hts⟩ := hc
  intro hF ls hl H locs hW hS
  exact lv_i2b hx hb hd rfl (kk hF ls hl H locs hW hS)
theorem s_i2s (hc : Cx0 Θ cc nL own) {x : Int32} (hd : decode cc pc = .ok (.i2s, 1)) (kk : Sim Θ nL ρ σ F cs (pc + 1) lv (.int x.toInt16.toInt32 :: st)) : Sim Θ nL ρ σ F cs pc lv (.int x :: st) := by
  obtain ⟨p, l, e, R, s, m, args, below, meth, c, Q, WW, A, rfl, hx, hb, hml, ho, hts⟩ := hc
  intro hF ls hl H locs hW hS
  exact lv_i2s hx hb hd rfl (kk hF ls hl H locs hW hS)
theorem s_idiv (hc : Cx0 Θ cc nL own) {x y : Int32} (hd : decode cc pc = .ok (.idiv, 1)) (hne : ¬ y = 0) (kk : Sim Θ nL ρ σ F cs (pc + 1) lv (.int (x / y) :: st)) : Sim Θ nL ρ σ F cs pc lv (.int y :: .int x :: st) := by
  obtain ⟨p, l, e, R, s, m, args, below, meth, c, Q, WW, A, rfl, hx, hb, hml, ho, hts⟩ := hc
  intro hF ls hl H locs hW hS
  exact lv_idiv hx hb hd hne (kk hF ls hl H locs hW hS)
theorem s_irem (hc : Cx0 Θ cc nL own) {x y : Int32} (hd : decode cc pc = .ok (.irem, 1)) (hne : ¬ y = 0) (kk : Sim Θ nL ρ σ F cs (pc + 1) lv (.int (x - x / y * y) :: st)) : Sim Θ nL ρ σ F cs pc lv (.int y :: .int x :: st) := by
  obtain ⟨p, l, e, R, s, m, args, below, meth, c, Q, WW, A, rfl, hx, hb, hml, ho, hts⟩ := hc
  intro hF ls hl H locs hW hS
  exact lv_irem hx hb hd hne (kk hF ls hl H locs hW hS)
theorem s_ldiv (hc : Cx0 Θ cc nL own) {x y : Int64} (hd : decode cc pc = .ok (.ldiv, 1)) (hne : ¬ y = 0) (kk : Sim Θ nL ρ σ F cs (pc + 1) lv (.long (x / y) :: st)) : Sim Θ nL ρ σ F cs pc lv (.long y :: .long x :: st) := by
  obtain ⟨p, l, e, R, s, m, args, below, meth, c, Q, WW, A, rfl, hx, hb, hml, ho, hts⟩ := hc
  intro hF ls hl H locs hW hS
  exact lv_ldiv hx hb hd hne (kk hF ls hl H locs hW hS)
theorem s_dup (hc : Cx0 Θ cc nL own) {va : Value} (hd : decode cc pc = .ok (.dup, 1)) (hva : va.category = 1) (kk : Sim Θ nL ρ σ F cs (pc + 1) lv (va :: va :: st)) : Sim Θ nL ρ σ F cs pc lv (va :: st) := by
  obtain ⟨p, l, e, R, s, m, args, below, meth, c, Q, WW, A, rfl, hx, hb, hml, ho, hts⟩ := hc
  intro hF ls hl H locs hW hS
  exact lv_dup hx hb hd hva (kk hF ls hl H locs hW hS)
theorem s_pop (hc : Cx0 Θ cc nL own) {va : Value} (hd : decode cc pc = .ok (.pop, 1)) (hva : va.category = 1) (kk : Sim Θ nL ρ σ F cs (pc + 1) lv (st)) : Sim Θ nL ρ σ F cs pc lv (va :: st) := by
  obtain ⟨p, l, e, R, s, m, args, below, meth, c, Q, WW, A, rfl, hx, hb, hml, ho, hts⟩ := hc
  intro hF ls hl H locs hW hS
  exact lv_pop hx hb hd hva (kk hF ls hl H locs hW hS)
theorem s_dup2 (hc : Cx0 Θ cc nL own) {va vb : Value} (hd : decode cc pc = .ok (.dup2, 1)) (hva : va.category = 1) (hvb : vb.category = 1) (kk : Sim Θ nL ρ σ F cs (pc + 1) lv (va :: vb :: va :: vb :: st)) : Sim Θ nL ρ σ F cs pc lv (va :: vb :: st) := by
  obtain ⟨p, l, e, R, s, m, args, below, meth, c, Q, WW, A, rfl, hx, hb, hml, ho, hts⟩ := hc
  intro hF ls hl H locs hW hS
  exact lv_dup2_11 hx hb hd hva hvb (kk hF ls hl H locs hW hS)
theorem s_dup2L (hc : Cx0 Θ cc nL own) {va : Value} (hd : decode cc pc = .ok (.dup2, 1)) (hva : va.category = 2) (kk : Sim Θ nL ρ σ F cs (pc + 1) lv (va :: va :: st)) : Sim Θ nL ρ σ F cs pc lv (va :: st) := by
  obtain ⟨p, l, e, R, s, m, args, below, meth, c, Q, WW, A, rfl, hx, hb, hml, ho, hts⟩ := hc
  intro hF ls hl H locs hW hS
  exact lv_dup2_2 hx hb hd hva (kk hF ls hl H locs hW hS)
theorem s_dup_x1 (hc : Cx0 Θ cc nL own) {va vb : Value} (hd : decode cc pc = .ok (.dup_x1, 1)) (hva : va.category = 1) (hvb : vb.category = 1) (kk : Sim Θ nL ρ σ F cs (pc + 1) lv (va :: vb :: va :: st)) : Sim Θ nL ρ σ F cs pc lv (va :: vb :: st) := by
  obtain ⟨p, l, e, R, s, m, args, below, meth, c, Q, WW, A, rfl, hx, hb, hml, ho, hts⟩ := hc
  intro hF ls hl H locs hW hS
  exact lv_dup_x1 hx hb hd hva hvb (kk hF ls hl H locs hW hS)
theorem s_goto (hc : Cx0 Θ cc nL own) {off : Int} {tgt : Nat} (hd : decode cc pc = .ok (.goto off, 3)) (ht : (pc : Int) + off = (tgt : Int)) (kk : Sim Θ nL ρ σ F cs tgt lv (st)) : Sim Θ nL ρ σ F cs pc lv (st) := by
  obtain ⟨p, l, e, R, s, m, args, below, meth, c, Q, WW, A, rfl, hx, hb, hml, ho, hts⟩ := hc
  intro hF ls hl H locs hW hS
  exact lv_goto hx hb hd ht (kk hF ls hl H locs hW hS)
theorem s_if_eq (hc : Cx0 Θ cc nL own) {F1 F2 : Option γ} {x : Int32} {off : Int} {tgt : Nat} (hd : decode cc pc = .ok (.ifCond .eq off, 3)) (ht : (pc : Int) + off = (tgt : Int)) (kt : (x = 0) → Sim Θ nL ρ σ F1 cs tgt lv st) (kf : ¬ (x = 0) → Sim Θ nL ρ σ F2 cs (pc + 3) lv st) : Sim Θ nL ρ σ (if x = 0 then F1 else F2) cs pc lv (.int x :: st) := by
  obtain ⟨p, l, e, R, s, m, args, below, meth, c, Q, WW, A, rfl, hx, hb, hml, ho, hts⟩ := hc
  intro hF ls hl H locs hW hS
  exact lv_if_eq hx hb hd ht (fun q => kt q (by rw [if_pos q] at hF; exact hF) ls hl H locs hW hS) (fun q => kf q (by rw [if_neg q] at hF; exact hF) ls hl H locs hW hS)
theorem s_if_ne (hc : Cx0 Θ cc nL own) {F1 F2 : Option γ} {x : Int32} {off : Int} {tgt : Nat} (hd : decode cc pc = .ok (.ifCond .ne off, 3)) (ht : (pc : Int) + off = (tgt : Int)) (kt : ¬ (x = 0) → Sim Θ nL ρ σ F2 cs tgt lv st) (kf : (x = 0) → Sim Θ nL ρ σ F1 cs (pc + 3) lv st) : Sim Θ nL ρ σ (if x = 0 then F1 else F2) cs pc lv (.int x :: st) := by
  obtain ⟨p, l, e, R, s, m, args, below, meth, c, Q, WW, A, rfl, hx, hb, hml, ho, hts⟩ := hc
  intro hF ls hl H locs hW hS
  exact lv_if_ne hx hb hd ht (fun q => kt q (by rw [if_neg q] at hF; exact hF) ls hl H locs hW hS) (fun q => kf q (by rw [if_pos q] at hF; exact hF) ls hl H locs hW hS)
theorem s_if_lt (hc : Cx0 Θ cc nL own) {F1 F2 : Option γ} {x : Int32} {off : Int} {tgt : Nat} (hd : decode cc pc = .ok (.ifCond .lt off, 3)) (ht : (pc : Int) + off = (tgt : Int)) (kt : (x < 0) → Sim Θ nL ρ σ F1 cs tgt lv st) (kf : ¬ (x < 0) → Sim Θ nL ρ σ F2 cs (pc + 3) lv st) : Sim Θ nL ρ σ (if x < 0 then F1 else F2) cs pc lv (.int x :: st) := by
  obtain ⟨p, l, e, R, s, m, args, below, meth, c, Q, WW, A, rfl, hx, hb, hml, ho, hts⟩ := hc
  intro hF ls hl H locs hW hS
  exact lv_if_lt hx hb hd ht (fun q => kt q (by rw [if_pos q] at hF; exact hF) ls hl H locs hW hS) (fun q => kf q (by rw [if_neg q] at hF; exact hF) ls hl H locs hW hS)
theorem s_if_ge (hc : Cx0 Θ cc nL own) {F1 F2 : Option γ} {x : Int32} {off : Int} {tgt : Nat} (hd : decode cc pc = .ok (.ifCond .ge off, 3)) (ht : (pc : Int) + off = (tgt : Int)) (kt : (0 ≤ x) → Sim Θ nL ρ σ F1 cs tgt lv st) (kf : ¬ (0 ≤ x) → Sim Θ nL ρ σ F2 cs (pc + 3) lv st) : Sim Θ nL ρ σ (if 0 ≤ x then F1 else F2) cs pc lv (.int x :: st) := by
  obtain ⟨p, l, e, R, s, m, args, below, meth, c, Q, WW, A, rfl, hx, hb, hml, ho, hts⟩ := hc
  intro hF ls hl H locs hW hS
  exact lv_if_ge hx hb hd ht (fun q => kt q (by rw [if_pos q] at hF; exact hF) ls hl H locs hW hS) (fun q => kf q (by rw [if_neg q] at hF; exact hF) ls hl H locs hW hS)
theorem s_if_gt (hc : Cx0 Θ cc nL own) {F1 F2 : Option γ} {x : Int32} {off : Int} {tgt : Nat} (hd : decode cc pc = .ok (.ifCond .gt off, 3)) (ht : (pc : Int) + off = (tgt : Int)) (kt : (0 < x) → Sim Θ nL ρ σ F1 cs tgt lv st) (kf : ¬ (0 < x) → Sim Θ nL ρ σ F2 cs (pc + 3) lv st) : Sim Θ nL ρ σ (if 0 < x then F1 else F2) cs pc lv (.int x :: st) := by
  obtain ⟨p, l, e, R, s, m, args, below, meth, c, Q, WW, A, rfl, hx, hb, hml, ho, hts⟩ := hc
  intro hF ls hl H locs hW hS
  exact lv_if_gt hx hb hd ht (fun q => kt q (by rw [if_pos q] at hF; exact hF) ls hl H locs hW hS) (fun q => kf q (by rw [if_neg q] at hF; exact hF) ls hl H locs hW hS)
theorem s_if_le (hc : Cx0 Θ cc nL own) {F1 F2 : Option γ} {x : Int32} {off : Int} {tgt : Nat} (hd : decode cc pc = .ok (.ifCond .le off, 3)) (ht : (pc : Int) + off = (tgt : Int)) (kt : (x ≤ 0) → Sim Θ nL ρ σ F1 cs tgt lv st) (kf : ¬ (x ≤ 0) → Sim Θ nL ρ σ F2 cs (pc + 3) lv st) : Sim Θ nL ρ σ (if x ≤ 0 then F1 else F2) cs pc lv (.int x :: st) := by
  obtain ⟨p, l, e, R, s, m, args, below, meth, c, Q, WW, A, rfl, hx, hb, hml, ho, hts⟩ := hc
  intro hF ls hl H locs hW hS
  exact lv_if_le hx hb hd ht (fun q => kt q (by rw [if_pos q] at hF; exact hF) ls hl H locs hW hS) (fun q => kf q (by rw [if_neg q] at hF; exact hF) ls hl H locs hW hS)
theorem s_icmp_eq (hc : Cx0 Θ cc nL own) {F1 F2 : Option γ} {x y : Int32} {off : Int} {tgt : Nat} (hd : decode cc pc = .ok (.if_icmp .eq off, 3)) (ht : (pc : Int) + off = (tgt : Int)) (kt : (x = y) → Sim Θ nL ρ σ F1 cs tgt lv st) (kf : ¬ (x = y) → Sim Θ nL ρ σ F2 cs (pc + 3) lv st) : Sim Θ nL ρ σ (if x = y then F1 else F2) cs pc lv (.int y :: .int x :: st) := by
  obtain ⟨p, l, e, R, s, m, args, below, meth, c, Q, WW, A, rfl, hx, hb, hml, ho, hts⟩ := hc
  intro hF ls hl H locs hW hS
  exact lv_icmp_eq hx hb hd ht (fun q => kt q (by rw [if_pos q] at hF; exact hF) ls hl H locs hW hS) (fun q => kf q (by rw [if_neg q] at hF; exact hF) ls hl H locs hW hS)
theorem s_icmp_ne (hc : Cx0 Θ cc nL own) {F1 F2 : Option γ} {x y : Int32} {off : Int} {tgt : Nat} (hd : decode cc pc = .ok (.if_icmp .ne off, 3)) (ht : (pc : Int) + off = (tgt : Int)) (kt : ¬ (x = y) → Sim Θ nL ρ σ F2 cs tgt lv st) (kf : (x = y) → Sim Θ nL ρ σ F1 cs (pc + 3) lv st) : Sim Θ nL ρ σ (if x = y then F1 else F2) cs pc lv (.int y :: .int x :: st) := by
  obtain ⟨p, l, e, R, s, m, args, below, meth, c, Q, WW, A, rfl, hx, hb, hml, ho, hts⟩ := hc
  intro hF ls hl H locs hW hS
  exact lv_icmp_ne hx hb hd ht (fun q => kt q (by rw [if_neg q] at hF; exact hF) ls hl H locs hW hS) (fun q => kf q (by rw [if_pos q] at hF; exact hF) ls hl H locs hW hS)
theorem s_icmp_lt (hc : Cx0 Θ cc nL own) {F1 F2 : Option γ} {x y : Int32} {off : Int} {tgt : Nat} (hd : decode cc pc = .ok (.if_icmp .lt off, 3)) (ht : (pc : Int) + off = (tgt : Int)) (kt : (x < y) → Sim Θ nL ρ σ F1 cs tgt lv st) (kf : ¬ (x < y) → Sim Θ nL ρ σ F2 cs (pc + 3) lv st) : Sim Θ nL ρ σ (if x < y then F1 else F2) cs pc lv (.int y :: .int x :: st) := by
  obtain ⟨p, l, e, R, s, m, args, below, meth, c, Q, WW, A, rfl, hx, hb, hml, ho, hts⟩ := hc
  intro hF ls hl H locs hW hS
  exact lv_icmp_lt hx hb hd ht (fun q => kt q (by rw [if_pos q] at hF; exact hF) ls hl H locs hW hS) (fun q => kf q (by rw [if_neg q] at hF; exact hF) ls hl H locs hW hS)
theorem s_icmp_ge (hc : Cx0 Θ cc nL own) {F1 F2 : Option γ} {x y : Int32} {off : Int} {tgt : Nat} (hd : decode cc pc = .ok (.if_icmp .ge off, 3)) (ht : (pc : Int) + off = (tgt : Int)) (kt : (y ≤ x) → Sim Θ nL ρ σ F1 cs tgt lv st) (kf : ¬ (y ≤ x) → Sim Θ nL ρ σ F2 cs (pc + 3) lv st) : Sim Θ nL ρ σ (if y ≤ x then F1 else F2) cs pc lv (.int y :: .int x :: st) := by
  obtain ⟨p, l, e, R, s, m, args, below, meth, c, Q, WW, A, rfl, hx, hb, hml, ho, hts⟩ := hc
  intro hF ls hl H locs hW hS
  exact lv_icmp_ge hx hb hd ht (fun q => kt q (by rw [if_pos q] at hF; exact hF) ls hl H locs hW hS) (fun q => kf q (by rw [if_neg q] at hF; exact hF) ls hl H locs hW hS)
theorem s_icmp_gt (hc : Cx0 Θ cc nL own) {F1 F2 : Option γ} {x y : Int32} {off : Int} {tgt : Nat} (hd : decode cc pc = .ok (.if_icmp .gt off, 3)) (ht : (pc : Int) + off = (tgt : Int)) (kt : (y < x) → Sim Θ nL ρ σ F1 cs tgt lv st) (kf : ¬ (y < x) → Sim Θ nL ρ σ F2 cs (pc + 3) lv st) : Sim Θ nL ρ σ (if y < x then F1 else F2) cs pc lv (.int y :: .int x :: st) := by
  obtain ⟨p, l, e, R, s, m, args, below, meth, c, Q, WW, A, rfl, hx, hb, hml, ho, hts⟩ := hc
  intro hF ls hl H locs hW hS
  exact lv_icmp_gt hx hb hd ht (fun q => kt q (by rw [if_pos q] at hF; exact hF) ls hl H locs hW hS) (fun q => kf q (by rw [if_neg q] at hF; exact hF) ls hl H locs hW hS)
theorem s_icmp_le (hc : Cx0 Θ cc nL own) {F1 F2 : Option γ} {x y : Int32} {off : Int} {tgt : Nat} (hd : decode cc pc = .ok (.if_icmp .le off, 3)) (ht : (pc : Int) + off = (tgt : Int)) (kt : (x ≤ y) → Sim Θ nL ρ σ F1 cs tgt lv st) (kf : ¬ (x ≤ y) → Sim Θ nL ρ σ F2 cs (pc + 3) lv st) : Sim Θ nL ρ σ (if x ≤ y then F1 else F2) cs pc lv (.int y :: .int x :: st) := by
  obtain ⟨p, l, e, R, s, m, args, below, meth, c, Q, WW, A, rfl, hx, hb, hml, ho, hts⟩ := hc
  intro hF ls hl H locs hW hS
  exact lv_icmp_le hx hb hd ht (fun q => kt q (by rw [if_pos q] at hF; exact hF) ls hl H locs hW hS) (fun q => kf q (by rw [if_neg q] at hF; exact hF) ls hl H locs hW hS)
theorem s_if_eq_ (hc : Cx0 Θ cc nL own) {x : Int32} {off : Int} {tgt : Nat} (hd : decode cc pc = .ok (.ifCond .eq off, 3)) (ht : (pc : Int) + off = (tgt : Int)) (kt : (x = 0) → Sim Θ nL ρ σ F cs tgt lv st) (kf : ¬ (x = 0) → Sim Θ nL ρ σ F cs (pc + 3) lv st) : Sim Θ nL ρ σ F cs pc lv (.int x :: st) := by
  obtain ⟨p, l, e, R, s, m, args, below, meth, c, Q, WW, A, rfl, hx, hb, hml, ho, hts⟩ := hc
  intro hF ls hl H locs hW hS
  exact lv_if_eq hx hb hd ht (fun q => kt q hF ls hl H locs hW hS) (fun q => kf q hF ls hl H locs hW hS)
theorem s_if_ne_ (hc : Cx0 Θ cc nL own) {x : Int32} {off : Int} {tgt : Nat} (hd : decode cc pc = .ok (.ifCond .ne off, 3)) (ht : (pc : Int) + off = (tgt : Int)) (kt : ¬ (x = 0) → Sim Θ nL ρ σ F cs tgt lv st) (kf : (x = 0) → Sim Θ nL ρ σ F cs (pc + 3) lv st) : Sim Θ nL ρ σ F cs pc lv (.int x :: st) := by
  obtain ⟨p, l, e, R, s, m, args, below, meth, c, Q, WW, A, rfl, hx, hb, hml, ho, hts⟩ := hc
  intro hF ls hl H locs hW hS
  exact lv_if_ne hx hb hd ht (fun q => kt q hF ls hl H locs hW hS) (fun q => kf q hF ls hl H locs hW hS)
theorem s_if_lt_ (hc : Cx0 Θ cc nL own) {x : Int32} {off : Int} {tgt : Nat} (hd : decode cc pc = .ok (.ifCond .lt off, 3)) (ht : (pc : Int) + off = (tgt : Int)) (kt : (x < 0) → Sim Θ nL ρ σ F cs tgt lv st) (kf : ¬ (x < 0) → Sim Θ nL ρ σ F cs (pc + 3) lv st) : Sim Θ nL ρ σ F cs pc lv (.int x :: st) := by
  obtain ⟨p, l, e, R, s, m, args, below, meth, c, Q, WW, A, rfl, hx, hb, hml, ho, hts⟩ := hc
  intro hF ls hl H locs hW hS
  exact lv_if_lt hx hb hd ht (fun q => kt q hF ls hl H locs hW hS) (fun q => kf q hF ls hl H locs hW hS)
theorem s_if_ge_ (hc : Cx0 Θ cc nL own) {x : Int32} {off : Int} {tgt : Nat} (hd : decode cc pc = .ok (.ifCond .ge off, 3)) (ht : (pc : Int) + off = (tgt : Int)) (kt : (0 ≤ x) → Sim Θ nL ρ σ F cs tgt lv st) (kf : ¬ (0 ≤ x) → Sim Θ nL ρ σ F cs (pc + 3) lv st) : Sim Θ nL ρ σ F cs pc lv (.int x :: st) := by
  obtain ⟨p, l, e, R, s, m, args, below, meth, c, Q, WW, A, rfl, hx, hb, hml, ho, hts⟩ := hc
  intro hF ls hl H locs hW hS
  exact lv_if_ge hx hb hd ht (fun q => kt q hF ls hl H locs hW hS) (fun q => kf q hF ls hl H locs hW hS)
theorem s_if_gt_ (hc : Cx0 Θ cc nL own) {x : Int32} {off : Int} {tgt : Nat} (hd : decode cc pc = .ok (.ifCond .gt off, 3)) (ht : (pc : Int) + off = (tgt : Int)) (kt : (0 < x) → Sim Θ nL ρ σ F cs tgt lv st) (kf : ¬ (0 < x) → Sim Θ nL ρ σ F cs (pc + 3) lv st) : Sim Θ nL ρ σ F cs pc lv (.int x :: st) := by
  obtain ⟨p, l, e, R, s, m, args, below, meth, c, Q, WW, A, rfl, hx, hb, hml, ho, hts⟩ := hc
  intro hF ls hl H locs hW hS
  exact lv_if_gt hx hb hd ht (fun q => kt q hF ls hl H locs hW hS) (fun q => kf q hF ls hl H locs hW hS)
theorem s_if_le_ (hc : Cx0 Θ cc nL own) {x : Int32} {off : Int} {tgt : Nat} (hd : decode cc pc = .ok (.ifCond .le off, 3)) (ht : (pc : Int) + off = (tgt : Int)) (kt : (x ≤ 0) → Sim Θ nL ρ σ F cs tgt lv st) (kf : ¬ (x ≤ 0) → Sim Θ nL ρ σ F cs (pc + 3) lv st) : Sim Θ nL ρ σ F cs pc lv (.int x :: st) := by
  obtain ⟨p, l, e, R, s, m, args, below, meth, c, Q, WW, A, rfl, hx, hb, hml, ho, hts⟩ := hc
  intro hF ls hl H locs hW hS
  exact lv_if_le hx hb hd ht (fun q => kt q hF ls hl H locs hW hS) (fun q => kf q hF ls hl H locs hW hS)
theorem s_icmp_eq_ (hc : Cx0 Θ cc nL own) {x y : Int32} {off : Int} {tgt : Nat} (hd : decode cc pc = .ok (.if_icmp .eq off, 3)) (ht : (pc : Int) + off = (tgt : Int)) (kt : (x = y) → Sim Θ nL ρ σ F cs tgt lv st) (kf : ¬ (x = y) → Sim Θ nL ρ σ F cs (pc + 3) lv st) : Sim Θ nL ρ σ F cs pc lv (.int y :: .int x :: st) := by
  obtain ⟨p, l, e, R, s, m, args, below, meth, c, Q, WW, A, rfl, hx, hb, hml, ho, hts⟩ := hc
  intro hF ls hl H locs hW hS
  exact lv_icmp_eq hx hb hd ht (fun q => kt q hF ls hl H locs hW hS) (fun q => kf q hF ls hl H locs hW hS)
theorem s_icmp_ne_ (hc : Cx0 Θ cc nL own) {x y : Int32} {off : Int} {tgt : Nat} (hd : decode cc pc = .ok (.if_icmp .ne off, 3)) (ht : (pc : Int) + off = (tgt : Int)) (kt : ¬ (x = y) → Sim Θ nL ρ σ F cs tgt lv st) (kf : (x = y) → Sim Θ nL ρ σ F cs (pc + 3) lv st) : Sim Θ nL ρ σ F cs pc lv (.int y :: .int x :: st) := by
  obtain ⟨p, l, e, R, s, m, args, below, meth, c, Q, WW, A, rfl, hx, hb, hml, ho, hts⟩ := hc
  intro hF ls hl H locs hW hS
  exact lv_icmp_ne hx hb hd ht (fun q => kt q hF ls hl H locs hW hS) (fun q => kf q hF ls hl H locs hW hS)
theorem s_icmp_lt_ (hc : Cx0 Θ cc nL own) {x y : Int32} {off : Int} {tgt : Nat} (hd : decode cc pc = .ok (.if_icmp .lt off, 3)) (ht : (pc : Int) + off = (tgt : Int)) (kt : (x < y) → Sim Θ nL ρ σ F cs tgt lv st) (kf : ¬ (x < y) → Sim Θ nL ρ σ F cs (pc + 3) lv st) : Sim Θ nL ρ σ F cs pc lv (.int y :: .int x :: st) := by
  obtain ⟨p, l, e, R, s, m, args, below, meth, c, Q, WW, A, rfl, hx, hb, hml, ho, hts⟩ := hc
  intro hF ls hl H locs hW hS
  exact lv_icmp_lt hx hb hd ht (fun q => kt q hF ls hl H locs hW hS) (fun q => kf q hF ls hl H locs hW hS)
theorem s_icmp_ge_ (hc : Cx0 Θ cc nL own) {x y : Int32} {off : Int} {tgt : Nat} (hd : decode cc pc = .ok (.if_icmp .ge off, 3)) (ht : (pc : Int) + off = (tgt : Int)) (kt : (y ≤ x) → Sim Θ nL ρ σ F cs tgt lv st) (kf : ¬ (y ≤ x) → Sim Θ nL ρ σ F cs (pc + 3) lv st) : Sim Θ nL ρ σ F cs pc lv (.int y :: .int x :: st) := by
  obtain ⟨p, l, e, R, s, m, args, below, meth, c, Q, WW, A, rfl, hx, hb, hml, ho, hts⟩ := hc
  intro hF ls hl H locs hW hS
  exact lv_icmp_ge hx hb hd ht (fun q => kt q hF ls hl H locs hW hS) (fun q => kf q hF ls hl H locs hW hS)
theorem s_icmp_gt_ (hc : Cx0 Θ cc nL own) {x y : Int32} {off : Int} {tgt : Nat} (hd : decode cc pc = .ok (.if_icmp .gt off, 3)) (ht : (pc : Int) + off = (tgt : Int)) (kt : (y < x) → Sim Θ nL ρ σ F cs tgt lv st) (kf : ¬ (y < x) → Sim Θ nL ρ σ F cs (pc + 3) lv st) : Sim Θ nL ρ σ F cs pc lv (.int y :: .int x :: st) := by
  obtain ⟨p, l, e, R, s, m, args, below, meth, c, Q, WW, A, rfl, hx, hb, hml, ho, hts⟩ := hc
  intro hF ls hl H locs hW hS
  exact lv_icmp_gt hx hb hd ht (fun q => kt q hF ls hl H locs hW hS) (fun q => kf q hF ls hl H locs hW hS)
theorem s_icmp_le_ (hc : Cx0 Θ cc nL own) {x y : Int32} {off : Int} {tgt : Nat} (hd : decode cc pc = .ok (.if_icmp .le off, 3)) (ht : (pc : Int) + off = (tgt : Int)) (kt : (x ≤ y) → Sim Θ nL ρ σ F cs tgt lv st) (kf : ¬ (x ≤ y) → Sim Θ nL ρ σ F cs (pc + 3) lv st) : Sim Θ nL ρ σ F cs pc lv (.int y :: .int x :: st) := by
  obtain ⟨p, l, e, R, s, m, args, below, meth, c, Q, WW, A, rfl, hx, hb, hml, ho, hts⟩ := hc
  intro hF ls hl H locs hW hS
  exact lv_icmp_le hx hb hd ht (fun q => kt q hF ls hl H locs hW hS) (fun q => kf q hF ls hl H locs hW hS)
theorem s_nmI {x : Int32} {K : Int32 → Option γ} (kk : ∀ y : Int32, Sim Θ nL ρ σ (K y) cs pc lv (.int y :: st)) : Sim Θ nL ρ σ (lt_ x K) cs pc lv (.int x :: st) := kk x
theorem s_nmL {x : Int64} {K : Int64 → Option γ} (kk : ∀ y : Int64, Sim Θ nL ρ σ (K y) cs pc lv (.long y :: st)) : Sim Θ nL ρ σ (lt_ x K) cs pc lv (.long x :: st) := kk x
theorem s_dia {J : Nat} {v : Value} {stb : List Value} (hb : ∀ F : Option γ, Sim Θ nL ρ σ F cs J lv (v :: st) → Sim Θ nL ρ σ F cs pc lv stb) (hJ : Sim Θ nL ρ σ F cs J lv (v :: st)) : Sim Θ nL ρ σ F cs pc lv stb := hb F hJ
end SIMR
def nzI (x : Int32) : Bool := !(decide (x = 0))
def nzL (x : Int64) : Bool := !(decide (x = 0))
theorem nzI_ne {x : Int32} (h : nzI x = true) : ¬ x = 0 := by simpa [nzI] using h
theorem nzL_ne {x : Int64} (h : nzL x = true) : ¬ x = 0 := by simpa [nzL] using h
def zb (x : Int32) : Bool := decide (x = 0) || decide (x = 1)
theorem zb_spec {x : Int32} (h : zb x = true) : narrow .boolean (.int x) = .int x := by
  simp only [zb, Bool.or_eq_true, decide_eq_true_eq] at h
  rcases h with rfl | rfl <;> rfl
theorem zb_fits {x : Int32} (h : zb x = true) : fits .boolean (.int x) = true := by
  simp only [zb, Bool.or_eq_true, decide_eq_true_eq] at h
  rcases h with rfl | rfl <;> rfl
theorem nb_ite {c : Prop} [Decidable c] {a b : Int32} (ha : narrow .boolean (.int a) = .int a) (hb : narrow .boolean (.int b) = .int b) : narrow .boolean (.int (if c then a else b)) = .int (if c then a else b) := by
  split
  · exact ha
  · exact hb
theorem fb_ite {c : Prop} [Decidable c] {a b : Int32} (ha : fits .boolean (.int a) = true) (hb : fits .boolean (.int b) = true) : fits .boolean (.int (if c then a else b)) = true := by
  split
  · exact ha
  · exact hb
abbrev Geo : Type := va_G × (Nat → ClassId) × Nat × Nat
def rk (r c s : Nat) : Room := { frames := r, cells := c, slots := s, locals := 40 * r }
