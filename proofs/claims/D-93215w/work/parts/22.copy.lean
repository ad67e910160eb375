/-! COPIES OF ARRAYS -/
set_option maxRecDepth 100000
theorem av_run (cI : ClassId) (N at_ : Nat) (l : List (Value × Nat)) : ∀ f : Nat → Value, ∃ g : Nat → Value, (arrV cI N f).storePairs at_ l = arrV cI N g := by
  induction l with
  | nil => exact fun f => ⟨f, rfl⟩
  | cons q r ih =>
    intro f
    obtain ⟨g, hg⟩ := ih (updV f (at_ + q.2) q.1)
    refine ⟨g, ?_⟩
    rw [← hg, ← arrV_store]
    rfl
theorem av_congr {cI : ClassId} {N : Nat} {f g : Nat → Value} (h : ∀ j, j < N → f j = g j) : arrV cI N f = arrV cI N g := by
  have e : (fun j : Fin N => f j.val) = fun j : Fin N => g j.val := funext fun j => h j.val j.isLt
  unfold arrV
  rw [e]
theorem av_storeRun (cI : ClassId) (N at_ : Nat) (f : Nat → Value) (vs : List Value) (hin : at_ + vs.length ≤ N) : (arrV cI N f).storeRun at_ vs = arrV cI N (fun q => if at_ ≤ q ∧ q < at_ + vs.length then vs.getD (q - at_) .null else f q) := by
  obtain ⟨g, hg⟩ := av_run cI N at_ vs.zipIdx f
  have hg' : (arrV cI N f).storeRun at_ vs = arrV cI N g := hg
  rw [hg']
  refine av_congr fun j hj => ?_
  have h1 := Cell.storeRun_get (arrV cI N f) at_ vs j (by rw [arrV_size]; exact hin)
  rw [hg', arrV_read cI g hj, arrV_read cI f hj] at h1
  split at h1
  · rename_i h2
    rw [if_pos h2, List.getD_eq_getElem?_getD, ← h1]
    rfl
  · rename_i h2
    rw [if_neg h2]
    exact Option.some.inj h1
theorem nn_toInt {x : Int32} (h : ¬ x < 0) : x.toInt = (x.toNatClampNeg : Int) := by
  have h0 : ¬ x.toInt < (0 : Int32).toInt := fun q => h (Int32.lt_iff_toInt_lt.mpr q)
  have h1 : (0 : Int32).toInt = 0 := rfl
  have h2 : x.toNatClampNeg = x.toInt.toNat := rfl
  rw [h2]
  omega
section ACW
variable {p : Program} {l : Launch} {e : Env} {R : Room} {s : State} {m : MethodId} {args : Array Value} {below : List Frame} {meth : Method} {c : Code} {H : Heap} {locs : List Loc} {cells slots : Nat} {Q : State → Prop}
theorem W.acp {cc : ByteArray} (hexec : p.tables.exec = Jvm.exec) (hb : c.code = cc) {own : String} {index : Nat} (hown : s.vm.findClass own = some m.cls) (hts : ∀ w ∈ lw_all, w.before args s = true)
    (hlink : Cond.methodLink own index arraycopyName ∈ lw_all) (hnat : Cond.native arraycopyName ∈ lw_all) (hstat : Cond.static arraycopyName ∈ lw_all) (hinit : Cond.initialized "java/lang/System" ∈ lw_all)
    {src dst : Addr} {sp dp n : Int32} {cA cB : ClassId} {N1 N2 : Nat} {f1 f2 : Nat → Value} {ty : FieldType}
    (hs : H[src]? = some (arrV cA N1 f1)) (hd : H[dst]? = some (arrV cB N2 f2)) (ha1 : s.isArrayOf (arrV cA N1 f1) ty) (ha2 : s.isArrayOf (arrV cB N2 f2) ty) (hpr : refKind ty = false)
    (h1 : ¬ sp < 0) (h2 : ¬ dp < 0) (h3 : ¬ n < 0) (h4 : sp.toNatClampNeg + n.toNatClampNeg ≤ N1) (h5 : dp.toNatClampNeg + n.toNatClampNeg ≤ N2)
    (hfit : ∀ i, i < n.toNatClampNeg → fits ty (f1 (sp.toNatClampNeg + i)) = true ∧ ∀ x, f1 (sp.toNatClampNeg + i) ≠ .ref x)
    {g : JFrame} (hg : g.method = m) (hsize : g.locals.size = c.maxLocals) {rest : List Value} (hstack : g.stack = .int n :: .int dp :: .ref dst :: .int sp :: .ref src :: rest) (hdg : decode cc g.pc = .ok (.invokestatic index, 3))
    (hframes : 1 ≤ R.frames) (hlocals : 2 * g.monitorRoom + (rest.map fun v => v.category).sum + 18 ≤ R.locals)
    (kk : ∀ (H' : Heap) (L : List Loc), H'[dst]? = some (arrV cB N2 (fun q => if dp.toNatClampNeg ≤ q ∧ q < dp.toNatClampNeg + n.toNatClampNeg then f1 (sp.toNatClampNeg + (q - dp.toNatClampNeg)) else f2 q)) → H'.size = H.size → (∀ q, q ≠ dst → H'[q]? = H[q]?) → (∀ q ∈ L, q.base = dst) → W p l e R s m args below meth c H' (locs ++ L) cells slots Q { g with pc := g.pc + 3, stack := rest }) :
    W p l e R s m args below meth c H locs cells slots Q g := by
  intro T hT X
  obtain ⟨hso, ks, hks, sC, hsk⟩ := ha1
  obtain ⟨hdo, kd, hkd, dC, hdk⟩ := ha2
  have hlen : ((arrV cA N1 f1).stretch sp.toNatClampNeg n.toNatClampNeg).length = n.toNatClampNeg := by simp [Cell.stretch]
  have hval : ∀ i, i < n.toNatClampNeg → (arrV cA N1 f1).slots.getD (sp.toNatClampNeg + i) .null = f1 (sp.toNatClampNeg + i) := fun i hi => by
    rw [Array.getD_eq_getD_getElem?, arrV_read cA f1 (by omega)]
    rfl
  have e1 := nn_toInt h1
  have e2 := nn_toInt h2
  have e3 := nn_toInt h3
  obtain ⟨vm', X', st⟩ := X.arraycopy hexec hown (hts _ hlink) (hts _ hnat) (hts _ hstat) (hts _ hinit) (src := src) (dst := dst) (srcPos := sp) (destPos := dp) (n := n) (by rw [hT]; exact hs) (by rw [hT]; exact hd) hso hdo (by intro h; cases h) (by intro h; cases h) hks hkd hsk hdk
    (by rw [hpr]; simp) h1 h2 h3 (by rw [arrV_size, e1, e3]; omega) (by rw [arrV_size, e2, e3]; omega)
    (fun vm' _ i hi => by
      rw [hval i hi]
      refine ⟨(hfit i hi).1, ?_⟩
      have hr := (hfit i hi).2
      cases hf : f1 (sp.toNatClampNeg + i) with
      | ref x => exact absurd hf (hr x)
      | _ => trivial) hg hsize hstack (by rw [hb]; exact hdg) hframes hlocals
  have hcell : copied (arrV cA N1 f1) (arrV cB N2 f2) sp dp n = arrV cB N2 (fun q => if dp.toNatClampNeg ≤ q ∧ q < dp.toNatClampNeg + n.toNatClampNeg then f1 (sp.toNatClampNeg + (q - dp.toNatClampNeg)) else f2 q) := by
    show (arrV cB N2 f2).storeRun dp.toNatClampNeg ((arrV cA N1 f1).stretch sp.toNatClampNeg n.toNatClampNeg) = _
    rw [av_storeRun _ _ _ _ _ (by rw [hlen]; exact h5), hlen]
    refine av_congr fun j hj => ?_
    by_cases hq : dp.toNatClampNeg ≤ j ∧ j < dp.toNatClampNeg + n.toNatClampNeg
    · rw [if_pos hq, if_pos hq, ← hval (j - dp.toNatClampNeg) (by omega)]
      have hi : j - dp.toNatClampNeg < n.toNatClampNeg := by omega
      simp [Cell.stretch, List.getD_eq_getElem?_getD, hi]
    · rw [if_neg hq, if_neg hq]
  rw [hcell] at X' st
  have hdT : (T.setVm vm').heap[dst]? = some (arrV cB N2 f2) := by show T.heap[dst]? = _; rw [hT]; exact hd
  have hdl : dst < T.heap.size := by rw [hT]; exact (Array.getElem?_eq_some_iff.mp hd).1
  obtain ⟨t, a1, b1⟩ := kk _ _ (State.heap_setCell_self hdT) (by rw [size_setCell]; show T.heap.size = _; rw [hT]) (fun q hq => by
      show ((T.setVm vm').setCell dst _).heap[q]? = _
      rw [← hT]
      simp [State.setCell, State.setVm, Array.getElem?_setIfInBounds, Ne.symm hq]) (fun q hq => by
      obtain ⟨z, -, rfl⟩ := List.mem_map.mp hq
      rfl) _ rfl X'
  exact ⟨t, st t a1, b1⟩
end ACW
def cpI (σ : Mem) (kf kt : Nat) : Mem := (fun c i => if c = kt then σ.1 kf i else σ.1 c i, σ.2)
theorem cpI_ne (σ : Mem) (kf kt : Nat) : ∀ j, j ≠ kt → (cpI σ kf kt).1 j = σ.1 j ∧ (cpI σ kf kt).2.1 j = σ.2.1 j ∧ (cpI σ kf kt).2.2.1 j = σ.2.2.1 j := fun j hj => ⟨by funext i; simp [cpI, hj], rfl, rfl⟩
theorem cpI_row (σ : Mem) (kf kt : Nat) : (cpI σ kf kt).1 kt = σ.1 kf := by funext i; simp [cpI]
section ACS
variable {γ : Type} {Θ : ThT Mem} {V : Mod} {cc : ByteArray} {nL : Nat} {own : String} {rm : Room} {ret : Option FieldType} {hs : List (Nat × Nat × Nat × Nat)} {ini : Bool} {O : Outcome} {σ' : Mem} {ρ : γ} {σ : Mem} {cs : Nat × Nat} {pc : Nat} {lv : List (Nat × Value)} {st : List Value}
/-- the whole of a fixed array of ints into another of the same length -/
theorem s_acI (hc : Cx Θ V cc nL own rm ret hs ini O σ') {K : Mem → Option γ} {kf kt t N index : Nat} {cA : ClassId} {n : Int32} (hkf : kf < vK V) (hkt : kt < vK V) (hYf : vY V kf (σ.1 kf) (σ.2.1 kf) (σ.2.2.1 kf) = .inl (cA, N, .inl (σ.1 kf))) (hYt : ∀ a, vY V kt a (σ.2.1 kt) (σ.2.2.1 kt) = .inl (cA, N, .inl a)) (ht : (vT V)[t]? = some (cA, .int))
    (hn : ¬ n < 0 ∧ n.toNatClampNeg = N) (hlink : Cond.methodLink own index arraycopyName ∈ lw_all) (hnat : Cond.native arraycopyName ∈ lw_all) (hstat : Cond.static arraycopyName ∈ lw_all) (hinit : Cond.initialized "java/lang/System" ∈ lw_all)
    (hf : 1 ≤ rm.frames ∧ 26 ≤ rm.locals) (hst : (st.map fun v => v.category).sum ≤ 8) (hd : decode cc pc = .ok (.invokestatic index, 3)) (kk : ∀ σ1 : Mem, Sim Θ nL ρ σ1 (K σ1) cs (pc + 3) lv st) :
    Sim Θ nL ρ σ (lt_ (cpI σ kf kt) K) cs pc lv (.int n :: .int 0 :: .ref (vO V + kt) :: .int 0 :: .ref (vO V + kf) :: st) := by
  obtain ⟨p, l, e, s, m, args, below, meth, c, Q, rfl, hx, hb, hml, ho, hts, ⟨hK, hE⟩, hr, hlk, htab, hQ, hini⟩ := hc
  intro hF ls hl H locs hW hS
  have h8 : 2 * (F0 m pc ls st).monitorRoom + (st.map fun v => v.category).sum ≤ 8 := lv_room hst
  refine W.acp hx hb ho hts hlink hnat hstat hinit (sp := 0) (dp := 0) (n := n) (f1 := fun j => .int (σ.1 kf j)) (f2 := fun j => .int (σ.1 kt j)) (N1 := N) (N2 := N) ((hW.one hkf hYf) 0 _ rfl) ((hW.one hkt (hYt _)) 0 _ rfl) ((hK.2 t _ ht).1 N _) ((hK.2 t _ ht).1 N _) rfl (by decide) (by decide) hn.1 (by rw [hn.2]; exact Nat.le_of_eq (Nat.zero_add N)) (by rw [hn.2]; exact Nat.le_of_eq (Nat.zero_add N)) (fun i hi => ⟨rfl, fun x h => by cases h⟩) rfl (hl.1.trans hml.symm) rfl hd hf.1 (by show 2 * (F0 m pc ls st).monitorRoom + _ + 18 ≤ _; omega) fun H1 L e1 z oq hL => ?_
  refine kk (cpI σ kf kt) hF ls hl H1 _ (hW.put hkt ?_ (cpI_ne σ kf kt) rfl z oq) ⟨by rw [z]; exact hS.1, fun q h1 h2 => ?_, fun q hq => ?_⟩
  · rw [cpI_row]
    show va_at _ _ (vO V + kt, vY V kt (σ.1 kf) (σ.2.1 kt) (σ.2.2.1 kt)) H1
    rw [hYt]
    show H1[vO V + kt]? = some (vp_cell _ _)
    rw [e1, vp_cell_i]
    congr 1
    refine av_congr fun j hj => ?_
    rw [if_pos ⟨Nat.zero_le _, by rw [hn.2]; exact Nat.lt_of_lt_of_eq hj (Nat.zero_add N).symm⟩]
    show Value.int (σ.1 kf (0 + (j - 0))) = _
    rw [Nat.zero_add, Nat.sub_zero]
  · rw [oq q (fun e => h2 (by rw [e]; exact AA.fix hkt))]
    exact hS.2.1 q h1 h2
  · rcases List.mem_append.mp hq with h | h
    · exact hS.2.2 q h
    · rw [hL q h]; exact AA.fix hkt
end ACS
theorem cX1_row_ct {g : GeoX} {σ : Mem} {kf kt N : Nat} {n : Int32} (hkf : kf < vK (VX g)) (hkt : kt < vK (VX g)) (hYf : vY (VX g) kf (σ.1 kf) (σ.2.1 kf) (σ.2.2.1 kf) = .inl (g.1.2.1 0, N, .inl (σ.1 kf))) (hYt : ∀ a, vY (VX g) kt a (σ.2.1 kt) (σ.2.2.1 kt) = .inl (g.1.2.1 0, N, .inl a)) (hv : Int32.ofNat N = n) (hn : ¬ n < 0 ∧ n.toNatClampNeg = N) (l : Launch) :
    Ct (VX g) l yX1_row cX1_row 2 none (rk 1 0 0) [.ref (vO (VX g) + kf), .ref (vO (VX g) + kt)] σ oV (cpI σ kf kt) := by
  refine Ct.of (by decide) (Nat.le_of_ble_eq_true rfl) (fun Θ hc ls hl => ?_)
  have key : Sim Θ 2 ((), cpI σ kf kt) σ (lt_ (cpI σ kf kt) fun σ1 => some ((), σ1)) (0, 0) 0 [(0, .ref (vO (VX g) + kf)), (1, .ref (vO (VX g) + kt))] [] := by
    have hz := hc.z
    refine s_aload_n hz dX1_row_0 rfl 0 rfl ?_
    refine s_iconst (v := (0 : Int32)) hz dX1_row_1 (by decide) ?_
    refine s_aload_n hz dX1_row_2 rfl 1 rfl ?_
    refine s_iconst (v := (0 : Int32)) hz dX1_row_3 (by decide) ?_
    refine s_aload_n hz dX1_row_4 rfl 1 rfl ?_
    refine s_alen hc (t := 0) hkt (hYt _) rfl hv dX1_row_5 ?_
    refine s_acI hc (t := 0) hkf hkt hYf hYt rfl hn q1030 q1018 q1017 q87 ⟨Nat.le_of_ble_eq_true rfl, Nat.le_of_ble_eq_true rfl⟩ (Nat.le_of_ble_eq_true rfl) dX1_row_6 (fun σ1 => ?_)
    exact s_vretM (ρ := ((), cpI σ kf kt)) hc dX1_row_9 (Nat.le_of_ble_eq_true rfl) (Nat.le_of_ble_eq_true rfl)
  exact key rfl ls hl
