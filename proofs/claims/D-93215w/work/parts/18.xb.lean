set_option maxRecDepth 100000
theorem rX_wi_X6_7 {γ : Type} {Θ : ThT Mem} {g : GeoX} {cc : ByteArray} {nL : Nat} {rm : Room} {ret : Option FieldType} {hs : List (Nat × Nat × Nat × Nat)} {ini : Bool} {O : Outcome} {σ' : Mem} {ρ : γ} {σ : Mem} {F : Option γ} {cs : Nat × Nat} {pc : Nat} {lv : List (Nat × Value)} {st : List Value} (hc : Cx Θ (VX g) cc nL RX6 rm ret hs ini O σ') {a : Nat} {x : Int32} {σ1 : Mem} (hi1 : ini = true) (h : wV 5 6 σ a 6 (.int x) = some σ1) (hd : decode cc pc = .ok (.putfield 7, 3)) (kk : Sim Θ nL ρ σ1 F cs (pc + 3) lv st) : Sim Θ nL ρ σ F cs pc lv (.int x :: .ref (vO (VX g) + a) :: st) := by
  obtain ⟨c, fs, ha, h1, h2, hlen, rfl⟩ := wV_spec h
  have h3 : c = 5 := by omega
  rcases h3 with rfl
  · exact s_dput hc (C := RX6) (T := TX6) (N := 7) (v := (.int x)) ha in_X6 tyX6_ok nmX6 rfl 6 (Nat.le_of_ble_eq_true rfl) q330 (fun _ _ _ _ h => h) (ty := .int) (by decide +kernel) rfl rfl hlen (Or.inr ⟨rfl, hi1, rfl⟩) hd kk
def fX6_init (N : Nat) (σ : Mem) (x0 : Nat) (x1 : Int32) : Option (Unit × Mem) :=
  gb (thrOK σ x0) (
  (wV 5 6 σ x0 6 (.int x1)).bind (fun σ2 => 
  some ((), σ2)))
set_option maxHeartbeats 4000000 in
theorem wfX6_init {Θ : ThT Mem} {g : GeoX} {N : Nat}  {ρ : Unit × Mem} (σ : Mem) (x0 : Nat) (x1 : Int32) (hc : Cx Θ (VX g) cX6_init 2 RX6 (rk 3 0 0) none [] true (oV) ρ.2) : Sim Θ 2 ρ σ (fX6_init N σ x0 x1) (0, 0) 0 [(0, .ref (vO (VX g) + x0)), (1, .int x1)] [] := by
  have hz := hc.z
  unfold fX6_init
  refine s_aload_n hz dX6_init_0 rfl 0 rfl ?_
  refine s_null hz dX6_init_1 ?_
  refine s_null hz dX6_init_2 ?_
  refine s_iconst (v := (0 : Int32)) hz dX6_init_3 (by decide) ?_
  refine s_iconst (v := (0 : Int32)) hz dX6_init_4 (by decide) ?_
  refine s_gb (fun h1 => ?_)
  refine kX_thr_X6_1 (rm := rk 3 0 0) hc h1 ⟨(Nat.le_of_ble_eq_true rfl), (Nat.le_of_ble_eq_true rfl)⟩ (Nat.le_of_ble_eq_true rfl) dX6_init_5 ?_
  refine s_aload_n hz dX6_init_8 rfl 0 rfl ?_
  refine s_iload_n hz dX6_init_9 rfl 1 rfl ?_
  refine s_bind (fun σ2 e3 => ?_)
  refine rX_wi_X6_7 hc rfl e3 dX6_init_10 ?_
  exact s_vretM hc dX6_init_13 (Nat.le_of_ble_eq_true rfl) (Nat.le_of_ble_eq_true rfl)
theorem cfX6_init {g : GeoX} {N : Nat}  {σ : Mem} {x0 : Nat} {x1 : Int32} {ρ : Unit × Mem} (hF : fX6_init N σ x0 x1 = some ρ) (l : Launch) : Ct (VX g) l yX6_init cX6_init 2 none (rk 3 0 0) [.ref (vO (VX g) + x0), .int x1] σ (oV) ρ.2 :=
  Ct.ofFI true (plainFor_of_name (by decide)) (fun h => rfl) (Nat.le_of_ble_eq_true rfl) (fun Θ hc ls hl => wfX6_init σ x0 x1 hc hF ls hl)
theorem rX_d_X6_7 {γ : Type} {Θ : ThT Mem} {g : GeoX} {cc : ByteArray} {nL : Nat} {rm : Room} {ret : Option FieldType} {hs : List (Nat × Nat × Nat × Nat)} {ini : Bool} {O : Outcome} {σ' : Mem} {ρ : γ} {σ : Mem} {F : Option γ} {cs : Nat × Nat} {pc : Nat} {lv : List (Nat × Value)} {st : List Value} (hc : Cx Θ (VX g) cc nL RX6 rm ret hs ini O σ') {a : Nat} {v : Int32} (h : dI 5 6 σ a 6 = some v) (hd : decode cc pc = .ok (.getfield 7, 3)) (kk : Sim Θ nL ρ σ F cs (pc + 3) lv (.int v :: st)) : Sim Θ nL ρ σ F cs pc lv (.ref (vO (VX g) + a) :: st) := by
  obtain ⟨c, fs, ha, h1, h2, hv⟩ := dI_spec h
  have h3 : c = 5 := by omega
  rcases h3 with rfl
  · exact s_dget hc (C := RX6) (T := TX6) (N := 7) ha in_X6 rfl 6 (Nat.le_of_ble_eq_true rfl) q330 (fun _ _ _ _ h => h) hv hd kk
def fX6_answer (N : Nat) (σ : Mem) (x0 : Nat) : Option (Int32) :=
  (dI 5 6 σ x0 6).bind (fun v1 => 
  some ((-1000000001 : Int32) - v1))
set_option maxHeartbeats 4000000 in
theorem wfX6_answer {Θ : ThT Mem} {g : GeoX} {N : Nat}  {ρ : Int32} (σ : Mem) (x0 : Nat) (hc : Cx Θ (VX g) cX6_answer 1 RX6 (rk 1 0 0) (some .int) [] false (oI ρ) σ) : Sim Θ 1 ρ σ (fX6_answer N σ x0) (0, 0) 0 [(0, .ref (vO (VX g) + x0))] [] := by
  have hz := hc.z
  unfold fX6_answer
  refine s_ldc hz dX6_answer_0 q359 ?_
  refine s_aload_n hz dX6_answer_2 rfl 0 rfl ?_
  refine s_bind (fun v1 e2 => ?_)
  refine rX_d_X6_7 hc e2 dX6_answer_3 ?_
  refine s_isub hz dX6_answer_6 ?_
  exact s_iret hc dX6_answer_7 (Nat.le_of_ble_eq_true rfl) (Nat.le_of_ble_eq_true rfl)
theorem cfX6_answer {g : GeoX} {N : Nat}  {σ : Mem} {x0 : Nat} {ρ : Int32} (hF : fX6_answer N σ x0 = some ρ) (l : Launch) : Ct (VX g) l yX6_answer cX6_answer 1 (some .int) (rk 1 0 0) [.ref (vO (VX g) + x0)] σ (oI ρ) σ :=
  Ct.of (by decide) (Nat.le_of_ble_eq_true rfl) (fun Θ hc ls hl => wfX6_answer σ x0 hc hF ls hl)
theorem rX_g_X0_63_0 {γ : Type} {Θ : ThT Mem} {g : GeoX} {cc : ByteArray} {nL : Nat} {rm : Room} {ret : Option FieldType} {hs : List (Nat × Nat × Nat × Nat)} {ini : Bool} {O : Outcome} {σ' : Mem} {ρ : γ} {σ : Mem} {F : Option γ} {cs : Nat × Nat} {pc : Nat} {lv : List (Nat × Value)} {st : List Value} (hc : Cx Θ (VX g) cc nL RX0 rm ret hs ini O σ') (hd : decode cc pc = .ok (.getfield 63, 3)) (kk : Sim Θ nL ρ σ F cs (pc + 3) lv (.ref (vO (VX g) + 61) :: st)) : Sim Θ nL ρ σ F cs pc lv (.ref (vO (VX g) + 0) :: st) := s_get hc (C := RX0) (T := TX0) (N := 19) (ci := 0) (k := 0) in_X0 (Nat.le_of_ble_eq_true rfl) rfl rfl 6 (Nat.le_of_ble_eq_true rfl) q216 (fun _ _ _ _ h => h) rfl hd kk
theorem rX_d_X0_111 {γ : Type} {Θ : ThT Mem} {g : GeoX} {cc : ByteArray} {nL : Nat} {rm : Room} {ret : Option FieldType} {hs : List (Nat × Nat × Nat × Nat)} {ini : Bool} {O : Outcome} {σ' : Mem} {ρ : γ} {σ : Mem} {F : Option γ} {cs : Nat × Nat} {pc : Nat} {lv : List (Nat × Value)} {st : List Value} (hc : Cx Θ (VX g) cc nL RX0 rm ret hs ini O σ') {a : Nat} {v : Int32} (h : dI 5 6 σ a 6 = some v) (hd : decode cc pc = .ok (.getfield 111, 3)) (kk : Sim Θ nL ρ σ F cs (pc + 3) lv (.int v :: st)) : Sim Θ nL ρ σ F cs pc lv (.ref (vO (VX g) + a) :: st) := by
  obtain ⟨c, fs, ha, h1, h2, hv⟩ := dI_spec h
  have h3 : c = 5 := by omega
  rcases h3 with rfl
  · exact s_dget hc (C := RX6) (T := TX6) (N := 7) ha in_X6 rfl 6 (Nat.le_of_ble_eq_true rfl) q331 (fun _ _ _ _ h => h) hv hd kk
theorem rX_ld_61 {own : String} {γ : Type} {Θ : ThT Mem} {g : GeoX} {cc : ByteArray} {nL : Nat} {rm : Room} {ret : Option FieldType} {hs : List (Nat × Nat × Nat × Nat)} {ini : Bool} {O : Outcome} {σ' : Mem} {ρ : γ} {σ : Mem} {F : Option γ} {cs : Nat × Nat} {pc : Nat} {lv : List (Nat × Value)} {st : List Value} (hc : Cx Θ (VX g) cc nL own rm ret hs ini O σ') {i : Int32} {j : Nat} (hin : inb i 7 = true) (hj : ix i = j) (hd : decode cc pc = .ok (.iaload, 1)) (kk : Sim Θ nL ρ σ F cs (pc + 1) lv (.int (gI σ 61 j) :: st)) : Sim Θ nL ρ σ F cs pc lv (.int i :: .ref (vO (VX g) + 61) :: st) := s_iald hc (k := 61) (t := 0) (n := 7) (Nat.le_of_ble_eq_true rfl) rfl rfl hin hj hd kk
theorem rX_st_61 {own : String} {γ : Type} {Θ : ThT Mem} {g : GeoX} {cc : ByteArray} {nL : Nat} {rm : Room} {ret : Option FieldType} {hs : List (Nat × Nat × Nat × Nat)} {ini : Bool} {O : Outcome} {σ' : Mem} {ρ : γ} {σ : Mem} {cs : Nat × Nat} {pc : Nat} {lv : List (Nat × Value)} {st : List Value} (hc : Cx Θ (VX g) cc nL own rm ret hs ini O σ') {K : Mem → Option γ} {i x : Int32} {j : Nat} (hin : inb i 7 = true) (hj : ix i = j) (hd : decode cc pc = .ok (.iastore, 1)) (kk : ∀ σ1 : Mem, Sim Θ nL ρ σ1 (K σ1) cs (pc + 1) lv st) : Sim Θ nL ρ σ (lt_ (pI σ 61 j x) K) cs pc lv (.int x :: .int i :: .ref (vO (VX g) + 61) :: st) := s_iast hc (k := 61) (t := 0) (n := 7) (Nat.le_of_ble_eq_true rfl) (fun _ => rfl) rfl hin hj hd kk
theorem kX_X0_115 {γ : Type} {Θ : ThT Mem} {g : GeoX} {cc : ByteArray} {nL : Nat} {rm : Room} {ret : Option FieldType} {hs : List (Nat × Nat × Nat × Nat)} {ini : Bool} {O : Outcome} {σ' : Mem} {ρ : γ} {σ : Mem} {F : Option γ} {cs : Nat × Nat} {pc : Nat} {lv : List (Nat × Value)} {st : List Value} (hc : Cx Θ (VX g) cc nL RX0 rm ret hs ini O σ') {σ1 : Mem} {x0 : Nat} {r : Int32} (hob : Ob (VX g) σ x0 5) {rmc : Room} (hM : ∀ l : Launch, Ct (VX g) l yX6_answer cX6_answer 1 (some .int) rmc [.ref (vO (VX g) + x0)] σ (oI r) σ1) (hR : rmc.frames + 1 ≤ rm.frames ∧ 8 + (1 + 11) + rmc.locals ≤ rm.locals) (hf : cs.1 + rmc.cells ≤ rm.cells ∧ cs.2 + rmc.slots ≤ rm.slots) (hrest : (st.map fun v => v.category).sum ≤ 8) (hd : decode cc pc = .ok (.invokevirtual 115, 3)) (kk : Sim Θ nL ρ σ1 F (cs.1 + rmc.cells, cs.2 + rmc.slots) (pc + 3) lv (.int r :: st)) : Sim Θ nL ρ σ F cs pc lv (.ref (vO (VX g) + x0) :: st) := s_callVo hc (a := x0) (As := []) (rest := st) (n := 0) (ci := 5) (q := (RX6, TX6, 7)) hM (lw_V q355 q356 q357 q71 q358) (by decide +kernel) rfl hob rfl rfl hrest hR hf hd kk
def fX0_finds (N : Nat) (σ : Mem) (x1 : Nat) : Option (Int32 × Mem) :=
  (dI 5 6 σ x1 6).bind (fun v1 => 
  gb (inb v1 7) (
  gb (inb v1 7) (
  lt_ (pI σ 61 (ix v1) ((gI σ 61 (ix v1)) + (1 : Int32))) (fun σ4 => 
  gb (isC σ4 x1 5) ((fX6_answer N σ4 x1).bind (fun q7 => 
  some (q7, σ4)))))))
set_option maxHeartbeats 4000000 in
theorem wfX0_finds {Θ : ThT Mem} {g : GeoX} {N : Nat}  {ρ : Int32 × Mem} (σ : Mem) (x1 : Nat) (hc : Cx Θ (VX g) cX0_finds 2 RX0 (rk 2 0 0) (some .int) [] false (oI ρ.1) ρ.2) : Sim Θ 2 ρ σ (fX0_finds N σ x1) (0, 0) 0 [(0, .ref (vO (VX g) + 0)), (1, .ref (vO (VX g) + x1))] [] := by
  have hz := hc.z
  unfold fX0_finds
  refine s_aload_n hz dX0_finds_0 rfl 0 rfl ?_
  refine rX_g_X0_63_0 hc dX0_finds_1 ?_
  refine s_aload_n hz dX0_finds_4 rfl 1 rfl ?_
  refine s_bind (fun v1 e2 => ?_)
  refine rX_d_X0_111 hc e2 dX0_finds_5 ?_
  refine s_dup2 hz dX0_finds_8 rfl rfl ?_
  refine s_gb (fun h3 => ?_)
  refine rX_ld_61 hc h3 rfl dX0_finds_9 ?_
  refine s_iconst (v := (1 : Int32)) hz dX0_finds_10 (by decide) ?_
  refine s_iadd hz dX0_finds_11 ?_
  refine s_gb (fun h5 => ?_)
  refine rX_st_61 hc h5 rfl dX0_finds_12 (fun σ4 => ?_)
  refine s_aload_n hz dX0_finds_13 rfl 1 rfl ?_
  refine s_gb (fun h6 => ?_)
  refine s_bind (fun q7 e8 => ?_)
  refine kX_X0_115 hc (isC_ob h6) (cfX6_answer e8) ⟨(Nat.le_of_ble_eq_true rfl), (Nat.le_of_ble_eq_true rfl)⟩ ⟨(Nat.le_of_ble_eq_true rfl), (Nat.le_of_ble_eq_true rfl)⟩ (Nat.le_of_ble_eq_true rfl) dX0_finds_14 ?_
  exact s_iretM hc dX0_finds_17 (Nat.le_of_ble_eq_true rfl) (Nat.le_of_ble_eq_true rfl)
theorem cfX0_finds {g : GeoX} {N : Nat}  {σ : Mem} {x1 : Nat} {ρ : Int32 × Mem} (hF : fX0_finds N σ x1 = some ρ) (l : Launch) : Ct (VX g) l yX0_finds cX0_finds 2 (some .int) (rk 2 0 0) [.ref (vO (VX g) + 0), .ref (vO (VX g) + x1)] σ (oI ρ.1) ρ.2 :=
  Ct.of (by decide) (Nat.le_of_ble_eq_true rfl) (fun Θ hc ls hl => wfX0_finds σ x1 hc hF ls hl)
theorem dfX_X6 (o : Nat) : ∀ j, j < 7 → defaultValue (tyX6 j) = vp_V (([.null, .null, .null, .null, .null, .int 0, .int 0] : List Value).map (rv o)) j := by
  intro j hj
  match j, hj with
  | 0, _ => rfl
  | 1, _ => rfl
  | 2, _ => rfl
  | 3, _ => rfl
  | 4, _ => rfl
  | 5, _ => rfl
  | 6, _ => rfl
  | j + 7, hj => exact absurd hj (by omega)
theorem kX_X0_3 {γ : Type} {Θ : ThT Mem} {g : GeoX} {cc : ByteArray} {nL : Nat} {rm : Room} {ret : Option FieldType} {hs : List (Nat × Nat × Nat × Nat)} {ini : Bool} {O : Outcome} {σ' : Mem} {ρ : γ} {σ : Mem} {F : Option γ} {cs : Nat × Nat} {pc : Nat} {lv : List (Nat × Value)} {st : List Value} (hc : Cx Θ (VX g) cc nL RX0 rm ret hs ini O σ') {σ1 : Mem} {x0 : Nat} {x1 : Int32} {rmc : Room} (hM : ∀ l : Launch, Ct (VX g) l yX6_init cX6_init 2 none rmc [.ref (vO (VX g) + x0), .int x1] σ oV σ1) (hR : rmc.frames + 1 ≤ rm.frames ∧ 8 + (2 + 11) + rmc.locals ≤ rm.locals) (hf : cs.1 + rmc.cells ≤ rm.cells ∧ cs.2 + rmc.slots ≤ rm.slots) (hrest : (st.map fun v => v.category).sum ≤ 8) (hd : decode cc pc = .ok (.invokespecial 3, 3)) (kk : Sim Θ nL ρ σ1 F (cs.1 + rmc.cells, cs.2 + rmc.slots) (pc + 3) lv (st)) : Sim Θ nL ρ σ F cs pc lv (.int x1 :: .ref (vO (VX g) + x0) :: st) := s_callI hc (a := x0) (As := [.int x1]) (rest := st) (n := 1) hM q323 q71 q321 q322 (by decide +kernel) rfl rfl hrest hR hf hd kk
def fX0_need (N : Nat) (σ : Mem) (x0 : Int32) (x1 : Int32) : Option ((Unit ⊕ Nat) × Mem) :=
  if x0 = (0 : Int32) then
  (lt_ (nC σ (.inr (5, [.null, .null, .null, .null, .null, .int 0, .int 0]))) (fun σ2 => 
  (fX6_init N σ2 (gN σ) x1).bind (fun q3 => 
  some (.inr (gN σ), q3.2))))
  else (some (.inl (), σ))
set_option maxHeartbeats 4000000 in
theorem wfX0_need {Θ : ThT Mem} {g : GeoX} {N : Nat}  {ρ : (Unit ⊕ Nat) × Mem} (σ : Mem) (x0 : Int32) (x1 : Int32) (hc : Cx Θ (VX g) cX0_need 2 RX0 (rk 4 1 7) none [] false (oT (fun _ => oV) ρ.1 (vO (VX g))) ρ.2) : Sim Θ 2 ρ σ (fX0_need N σ x0 x1) (0, 0) 0 [(0, .int x0), (1, .int x1)] [] := by
  have hz := hc.z
  unfold fX0_need
  refine s_iload_n hz dX0_need_0 rfl 0 rfl ?_
  refine s_if_ne (tgt := 13) hz dX0_need_1 rfl (fun h1 => ?_) (fun h1 => ?_)
  · exact s_vretT hc dX0_need_13 (Nat.le_of_ble_eq_true rfl) (Nat.le_of_ble_eq_true rfl)
  · refine s_new hc (C := RX6) (T := TX6) (N := 7) (ci := 5) in_X6 tyX6_ok rfl q273 q284 q71 (dfX_X6 _) ⟨(Nat.le_of_ble_eq_true rfl), (Nat.le_of_ble_eq_true rfl)⟩ dX0_need_4 (fun σ2 => ?_)
    refine s_dup hz dX0_need_7 rfl ?_
    refine s_iload_n hz dX0_need_8 rfl 1 rfl ?_
    refine s_bind (fun q3 e4 => ?_)
    refine kX_X0_3 hc (cfX6_init e4) ⟨(Nat.le_of_ble_eq_true rfl), (Nat.le_of_ble_eq_true rfl)⟩ ⟨(Nat.le_of_ble_eq_true rfl), (Nat.le_of_ble_eq_true rfl)⟩ (Nat.le_of_ble_eq_true rfl) dX0_need_9 ?_
    exact s_athrowt hc dX0_need_12 (Nat.le_of_ble_eq_true rfl) (Nat.le_of_ble_eq_true rfl) rfl
theorem cfX0_need {g : GeoX} {N : Nat}  {σ : Mem} {x0 : Int32} {x1 : Int32} {ρ : (Unit ⊕ Nat) × Mem} (hF : fX0_need N σ x0 x1 = some ρ) (l : Launch) : Ct (VX g) l yX0_need cX0_need 2 none (rk 4 1 7) [.int x0, .int x1] σ (oT (fun _ => oV) ρ.1 (vO (VX g))) ρ.2 :=
  Ct.of (by decide) (Nat.le_of_ble_eq_true rfl) (fun Θ hc ls hl => wfX0_need σ x0 x1 hc hF ls hl)
theorem kX_X0_119 {γ : Type} {Θ : ThT Mem} {g : GeoX} {cc : ByteArray} {nL : Nat} {rm : Room} {ret : Option FieldType} {hs : List (Nat × Nat × Nat × Nat)} {ini : Bool} {O : Outcome} {σ' : Mem} {ρ : γ} {σ : Mem} {F : Option γ} {cs : Nat × Nat} {pc : Nat} {lv : List (Nat × Value)} {st : List Value} (hc : Cx Θ (VX g) cc nL RX0 rm ret hs ini O σ') {σ1 : Mem} {x0 : Int32} {x1 : Int32} {rmc : Room} (hM : ∀ l : Launch, Ct (VX g) l yX0_need cX0_need 2 none rmc [.int x0, .int x1] σ oV σ1) (hR : rmc.frames + 1 ≤ rm.frames ∧ 8 + (2 + 11) + rmc.locals ≤ rm.locals) (hf : cs.1 + rmc.cells ≤ rm.cells ∧ cs.2 + rmc.slots ≤ rm.slots) (hrest : (st.map fun v => v.category).sum ≤ 8) (hd : decode cc pc = .ok (.invokestatic 119, 3)) (kk : Sim Θ nL ρ σ1 F (cs.1 + rmc.cells, cs.2 + rmc.slots) (pc + 3) lv (st)) : Sim Θ nL ρ σ F cs pc lv (.int x1 :: .int x0 :: st) := s_callS hc (As := [.int x0, .int x1]) (rest := st) (n := 2) hM (lw_S q281 q282 q62 q283) (by decide +kernel) rfl rfl hrest hR hf hd kk
theorem kX_X0_119_h {γ : Type} {Θ : ThT Mem} {g : GeoX} {cc : ByteArray} {nL : Nat} {rm : Room} {ret : Option FieldType} {hs : List (Nat × Nat × Nat × Nat)} {ini : Bool} {O : Outcome} {σ' : Mem} {ρ : γ} {σ : Mem} {F : Option γ} {cs : Nat × Nat} {pc : Nat} {lv : List (Nat × Value)} {st : List Value} (hc : Cx Θ (VX g) cc nL RX0 rm ret hs ini O σ') {σ1 : Mem} {x0 : Int32} {x1 : Int32} {b i s0 e0 hp ct ci : Nat} {q : vw_C} {rmc : Room} (hM : ∀ l : Launch, Ct (VX g) l yX0_need cX0_need 2 none rmc [.int x0, .int x1] σ (.threw (vO (VX g) + b)) σ1) (hR : rmc.frames + 1 ≤ rm.frames ∧ 8 + (2 + 11) + rmc.locals ≤ rm.locals) (hf : cs.1 + rmc.cells ≤ rm.cells ∧ cs.2 + rmc.slots ≤ rm.slots) (hrest : (st.map fun v => v.category).sum ≤ 8) (hd : decode cc pc = .ok (.invokestatic 119, 3)) (hi : hs[i]? = some (s0, e0, hp, ct)) (hpre : ((hs.take i).all fun q => !(decide (q.1 ≤ pc) && decide (pc < q.2.1))) = true) (hin : s0 ≤ pc ∧ pc < e0) (h0 : ct ≠ 0) (hcl : (vCl (VX g))[ci]? = some q) (hlink : Cond.classLink RX0 ct q.1 ∈ lw_all) (hob : Ob (VX g) σ1 b ci) (kk : Sim Θ nL ρ σ1 F (cs.1 + rmc.cells, cs.2 + rmc.slots) hp lv [.ref (vO (VX g) + b)]) : Sim Θ nL ρ σ F cs pc lv (.int x1 :: .int x0 :: st) := s_callSh hc (As := [.int x0, .int x1]) (rest := st) (n := 2) hM (lw_S q281 q282 q62 q283) (by decide +kernel) rfl rfl hrest hR hf hd hi hpre hin h0 hcl hlink hob kk
theorem kX_X0_119_t {β : Type} {Θ : ThT Mem} {g : GeoX} {cc : ByteArray} {nL : Nat} {rm : Room} {ret : Option FieldType} {hs : List (Nat × Nat × Nat × Nat)} {ini : Bool} {fo : β → Outcome} {ρ : (β ⊕ Nat) × Mem} {σ : Mem} {cs : Nat × Nat} {pc : Nat} {lv : List (Nat × Value)} {st : List Value} (hc : Cx Θ (VX g) cc nL RX0 rm ret hs ini (oT fo ρ.1 (vO (VX g))) ρ.2) {σ1 : Mem} {x0 : Int32} {x1 : Int32} {b : Nat} {rmc : Room} (hM : ∀ l : Launch, Ct (VX g) l yX0_need cX0_need 2 none rmc [.int x0, .int x1] σ (.threw (vO (VX g) + b)) σ1) (hR : rmc.frames + 1 ≤ rm.frames ∧ 8 + (2 + 11) + rmc.locals ≤ rm.locals) (hf : cs.1 + rmc.cells ≤ rm.cells ∧ cs.2 + rmc.slots ≤ rm.slots) (hrest : (st.map fun v => v.category).sum ≤ 8) (hd : decode cc pc = .ok (.invokestatic 119, 3)) (hout : (hs.all fun q => !(decide (q.1 ≤ pc) && decide (pc < q.2.1))) = true) : Sim Θ nL ρ σ (some (.inr b, σ1)) cs pc lv (.int x1 :: .int x0 :: st) := s_callSt hc (As := [.int x0, .int x1]) (rest := st) (n := 2) hM (lw_S q281 q282 q62 q283) (by decide +kernel) rfl rfl hrest hR hf hd hout
def fX0_orNone (N : Nat) (σ : Mem) (x0 : Int32) : Option ((Int32 ⊕ Nat) × Mem) :=
  (fX0_need N σ (if x0 < (0 : Int32) then (0 : Int32) else (1 : Int32)) (3 : Int32)).bind (fun q4 => cT2 q4 (fun v1 σ3 => 
  some (.inl x0, σ3)) (fun b2 σ3 => 
  some (.inr b2, σ3)))
set_option maxHeartbeats 4000000 in
theorem wfX0_orNone {Θ : ThT Mem} {g : GeoX} {N : Nat}  {ρ : (Int32 ⊕ Nat) × Mem} (σ : Mem) (x0 : Int32) (hc : Cx Θ (VX g) cX0_orNone 1 RX0 (rk 5 1 7) (some .int) [] false (oT oI ρ.1 (vO (VX g))) ρ.2) : Sim Θ 1 ρ σ (fX0_orNone N σ x0) (0, 0) 0 [(0, .int x0)] [] := by
  have hz := hc.z
  unfold fX0_orNone
  refine s_iload_n hz dX0_orNone_0 rfl 0 rfl ?_
  refine s_dia (J := 9) (v := .int (if x0 < (0 : Int32) then (0 : Int32) else (1 : Int32))) (st := []) (fun _ hj7 => ?_) ?_
  · refine s_if_lt_ (tgt := 8) hz dX0_orNone_1 rfl (fun h8 => ?_) (fun h8 => ?_)
    · refine s_iconst (v := (0 : Int32)) hz dX0_orNone_8 (by decide) ?_
      rw [if_pos h8] at hj7
      exact hj7
    · refine s_iconst (v := (1 : Int32)) hz dX0_orNone_4 (by decide) ?_
      refine s_goto (tgt := 9) hz dX0_orNone_5 rfl ?_
      rw [if_neg h8] at hj7
      exact hj7
  refine s_iconst (v := (3 : Int32)) hz dX0_orNone_9 (by decide) ?_
  refine s_bind (fun q4 e5 => ?_)
  rcases q4 with ⟨v1 | b2, σ3⟩
  · refine kX_X0_119 hc (cfX0_need e5) ⟨(Nat.le_of_ble_eq_true rfl), (Nat.le_of_ble_eq_true rfl)⟩ ⟨(Nat.le_of_ble_eq_true rfl), (Nat.le_of_ble_eq_true rfl)⟩ (Nat.le_of_ble_eq_true rfl) dX0_orNone_10 (s_c2 ?_)
    refine s_iload_n hz dX0_orNone_13 rfl 0 rfl ?_
    exact s_iretT hc dX0_orNone_14 (Nat.le_of_ble_eq_true rfl) (Nat.le_of_ble_eq_true rfl)
  · exact kX_X0_119_t hc (cfX0_need e5) ⟨(Nat.le_of_ble_eq_true rfl), (Nat.le_of_ble_eq_true rfl)⟩ ⟨(Nat.le_of_ble_eq_true rfl), (Nat.le_of_ble_eq_true rfl)⟩ (Nat.le_of_ble_eq_true rfl) dX0_orNone_10 rfl
theorem cfX0_orNone {g : GeoX} {N : Nat}  {σ : Mem} {x0 : Int32} {ρ : (Int32 ⊕ Nat) × Mem} (hF : fX0_orNone N σ x0 = some ρ) (l : Launch) : Ct (VX g) l yX0_orNone cX0_orNone 1 (some .int) (rk 5 1 7) [.int x0] σ (oT oI ρ.1 (vO (VX g))) ρ.2 :=
  Ct.of (by decide) (Nat.le_of_ble_eq_true rfl) (fun Θ hc ls hl => wfX0_orNone σ x0 hc hF ls hl)
def fX0_sheetAt (N : Nat) (σ : Mem) (x0 : Int32) : Option ((Unit ⊕ Nat) × Mem) :=
  (fX0_in N σ ((x0).toInt64) (0 : Int64) (3 : Int64)).bind (fun q1 => 
  (fX0_need N σ q1 (0 : Int32)).bind (fun q6 => cT2 q6 (fun v3 σ5 => 
  some (.inl (), σ5)) (fun b4 σ5 => 
  some (.inr b4, σ5))))
set_option maxHeartbeats 4000000 in
theorem wfX0_sheetAt {Θ : ThT Mem} {g : GeoX} {N : Nat}  {ρ : (Unit ⊕ Nat) × Mem} (σ : Mem) (x0 : Int32) (hc : Cx Θ (VX g) cX0_sheetAt 1 RX0 (rk 5 1 7) none [] false (oT (fun _ => oV) ρ.1 (vO (VX g))) ρ.2) : Sim Θ 1 ρ σ (fX0_sheetAt N σ x0) (0, 0) 0 [(0, .int x0)] [] := by
  have hz := hc.z
  unfold fX0_sheetAt
  refine s_iload_n hz dX0_sheetAt_0 rfl 0 rfl ?_
  refine s_i2l hz dX0_sheetAt_1 ?_
  refine s_lconst (v := (0 : Int64)) hz dX0_sheetAt_2 (by decide) ?_
  refine s_ldc2 hz dX0_sheetAt_3 q971 ?_
  refine s_bind (fun q1 e2 => ?_)
  refine kX_X0_125 hc (cfX0_in e2) ⟨(Nat.le_of_ble_eq_true rfl), (Nat.le_of_ble_eq_true rfl)⟩ ⟨(Nat.le_of_ble_eq_true rfl), (Nat.le_of_ble_eq_true rfl)⟩ (Nat.le_of_ble_eq_true rfl) dX0_sheetAt_6 ?_
  refine s_iconst (v := (0 : Int32)) hz dX0_sheetAt_9 (by decide) ?_
  refine s_bind (fun q6 e7 => ?_)
  rcases q6 with ⟨v3 | b4, σ5⟩
  · refine kX_X0_119 hc (cfX0_need e7) ⟨(Nat.le_of_ble_eq_true rfl), (Nat.le_of_ble_eq_true rfl)⟩ ⟨(Nat.le_of_ble_eq_true rfl), (Nat.le_of_ble_eq_true rfl)⟩ (Nat.le_of_ble_eq_true rfl) dX0_sheetAt_10 (s_c2 ?_)
    exact s_vretT hc dX0_sheetAt_13 (Nat.le_of_ble_eq_true rfl) (Nat.le_of_ble_eq_true rfl)
  · exact kX_X0_119_t hc (cfX0_need e7) ⟨(Nat.le_of_ble_eq_true rfl), (Nat.le_of_ble_eq_true rfl)⟩ ⟨(Nat.le_of_ble_eq_true rfl), (Nat.le_of_ble_eq_true rfl)⟩ (Nat.le_of_ble_eq_true rfl) dX0_sheetAt_10 rfl
theorem cfX0_sheetAt {g : GeoX} {N : Nat}  {σ : Mem} {x0 : Int32} {ρ : (Unit ⊕ Nat) × Mem} (hF : fX0_sheetAt N σ x0 = some ρ) (l : Launch) : Ct (VX g) l yX0_sheetAt cX0_sheetAt 1 none (rk 5 1 7) [.int x0] σ (oT (fun _ => oV) ρ.1 (vO (VX g))) ρ.2 :=
  Ct.of (by decide) (Nat.le_of_ble_eq_true rfl) (fun Θ hc ls hl => wfX0_sheetAt σ x0 hc hF ls hl)
theorem rX_g_X0_59_0 {γ : Type} {Θ : ThT Mem} {g : GeoX} {cc : ByteArray} {nL : Nat} {rm : Room} {ret : Option FieldType} {hs : List (Nat × Nat × Nat × Nat)} {ini : Bool} {O : Outcome} {σ' : Mem} {ρ : γ} {σ : Mem} {F : Option γ} {cs : Nat × Nat} {pc : Nat} {lv : List (Nat × Value)} {st : List Value} (hc : Cx Θ (VX g) cc nL RX0 rm ret hs ini O σ') (hd : decode cc pc = .ok (.getfield 59, 3)) (kk : Sim Θ nL ρ σ F cs (pc + 3) lv (.ref (vO (VX g) + 56) :: st)) : Sim Θ nL ρ σ F cs pc lv (.ref (vO (VX g) + 0) :: st) := s_get hc (C := RX0) (T := TX0) (N := 19) (ci := 0) (k := 0) in_X0 (Nat.le_of_ble_eq_true rfl) rfl rfl 5 (Nat.le_of_ble_eq_true rfl) q215 (fun _ _ _ _ h => h) rfl hd kk
theorem rX_aa_56 {own : String} {γ : Type} {Θ : ThT Mem} {g : GeoX} {cc : ByteArray} {nL : Nat} {rm : Room} {ret : Option FieldType} {hs : List (Nat × Nat × Nat × Nat)} {ini : Bool} {O : Outcome} {σ' : Mem} {ρ : γ} {σ : Mem} {F : Option γ} {cs : Nat × Nat} {pc : Nat} {lv : List (Nat × Value)} {st : List Value} (hc : Cx Θ (VX g) cc nL own rm ret hs ini O σ') {i : Int32} {j : Nat} (hin : inb i 4 = true) (hj : ix i = j) (hd : decode cc pc = .ok (.aaload, 1)) (kk : Sim Θ nL ρ σ F cs (pc + 1) lv (.ref (vO (VX g) + (57 + j)) :: st)) : Sim Θ nL ρ σ F cs pc lv (.int i :: .ref (vO (VX g) + 56) :: st) := by
  subst hj
  exact s_aald hc (k := 56) (t := 5) (n := 4) (b := 57) (Nat.le_of_ble_eq_true rfl) rfl rfl rfl hin hd kk
theorem rX_gv_X0_162_57 {γ : Type} {Θ : ThT Mem} {g : GeoX} {cc : ByteArray} {nL : Nat} {rm : Room} {ret : Option FieldType} {hs : List (Nat × Nat × Nat × Nat)} {ini : Bool} {O : Outcome} {σ' : Mem} {ρ : γ} {σ : Mem} {F : Option γ} {cs : Nat × Nat} {pc : Nat} {lv : List (Nat × Value)} {st : List Value} (hc : Cx Θ (VX g) cc nL RX0 rm ret hs ini O σ') {j : Nat} (hj : j < 4) (hd : decode cc pc = .ok (.getfield 162, 3)) (kk : Sim Θ nL ρ σ F cs (pc + 3) lv (va_rf ((gR σ (57 + j) 0).map (vO (VX g) + ·)) :: st)) : Sim Θ nL ρ σ F cs pc lv (.ref (vO (VX g) + (57 + j)) :: st) := s_get hc (C := RX2) (T := TX2) (N := 1) (ci := 2) (k := 57 + j) in_X2 (YXk_57 g j hj) (YX_57 g.1 _ _ _ j hj) rfl 0 (Nat.le_of_ble_eq_true rfl) q113 (fun _ _ _ _ h => h) rfl hd kk
def fX0_there (N : Nat) (σ : Mem) (x1 : Int32) : Option ((Option Nat ⊕ Nat) × Mem) :=
  gb (inb x1 4) (
  mO (gR σ (57 + ix x1) 0)
  ((fX0_need N σ (0 : Int32) (5 : Int32)).bind (fun q6 => cT2 q6 (fun v3 σ5 => 
  some (.inl (none), σ5)) (fun b4 σ5 => 
  some (.inr b4, σ5)))) (fun a2 => 
  (fX0_need N σ (1 : Int32) (5 : Int32)).bind (fun q12 => cT2 q12 (fun v9 σ11 => 
  some (.inl (some a2), σ11)) (fun b10 σ11 => 
  some (.inr b10, σ11)))))
set_option maxHeartbeats 4000000 in
theorem wfX0_there {Θ : ThT Mem} {g : GeoX} {N : Nat}  {ρ : (Option Nat ⊕ Nat) × Mem} (σ : Mem) (x1 : Int32) (hc : Cx Θ (VX g) cX0_there 3 RX0 (rk 5 1 7) (some (.object "java/lang/Object")) [] false (oT (oR (vO (VX g))) ρ.1 (vO (VX g))) ρ.2) : Sim Θ 3 ρ σ (fX0_there N σ x1) (0, 0) 0 [(0, .ref (vO (VX g) + 0)), (1, .int x1)] [] := by
  have hz := hc.z
  unfold fX0_there
  refine s_aload_n hz dX0_there_0 rfl 0 rfl ?_
  refine rX_g_X0_59_0 hc dX0_there_1 ?_
  refine s_iload_n hz dX0_there_4 rfl 1 rfl ?_
  refine s_gb (fun h1 => ?_)
  refine rX_aa_56 hc h1 rfl dX0_there_5 ?_
  refine rX_gv_X0_162_57 hc (inb_lt h1) dX0_there_6 ?_
  refine s_opt (fun _ => ?_) (fun a2 _ => ?_)
  · refine s_astore_nN (lv' := [(2, .null), (0, .ref (vO (VX g) + 0)), (1, .int x1)]) hz dX0_there_9 rfl (Nat.le_of_ble_eq_true rfl) rfl ?_
    refine s_aload_nN hz dX0_there_10 rfl 0 rfl ?_
    refine s_ifnullN (tgt := 18) hz dX0_there_11 rfl ?_
    refine s_iconst (v := (0 : Int32)) hz dX0_there_18 (by decide) ?_
    refine s_iconst (v := (5 : Int32)) hz dX0_there_19 (by decide) ?_
    refine s_bind (fun q6 e7 => ?_)
    rcases q6 with ⟨v3 | b4, σ5⟩
    · refine kX_X0_119 hc (cfX0_need e7) ⟨(Nat.le_of_ble_eq_true rfl), (Nat.le_of_ble_eq_true rfl)⟩ ⟨(Nat.le_of_ble_eq_true rfl), (Nat.le_of_ble_eq_true rfl)⟩ (Nat.le_of_ble_eq_true rfl) dX0_there_20 (s_c2 ?_)
      refine s_aload_nN hz dX0_there_23 rfl 0 rfl ?_
      exact s_aretNT hc (Or.inl ⟨_, rfl⟩) dX0_there_24 (Nat.le_of_ble_eq_true rfl) (Nat.le_of_ble_eq_true rfl)
    · exact kX_X0_119_t hc (cfX0_need e7) ⟨(Nat.le_of_ble_eq_true rfl), (Nat.le_of_ble_eq_true rfl)⟩ ⟨(Nat.le_of_ble_eq_true rfl), (Nat.le_of_ble_eq_true rfl)⟩ (Nat.le_of_ble_eq_true rfl) dX0_there_20 rfl
  · refine s_astore_n (lv' := [(2, .ref (vO (VX g) + a2)), (0, .ref (vO (VX g) + 0)), (1, .int x1)]) hz dX0_there_9 rfl (Nat.le_of_ble_eq_true rfl) rfl ?_
    refine s_aload_n hz dX0_there_10 rfl 0 rfl ?_
    refine s_ifnull hz dX0_there_11 ?_
    refine s_iconst (v := (1 : Int32)) hz dX0_there_14 (by decide) ?_
    refine s_goto (tgt := 19) hz dX0_there_15 rfl ?_
    refine s_iconst (v := (5 : Int32)) hz dX0_there_19 (by decide) ?_
    refine s_bind (fun q12 e13 => ?_)
    rcases q12 with ⟨v9 | b10, σ11⟩
    · refine kX_X0_119 hc (cfX0_need e13) ⟨(Nat.le_of_ble_eq_true rfl), (Nat.le_of_ble_eq_true rfl)⟩ ⟨(Nat.le_of_ble_eq_true rfl), (Nat.le_of_ble_eq_true rfl)⟩ (Nat.le_of_ble_eq_true rfl) dX0_there_20 (s_c2 ?_)
      refine s_aload_n hz dX0_there_23 rfl 0 rfl ?_
      exact s_aretT hc (Or.inl ⟨_, rfl⟩) dX0_there_24 (Nat.le_of_ble_eq_true rfl) (Nat.le_of_ble_eq_true rfl)
    · exact kX_X0_119_t hc (cfX0_need e13) ⟨(Nat.le_of_ble_eq_true rfl), (Nat.le_of_ble_eq_true rfl)⟩ ⟨(Nat.le_of_ble_eq_true rfl), (Nat.le_of_ble_eq_true rfl)⟩ (Nat.le_of_ble_eq_true rfl) dX0_there_20 rfl
theorem cfX0_there {g : GeoX} {N : Nat}  {σ : Mem} {x1 : Int32} {ρ : (Option Nat ⊕ Nat) × Mem} (hF : fX0_there N σ x1 = some ρ) (l : Launch) : Ct (VX g) l yX0_there cX0_there 3 (some (.object "java/lang/Object")) (rk 5 1 7) [.ref (vO (VX g) + 0), .int x1] σ (oT (oR (vO (VX g))) ρ.1 (vO (VX g))) ρ.2 :=
  Ct.of (by decide) (Nat.le_of_ble_eq_true rfl) (fun Θ hc ls hl => wfX0_there σ x1 hc hF ls hl)
theorem rX_iy_X0_375 {γ : Type} {Θ : ThT Mem} {g : GeoX} {cc : ByteArray} {nL : Nat} {rm : Room} {ret : Option FieldType} {hs : List (Nat × Nat × Nat × Nat)} {ini : Bool} {O : Outcome} {σ' : Mem} {ρ : γ} {σ : Mem} {F : Option γ} {cs : Nat × Nat} {pc : Nat} {lv : List (Nat × Value)} {st : List Value} (hc : Cx Θ (VX g) cc nL RX0 rm ret hs ini O σ') {a : Nat} {q : Nat × Nat} (h : aT σ a = some q) (hq : q.1 = 3) (hd : decode cc pc = .ok (.instanceof 375, 3)) (kk : Sim Θ nL ρ σ F cs (pc + 3) lv (.int 1 :: st)) : Sim Θ nL ρ σ F cs pc lv (.ref (vO (VX g) + a) :: st) := by
  obtain ⟨t, n⟩ := q
  have h1 : t = 3 := hq
  subst h1
  exact s_dinstY hc (ty := .byte) h rfl (fun _ => by simp) q979 hd kk
theorem rX_in_X0_375 {γ : Type} {Θ : ThT Mem} {g : GeoX} {cc : ByteArray} {nL : Nat} {rm : Room} {ret : Option FieldType} {hs : List (Nat × Nat × Nat × Nat)} {ini : Bool} {O : Outcome} {σ' : Mem} {ρ : γ} {σ : Mem} {F : Option γ} {cs : Nat × Nat} {pc : Nat} {lv : List (Nat × Value)} {st : List Value} (hc : Cx Θ (VX g) cc nL RX0 rm ret hs ini O σ') {a : Nat} {q : Nat × Nat} (h : aT σ a = some q) (hq : (decide (q.1 = 4) || decide (q.1 = 1)) = true) (hd : decode cc pc = .ok (.instanceof 375, 3)) (kk : Sim Θ nL ρ σ F cs (pc + 3) lv (.int 0 :: st)) : Sim Θ nL ρ σ F cs pc lv (.ref (vO (VX g) + a) :: st) := by
  obtain ⟨t, n⟩ := q
  have h1 : t = 4 ∨ t = 1 := by simpa using hq
  rcases h1 with rfl | rfl
  · exact s_dinstN hc (ty := .short) h rfl (fun _ => by simp) (fun U hU => hU.2.1 _ (List.mem_of_getElem? (i := 0) rfl)) q979 hd kk
  · exact s_dinstN hc (ty := .long) h rfl (fun _ => by simp) (fun U hU => hU.2.1 _ (List.mem_of_getElem? (i := 1) rfl)) q979 hd kk
theorem rX_iy_X0_376 {γ : Type} {Θ : ThT Mem} {g : GeoX} {cc : ByteArray} {nL : Nat} {rm : Room} {ret : Option FieldType} {hs : List (Nat × Nat × Nat × Nat)} {ini : Bool} {O : Outcome} {σ' : Mem} {ρ : γ} {σ : Mem} {F : Option γ} {cs : Nat × Nat} {pc : Nat} {lv : List (Nat × Value)} {st : List Value} (hc : Cx Θ (VX g) cc nL RX0 rm ret hs ini O σ') {a : Nat} {q : Nat × Nat} (h : aT σ a = some q) (hq : q.1 = 4) (hd : decode cc pc = .ok (.instanceof 376, 3)) (kk : Sim Θ nL ρ σ F cs (pc + 3) lv (.int 1 :: st)) : Sim Θ nL ρ σ F cs pc lv (.ref (vO (VX g) + a) :: st) := by
  obtain ⟨t, n⟩ := q
  have h1 : t = 4 := hq
  subst h1
  exact s_dinstY hc (ty := .short) h rfl (fun _ => by simp) q980 hd kk
theorem rX_in_X0_376 {γ : Type} {Θ : ThT Mem} {g : GeoX} {cc : ByteArray} {nL : Nat} {rm : Room} {ret : Option FieldType} {hs : List (Nat × Nat × Nat × Nat)} {ini : Bool} {O : Outcome} {σ' : Mem} {ρ : γ} {σ : Mem} {F : Option γ} {cs : Nat × Nat} {pc : Nat} {lv : List (Nat × Value)} {st : List Value} (hc : Cx Θ (VX g) cc nL RX0 rm ret hs ini O σ') {a : Nat} {q : Nat × Nat} (h : aT σ a = some q) (hq : (decide (q.1 = 1)) = true) (hd : decode cc pc = .ok (.instanceof 376, 3)) (kk : Sim Θ nL ρ σ F cs (pc + 3) lv (.int 0 :: st)) : Sim Θ nL ρ σ F cs pc lv (.ref (vO (VX g) + a) :: st) := by
  obtain ⟨t, n⟩ := q
  have h1 : t = 1 := by simpa using hq
  rcases h1 with rfl
  · exact s_dinstN hc (ty := .long) h rfl (fun _ => by simp) (fun U hU => hU.2.1 _ (List.mem_of_getElem? (i := 2) rfl)) q980 hd kk
def fX0_wide (N : Nat) (σ : Mem) (x0 : Nat) : Option (Int32) :=
  (aT σ x0).bind (fun q1 => if q1.1 = 3 then
  (if (1 : Int32) = (0 : Int32) then
  ((aT σ x0).bind (fun q6 => if q6.1 = 4 then
  (some (if (1 : Int32) = (0 : Int32) then (64 : Int32) else (16 : Int32)))
  else gb (decide (q6.1 = 1)) (some (if (0 : Int32) = (0 : Int32) then (64 : Int32) else (16 : Int32)))))
  else (some (8 : Int32)))
  else gb (decide (q1.1 = 4) || decide (q1.1 = 1)) (if (0 : Int32) = (0 : Int32) then
  ((aT σ x0).bind (fun q15 => if q15.1 = 4 then
  (some (if (1 : Int32) = (0 : Int32) then (64 : Int32) else (16 : Int32)))
  else gb (decide (q15.1 = 1)) (some (if (0 : Int32) = (0 : Int32) then (64 : Int32) else (16 : Int32)))))
  else (some (8 : Int32))))
set_option maxHeartbeats 4000000 in
theorem wfX0_wide {Θ : ThT Mem} {g : GeoX} {N : Nat}  {ρ : Int32} (σ : Mem) (x0 : Nat) (hc : Cx Θ (VX g) cX0_wide 1 RX0 (rk 1 0 0) (some .int) [] false (oI ρ) σ) : Sim Θ 1 ρ σ (fX0_wide N σ x0) (0, 0) 0 [(0, .ref (vO (VX g) + x0))] [] := by
  have hz := hc.z
  unfold fX0_wide
  refine s_aload_n hz dX0_wide_0 rfl 0 rfl ?_
  refine s_bind (fun q1 e2 => ?_)
  refine s_ite (fun h3 => ?_) (fun h3 => ?_)
  · refine rX_iy_X0_375 hc e2 h3 dX0_wide_1 ?_
    refine s_if_eq (tgt := 12) hz dX0_wide_4 rfl (fun h5 => ?_) (fun h5 => ?_)
    · refine s_aload_n hz dX0_wide_12 rfl 0 rfl ?_
      refine s_bind (fun q6 e7 => ?_)
      refine s_ite (fun h8 => ?_) (fun h8 => ?_)
      · refine rX_iy_X0_376 hc e7 h8 dX0_wide_13 ?_
        refine s_dia (J := 26) (v := .int (if (1 : Int32) = (0 : Int32) then (64 : Int32) else (16 : Int32))) (st := []) (fun _ hj10 => ?_) ?_
        · refine s_if_eq_ (tgt := 24) hz dX0_wide_16 rfl (fun h11 => ?_) (fun h11 => ?_)
          · refine s_bipush (v := (64 : Int32)) hz dX0_wide_24 (by decide) ?_
            rw [if_pos h11] at hj10
            exact hj10
          · refine s_bipush (v := (16 : Int32)) hz dX0_wide_19 (by decide) ?_
            refine s_goto (tgt := 26) hz dX0_wide_21 rfl ?_
            rw [if_neg h11] at hj10
            exact hj10
        exact s_iret hc dX0_wide_26 (Nat.le_of_ble_eq_true rfl) (Nat.le_of_ble_eq_true rfl)
      · refine s_gb (fun h9 => ?_)
        refine rX_in_X0_376 hc e7 h9 dX0_wide_13 ?_
        refine s_dia (J := 26) (v := .int (if (0 : Int32) = (0 : Int32) then (64 : Int32) else (16 : Int32))) (st := []) (fun _ hj12 => ?_) ?_
        · refine s_if_eq_ (tgt := 24) hz dX0_wide_16 rfl (fun h13 => ?_) (fun h13 => ?_)
          · refine s_bipush (v := (64 : Int32)) hz dX0_wide_24 (by decide) ?_
            rw [if_pos h13] at hj12
            exact hj12
          · refine s_bipush (v := (16 : Int32)) hz dX0_wide_19 (by decide) ?_
            refine s_goto (tgt := 26) hz dX0_wide_21 rfl ?_
            rw [if_neg h13] at hj12
            exact hj12
        exact s_iret hc dX0_wide_26 (Nat.le_of_ble_eq_true rfl) (Nat.le_of_ble_eq_true rfl)
    · refine s_bipush (v := (8 : Int32)) hz dX0_wide_7 (by decide) ?_
      refine s_goto (tgt := 26) hz dX0_wide_9 rfl ?_
      exact s_iret hc dX0_wide_26 (Nat.le_of_ble_eq_true rfl) (Nat.le_of_ble_eq_true rfl)
  · refine s_gb (fun h4 => ?_)
    refine rX_in_X0_375 hc e2 h4 dX0_wide_1 ?_
    refine s_if_eq (tgt := 12) hz dX0_wide_4 rfl (fun h14 => ?_) (fun h14 => ?_)
    · refine s_aload_n hz dX0_wide_12 rfl 0 rfl ?_
      refine s_bind (fun q15 e16 => ?_)
      refine s_ite (fun h17 => ?_) (fun h17 => ?_)
      · refine rX_iy_X0_376 hc e16 h17 dX0_wide_13 ?_
        refine s_dia (J := 26) (v := .int (if (1 : Int32) = (0 : Int32) then (64 : Int32) else (16 : Int32))) (st := []) (fun _ hj19 => ?_) ?_
        · refine s_if_eq_ (tgt := 24) hz dX0_wide_16 rfl (fun h20 => ?_) (fun h20 => ?_)
          · refine s_bipush (v := (64 : Int32)) hz dX0_wide_24 (by decide) ?_
            rw [if_pos h20] at hj19
            exact hj19
          · refine s_bipush (v := (16 : Int32)) hz dX0_wide_19 (by decide) ?_
            refine s_goto (tgt := 26) hz dX0_wide_21 rfl ?_
            rw [if_neg h20] at hj19
            exact hj19
        exact s_iret hc dX0_wide_26 (Nat.le_of_ble_eq_true rfl) (Nat.le_of_ble_eq_true rfl)
      · refine s_gb (fun h18 => ?_)
        refine rX_in_X0_376 hc e16 h18 dX0_wide_13 ?_
        refine s_dia (J := 26) (v := .int (if (0 : Int32) = (0 : Int32) then (64 : Int32) else (16 : Int32))) (st := []) (fun _ hj21 => ?_) ?_
        · refine s_if_eq_ (tgt := 24) hz dX0_wide_16 rfl (fun h22 => ?_) (fun h22 => ?_)
          · refine s_bipush (v := (64 : Int32)) hz dX0_wide_24 (by decide) ?_
            rw [if_pos h22] at hj21
            exact hj21
          · refine s_bipush (v := (16 : Int32)) hz dX0_wide_19 (by decide) ?_
            refine s_goto (tgt := 26) hz dX0_wide_21 rfl ?_
            rw [if_neg h22] at hj21
            exact hj21
        exact s_iret hc dX0_wide_26 (Nat.le_of_ble_eq_true rfl) (Nat.le_of_ble_eq_true rfl)
    · refine s_bipush (v := (8 : Int32)) hz dX0_wide_7 (by decide) ?_
      refine s_goto (tgt := 26) hz dX0_wide_9 rfl ?_
      exact s_iret hc dX0_wide_26 (Nat.le_of_ble_eq_true rfl) (Nat.le_of_ble_eq_true rfl)
theorem cfX0_wide {g : GeoX} {N : Nat}  {σ : Mem} {x0 : Nat} {ρ : Int32} (hF : fX0_wide N σ x0 = some ρ) (l : Launch) : Ct (VX g) l yX0_wide cX0_wide 1 (some .int) (rk 1 0 0) [.ref (vO (VX g) + x0)] σ (oI ρ) σ :=
  Ct.of (by decide) (Nat.le_of_ble_eq_true rfl) (fun Θ hc ls hl => wfX0_wide σ x0 hc hF ls hl)
theorem rX_ca_X0_378 {γ : Type} {Θ : ThT Mem} {g : GeoX} {cc : ByteArray} {nL : Nat} {rm : Room} {ret : Option FieldType} {hs : List (Nat × Nat × Nat × Nat)} {ini : Bool} {O : Outcome} {σ' : Mem} {ρ : γ} {σ : Mem} {F : Option γ} {cs : Nat × Nat} {pc : Nat} {lv : List (Nat × Value)} {st : List Value} (hc : Cx Θ (VX g) cc nL RX0 rm ret hs ini O σ') {a : Nat} {q : Nat × Nat} (h : aT σ a = some q) (hq : decide (q.1 = 1) = true) (hd : decode cc pc = .ok (.checkcast 378, 3)) (kk : Sim Θ nL ρ σ F cs (pc + 3) lv (.ref (vO (VX g) + a) :: st)) : Sim Θ nL ρ σ F cs pc lv (.ref (vO (VX g) + a) :: st) := by
  obtain ⟨t, n⟩ := q
  have h1 : t = 1 := of_decide_eq_true hq
  subst h1
  exact s_dcast hc (ty := .long) h rfl (fun _ => by simp) q981 hd kk
theorem rX_dalen {own : String} {γ : Type} {Θ : ThT Mem} {g : GeoX} {cc : ByteArray} {nL : Nat} {rm : Room} {ret : Option FieldType} {hs : List (Nat × Nat × Nat × Nat)} {ini : Bool} {O : Outcome} {σ' : Mem} {ρ : γ} {σ : Mem} {F : Option γ} {cs : Nat × Nat} {pc : Nat} {lv : List (Nat × Value)} {st : List Value} (hc : Cx Θ (VX g) cc nL own rm ret hs ini O σ') {a : Nat} {q : Nat × Nat} (h : aT σ a = some q) (hq : decide (q.1 < 5) = true) (hd : decode cc pc = .ok (.arraylength, 1)) (kk : Sim Θ nL ρ σ F cs (pc + 1) lv (.int (nI q.2) :: st)) : Sim Θ nL ρ σ F cs pc lv (.ref (vO (VX g) + a) :: st) := by
  obtain ⟨t, n⟩ := q
  have h1 : t < 5 := of_decide_eq_true hq
  have h2 : t = 0 ∨ t = 1 ∨ t = 2 ∨ t = 3 ∨ t = 4 := by omega
  rcases h2 with rfl | rfl | rfl | rfl | rfl <;> exact s_dalen hc h rfl hd kk
theorem rX_ca_X0_376 {γ : Type} {Θ : ThT Mem} {g : GeoX} {cc : ByteArray} {nL : Nat} {rm : Room} {ret : Option FieldType} {hs : List (Nat × Nat × Nat × Nat)} {ini : Bool} {O : Outcome} {σ' : Mem} {ρ : γ} {σ : Mem} {F : Option γ} {cs : Nat × Nat} {pc : Nat} {lv : List (Nat × Value)} {st : List Value} (hc : Cx Θ (VX g) cc nL RX0 rm ret hs ini O σ') {a : Nat} {q : Nat × Nat} (h : aT σ a = some q) (hq : decide (q.1 = 4) = true) (hd : decode cc pc = .ok (.checkcast 376, 3)) (kk : Sim Θ nL ρ σ F cs (pc + 3) lv (.ref (vO (VX g) + a) :: st)) : Sim Θ nL ρ σ F cs pc lv (.ref (vO (VX g) + a) :: st) := by
  obtain ⟨t, n⟩ := q
  have h1 : t = 4 := of_decide_eq_true hq
  subst h1
  exact s_dcast hc (ty := .short) h rfl (fun _ => by simp) q980 hd kk
theorem rX_ca_X0_375 {γ : Type} {Θ : ThT Mem} {g : GeoX} {cc : ByteArray} {nL : Nat} {rm : Room} {ret : Option FieldType} {hs : List (Nat × Nat × Nat × Nat)} {ini : Bool} {O : Outcome} {σ' : Mem} {ρ : γ} {σ : Mem} {F : Option γ} {cs : Nat × Nat} {pc : Nat} {lv : List (Nat × Value)} {st : List Value} (hc : Cx Θ (VX g) cc nL RX0 rm ret hs ini O σ') {a : Nat} {q : Nat × Nat} (h : aT σ a = some q) (hq : decide (q.1 = 3) = true) (hd : decode cc pc = .ok (.checkcast 375, 3)) (kk : Sim Θ nL ρ σ F cs (pc + 3) lv (.ref (vO (VX g) + a) :: st)) : Sim Θ nL ρ σ F cs pc lv (.ref (vO (VX g) + a) :: st) := by
  obtain ⟨t, n⟩ := q
  have h1 : t = 3 := of_decide_eq_true hq
  subst h1
  exact s_dcast hc (ty := .byte) h rfl (fun _ => by simp) q979 hd kk
def fX0_length (N : Nat) (σ : Mem) (x0 : Nat) : Option (Int32) :=
  (aT σ x0).bind (fun q1 => if q1.1 = 3 then
  (if (1 : Int32) = (0 : Int32) then
  ((aT σ x0).bind (fun q6 => if q6.1 = 4 then
  (if (1 : Int32) = (0 : Int32) then
  ((aT σ x0).bind (fun q11 => gb (decide (q11.1 = 1)) (
  (aT σ x0).bind (fun q14 => gb (decide (q14.1 < 5)) (
  some (nI q14.2))))))
  else ((aT σ x0).bind (fun q17 => gb (decide (q17.1 = 4)) (
  (aT σ x0).bind (fun q20 => gb (decide (q20.1 < 5)) (
  some (nI q20.2)))))))
  else gb (decide (q6.1 = 1)) (if (0 : Int32) = (0 : Int32) then
  ((aT σ x0).bind (fun q24 => gb (decide (q24.1 = 1)) (
  (aT σ x0).bind (fun q27 => gb (decide (q27.1 < 5)) (
  some (nI q27.2))))))
  else ((aT σ x0).bind (fun q30 => gb (decide (q30.1 = 4)) (
  (aT σ x0).bind (fun q33 => gb (decide (q33.1 < 5)) (
  some (nI q33.2)))))))))
  else ((aT σ x0).bind (fun q36 => gb (decide (q36.1 = 3)) (
  (aT σ x0).bind (fun q39 => gb (decide (q39.1 < 5)) (
  some (nI q39.2)))))))
  else gb (decide (q1.1 = 4) || decide (q1.1 = 1)) (if (0 : Int32) = (0 : Int32) then
  ((aT σ x0).bind (fun q43 => if q43.1 = 4 then
  (if (1 : Int32) = (0 : Int32) then
  ((aT σ x0).bind (fun q48 => gb (decide (q48.1 = 1)) (
  (aT σ x0).bind (fun q51 => gb (decide (q51.1 < 5)) (
  some (nI q51.2))))))
  else ((aT σ x0).bind (fun q54 => gb (decide (q54.1 = 4)) (
  (aT σ x0).bind (fun q57 => gb (decide (q57.1 < 5)) (
  some (nI q57.2)))))))
  else gb (decide (q43.1 = 1)) (if (0 : Int32) = (0 : Int32) then
  ((aT σ x0).bind (fun q61 => gb (decide (q61.1 = 1)) (
  (aT σ x0).bind (fun q64 => gb (decide (q64.1 < 5)) (
  some (nI q64.2))))))
  else ((aT σ x0).bind (fun q67 => gb (decide (q67.1 = 4)) (
  (aT σ x0).bind (fun q70 => gb (decide (q70.1 < 5)) (
  some (nI q70.2)))))))))
  else ((aT σ x0).bind (fun q73 => gb (decide (q73.1 = 3)) (
  (aT σ x0).bind (fun q76 => gb (decide (q76.1 < 5)) (
  some (nI q76.2))))))))
set_option maxHeartbeats 4000000 in
theorem wfX0_length {Θ : ThT Mem} {g : GeoX} {N : Nat}  {ρ : Int32} (σ : Mem) (x0 : Nat) (hc : Cx Θ (VX g) cX0_length 1 RX0 (rk 1 0 0) (some .int) [] false (oI ρ) σ) : Sim Θ 1 ρ σ (fX0_length N σ x0) (0, 0) 0 [(0, .ref (vO (VX g) + x0))] [] := by
  have hz := hc.z
  unfold fX0_length
  refine s_aload_n hz dX0_length_0 rfl 0 rfl ?_
  refine s_bind (fun q1 e2 => ?_)
  refine s_ite (fun h3 => ?_) (fun h3 => ?_)
  · refine rX_iy_X0_375 hc e2 h3 dX0_length_1 ?_
    refine s_if_eq (tgt := 13) hz dX0_length_4 rfl (fun h5 => ?_) (fun h5 => ?_)
    · refine s_aload_n hz dX0_length_13 rfl 0 rfl ?_
      refine s_bind (fun q6 e7 => ?_)
      refine s_ite (fun h8 => ?_) (fun h8 => ?_)
      · refine rX_iy_X0_376 hc e7 h8 dX0_length_14 ?_
        refine s_if_eq (tgt := 28) hz dX0_length_17 rfl (fun h10 => ?_) (fun h10 => ?_)
        · refine s_aload_n hz dX0_length_28 rfl 0 rfl ?_
          refine s_bind (fun q11 e12 => ?_)
          refine s_gb (fun h13 => ?_)
          refine rX_ca_X0_378 hc e12 h13 dX0_length_29 ?_
          refine s_bind (fun q14 e15 => ?_)
          refine s_gb (fun h16 => ?_)
          refine rX_dalen hc e15 h16 dX0_length_32 ?_
          exact s_iret hc dX0_length_33 (Nat.le_of_ble_eq_true rfl) (Nat.le_of_ble_eq_true rfl)
        · refine s_aload_n hz dX0_length_20 rfl 0 rfl ?_
          refine s_bind (fun q17 e18 => ?_)
          refine s_gb (fun h19 => ?_)
          refine rX_ca_X0_376 hc e18 h19 dX0_length_21 ?_
          refine s_bind (fun q20 e21 => ?_)
          refine s_gb (fun h22 => ?_)
          refine rX_dalen hc e21 h22 dX0_length_24 ?_
          refine s_goto (tgt := 33) hz dX0_length_25 rfl ?_
          exact s_iret hc dX0_length_33 (Nat.le_of_ble_eq_true rfl) (Nat.le_of_ble_eq_true rfl)
      · refine s_gb (fun h9 => ?_)
        refine rX_in_X0_376 hc e7 h9 dX0_length_14 ?_
        refine s_if_eq (tgt := 28) hz dX0_length_17 rfl (fun h23 => ?_) (fun h23 => ?_)
        · refine s_aload_n hz dX0_length_28 rfl 0 rfl ?_
          refine s_bind (fun q24 e25 => ?_)
          refine s_gb (fun h26 => ?_)
          refine rX_ca_X0_378 hc e25 h26 dX0_length_29 ?_
          refine s_bind (fun q27 e28 => ?_)
          refine s_gb (fun h29 => ?_)
          refine rX_dalen hc e28 h29 dX0_length_32 ?_
          exact s_iret hc dX0_length_33 (Nat.le_of_ble_eq_true rfl) (Nat.le_of_ble_eq_true rfl)
        · refine s_aload_n hz dX0_length_20 rfl 0 rfl ?_
          refine s_bind (fun q30 e31 => ?_)
          refine s_gb (fun h32 => ?_)
          refine rX_ca_X0_376 hc e31 h32 dX0_length_21 ?_
          refine s_bind (fun q33 e34 => ?_)
          refine s_gb (fun h35 => ?_)
          refine rX_dalen hc e34 h35 dX0_length_24 ?_
          refine s_goto (tgt := 33) hz dX0_length_25 rfl ?_
          exact s_iret hc dX0_length_33 (Nat.le_of_ble_eq_true rfl) (Nat.le_of_ble_eq_true rfl)
    · refine s_aload_n hz dX0_length_7 rfl 0 rfl ?_
      refine s_bind (fun q36 e37 => ?_)
      refine s_gb (fun h38 => ?_)
      refine rX_ca_X0_375 hc e37 h38 dX0_length_8 ?_
      refine s_bind (fun q39 e40 => ?_)
      refine s_gb (fun h41 => ?_)
      refine rX_dalen hc e40 h41 dX0_length_11 ?_
      exact s_iret hc dX0_length_12 (Nat.le_of_ble_eq_true rfl) (Nat.le_of_ble_eq_true rfl)
  · refine s_gb (fun h4 => ?_)
    refine rX_in_X0_375 hc e2 h4 dX0_length_1 ?_
    refine s_if_eq (tgt := 13) hz dX0_length_4 rfl (fun h42 => ?_) (fun h42 => ?_)
    · refine s_aload_n hz dX0_length_13 rfl 0 rfl ?_
      refine s_bind (fun q43 e44 => ?_)
      refine s_ite (fun h45 => ?_) (fun h45 => ?_)
      · refine rX_iy_X0_376 hc e44 h45 dX0_length_14 ?_
        refine s_if_eq (tgt := 28) hz dX0_length_17 rfl (fun h47 => ?_) (fun h47 => ?_)
        · refine s_aload_n hz dX0_length_28 rfl 0 rfl ?_
          refine s_bind (fun q48 e49 => ?_)
          refine s_gb (fun h50 => ?_)
          refine rX_ca_X0_378 hc e49 h50 dX0_length_29 ?_
          refine s_bind (fun q51 e52 => ?_)
          refine s_gb (fun h53 => ?_)
          refine rX_dalen hc e52 h53 dX0_length_32 ?_
          exact s_iret hc dX0_length_33 (Nat.le_of_ble_eq_true rfl) (Nat.le_of_ble_eq_true rfl)
        · refine s_aload_n hz dX0_length_20 rfl 0 rfl ?_
          refine s_bind (fun q54 e55 => ?_)
          refine s_gb (fun h56 => ?_)
          refine rX_ca_X0_376 hc e55 h56 dX0_length_21 ?_
          refine s_bind (fun q57 e58 => ?_)
          refine s_gb (fun h59 => ?_)
          refine rX_dalen hc e58 h59 dX0_length_24 ?_
          refine s_goto (tgt := 33) hz dX0_length_25 rfl ?_
          exact s_iret hc dX0_length_33 (Nat.le_of_ble_eq_true rfl) (Nat.le_of_ble_eq_true rfl)
      · refine s_gb (fun h46 => ?_)
        refine rX_in_X0_376 hc e44 h46 dX0_length_14 ?_
        refine s_if_eq (tgt := 28) hz dX0_length_17 rfl (fun h60 => ?_) (fun h60 => ?_)
        · refine s_aload_n hz dX0_length_28 rfl 0 rfl ?_
          refine s_bind (fun q61 e62 => ?_)
          refine s_gb (fun h63 => ?_)
          refine rX_ca_X0_378 hc e62 h63 dX0_length_29 ?_
          refine s_bind (fun q64 e65 => ?_)
          refine s_gb (fun h66 => ?_)
          refine rX_dalen hc e65 h66 dX0_length_32 ?_
          exact s_iret hc dX0_length_33 (Nat.le_of_ble_eq_true rfl) (Nat.le_of_ble_eq_true rfl)
        · refine s_aload_n hz dX0_length_20 rfl 0 rfl ?_
          refine s_bind (fun q67 e68 => ?_)
          refine s_gb (fun h69 => ?_)
          refine rX_ca_X0_376 hc e68 h69 dX0_length_21 ?_
          refine s_bind (fun q70 e71 => ?_)
          refine s_gb (fun h72 => ?_)
          refine rX_dalen hc e71 h72 dX0_length_24 ?_
          refine s_goto (tgt := 33) hz dX0_length_25 rfl ?_
          exact s_iret hc dX0_length_33 (Nat.le_of_ble_eq_true rfl) (Nat.le_of_ble_eq_true rfl)
    · refine s_aload_n hz dX0_length_7 rfl 0 rfl ?_
      refine s_bind (fun q73 e74 => ?_)
      refine s_gb (fun h75 => ?_)
      refine rX_ca_X0_375 hc e74 h75 dX0_length_8 ?_
      refine s_bind (fun q76 e77 => ?_)
      refine s_gb (fun h78 => ?_)
      refine rX_dalen hc e77 h78 dX0_length_11 ?_
      exact s_iret hc dX0_length_12 (Nat.le_of_ble_eq_true rfl) (Nat.le_of_ble_eq_true rfl)
theorem cfX0_length {g : GeoX} {N : Nat}  {σ : Mem} {x0 : Nat} {ρ : Int32} (hF : fX0_length N σ x0 = some ρ) (l : Launch) : Ct (VX g) l yX0_length cX0_length 1 (some .int) (rk 1 0 0) [.ref (vO (VX g) + x0)] σ (oI ρ) σ :=
  Ct.of (by decide) (Nat.le_of_ble_eq_true rfl) (fun Θ hc ls hl => wfX0_length σ x0 hc hF ls hl)
def fX0_get (N : Nat) (σ : Mem) (x0 : Nat) (x1 : Int32) : Option (Int64) :=
  (aT σ x0).bind (fun q1 => if q1.1 = 3 then
  (if (1 : Int32) = (0 : Int32) then
  ((aT σ x0).bind (fun q6 => if q6.1 = 4 then
  (if (1 : Int32) = (0 : Int32) then
  ((aT σ x0).bind (fun q11 => gb (decide (q11.1 = 1)) (
  (aL 1 σ x0 x1).bind (fun v14 => 
  some v14))))
  else ((aT σ x0).bind (fun q16 => gb (decide (q16.1 = 4)) (
  (aI 4 σ x0 x1).bind (fun v19 => 
  some ((v19).toInt64))))))
  else gb (decide (q6.1 = 1)) (if (0 : Int32) = (0 : Int32) then
  ((aT σ x0).bind (fun q22 => gb (decide (q22.1 = 1)) (
  (aL 1 σ x0 x1).bind (fun v25 => 
  some v25))))
  else ((aT σ x0).bind (fun q27 => gb (decide (q27.1 = 4)) (
  (aI 4 σ x0 x1).bind (fun v30 => 
  some ((v30).toInt64))))))))
  else ((aT σ x0).bind (fun q32 => gb (decide (q32.1 = 3)) (
  (aI 3 σ x0 x1).bind (fun v35 => 
  some ((v35).toInt64))))))
  else gb (decide (q1.1 = 4) || decide (q1.1 = 1)) (if (0 : Int32) = (0 : Int32) then
  ((aT σ x0).bind (fun q38 => if q38.1 = 4 then
  (if (1 : Int32) = (0 : Int32) then
  ((aT σ x0).bind (fun q43 => gb (decide (q43.1 = 1)) (
  (aL 1 σ x0 x1).bind (fun v46 => 
  some v46))))
  else ((aT σ x0).bind (fun q48 => gb (decide (q48.1 = 4)) (
  (aI 4 σ x0 x1).bind (fun v51 => 
  some ((v51).toInt64))))))
  else gb (decide (q38.1 = 1)) (if (0 : Int32) = (0 : Int32) then
  ((aT σ x0).bind (fun q54 => gb (decide (q54.1 = 1)) (
  (aL 1 σ x0 x1).bind (fun v57 => 
  some v57))))
  else ((aT σ x0).bind (fun q59 => gb (decide (q59.1 = 4)) (
  (aI 4 σ x0 x1).bind (fun v62 => 
  some ((v62).toInt64))))))))
  else ((aT σ x0).bind (fun q64 => gb (decide (q64.1 = 3)) (
  (aI 3 σ x0 x1).bind (fun v67 => 
  some ((v67).toInt64)))))))
set_option maxHeartbeats 4000000 in
theorem wfX0_get {Θ : ThT Mem} {g : GeoX} {N : Nat}  {ρ : Int64} (σ : Mem) (x0 : Nat) (x1 : Int32) (hc : Cx Θ (VX g) cX0_get 2 RX0 (rk 1 0 0) (some .long) [] false (oL ρ) σ) : Sim Θ 2 ρ σ (fX0_get N σ x0 x1) (0, 0) 0 [(0, .ref (vO (VX g) + x0)), (1, .int x1)] [] := by
  have hz := hc.z
  unfold fX0_get
  refine s_aload_n hz dX0_get_0 rfl 0 rfl ?_
  refine s_bind (fun q1 e2 => ?_)
  refine s_ite (fun h3 => ?_) (fun h3 => ?_)
  · refine rX_iy_X0_375 hc e2 h3 dX0_get_1 ?_
    refine s_if_eq (tgt := 15) hz dX0_get_4 rfl (fun h5 => ?_) (fun h5 => ?_)
    · refine s_aload_n hz dX0_get_15 rfl 0 rfl ?_
      refine s_bind (fun q6 e7 => ?_)
      refine s_ite (fun h8 => ?_) (fun h8 => ?_)
      · refine rX_iy_X0_376 hc e7 h8 dX0_get_16 ?_
        refine s_if_eq (tgt := 32) hz dX0_get_19 rfl (fun h10 => ?_) (fun h10 => ?_)
        · refine s_aload_n hz dX0_get_32 rfl 0 rfl ?_
          refine s_bind (fun q11 e12 => ?_)
          refine s_gb (fun h13 => ?_)
          refine rX_ca_X0_378 hc e12 h13 dX0_get_33 ?_
          refine s_iload_n hz dX0_get_36 rfl 1 rfl ?_
          refine s_bind (fun v14 e15 => ?_)
          refine s_dlald hc e15 (t := 1) rfl dX0_get_37 ?_
          exact s_lret hc dX0_get_38 (Nat.le_of_ble_eq_true rfl) (Nat.le_of_ble_eq_true rfl)
        · refine s_aload_n hz dX0_get_22 rfl 0 rfl ?_
          refine s_bind (fun q16 e17 => ?_)
          refine s_gb (fun h18 => ?_)
          refine rX_ca_X0_376 hc e17 h18 dX0_get_23 ?_
          refine s_iload_n hz dX0_get_26 rfl 1 rfl ?_
          refine s_bind (fun v19 e20 => ?_)
          refine s_dsald hc e20 (t := 4) rfl dX0_get_27 ?_
          refine s_i2l hz dX0_get_28 ?_
          refine s_goto (tgt := 38) hz dX0_get_29 rfl ?_
          exact s_lret hc dX0_get_38 (Nat.le_of_ble_eq_true rfl) (Nat.le_of_ble_eq_true rfl)
      · refine s_gb (fun h9 => ?_)
        refine rX_in_X0_376 hc e7 h9 dX0_get_16 ?_
        refine s_if_eq (tgt := 32) hz dX0_get_19 rfl (fun h21 => ?_) (fun h21 => ?_)
        · refine s_aload_n hz dX0_get_32 rfl 0 rfl ?_
          refine s_bind (fun q22 e23 => ?_)
          refine s_gb (fun h24 => ?_)
          refine rX_ca_X0_378 hc e23 h24 dX0_get_33 ?_
          refine s_iload_n hz dX0_get_36 rfl 1 rfl ?_
          refine s_bind (fun v25 e26 => ?_)
          refine s_dlald hc e26 (t := 1) rfl dX0_get_37 ?_
          exact s_lret hc dX0_get_38 (Nat.le_of_ble_eq_true rfl) (Nat.le_of_ble_eq_true rfl)
        · refine s_aload_n hz dX0_get_22 rfl 0 rfl ?_
          refine s_bind (fun q27 e28 => ?_)
          refine s_gb (fun h29 => ?_)
          refine rX_ca_X0_376 hc e28 h29 dX0_get_23 ?_
          refine s_iload_n hz dX0_get_26 rfl 1 rfl ?_
          refine s_bind (fun v30 e31 => ?_)
          refine s_dsald hc e31 (t := 4) rfl dX0_get_27 ?_
          refine s_i2l hz dX0_get_28 ?_
          refine s_goto (tgt := 38) hz dX0_get_29 rfl ?_
          exact s_lret hc dX0_get_38 (Nat.le_of_ble_eq_true rfl) (Nat.le_of_ble_eq_true rfl)
    · refine s_aload_n hz dX0_get_7 rfl 0 rfl ?_
      refine s_bind (fun q32 e33 => ?_)
      refine s_gb (fun h34 => ?_)
      refine rX_ca_X0_375 hc e33 h34 dX0_get_8 ?_
      refine s_iload_n hz dX0_get_11 rfl 1 rfl ?_
      refine s_bind (fun v35 e36 => ?_)
      refine s_dbald hc e36 (t := 3) rfl dX0_get_12 ?_
      refine s_i2l hz dX0_get_13 ?_
      exact s_lret hc dX0_get_14 (Nat.le_of_ble_eq_true rfl) (Nat.le_of_ble_eq_true rfl)
  · refine s_gb (fun h4 => ?_)
    refine rX_in_X0_375 hc e2 h4 dX0_get_1 ?_
    refine s_if_eq (tgt := 15) hz dX0_get_4 rfl (fun h37 => ?_) (fun h37 => ?_)
    · refine s_aload_n hz dX0_get_15 rfl 0 rfl ?_
      refine s_bind (fun q38 e39 => ?_)
      refine s_ite (fun h40 => ?_) (fun h40 => ?_)
      · refine rX_iy_X0_376 hc e39 h40 dX0_get_16 ?_
        refine s_if_eq (tgt := 32) hz dX0_get_19 rfl (fun h42 => ?_) (fun h42 => ?_)
        · refine s_aload_n hz dX0_get_32 rfl 0 rfl ?_
          refine s_bind (fun q43 e44 => ?_)
          refine s_gb (fun h45 => ?_)
          refine rX_ca_X0_378 hc e44 h45 dX0_get_33 ?_
          refine s_iload_n hz dX0_get_36 rfl 1 rfl ?_
          refine s_bind (fun v46 e47 => ?_)
          refine s_dlald hc e47 (t := 1) rfl dX0_get_37 ?_
          exact s_lret hc dX0_get_38 (Nat.le_of_ble_eq_true rfl) (Nat.le_of_ble_eq_true rfl)
        · refine s_aload_n hz dX0_get_22 rfl 0 rfl ?_
          refine s_bind (fun q48 e49 => ?_)
          refine s_gb (fun h50 => ?_)
          refine rX_ca_X0_376 hc e49 h50 dX0_get_23 ?_
          refine s_iload_n hz dX0_get_26 rfl 1 rfl ?_
          refine s_bind (fun v51 e52 => ?_)
          refine s_dsald hc e52 (t := 4) rfl dX0_get_27 ?_
          refine s_i2l hz dX0_get_28 ?_
          refine s_goto (tgt := 38) hz dX0_get_29 rfl ?_
          exact s_lret hc dX0_get_38 (Nat.le_of_ble_eq_true rfl) (Nat.le_of_ble_eq_true rfl)
      · refine s_gb (fun h41 => ?_)
        refine rX_in_X0_376 hc e39 h41 dX0_get_16 ?_
        refine s_if_eq (tgt := 32) hz dX0_get_19 rfl (fun h53 => ?_) (fun h53 => ?_)
        · refine s_aload_n hz dX0_get_32 rfl 0 rfl ?_
          refine s_bind (fun q54 e55 => ?_)
          refine s_gb (fun h56 => ?_)
          refine rX_ca_X0_378 hc e55 h56 dX0_get_33 ?_
          refine s_iload_n hz dX0_get_36 rfl 1 rfl ?_
          refine s_bind (fun v57 e58 => ?_)
          refine s_dlald hc e58 (t := 1) rfl dX0_get_37 ?_
          exact s_lret hc dX0_get_38 (Nat.le_of_ble_eq_true rfl) (Nat.le_of_ble_eq_true rfl)
        · refine s_aload_n hz dX0_get_22 rfl 0 rfl ?_
          refine s_bind (fun q59 e60 => ?_)
          refine s_gb (fun h61 => ?_)
          refine rX_ca_X0_376 hc e60 h61 dX0_get_23 ?_
          refine s_iload_n hz dX0_get_26 rfl 1 rfl ?_
          refine s_bind (fun v62 e63 => ?_)
          refine s_dsald hc e63 (t := 4) rfl dX0_get_27 ?_
          refine s_i2l hz dX0_get_28 ?_
          refine s_goto (tgt := 38) hz dX0_get_29 rfl ?_
          exact s_lret hc dX0_get_38 (Nat.le_of_ble_eq_true rfl) (Nat.le_of_ble_eq_true rfl)
    · refine s_aload_n hz dX0_get_7 rfl 0 rfl ?_
      refine s_bind (fun q64 e65 => ?_)
      refine s_gb (fun h66 => ?_)
      refine rX_ca_X0_375 hc e65 h66 dX0_get_8 ?_
      refine s_iload_n hz dX0_get_11 rfl 1 rfl ?_
      refine s_bind (fun v67 e68 => ?_)
      refine s_dbald hc e68 (t := 3) rfl dX0_get_12 ?_
      refine s_i2l hz dX0_get_13 ?_
      exact s_lret hc dX0_get_14 (Nat.le_of_ble_eq_true rfl) (Nat.le_of_ble_eq_true rfl)
theorem cfX0_get {g : GeoX} {N : Nat}  {σ : Mem} {x0 : Nat} {x1 : Int32} {ρ : Int64} (hF : fX0_get N σ x0 x1 = some ρ) (l : Launch) : Ct (VX g) l yX0_get cX0_get 2 (some .long) (rk 1 0 0) [.ref (vO (VX g) + x0), .int x1] σ (oL ρ) σ :=
  Ct.of (by decide) (Nat.le_of_ble_eq_true rfl) (fun Θ hc ls hl => wfX0_get σ x0 x1 hc hF ls hl)
def fX0_put (N : Nat) (σ : Mem) (x0 : Nat) (x1 : Int32) (x2 : Int64) : Option (Unit × Mem) :=
  (aT σ x0).bind (fun q1 => if q1.1 = 3 then
  (if (1 : Int32) = (0 : Int32) then
  ((aT σ x0).bind (fun q6 => if q6.1 = 4 then
  (if (1 : Int32) = (0 : Int32) then
  ((aT σ x0).bind (fun q11 => gb (decide (q11.1 = 1)) (
  (uL 1 σ x0 x1 x2).bind (fun σ14 => 
  some ((), σ14)))))
  else ((aT σ x0).bind (fun q16 => gb (decide (q16.1 = 4)) (
  (uI 4 σ x0 x1 ((((x2).toInt32)).toInt16.toInt32)).bind (fun σ19 => 
  some ((), σ19))))))
  else gb (decide (q6.1 = 1)) (if (0 : Int32) = (0 : Int32) then
  ((aT σ x0).bind (fun q22 => gb (decide (q22.1 = 1)) (
  (uL 1 σ x0 x1 x2).bind (fun σ25 => 
  some ((), σ25)))))
  else ((aT σ x0).bind (fun q27 => gb (decide (q27.1 = 4)) (
  (uI 4 σ x0 x1 ((((x2).toInt32)).toInt16.toInt32)).bind (fun σ30 => 
  some ((), σ30))))))))
  else ((aT σ x0).bind (fun q32 => gb (decide (q32.1 = 3)) (
  (uI 3 σ x0 x1 ((((x2).toInt32)).toInt8.toInt32)).bind (fun σ35 => 
  some ((), σ35))))))
  else gb (decide (q1.1 = 4) || decide (q1.1 = 1)) (if (0 : Int32) = (0 : Int32) then
  ((aT σ x0).bind (fun q38 => if q38.1 = 4 then
  (if (1 : Int32) = (0 : Int32) then
  ((aT σ x0).bind (fun q43 => gb (decide (q43.1 = 1)) (
  (uL 1 σ x0 x1 x2).bind (fun σ46 => 
  some ((), σ46)))))
  else ((aT σ x0).bind (fun q48 => gb (decide (q48.1 = 4)) (
  (uI 4 σ x0 x1 ((((x2).toInt32)).toInt16.toInt32)).bind (fun σ51 => 
  some ((), σ51))))))
  else gb (decide (q38.1 = 1)) (if (0 : Int32) = (0 : Int32) then
  ((aT σ x0).bind (fun q54 => gb (decide (q54.1 = 1)) (
  (uL 1 σ x0 x1 x2).bind (fun σ57 => 
  some ((), σ57)))))
  else ((aT σ x0).bind (fun q59 => gb (decide (q59.1 = 4)) (
  (uI 4 σ x0 x1 ((((x2).toInt32)).toInt16.toInt32)).bind (fun σ62 => 
  some ((), σ62))))))))
  else ((aT σ x0).bind (fun q64 => gb (decide (q64.1 = 3)) (
  (uI 3 σ x0 x1 ((((x2).toInt32)).toInt8.toInt32)).bind (fun σ67 => 
  some ((), σ67)))))))
set_option maxHeartbeats 4000000 in
theorem wfX0_put {Θ : ThT Mem} {g : GeoX} {N : Nat}  {ρ : Unit × Mem} (σ : Mem) (x0 : Nat) (x1 : Int32) (x2 : Int64) (hc : Cx Θ (VX g) cX0_put 4 RX0 (rk 1 0 0) none [] false (oV) ρ.2) : Sim Θ 4 ρ σ (fX0_put N σ x0 x1 x2) (0, 0) 0 [(0, .ref (vO (VX g) + x0)), (1, .int x1), (2, .long x2)] [] := by
  have hz := hc.z
  unfold fX0_put
  refine s_aload_n hz dX0_put_0 rfl 0 rfl ?_
  refine s_bind (fun q1 e2 => ?_)
  refine s_ite (fun h3 => ?_) (fun h3 => ?_)
  · refine rX_iy_X0_375 hc e2 h3 dX0_put_1 ?_
    refine s_if_eq (tgt := 19) hz dX0_put_4 rfl (fun h5 => ?_) (fun h5 => ?_)
    · refine s_aload_n hz dX0_put_19 rfl 0 rfl ?_
      refine s_bind (fun q6 e7 => ?_)
      refine s_ite (fun h8 => ?_) (fun h8 => ?_)
      · refine rX_iy_X0_376 hc e7 h8 dX0_put_20 ?_
        refine s_if_eq (tgt := 38) hz dX0_put_23 rfl (fun h10 => ?_) (fun h10 => ?_)
        · refine s_aload_n hz dX0_put_38 rfl 0 rfl ?_
          refine s_bind (fun q11 e12 => ?_)
          refine s_gb (fun h13 => ?_)
          refine rX_ca_X0_378 hc e12 h13 dX0_put_39 ?_
          refine s_iload_n hz dX0_put_42 rfl 1 rfl ?_
          refine s_lload_n hz dX0_put_43 rfl 2 rfl ?_
          refine s_bind (fun σ14 e15 => ?_)
          refine s_dlast hc e15 (t := 1) rfl dX0_put_44 ?_
          exact s_vretM hc dX0_put_45 (Nat.le_of_ble_eq_true rfl) (Nat.le_of_ble_eq_true rfl)
        · refine s_aload_n hz dX0_put_26 rfl 0 rfl ?_
          refine s_bind (fun q16 e17 => ?_)
          refine s_gb (fun h18 => ?_)
          refine rX_ca_X0_376 hc e17 h18 dX0_put_27 ?_
          refine s_iload_n hz dX0_put_30 rfl 1 rfl ?_
          refine s_lload_n hz dX0_put_31 rfl 2 rfl ?_
          refine s_l2i hz dX0_put_32 ?_
          refine s_i2s hz dX0_put_33 ?_
          refine s_bind (fun σ19 e20 => ?_)
          refine s_dsast hc e20 (t := 4) rfl (nr_short _) dX0_put_34 ?_
          refine s_goto (tgt := 45) hz dX0_put_35 rfl ?_
          exact s_vretM hc dX0_put_45 (Nat.le_of_ble_eq_true rfl) (Nat.le_of_ble_eq_true rfl)
      · refine s_gb (fun h9 => ?_)
        refine rX_in_X0_376 hc e7 h9 dX0_put_20 ?_
        refine s_if_eq (tgt := 38) hz dX0_put_23 rfl (fun h21 => ?_) (fun h21 => ?_)
        · refine s_aload_n hz dX0_put_38 rfl 0 rfl ?_
          refine s_bind (fun q22 e23 => ?_)
          refine s_gb (fun h24 => ?_)
          refine rX_ca_X0_378 hc e23 h24 dX0_put_39 ?_
          refine s_iload_n hz dX0_put_42 rfl 1 rfl ?_
          refine s_lload_n hz dX0_put_43 rfl 2 rfl ?_
          refine s_bind (fun σ25 e26 => ?_)
          refine s_dlast hc e26 (t := 1) rfl dX0_put_44 ?_
          exact s_vretM hc dX0_put_45 (Nat.le_of_ble_eq_true rfl) (Nat.le_of_ble_eq_true rfl)
        · refine s_aload_n hz dX0_put_26 rfl 0 rfl ?_
          refine s_bind (fun q27 e28 => ?_)
          refine s_gb (fun h29 => ?_)
          refine rX_ca_X0_376 hc e28 h29 dX0_put_27 ?_
          refine s_iload_n hz dX0_put_30 rfl 1 rfl ?_
          refine s_lload_n hz dX0_put_31 rfl 2 rfl ?_
          refine s_l2i hz dX0_put_32 ?_
          refine s_i2s hz dX0_put_33 ?_
          refine s_bind (fun σ30 e31 => ?_)
          refine s_dsast hc e31 (t := 4) rfl (nr_short _) dX0_put_34 ?_
          refine s_goto (tgt := 45) hz dX0_put_35 rfl ?_
          exact s_vretM hc dX0_put_45 (Nat.le_of_ble_eq_true rfl) (Nat.le_of_ble_eq_true rfl)
    · refine s_aload_n hz dX0_put_7 rfl 0 rfl ?_
      refine s_bind (fun q32 e33 => ?_)
      refine s_gb (fun h34 => ?_)
      refine rX_ca_X0_375 hc e33 h34 dX0_put_8 ?_
      refine s_iload_n hz dX0_put_11 rfl 1 rfl ?_
      refine s_lload_n hz dX0_put_12 rfl 2 rfl ?_
      refine s_l2i hz dX0_put_13 ?_
      refine s_i2b hz dX0_put_14 ?_
      refine s_bind (fun σ35 e36 => ?_)
      refine s_dbast hc e36 (t := 3) rfl (nr_byte _) dX0_put_15 ?_
      refine s_goto (tgt := 45) hz dX0_put_16 rfl ?_
      exact s_vretM hc dX0_put_45 (Nat.le_of_ble_eq_true rfl) (Nat.le_of_ble_eq_true rfl)
  · refine s_gb (fun h4 => ?_)
    refine rX_in_X0_375 hc e2 h4 dX0_put_1 ?_
    refine s_if_eq (tgt := 19) hz dX0_put_4 rfl (fun h37 => ?_) (fun h37 => ?_)
    · refine s_aload_n hz dX0_put_19 rfl 0 rfl ?_
      refine s_bind (fun q38 e39 => ?_)
      refine s_ite (fun h40 => ?_) (fun h40 => ?_)
      · refine rX_iy_X0_376 hc e39 h40 dX0_put_20 ?_
        refine s_if_eq (tgt := 38) hz dX0_put_23 rfl (fun h42 => ?_) (fun h42 => ?_)
        · refine s_aload_n hz dX0_put_38 rfl 0 rfl ?_
          refine s_bind (fun q43 e44 => ?_)
          refine s_gb (fun h45 => ?_)
          refine rX_ca_X0_378 hc e44 h45 dX0_put_39 ?_
          refine s_iload_n hz dX0_put_42 rfl 1 rfl ?_
          refine s_lload_n hz dX0_put_43 rfl 2 rfl ?_
          refine s_bind (fun σ46 e47 => ?_)
          refine s_dlast hc e47 (t := 1) rfl dX0_put_44 ?_
          exact s_vretM hc dX0_put_45 (Nat.le_of_ble_eq_true rfl) (Nat.le_of_ble_eq_true rfl)
        · refine s_aload_n hz dX0_put_26 rfl 0 rfl ?_
          refine s_bind (fun q48 e49 => ?_)
          refine s_gb (fun h50 => ?_)
          refine rX_ca_X0_376 hc e49 h50 dX0_put_27 ?_
          refine s_iload_n hz dX0_put_30 rfl 1 rfl ?_
          refine s_lload_n hz dX0_put_31 rfl 2 rfl ?_
          refine s_l2i hz dX0_put_32 ?_
          refine s_i2s hz dX0_put_33 ?_
          refine s_bind (fun σ51 e52 => ?_)
          refine s_dsast hc e52 (t := 4) rfl (nr_short _) dX0_put_34 ?_
          refine s_goto (tgt := 45) hz dX0_put_35 rfl ?_
          exact s_vretM hc dX0_put_45 (Nat.le_of_ble_eq_true rfl) (Nat.le_of_ble_eq_true rfl)
      · refine s_gb (fun h41 => ?_)
        refine rX_in_X0_376 hc e39 h41 dX0_put_20 ?_
        refine s_if_eq (tgt := 38) hz dX0_put_23 rfl (fun h53 => ?_) (fun h53 => ?_)
        · refine s_aload_n hz dX0_put_38 rfl 0 rfl ?_
          refine s_bind (fun q54 e55 => ?_)
          refine s_gb (fun h56 => ?_)
          refine rX_ca_X0_378 hc e55 h56 dX0_put_39 ?_
          refine s_iload_n hz dX0_put_42 rfl 1 rfl ?_
          refine s_lload_n hz dX0_put_43 rfl 2 rfl ?_
          refine s_bind (fun σ57 e58 => ?_)
          refine s_dlast hc e58 (t := 1) rfl dX0_put_44 ?_
          exact s_vretM hc dX0_put_45 (Nat.le_of_ble_eq_true rfl) (Nat.le_of_ble_eq_true rfl)
        · refine s_aload_n hz dX0_put_26 rfl 0 rfl ?_
          refine s_bind (fun q59 e60 => ?_)
          refine s_gb (fun h61 => ?_)
          refine rX_ca_X0_376 hc e60 h61 dX0_put_27 ?_
          refine s_iload_n hz dX0_put_30 rfl 1 rfl ?_
          refine s_lload_n hz dX0_put_31 rfl 2 rfl ?_
          refine s_l2i hz dX0_put_32 ?_
          refine s_i2s hz dX0_put_33 ?_
          refine s_bind (fun σ62 e63 => ?_)
          refine s_dsast hc e63 (t := 4) rfl (nr_short _) dX0_put_34 ?_
          refine s_goto (tgt := 45) hz dX0_put_35 rfl ?_
          exact s_vretM hc dX0_put_45 (Nat.le_of_ble_eq_true rfl) (Nat.le_of_ble_eq_true rfl)
    · refine s_aload_n hz dX0_put_7 rfl 0 rfl ?_
      refine s_bind (fun q64 e65 => ?_)
      refine s_gb (fun h66 => ?_)
      refine rX_ca_X0_375 hc e65 h66 dX0_put_8 ?_
      refine s_iload_n hz dX0_put_11 rfl 1 rfl ?_
      refine s_lload_n hz dX0_put_12 rfl 2 rfl ?_
      refine s_l2i hz dX0_put_13 ?_
      refine s_i2b hz dX0_put_14 ?_
      refine s_bind (fun σ67 e68 => ?_)
      refine s_dbast hc e68 (t := 3) rfl (nr_byte _) dX0_put_15 ?_
      refine s_goto (tgt := 45) hz dX0_put_16 rfl ?_
      exact s_vretM hc dX0_put_45 (Nat.le_of_ble_eq_true rfl) (Nat.le_of_ble_eq_true rfl)
theorem cfX0_put {g : GeoX} {N : Nat}  {σ : Mem} {x0 : Nat} {x1 : Int32} {x2 : Int64} {ρ : Unit × Mem} (hF : fX0_put N σ x0 x1 x2 = some ρ) (l : Launch) : Ct (VX g) l yX0_put cX0_put 4 none (rk 1 0 0) [.ref (vO (VX g) + x0), .int x1, .long x2] σ (oV) ρ.2 :=
  Ct.of (by decide) (Nat.le_of_ble_eq_true rfl) (fun Θ hc ls hl => wfX0_put σ x0 x1 x2 hc hF ls hl)
def fX0_made (N : Nat) (σ : Mem) (x0 : Int32) (x1 : Int32) : Option (Option Nat × Mem) :=
  if x0 = (8 : Int32) then
  (gb (inb x1 41) (lt_ (nC σ (.inl (3, ix x1, .inl (fun _ => 0)))) (fun σ2 => 
  some (some (gN σ), σ2))))
  else (if x0 = (16 : Int32) then
  (gb (inb x1 41) (lt_ (nC σ (.inl (4, ix x1, .inl (fun _ => 0)))) (fun σ5 => 
  some (some (gN σ), σ5))))
  else (if x0 = (64 : Int32) then
  (gb (inb x1 41) (lt_ (nC σ (.inl (1, ix x1, .inr (.inl (fun _ => 0))))) (fun σ8 => 
  some (some (gN σ), σ8))))
  else (some (none, σ))))
set_option maxHeartbeats 4000000 in
theorem wfX0_made {Θ : ThT Mem} {g : GeoX} {N : Nat}  {ρ : Option Nat × Mem} (σ : Mem) (x0 : Int32) (x1 : Int32) (hc : Cx Θ (VX g) cX0_made 2 RX0 (rk 1 1 40) (some (.object "java/lang/Object")) [] false (oR (vO (VX g)) ρ.1) ρ.2) : Sim Θ 2 ρ σ (fX0_made N σ x0 x1) (0, 0) 0 [(0, .int x0), (1, .int x1)] [] := by
  have hz := hc.z
  unfold fX0_made
  refine s_iload_n hz dX0_made_0 rfl 0 rfl ?_
  refine s_ite (fun h1 => ?_) (fun h1 => ?_)
  · refine s_lookup (off := (35)) (tgt := 36) hz dX0_made_1 (by decide) (by rw [h1]; decide) rfl ?_
    refine s_iload_n hz dX0_made_36 rfl 1 rfl ?_
    refine s_gb (fun h3 => ?_)
    refine s_newarr hc (B := 40) (t := 3) (ty := .byte) h3 (by decide) rfl rfl (fun _ => by simp) (fun _ _ => rfl) (by decide) q191 ⟨(Nat.le_of_ble_eq_true rfl), (Nat.le_of_ble_eq_true rfl)⟩ dX0_made_37 (fun σ2 => ?_)
    exact s_aretM hc (Or.inl ⟨_, rfl⟩) dX0_made_39 (Nat.le_of_ble_eq_true rfl) (Nat.le_of_ble_eq_true rfl)
  refine s_ite (fun h4 => ?_) (fun h4 => ?_)
  · refine s_lookup (off := (39)) (tgt := 40) hz dX0_made_1 (by decide) (by rw [h4]; decide) rfl ?_
    refine s_iload_n hz dX0_made_40 rfl 1 rfl ?_
    refine s_gb (fun h6 => ?_)
    refine s_newarr hc (B := 40) (t := 4) (ty := .short) h6 (by decide) rfl rfl (fun _ => by simp) (fun _ _ => rfl) (by decide) q996 ⟨(Nat.le_of_ble_eq_true rfl), (Nat.le_of_ble_eq_true rfl)⟩ dX0_made_41 (fun σ5 => ?_)
    exact s_aretM hc (Or.inl ⟨_, rfl⟩) dX0_made_43 (Nat.le_of_ble_eq_true rfl) (Nat.le_of_ble_eq_true rfl)
  refine s_ite (fun h7 => ?_) (fun h7 => ?_)
  · refine s_lookup (off := (43)) (tgt := 44) hz dX0_made_1 (by decide) (by rw [h7]; decide) rfl ?_
    refine s_iload_n hz dX0_made_44 rfl 1 rfl ?_
    refine s_gb (fun h9 => ?_)
    refine s_newarr hc (B := 40) (t := 1) (ty := .long) h9 (by decide) rfl rfl (fun _ => by simp) (fun _ _ => rfl) (by decide) q997 ⟨(Nat.le_of_ble_eq_true rfl), (Nat.le_of_ble_eq_true rfl)⟩ dX0_made_45 (fun σ8 => ?_)
    exact s_aretM hc (Or.inl ⟨_, rfl⟩) dX0_made_47 (Nat.le_of_ble_eq_true rfl) (Nat.le_of_ble_eq_true rfl)
  refine s_lookup (off := (47)) (tgt := 48) hz dX0_made_1 (by decide) (by have a0 : (x0).toInt ≠ 8 := lc_ne h1; have a1 : (x0).toInt ≠ 16 := lc_ne h4; have a2 : (x0).toInt ≠ 64 := lc_ne h7; simp [Op.lookupswitch.offset, Ne.symm a0, Ne.symm a1, Ne.symm a2]) rfl ?_
  refine s_null hz dX0_made_48 ?_
  exact s_aretNM hc (Or.inl ⟨_, rfl⟩) dX0_made_49 (Nat.le_of_ble_eq_true rfl) (Nat.le_of_ble_eq_true rfl)
theorem cfX0_made {g : GeoX} {N : Nat}  {σ : Mem} {x0 : Int32} {x1 : Int32} {ρ : Option Nat × Mem} (hF : fX0_made N σ x0 x1 = some ρ) (l : Launch) : Ct (VX g) l yX0_made cX0_made 2 (some (.object "java/lang/Object")) (rk 1 1 40) [.int x0, .int x1] σ (oR (vO (VX g)) ρ.1) ρ.2 :=
  Ct.of (by decide) (Nat.le_of_ble_eq_true rfl) (fun Θ hc ls hl => wfX0_made σ x0 x1 hc hF ls hl)
theorem kX_X0_358 {γ : Type} {Θ : ThT Mem} {g : GeoX} {cc : ByteArray} {nL : Nat} {rm : Room} {ret : Option FieldType} {hs : List (Nat × Nat × Nat × Nat)} {ini : Bool} {O : Outcome} {σ' : Mem} {ρ : γ} {σ : Mem} {F : Option γ} {cs : Nat × Nat} {pc : Nat} {lv : List (Nat × Value)} {st : List Value} (hc : Cx Θ (VX g) cc nL RX0 rm ret hs ini O σ') {σ1 : Mem} {x0 : Int32} {rmc : Room} (hM : ∀ l : Launch, Ct (VX g) l yX0_sheetAt cX0_sheetAt 1 none rmc [.int x0] σ oV σ1) (hR : rmc.frames + 1 ≤ rm.frames ∧ 8 + (1 + 11) + rmc.locals ≤ rm.locals) (hf : cs.1 + rmc.cells ≤ rm.cells ∧ cs.2 + rmc.slots ≤ rm.slots) (hrest : (st.map fun v => v.category).sum ≤ 8) (hd : decode cc pc = .ok (.invokestatic 358, 3)) (kk : Sim Θ nL ρ σ1 F (cs.1 + rmc.cells, cs.2 + rmc.slots) (pc + 3) lv (st)) : Sim Θ nL ρ σ F cs pc lv (.int x0 :: st) := s_callS hc (As := [.int x0]) (rest := st) (n := 1) hM (lw_S q968 q969 q62 q970) (by decide +kernel) rfl rfl hrest hR hf hd kk
theorem kX_X0_358_h {γ : Type} {Θ : ThT Mem} {g : GeoX} {cc : ByteArray} {nL : Nat} {rm : Room} {ret : Option FieldType} {hs : List (Nat × Nat × Nat × Nat)} {ini : Bool} {O : Outcome} {σ' : Mem} {ρ : γ} {σ : Mem} {F : Option γ} {cs : Nat × Nat} {pc : Nat} {lv : List (Nat × Value)} {st : List Value} (hc : Cx Θ (VX g) cc nL RX0 rm ret hs ini O σ') {σ1 : Mem} {x0 : Int32} {b i s0 e0 hp ct ci : Nat} {q : vw_C} {rmc : Room} (hM : ∀ l : Launch, Ct (VX g) l yX0_sheetAt cX0_sheetAt 1 none rmc [.int x0] σ (.threw (vO (VX g) + b)) σ1) (hR : rmc.frames + 1 ≤ rm.frames ∧ 8 + (1 + 11) + rmc.locals ≤ rm.locals) (hf : cs.1 + rmc.cells ≤ rm.cells ∧ cs.2 + rmc.slots ≤ rm.slots) (hrest : (st.map fun v => v.category).sum ≤ 8) (hd : decode cc pc = .ok (.invokestatic 358, 3)) (hi : hs[i]? = some (s0, e0, hp, ct)) (hpre : ((hs.take i).all fun q => !(decide (q.1 ≤ pc) && decide (pc < q.2.1))) = true) (hin : s0 ≤ pc ∧ pc < e0) (h0 : ct ≠ 0) (hcl : (vCl (VX g))[ci]? = some q) (hlink : Cond.classLink RX0 ct q.1 ∈ lw_all) (hob : Ob (VX g) σ1 b ci) (kk : Sim Θ nL ρ σ1 F (cs.1 + rmc.cells, cs.2 + rmc.slots) hp lv [.ref (vO (VX g) + b)]) : Sim Θ nL ρ σ F cs pc lv (.int x0 :: st) := s_callSh hc (As := [.int x0]) (rest := st) (n := 1) hM (lw_S q968 q969 q62 q970) (by decide +kernel) rfl rfl hrest hR hf hd hi hpre hin h0 hcl hlink hob kk
theorem kX_X0_358_t {β : Type} {Θ : ThT Mem} {g : GeoX} {cc : ByteArray} {nL : Nat} {rm : Room} {ret : Option FieldType} {hs : List (Nat × Nat × Nat × Nat)} {ini : Bool} {fo : β → Outcome} {ρ : (β ⊕ Nat) × Mem} {σ : Mem} {cs : Nat × Nat} {pc : Nat} {lv : List (Nat × Value)} {st : List Value} (hc : Cx Θ (VX g) cc nL RX0 rm ret hs ini (oT fo ρ.1 (vO (VX g))) ρ.2) {σ1 : Mem} {x0 : Int32} {b : Nat} {rmc : Room} (hM : ∀ l : Launch, Ct (VX g) l yX0_sheetAt cX0_sheetAt 1 none rmc [.int x0] σ (.threw (vO (VX g) + b)) σ1) (hR : rmc.frames + 1 ≤ rm.frames ∧ 8 + (1 + 11) + rmc.locals ≤ rm.locals) (hf : cs.1 + rmc.cells ≤ rm.cells ∧ cs.2 + rmc.slots ≤ rm.slots) (hrest : (st.map fun v => v.category).sum ≤ 8) (hd : decode cc pc = .ok (.invokestatic 358, 3)) (hout : (hs.all fun q => !(decide (q.1 ≤ pc) && decide (pc < q.2.1))) = true) : Sim Θ nL ρ σ (some (.inr b, σ1)) cs pc lv (.int x0 :: st) := s_callSt hc (As := [.int x0]) (rest := st) (n := 1) hM (lw_S q968 q969 q62 q970) (by decide +kernel) rfl rfl hrest hR hf hd hout
theorem kX_X0_361 {γ : Type} {Θ : ThT Mem} {g : GeoX} {cc : ByteArray} {nL : Nat} {rm : Room} {ret : Option FieldType} {hs : List (Nat × Nat × Nat × Nat)} {ini : Bool} {O : Outcome} {σ' : Mem} {ρ : γ} {σ : Mem} {F : Option γ} {cs : Nat × Nat} {pc : Nat} {lv : List (Nat × Value)} {st : List Value} (hc : Cx Θ (VX g) cc nL RX0 rm ret hs ini O σ') {σ1 : Mem} {x1 : Int32} {r : Option Nat} {rmc : Room} (hM : ∀ l : Launch, Ct (VX g) l yX0_there cX0_there 3 (some (.object "java/lang/Object")) rmc [.ref (vO (VX g) + 0), .int x1] σ (oR (vO (VX g)) r) σ1) (hR : rmc.frames + 1 ≤ rm.frames ∧ 8 + (3 + 11) + rmc.locals ≤ rm.locals) (hf : cs.1 + rmc.cells ≤ rm.cells ∧ cs.2 + rmc.slots ≤ rm.slots) (hrest : (st.map fun v => v.category).sum ≤ 8) (hd : decode cc pc = .ok (.invokevirtual 361, 3)) (kk : Sim Θ nL ρ σ1 F (cs.1 + rmc.cells, cs.2 + rmc.slots) (pc + 3) lv (va_rf (r.map (vO (VX g) + ·)) :: st)) : Sim Θ nL ρ σ F cs pc lv (.int x1 :: .ref (vO (VX g) + 0) :: st) := s_callVo hc (a := 0) (As := [.int x1]) (rest := st) (n := 1) (ci := 0) (q := (RX0, TX0, 19)) hM (lw_V q972 q974 qs26 q62 q975) (by decide +kernel) rfl (Ob.fix (Nat.le_of_ble_eq_true rfl) rfl) rfl rfl hrest hR hf hd kk
theorem kX_X0_361_h {γ : Type} {Θ : ThT Mem} {g : GeoX} {cc : ByteArray} {nL : Nat} {rm : Room} {ret : Option FieldType} {hs : List (Nat × Nat × Nat × Nat)} {ini : Bool} {O : Outcome} {σ' : Mem} {ρ : γ} {σ : Mem} {F : Option γ} {cs : Nat × Nat} {pc : Nat} {lv : List (Nat × Value)} {st : List Value} (hc : Cx Θ (VX g) cc nL RX0 rm ret hs ini O σ') {σ1 : Mem} {x1 : Int32} {b i s0 e0 hp ct ci : Nat} {q : vw_C} {rmc : Room} (hM : ∀ l : Launch, Ct (VX g) l yX0_there cX0_there 3 (some (.object "java/lang/Object")) rmc [.ref (vO (VX g) + 0), .int x1] σ (.threw (vO (VX g) + b)) σ1) (hR : rmc.frames + 1 ≤ rm.frames ∧ 8 + (3 + 11) + rmc.locals ≤ rm.locals) (hf : cs.1 + rmc.cells ≤ rm.cells ∧ cs.2 + rmc.slots ≤ rm.slots) (hrest : (st.map fun v => v.category).sum ≤ 8) (hd : decode cc pc = .ok (.invokevirtual 361, 3)) (hi : hs[i]? = some (s0, e0, hp, ct)) (hpre : ((hs.take i).all fun q => !(decide (q.1 ≤ pc) && decide (pc < q.2.1))) = true) (hin : s0 ≤ pc ∧ pc < e0) (h0 : ct ≠ 0) (hcl : (vCl (VX g))[ci]? = some q) (hlink : Cond.classLink RX0 ct q.1 ∈ lw_all) (hob : Ob (VX g) σ1 b ci) (kk : Sim Θ nL ρ σ1 F (cs.1 + rmc.cells, cs.2 + rmc.slots) hp lv [.ref (vO (VX g) + b)]) : Sim Θ nL ρ σ F cs pc lv (.int x1 :: .ref (vO (VX g) + 0) :: st) := s_callVh hc (a := 0) (As := [.int x1]) (rest := st) (n := 1) (cj := 0) (q' := (RX0, TX0, 19)) hM (lw_V q972 q974 qs26 q62 q975) (by decide +kernel) rfl (Ob.fix (Nat.le_of_ble_eq_true rfl) rfl) rfl rfl hrest hR hf hd hi hpre hin h0 hcl hlink hob kk
theorem kX_X0_361_t {β : Type} {Θ : ThT Mem} {g : GeoX} {cc : ByteArray} {nL : Nat} {rm : Room} {ret : Option FieldType} {hs : List (Nat × Nat × Nat × Nat)} {ini : Bool} {fo : β → Outcome} {ρ : (β ⊕ Nat) × Mem} {σ : Mem} {cs : Nat × Nat} {pc : Nat} {lv : List (Nat × Value)} {st : List Value} (hc : Cx Θ (VX g) cc nL RX0 rm ret hs ini (oT fo ρ.1 (vO (VX g))) ρ.2) {σ1 : Mem} {x1 : Int32} {b : Nat} {rmc : Room} (hM : ∀ l : Launch, Ct (VX g) l yX0_there cX0_there 3 (some (.object "java/lang/Object")) rmc [.ref (vO (VX g) + 0), .int x1] σ (.threw (vO (VX g) + b)) σ1) (hR : rmc.frames + 1 ≤ rm.frames ∧ 8 + (3 + 11) + rmc.locals ≤ rm.locals) (hf : cs.1 + rmc.cells ≤ rm.cells ∧ cs.2 + rmc.slots ≤ rm.slots) (hrest : (st.map fun v => v.category).sum ≤ 8) (hd : decode cc pc = .ok (.invokevirtual 361, 3)) (hout : (hs.all fun q => !(decide (q.1 ≤ pc) && decide (pc < q.2.1))) = true) : Sim Θ nL ρ σ (some (.inr b, σ1)) cs pc lv (.int x1 :: .ref (vO (VX g) + 0) :: st) := s_callVt hc (a := 0) (As := [.int x1]) (rest := st) (n := 1) (cj := 0) (q' := (RX0, TX0, 19)) hM (lw_V q972 q974 qs26 q62 q975) (by decide +kernel) rfl (Ob.fix (Nat.le_of_ble_eq_true rfl) rfl) rfl rfl hrest hR hf hd hout
theorem kX_X0_365 {γ : Type} {Θ : ThT Mem} {g : GeoX} {cc : ByteArray} {nL : Nat} {rm : Room} {ret : Option FieldType} {hs : List (Nat × Nat × Nat × Nat)} {ini : Bool} {O : Outcome} {σ' : Mem} {ρ : γ} {σ : Mem} {F : Option γ} {cs : Nat × Nat} {pc : Nat} {lv : List (Nat × Value)} {st : List Value} (hc : Cx Θ (VX g) cc nL RX0 rm ret hs ini O σ') {σ1 : Mem} {x0 : Nat} {r : Int32} {rmc : Room} (hM : ∀ l : Launch, Ct (VX g) l yX0_length cX0_length 1 (some .int) rmc [.ref (vO (VX g) + x0)] σ (oI r) σ1) (hR : rmc.frames + 1 ≤ rm.frames ∧ 8 + (1 + 11) + rmc.locals ≤ rm.locals) (hf : cs.1 + rmc.cells ≤ rm.cells ∧ cs.2 + rmc.slots ≤ rm.slots) (hrest : (st.map fun v => v.category).sum ≤ 8) (hd : decode cc pc = .ok (.invokestatic 365, 3)) (kk : Sim Θ nL ρ σ1 F (cs.1 + rmc.cells, cs.2 + rmc.slots) (pc + 3) lv (.int r :: st)) : Sim Θ nL ρ σ F cs pc lv (.ref (vO (VX g) + x0) :: st) := s_callS hc (As := [.ref (vO (VX g) + x0)]) (rest := st) (n := 1) hM (lw_S q976 q977 q62 q978) (by decide +kernel) rfl rfl hrest hR hf hd kk
def fX0_numberAt (N : Nat) (σ : Mem) (x1 : Int32) (x2 : Int32) : Option ((Option Nat ⊕ Nat) × Mem) :=
  (fX0_sheetAt N σ x1).bind (fun q4 => cT2 q4 (fun v1 σ3 => 
  (fX0_there N σ3 x1).bind (fun q10 => cT2 q10 (fun v7 σ9 => 
  mO v7
  (none) (fun a13 => 
  (fX0_length N σ9 a13).bind (fun q14 => 
  (fX0_in N σ9 ((x2).toInt64) (0 : Int64) (((q14 - (1 : Int32))).toInt64)).bind (fun q16 => 
  (fX0_need N σ9 q16 (0 : Int32)).bind (fun q21 => cT2 q21 (fun v18 σ20 => 
  some (.inl (some a13), σ20)) (fun b19 σ20 => 
  some (.inr b19, σ20))))))) (fun b8 σ9 => 
  some (.inr b8, σ9)))) (fun b2 σ3 => 
  some (.inr b2, σ3)))
set_option maxHeartbeats 4000000 in
theorem wfX0_numberAt {Θ : ThT Mem} {g : GeoX} {N : Nat}  {ρ : (Option Nat ⊕ Nat) × Mem} (σ : Mem) (x1 : Int32) (x2 : Int32) (hc : Cx Θ (VX g) cX0_numberAt 4 RX0 (rk 6 3 21) (some (.object "java/lang/Object")) [] false (oT (oR (vO (VX g))) ρ.1 (vO (VX g))) ρ.2) : Sim Θ 4 ρ σ (fX0_numberAt N σ x1 x2) (0, 0) 0 [(0, .ref (vO (VX g) + 0)), (1, .int x1), (2, .int x2)] [] := by
  have hz := hc.z
  unfold fX0_numberAt
  refine s_iload_n hz dX0_numberAt_0 rfl 1 rfl ?_
  refine s_bind (fun q4 e5 => ?_)
  rcases q4 with ⟨v1 | b2, σ3⟩
  · refine kX_X0_358 hc (cfX0_sheetAt e5) ⟨(Nat.le_of_ble_eq_true rfl), (Nat.le_of_ble_eq_true rfl)⟩ ⟨(Nat.le_of_ble_eq_true rfl), (Nat.le_of_ble_eq_true rfl)⟩ (Nat.le_of_ble_eq_true rfl) dX0_numberAt_1 (s_c2 ?_)
    refine s_aload_n hz dX0_numberAt_4 rfl 0 rfl ?_
    refine s_iload_n hz dX0_numberAt_5 rfl 1 rfl ?_
    refine s_bind (fun q10 e11 => ?_)
    rcases q10 with ⟨v7 | b8, σ9⟩
    · refine kX_X0_361 hc (cfX0_there e11) ⟨(Nat.le_of_ble_eq_true rfl), (Nat.le_of_ble_eq_true rfl)⟩ ⟨(Nat.le_of_ble_eq_true rfl), (Nat.le_of_ble_eq_true rfl)⟩ (Nat.le_of_ble_eq_true rfl) dX0_numberAt_6 (s_c2 ?_)
      refine s_opt (fun _ => ?_) (fun a13 _ => ?_)
      · refine s_astore_nN (lv' := [(3, .null), (0, .ref (vO (VX g) + 0)), (1, .int x1), (2, .int x2)]) hz dX0_numberAt_9 rfl (Nat.le_of_ble_eq_true rfl) rfl ?_
        refine s_iload_n hz dX0_numberAt_10 rfl 3 rfl ?_
        refine s_i2l hz dX0_numberAt_11 ?_
        refine s_lconst (v := (0 : Int64)) hz dX0_numberAt_12 (by decide) ?_
        refine s_aload_nN hz dX0_numberAt_13 rfl 0 rfl ?_
        exact s_none
      · refine s_astore_n (lv' := [(3, .ref (vO (VX g) + a13)), (0, .ref (vO (VX g) + 0)), (1, .int x1), (2, .int x2)]) hz dX0_numberAt_9 rfl (Nat.le_of_ble_eq_true rfl) rfl ?_
        refine s_iload_n hz dX0_numberAt_10 rfl 3 rfl ?_
        refine s_i2l hz dX0_numberAt_11 ?_
        refine s_lconst (v := (0 : Int64)) hz dX0_numberAt_12 (by decide) ?_
        refine s_aload_n hz dX0_numberAt_13 rfl 0 rfl ?_
        refine s_bind (fun q14 e15 => ?_)
        refine kX_X0_365 hc (cfX0_length e15) ⟨(Nat.le_of_ble_eq_true rfl), (Nat.le_of_ble_eq_true rfl)⟩ ⟨(Nat.le_of_ble_eq_true rfl), (Nat.le_of_ble_eq_true rfl)⟩ (Nat.le_of_ble_eq_true rfl) dX0_numberAt_14 ?_
        refine s_iconst (v := (1 : Int32)) hz dX0_numberAt_17 (by decide) ?_
        refine s_isub hz dX0_numberAt_18 ?_
        refine s_i2l hz dX0_numberAt_19 ?_
        refine s_bind (fun q16 e17 => ?_)
        refine kX_X0_125 hc (cfX0_in e17) ⟨(Nat.le_of_ble_eq_true rfl), (Nat.le_of_ble_eq_true rfl)⟩ ⟨(Nat.le_of_ble_eq_true rfl), (Nat.le_of_ble_eq_true rfl)⟩ (Nat.le_of_ble_eq_true rfl) dX0_numberAt_20 ?_
        refine s_iconst (v := (0 : Int32)) hz dX0_numberAt_23 (by decide) ?_
        refine s_bind (fun q21 e22 => ?_)
        rcases q21 with ⟨v18 | b19, σ20⟩
        · refine kX_X0_119 hc (cfX0_need e22) ⟨(Nat.le_of_ble_eq_true rfl), (Nat.le_of_ble_eq_true rfl)⟩ ⟨(Nat.le_of_ble_eq_true rfl), (Nat.le_of_ble_eq_true rfl)⟩ (Nat.le_of_ble_eq_true rfl) dX0_numberAt_24 (s_c2 ?_)
          refine s_aload_n hz dX0_numberAt_27 rfl 0 rfl ?_
          exact s_aretT hc (Or.inl ⟨_, rfl⟩) dX0_numberAt_28 (Nat.le_of_ble_eq_true rfl) (Nat.le_of_ble_eq_true rfl)
        · exact kX_X0_119_t hc (cfX0_need e22) ⟨(Nat.le_of_ble_eq_true rfl), (Nat.le_of_ble_eq_true rfl)⟩ ⟨(Nat.le_of_ble_eq_true rfl), (Nat.le_of_ble_eq_true rfl)⟩ (Nat.le_of_ble_eq_true rfl) dX0_numberAt_24 rfl
    · exact kX_X0_361_t hc (cfX0_there e11) ⟨(Nat.le_of_ble_eq_true rfl), (Nat.le_of_ble_eq_true rfl)⟩ ⟨(Nat.le_of_ble_eq_true rfl), (Nat.le_of_ble_eq_true rfl)⟩ (Nat.le_of_ble_eq_true rfl) dX0_numberAt_6 rfl
  · exact kX_X0_358_t hc (cfX0_sheetAt e5) ⟨(Nat.le_of_ble_eq_true rfl), (Nat.le_of_ble_eq_true rfl)⟩ ⟨(Nat.le_of_ble_eq_true rfl), (Nat.le_of_ble_eq_true rfl)⟩ (Nat.le_of_ble_eq_true rfl) dX0_numberAt_1 rfl
theorem cfX0_numberAt {g : GeoX} {N : Nat}  {σ : Mem} {x1 : Int32} {x2 : Int32} {ρ : (Option Nat ⊕ Nat) × Mem} (hF : fX0_numberAt N σ x1 x2 = some ρ) (l : Launch) : Ct (VX g) l yX0_numberAt cX0_numberAt 4 (some (.object "java/lang/Object")) (rk 6 3 21) [.ref (vO (VX g) + 0), .int x1, .int x2] σ (oT (oR (vO (VX g))) ρ.1 (vO (VX g))) ρ.2 :=
  Ct.of (by decide) (Nat.le_of_ble_eq_true rfl) (fun Θ hc ls hl => wfX0_numberAt σ x1 x2 hc hF ls hl)
theorem rX_wi_X7_7 {γ : Type} {Θ : ThT Mem} {g : GeoX} {cc : ByteArray} {nL : Nat} {rm : Room} {ret : Option FieldType} {hs : List (Nat × Nat × Nat × Nat)} {ini : Bool} {O : Outcome} {σ' : Mem} {ρ : γ} {σ : Mem} {F : Option γ} {cs : Nat × Nat} {pc : Nat} {lv : List (Nat × Value)} {st : List Value} (hc : Cx Θ (VX g) cc nL RX7 rm ret hs ini O σ') {a : Nat} {x : Int32} {σ1 : Mem} (h : wV 8 16 σ a 0 (.int x) = some σ1) (hd : decode cc pc = .ok (.putfield 7, 3)) (kk : Sim Θ nL ρ σ1 F cs (pc + 3) lv st) : Sim Θ nL ρ σ F cs pc lv (.int x :: .ref (vO (VX g) + a) :: st) := by
  obtain ⟨c, fs, ha, h1, h2, hlen, rfl⟩ := wV_spec h
  have h3 : c = 8 ∨ c = 9 ∨ c = 10 ∨ c = 11 ∨ c = 12 ∨ c = 13 ∨ c = 14 ∨ c = 15 := by omega
  rcases h3 with rfl | rfl | rfl | rfl | rfl | rfl | rfl | rfl
  · exact s_dput hc (C := RX7) (T := TX7) (N := 1) (v := (.int x)) ha in_X7 tyX7_ok nmX7 rfl 0 (Nat.le_of_ble_eq_true rfl) q383 (fun _ _ _ _ h => h) (ty := .int) (by decide +kernel) rfl rfl hlen (Or.inl rfl) hd kk
  · exact s_dput hc (C := RX8) (T := TX8) (N := 1) (v := (.int x)) ha in_X8 tyX8_ok nmX8 rfl 0 (Nat.le_of_ble_eq_true rfl) q383 (fun _ _ _ _ h => h) (ty := .int) (by decide +kernel) rfl rfl hlen (Or.inl rfl) hd kk
  · exact s_dput hc (C := RX9) (T := TX9) (N := 1) (v := (.int x)) ha in_X9 tyX9_ok nmX9 rfl 0 (Nat.le_of_ble_eq_true rfl) q383 (fun _ _ _ _ h => h) (ty := .int) (by decide +kernel) rfl rfl hlen (Or.inl rfl) hd kk
  · exact s_dput hc (C := RX10) (T := TX10) (N := 1) (v := (.int x)) ha in_X10 tyX10_ok nmX10 rfl 0 (Nat.le_of_ble_eq_true rfl) q383 (fun _ _ _ _ h => h) (ty := .int) (by decide +kernel) rfl rfl hlen (Or.inl rfl) hd kk
  · exact s_dput hc (C := RX11) (T := TX11) (N := 1) (v := (.int x)) ha in_X11 tyX11_ok nmX11 rfl 0 (Nat.le_of_ble_eq_true rfl) q383 (fun _ _ _ _ h => h) (ty := .int) (by decide +kernel) rfl rfl hlen (Or.inl rfl) hd kk
  · exact s_dput hc (C := RX12) (T := TX12) (N := 1) (v := (.int x)) ha in_X12 tyX12_ok nmX12 rfl 0 (Nat.le_of_ble_eq_true rfl) q383 (fun _ _ _ _ h => h) (ty := .int) (by decide +kernel) rfl rfl hlen (Or.inl rfl) hd kk
  · exact s_dput hc (C := RX13) (T := TX13) (N := 1) (v := (.int x)) ha in_X13 tyX13_ok nmX13 rfl 0 (Nat.le_of_ble_eq_true rfl) q383 (fun _ _ _ _ h => h) (ty := .int) (by decide +kernel) rfl rfl hlen (Or.inl rfl) hd kk
  · exact s_dput hc (C := RX14) (T := TX14) (N := 1) (v := (.int x)) ha in_X14 tyX14_ok nmX14 rfl 0 (Nat.le_of_ble_eq_true rfl) q383 (fun _ _ _ _ h => h) (ty := .int) (by decide +kernel) rfl rfl hlen (Or.inl rfl) hd kk
def fX7_init (N : Nat) (σ : Mem) (x0 : Nat) (x1 : Int32) : Option (Unit × Mem) :=
  (wV 8 16 σ x0 0 (.int x1)).bind (fun σ1 => 
  some ((), σ1))
set_option maxHeartbeats 4000000 in
theorem wfX7_init {Θ : ThT Mem} {g : GeoX} {N : Nat}  {ρ : Unit × Mem} (σ : Mem) (x0 : Nat) (x1 : Int32) (hc : Cx Θ (VX g) cX7_init 2 RX7 (rk 2 0 0) none [] true (oV) ρ.2) : Sim Θ 2 ρ σ (fX7_init N σ x0 x1) (0, 0) 0 [(0, .ref (vO (VX g) + x0)), (1, .int x1)] [] := by
  have hz := hc.z
  unfold fX7_init
  refine s_aload_n hz dX7_init_0 rfl 0 rfl ?_
  refine s_objInit hc q382 q94 q95 (Nat.le_of_ble_eq_true rfl) (Nat.le_of_ble_eq_true rfl) dX7_init_1 ?_
  refine s_aload_n hz dX7_init_4 rfl 0 rfl ?_
  refine s_iload_n hz dX7_init_5 rfl 1 rfl ?_
  refine s_bind (fun σ1 e2 => ?_)
  refine rX_wi_X7_7 hc e2 dX7_init_6 ?_
  exact s_vretM hc dX7_init_9 (Nat.le_of_ble_eq_true rfl) (Nat.le_of_ble_eq_true rfl)
theorem cfX7_init {g : GeoX} {N : Nat}  {σ : Mem} {x0 : Nat} {x1 : Int32} {ρ : Unit × Mem} (hF : fX7_init N σ x0 x1 = some ρ) (l : Launch) : Ct (VX g) l yX7_init cX7_init 2 none (rk 2 0 0) [.ref (vO (VX g) + x0), .int x1] σ (oV) ρ.2 :=
  Ct.ofFI true (plainFor_of_name (by decide)) (fun h => rfl) (Nat.le_of_ble_eq_true rfl) (fun Θ hc ls hl => wfX7_init σ x0 x1 hc hF ls hl)
theorem kX_X8_1 {γ : Type} {Θ : ThT Mem} {g : GeoX} {cc : ByteArray} {nL : Nat} {rm : Room} {ret : Option FieldType} {hs : List (Nat × Nat × Nat × Nat)} {ini : Bool} {O : Outcome} {σ' : Mem} {ρ : γ} {σ : Mem} {F : Option γ} {cs : Nat × Nat} {pc : Nat} {lv : List (Nat × Value)} {st : List Value} (hc : Cx Θ (VX g) cc nL RX8 rm ret hs ini O σ') {σ1 : Mem} {x0 : Nat} {x1 : Int32} {rmc : Room} (hM : ∀ l : Launch, Ct (VX g) l yX7_init cX7_init 2 none rmc [.ref (vO (VX g) + x0), .int x1] σ oV σ1) (hR : rmc.frames + 1 ≤ rm.frames ∧ 8 + (2 + 11) + rmc.locals ≤ rm.locals) (hf : cs.1 + rmc.cells ≤ rm.cells ∧ cs.2 + rmc.slots ≤ rm.slots) (hrest : (st.map fun v => v.category).sum ≤ 8) (hd : decode cc pc = .ok (.invokespecial 1, 3)) (kk : Sim Θ nL ρ σ1 F (cs.1 + rmc.cells, cs.2 + rmc.slots) (pc + 3) lv (st)) : Sim Θ nL ρ σ F cs pc lv (.int x1 :: .ref (vO (VX g) + x0) :: st) := s_callI hc (a := x0) (As := [.int x1]) (rest := st) (n := 1) hM q381 q72 q407 q380 (by decide +kernel) rfl rfl hrest hR hf hd kk
def fX8_init (N : Nat) (σ : Mem) (x0 : Nat) (x1 : Int32) : Option (Unit × Mem) :=
  (fX7_init N σ x0 x1).bind (fun q1 => 
  some ((), q1.2))
set_option maxHeartbeats 4000000 in
theorem wfX8_init {Θ : ThT Mem} {g : GeoX} {N : Nat}  {ρ : Unit × Mem} (σ : Mem) (x0 : Nat) (x1 : Int32) (hc : Cx Θ (VX g) cX8_init 2 RX8 (rk 3 0 0) none [] true (oV) ρ.2) : Sim Θ 2 ρ σ (fX8_init N σ x0 x1) (0, 0) 0 [(0, .ref (vO (VX g) + x0)), (1, .int x1)] [] := by
  have hz := hc.z
  unfold fX8_init
  refine s_aload_n hz dX8_init_0 rfl 0 rfl ?_
  refine s_iload_n hz dX8_init_1 rfl 1 rfl ?_
  refine s_bind (fun q1 e2 => ?_)
  refine kX_X8_1 hc (cfX7_init e2) ⟨(Nat.le_of_ble_eq_true rfl), (Nat.le_of_ble_eq_true rfl)⟩ ⟨(Nat.le_of_ble_eq_true rfl), (Nat.le_of_ble_eq_true rfl)⟩ (Nat.le_of_ble_eq_true rfl) dX8_init_2 ?_
  exact s_vretM hc dX8_init_5 (Nat.le_of_ble_eq_true rfl) (Nat.le_of_ble_eq_true rfl)
theorem cfX8_init {g : GeoX} {N : Nat}  {σ : Mem} {x0 : Nat} {x1 : Int32} {ρ : Unit × Mem} (hF : fX8_init N σ x0 x1 = some ρ) (l : Launch) : Ct (VX g) l yX8_init cX8_init 2 none (rk 3 0 0) [.ref (vO (VX g) + x0), .int x1] σ (oV) ρ.2 :=
  Ct.ofFI true (plainFor_of_name (by decide)) (fun h => rfl) (Nat.le_of_ble_eq_true rfl) (fun Θ hc ls hl => wfX8_init σ x0 x1 hc hF ls hl)
theorem kX_X9_1 {γ : Type} {Θ : ThT Mem} {g : GeoX} {cc : ByteArray} {nL : Nat} {rm : Room} {ret : Option FieldType} {hs : List (Nat × Nat × Nat × Nat)} {ini : Bool} {O : Outcome} {σ' : Mem} {ρ : γ} {σ : Mem} {F : Option γ} {cs : Nat × Nat} {pc : Nat} {lv : List (Nat × Value)} {st : List Value} (hc : Cx Θ (VX g) cc nL RX9 rm ret hs ini O σ') {σ1 : Mem} {x0 : Nat} {x1 : Int32} {rmc : Room} (hM : ∀ l : Launch, Ct (VX g) l yX7_init cX7_init 2 none rmc [.ref (vO (VX g) + x0), .int x1] σ oV σ1) (hR : rmc.frames + 1 ≤ rm.frames ∧ 8 + (2 + 11) + rmc.locals ≤ rm.locals) (hf : cs.1 + rmc.cells ≤ rm.cells ∧ cs.2 + rmc.slots ≤ rm.slots) (hrest : (st.map fun v => v.category).sum ≤ 8) (hd : decode cc pc = .ok (.invokespecial 1, 3)) (kk : Sim Θ nL ρ σ1 F (cs.1 + rmc.cells, cs.2 + rmc.slots) (pc + 3) lv (st)) : Sim Θ nL ρ σ F cs pc lv (.int x1 :: .ref (vO (VX g) + x0) :: st) := s_callI hc (a := x0) (As := [.int x1]) (rest := st) (n := 1) hM q381 q72 q415 q380 (by decide +kernel) rfl rfl hrest hR hf hd kk
def fX9_init (N : Nat) (σ : Mem) (x0 : Nat) (x1 : Int32) : Option (Unit × Mem) :=
  (fX7_init N σ x0 x1).bind (fun q1 => 
  some ((), q1.2))
set_option maxHeartbeats 4000000 in
theorem wfX9_init {Θ : ThT Mem} {g : GeoX} {N : Nat}  {ρ : Unit × Mem} (σ : Mem) (x0 : Nat) (x1 : Int32) (hc : Cx Θ (VX g) cX9_init 2 RX9 (rk 3 0 0) none [] true (oV) ρ.2) : Sim Θ 2 ρ σ (fX9_init N σ x0 x1) (0, 0) 0 [(0, .ref (vO (VX g) + x0)), (1, .int x1)] [] := by
  have hz := hc.z
  unfold fX9_init
  refine s_aload_n hz dX9_init_0 rfl 0 rfl ?_
  refine s_iload_n hz dX9_init_1 rfl 1 rfl ?_
  refine s_bind (fun q1 e2 => ?_)
  refine kX_X9_1 hc (cfX7_init e2) ⟨(Nat.le_of_ble_eq_true rfl), (Nat.le_of_ble_eq_true rfl)⟩ ⟨(Nat.le_of_ble_eq_true rfl), (Nat.le_of_ble_eq_true rfl)⟩ (Nat.le_of_ble_eq_true rfl) dX9_init_2 ?_
  exact s_vretM hc dX9_init_5 (Nat.le_of_ble_eq_true rfl) (Nat.le_of_ble_eq_true rfl)
theorem cfX9_init {g : GeoX} {N : Nat}  {σ : Mem} {x0 : Nat} {x1 : Int32} {ρ : Unit × Mem} (hF : fX9_init N σ x0 x1 = some ρ) (l : Launch) : Ct (VX g) l yX9_init cX9_init 2 none (rk 3 0 0) [.ref (vO (VX g) + x0), .int x1] σ (oV) ρ.2 :=
  Ct.ofFI true (plainFor_of_name (by decide)) (fun h => rfl) (Nat.le_of_ble_eq_true rfl) (fun Θ hc ls hl => wfX9_init σ x0 x1 hc hF ls hl)
theorem kX_X10_1 {γ : Type} {Θ : ThT Mem} {g : GeoX} {cc : ByteArray} {nL : Nat} {rm : Room} {ret : Option FieldType} {hs : List (Nat × Nat × Nat × Nat)} {ini : Bool} {O : Outcome} {σ' : Mem} {ρ : γ} {σ : Mem} {F : Option γ} {cs : Nat × Nat} {pc : Nat} {lv : List (Nat × Value)} {st : List Value} (hc : Cx Θ (VX g) cc nL RX10 rm ret hs ini O σ') {σ1 : Mem} {x0 : Nat} {x1 : Int32} {rmc : Room} (hM : ∀ l : Launch, Ct (VX g) l yX7_init cX7_init 2 none rmc [.ref (vO (VX g) + x0), .int x1] σ oV σ1) (hR : rmc.frames + 1 ≤ rm.frames ∧ 8 + (2 + 11) + rmc.locals ≤ rm.locals) (hf : cs.1 + rmc.cells ≤ rm.cells ∧ cs.2 + rmc.slots ≤ rm.slots) (hrest : (st.map fun v => v.category).sum ≤ 8) (hd : decode cc pc = .ok (.invokespecial 1, 3)) (kk : Sim Θ nL ρ σ1 F (cs.1 + rmc.cells, cs.2 + rmc.slots) (pc + 3) lv (st)) : Sim Θ nL ρ σ F cs pc lv (.int x1 :: .ref (vO (VX g) + x0) :: st) := s_callI hc (a := x0) (As := [.int x1]) (rest := st) (n := 1) hM q381 q72 q423 q380 (by decide +kernel) rfl rfl hrest hR hf hd kk
def fX10_init (N : Nat) (σ : Mem) (x0 : Nat) (x1 : Int32) : Option (Unit × Mem) :=
  (fX7_init N σ x0 x1).bind (fun q1 => 
  some ((), q1.2))
set_option maxHeartbeats 4000000 in
theorem wfX10_init {Θ : ThT Mem} {g : GeoX} {N : Nat}  {ρ : Unit × Mem} (σ : Mem) (x0 : Nat) (x1 : Int32) (hc : Cx Θ (VX g) cX10_init 2 RX10 (rk 3 0 0) none [] true (oV) ρ.2) : Sim Θ 2 ρ σ (fX10_init N σ x0 x1) (0, 0) 0 [(0, .ref (vO (VX g) + x0)), (1, .int x1)] [] := by
  have hz := hc.z
  unfold fX10_init
  refine s_aload_n hz dX10_init_0 rfl 0 rfl ?_
  refine s_iload_n hz dX10_init_1 rfl 1 rfl ?_
  refine s_bind (fun q1 e2 => ?_)
  refine kX_X10_1 hc (cfX7_init e2) ⟨(Nat.le_of_ble_eq_true rfl), (Nat.le_of_ble_eq_true rfl)⟩ ⟨(Nat.le_of_ble_eq_true rfl), (Nat.le_of_ble_eq_true rfl)⟩ (Nat.le_of_ble_eq_true rfl) dX10_init_2 ?_
  exact s_vretM hc dX10_init_5 (Nat.le_of_ble_eq_true rfl) (Nat.le_of_ble_eq_true rfl)
theorem cfX10_init {g : GeoX} {N : Nat}  {σ : Mem} {x0 : Nat} {x1 : Int32} {ρ : Unit × Mem} (hF : fX10_init N σ x0 x1 = some ρ) (l : Launch) : Ct (VX g) l yX10_init cX10_init 2 none (rk 3 0 0) [.ref (vO (VX g) + x0), .int x1] σ (oV) ρ.2 :=
  Ct.ofFI true (plainFor_of_name (by decide)) (fun h => rfl) (Nat.le_of_ble_eq_true rfl) (fun Θ hc ls hl => wfX10_init σ x0 x1 hc hF ls hl)
theorem kX_X11_1 {γ : Type} {Θ : ThT Mem} {g : GeoX} {cc : ByteArray} {nL : Nat} {rm : Room} {ret : Option FieldType} {hs : List (Nat × Nat × Nat × Nat)} {ini : Bool} {O : Outcome} {σ' : Mem} {ρ : γ} {σ : Mem} {F : Option γ} {cs : Nat × Nat} {pc : Nat} {lv : List (Nat × Value)} {st : List Value} (hc : Cx Θ (VX g) cc nL RX11 rm ret hs ini O σ') {σ1 : Mem} {x0 : Nat} {x1 : Int32} {rmc : Room} (hM : ∀ l : Launch, Ct (VX g) l yX7_init cX7_init 2 none rmc [.ref (vO (VX g) + x0), .int x1] σ oV σ1) (hR : rmc.frames + 1 ≤ rm.frames ∧ 8 + (2 + 11) + rmc.locals ≤ rm.locals) (hf : cs.1 + rmc.cells ≤ rm.cells ∧ cs.2 + rmc.slots ≤ rm.slots) (hrest : (st.map fun v => v.category).sum ≤ 8) (hd : decode cc pc = .ok (.invokespecial 1, 3)) (kk : Sim Θ nL ρ σ1 F (cs.1 + rmc.cells, cs.2 + rmc.slots) (pc + 3) lv (st)) : Sim Θ nL ρ σ F cs pc lv (.int x1 :: .ref (vO (VX g) + x0) :: st) := s_callI hc (a := x0) (As := [.int x1]) (rest := st) (n := 1) hM q381 q72 q431 q380 (by decide +kernel) rfl rfl hrest hR hf hd kk
def fX11_init (N : Nat) (σ : Mem) (x0 : Nat) (x1 : Int32) : Option (Unit × Mem) :=
  (fX7_init N σ x0 x1).bind (fun q1 => 
  some ((), q1.2))
set_option maxHeartbeats 4000000 in
theorem wfX11_init {Θ : ThT Mem} {g : GeoX} {N : Nat}  {ρ : Unit × Mem} (σ : Mem) (x0 : Nat) (x1 : Int32) (hc : Cx Θ (VX g) cX11_init 2 RX11 (rk 3 0 0) none [] true (oV) ρ.2) : Sim Θ 2 ρ σ (fX11_init N σ x0 x1) (0, 0) 0 [(0, .ref (vO (VX g) + x0)), (1, .int x1)] [] := by
  have hz := hc.z
  unfold fX11_init
  refine s_aload_n hz dX11_init_0 rfl 0 rfl ?_
  refine s_iload_n hz dX11_init_1 rfl 1 rfl ?_
  refine s_bind (fun q1 e2 => ?_)
  refine kX_X11_1 hc (cfX7_init e2) ⟨(Nat.le_of_ble_eq_true rfl), (Nat.le_of_ble_eq_true rfl)⟩ ⟨(Nat.le_of_ble_eq_true rfl), (Nat.le_of_ble_eq_true rfl)⟩ (Nat.le_of_ble_eq_true rfl) dX11_init_2 ?_
  exact s_vretM hc dX11_init_5 (Nat.le_of_ble_eq_true rfl) (Nat.le_of_ble_eq_true rfl)
theorem cfX11_init {g : GeoX} {N : Nat}  {σ : Mem} {x0 : Nat} {x1 : Int32} {ρ : Unit × Mem} (hF : fX11_init N σ x0 x1 = some ρ) (l : Launch) : Ct (VX g) l yX11_init cX11_init 2 none (rk 3 0 0) [.ref (vO (VX g) + x0), .int x1] σ (oV) ρ.2 :=
  Ct.ofFI true (plainFor_of_name (by decide)) (fun h => rfl) (Nat.le_of_ble_eq_true rfl) (fun Θ hc ls hl => wfX11_init σ x0 x1 hc hF ls hl)
theorem kX_X12_1 {γ : Type} {Θ : ThT Mem} {g : GeoX} {cc : ByteArray} {nL : Nat} {rm : Room} {ret : Option FieldType} {hs : List (Nat × Nat × Nat × Nat)} {ini : Bool} {O : Outcome} {σ' : Mem} {ρ : γ} {σ : Mem} {F : Option γ} {cs : Nat × Nat} {pc : Nat} {lv : List (Nat × Value)} {st : List Value} (hc : Cx Θ (VX g) cc nL RX12 rm ret hs ini O σ') {σ1 : Mem} {x0 : Nat} {x1 : Int32} {rmc : Room} (hM : ∀ l : Launch, Ct (VX g) l yX8_init cX8_init 2 none rmc [.ref (vO (VX g) + x0), .int x1] σ oV σ1) (hR : rmc.frames + 1 ≤ rm.frames ∧ 8 + (2 + 11) + rmc.locals ≤ rm.locals) (hf : cs.1 + rmc.cells ≤ rm.cells ∧ cs.2 + rmc.slots ≤ rm.slots) (hrest : (st.map fun v => v.category).sum ≤ 8) (hd : decode cc pc = .ok (.invokespecial 1, 3)) (kk : Sim Θ nL ρ σ1 F (cs.1 + rmc.cells, cs.2 + rmc.slots) (pc + 3) lv (st)) : Sim Θ nL ρ σ F cs pc lv (.int x1 :: .ref (vO (VX g) + x0) :: st) := s_callI hc (a := x0) (As := [.int x1]) (rest := st) (n := 1) hM q406 q73 q439 q405 (by decide +kernel) rfl rfl hrest hR hf hd kk
def fX12_init (N : Nat) (σ : Mem) (x0 : Nat) (x1 : Int32) : Option (Unit × Mem) :=
  (fX8_init N σ x0 x1).bind (fun q1 => 
  some ((), q1.2))
set_option maxHeartbeats 4000000 in
theorem wfX12_init {Θ : ThT Mem} {g : GeoX} {N : Nat}  {ρ : Unit × Mem} (σ : Mem) (x0 : Nat) (x1 : Int32) (hc : Cx Θ (VX g) cX12_init 2 RX12 (rk 4 0 0) none [] true (oV) ρ.2) : Sim Θ 2 ρ σ (fX12_init N σ x0 x1) (0, 0) 0 [(0, .ref (vO (VX g) + x0)), (1, .int x1)] [] := by
  have hz := hc.z
  unfold fX12_init
  refine s_aload_n hz dX12_init_0 rfl 0 rfl ?_
  refine s_iload_n hz dX12_init_1 rfl 1 rfl ?_
  refine s_bind (fun q1 e2 => ?_)
  refine kX_X12_1 hc (cfX8_init e2) ⟨(Nat.le_of_ble_eq_true rfl), (Nat.le_of_ble_eq_true rfl)⟩ ⟨(Nat.le_of_ble_eq_true rfl), (Nat.le_of_ble_eq_true rfl)⟩ (Nat.le_of_ble_eq_true rfl) dX12_init_2 ?_
  exact s_vretM hc dX12_init_5 (Nat.le_of_ble_eq_true rfl) (Nat.le_of_ble_eq_true rfl)
theorem cfX12_init {g : GeoX} {N : Nat}  {σ : Mem} {x0 : Nat} {x1 : Int32} {ρ : Unit × Mem} (hF : fX12_init N σ x0 x1 = some ρ) (l : Launch) : Ct (VX g) l yX12_init cX12_init 2 none (rk 4 0 0) [.ref (vO (VX g) + x0), .int x1] σ (oV) ρ.2 :=
  Ct.ofFI true (plainFor_of_name (by decide)) (fun h => rfl) (Nat.le_of_ble_eq_true rfl) (fun Θ hc ls hl => wfX12_init σ x0 x1 hc hF ls hl)
theorem kX_X13_1 {γ : Type} {Θ : ThT Mem} {g : GeoX} {cc : ByteArray} {nL : Nat} {rm : Room} {ret : Option FieldType} {hs : List (Nat × Nat × Nat × Nat)} {ini : Bool} {O : Outcome} {σ' : Mem} {ρ : γ} {σ : Mem} {F : Option γ} {cs : Nat × Nat} {pc : Nat} {lv : List (Nat × Value)} {st : List Value} (hc : Cx Θ (VX g) cc nL RX13 rm ret hs ini O σ') {σ1 : Mem} {x0 : Nat} {x1 : Int32} {rmc : Room} (hM : ∀ l : Launch, Ct (VX g) l yX10_init cX10_init 2 none rmc [.ref (vO (VX g) + x0), .int x1] σ oV σ1) (hR : rmc.frames + 1 ≤ rm.frames ∧ 8 + (2 + 11) + rmc.locals ≤ rm.locals) (hf : cs.1 + rmc.cells ≤ rm.cells ∧ cs.2 + rmc.slots ≤ rm.slots) (hrest : (st.map fun v => v.category).sum ≤ 8) (hd : decode cc pc = .ok (.invokespecial 1, 3)) (kk : Sim Θ nL ρ σ1 F (cs.1 + rmc.cells, cs.2 + rmc.slots) (pc + 3) lv (st)) : Sim Θ nL ρ σ F cs pc lv (.int x1 :: .ref (vO (VX g) + x0) :: st) := s_callI hc (a := x0) (As := [.int x1]) (rest := st) (n := 1) hM q422 q75 q447 q421 (by decide +kernel) rfl rfl hrest hR hf hd kk
def fX13_init (N : Nat) (σ : Mem) (x0 : Nat) (x1 : Int32) : Option (Unit × Mem) :=
  (fX10_init N σ x0 x1).bind (fun q1 => 
  some ((), q1.2))
set_option maxHeartbeats 4000000 in
theorem wfX13_init {Θ : ThT Mem} {g : GeoX} {N : Nat}  {ρ : Unit × Mem} (σ : Mem) (x0 : Nat) (x1 : Int32) (hc : Cx Θ (VX g) cX13_init 2 RX13 (rk 4 0 0) none [] true (oV) ρ.2) : Sim Θ 2 ρ σ (fX13_init N σ x0 x1) (0, 0) 0 [(0, .ref (vO (VX g) + x0)), (1, .int x1)] [] := by
  have hz := hc.z
  unfold fX13_init
  refine s_aload_n hz dX13_init_0 rfl 0 rfl ?_
  refine s_iload_n hz dX13_init_1 rfl 1 rfl ?_
  refine s_bind (fun q1 e2 => ?_)
  refine kX_X13_1 hc (cfX10_init e2) ⟨(Nat.le_of_ble_eq_true rfl), (Nat.le_of_ble_eq_true rfl)⟩ ⟨(Nat.le_of_ble_eq_true rfl), (Nat.le_of_ble_eq_true rfl)⟩ (Nat.le_of_ble_eq_true rfl) dX13_init_2 ?_
  exact s_vretM hc dX13_init_5 (Nat.le_of_ble_eq_true rfl) (Nat.le_of_ble_eq_true rfl)
theorem cfX13_init {g : GeoX} {N : Nat}  {σ : Mem} {x0 : Nat} {x1 : Int32} {ρ : Unit × Mem} (hF : fX13_init N σ x0 x1 = some ρ) (l : Launch) : Ct (VX g) l yX13_init cX13_init 2 none (rk 4 0 0) [.ref (vO (VX g) + x0), .int x1] σ (oV) ρ.2 :=
  Ct.ofFI true (plainFor_of_name (by decide)) (fun h => rfl) (Nat.le_of_ble_eq_true rfl) (fun Θ hc ls hl => wfX13_init σ x0 x1 hc hF ls hl)
theorem kX_X14_1 {γ : Type} {Θ : ThT Mem} {g : GeoX} {cc : ByteArray} {nL : Nat} {rm : Room} {ret : Option FieldType} {hs : List (Nat × Nat × Nat × Nat)} {ini : Bool} {O : Outcome} {σ' : Mem} {ρ : γ} {σ : Mem} {F : Option γ} {cs : Nat × Nat} {pc : Nat} {lv : List (Nat × Value)} {st : List Value} (hc : Cx Θ (VX g) cc nL RX14 rm ret hs ini O σ') {σ1 : Mem} {x0 : Nat} {x1 : Int32} {rmc : Room} (hM : ∀ l : Launch, Ct (VX g) l yX13_init cX13_init 2 none rmc [.ref (vO (VX g) + x0), .int x1] σ oV σ1) (hR : rmc.frames + 1 ≤ rm.frames ∧ 8 + (2 + 11) + rmc.locals ≤ rm.locals) (hf : cs.1 + rmc.cells ≤ rm.cells ∧ cs.2 + rmc.slots ≤ rm.slots) (hrest : (st.map fun v => v.category).sum ≤ 8) (hd : decode cc pc = .ok (.invokespecial 1, 3)) (kk : Sim Θ nL ρ σ1 F (cs.1 + rmc.cells, cs.2 + rmc.slots) (pc + 3) lv (st)) : Sim Θ nL ρ σ F cs pc lv (.int x1 :: .ref (vO (VX g) + x0) :: st) := s_callI hc (a := x0) (As := [.int x1]) (rest := st) (n := 1) hM q446 q78 q455 q445 (by decide +kernel) rfl rfl hrest hR hf hd kk
def fX14_init (N : Nat) (σ : Mem) (x0 : Nat) (x1 : Int32) : Option (Unit × Mem) :=
  (fX13_init N σ x0 x1).bind (fun q1 => 
  some ((), q1.2))
set_option maxHeartbeats 4000000 in
theorem wfX14_init {Θ : ThT Mem} {g : GeoX} {N : Nat}  {ρ : Unit × Mem} (σ : Mem) (x0 : Nat) (x1 : Int32) (hc : Cx Θ (VX g) cX14_init 2 RX14 (rk 5 0 0) none [] true (oV) ρ.2) : Sim Θ 2 ρ σ (fX14_init N σ x0 x1) (0, 0) 0 [(0, .ref (vO (VX g) + x0)), (1, .int x1)] [] := by
  have hz := hc.z
  unfold fX14_init
  refine s_aload_n hz dX14_init_0 rfl 0 rfl ?_
  refine s_iload_n hz dX14_init_1 rfl 1 rfl ?_
  refine s_bind (fun q1 e2 => ?_)
  refine kX_X14_1 hc (cfX13_init e2) ⟨(Nat.le_of_ble_eq_true rfl), (Nat.le_of_ble_eq_true rfl)⟩ ⟨(Nat.le_of_ble_eq_true rfl), (Nat.le_of_ble_eq_true rfl)⟩ (Nat.le_of_ble_eq_true rfl) dX14_init_2 ?_
  exact s_vretM hc dX14_init_5 (Nat.le_of_ble_eq_true rfl) (Nat.le_of_ble_eq_true rfl)
theorem cfX14_init {g : GeoX} {N : Nat}  {σ : Mem} {x0 : Nat} {x1 : Int32} {ρ : Unit × Mem} (hF : fX14_init N σ x0 x1 = some ρ) (l : Launch) : Ct (VX g) l yX14_init cX14_init 2 none (rk 5 0 0) [.ref (vO (VX g) + x0), .int x1] σ (oV) ρ.2 :=
  Ct.ofFI true (plainFor_of_name (by decide)) (fun h => rfl) (Nat.le_of_ble_eq_true rfl) (fun Θ hc ls hl => wfX14_init σ x0 x1 hc hF ls hl)
theorem dfX_X7 (o : Nat) : ∀ j, j < 1 → defaultValue (tyX7 j) = vp_V (([.int 0] : List Value).map (rv o)) j := by
  intro j hj
  match j, hj with
  | 0, _ => rfl
  | j + 1, hj => exact absurd hj (by omega)
theorem kX_X0_14 {γ : Type} {Θ : ThT Mem} {g : GeoX} {cc : ByteArray} {nL : Nat} {rm : Room} {ret : Option FieldType} {hs : List (Nat × Nat × Nat × Nat)} {ini : Bool} {O : Outcome} {σ' : Mem} {ρ : γ} {σ : Mem} {F : Option γ} {cs : Nat × Nat} {pc : Nat} {lv : List (Nat × Value)} {st : List Value} (hc : Cx Θ (VX g) cc nL RX0 rm ret hs ini O σ') {σ1 : Mem} {x0 : Nat} {x1 : Int32} {rmc : Room} (hM : ∀ l : Launch, Ct (VX g) l yX7_init cX7_init 2 none rmc [.ref (vO (VX g) + x0), .int x1] σ oV σ1) (hR : rmc.frames + 1 ≤ rm.frames ∧ 8 + (2 + 11) + rmc.locals ≤ rm.locals) (hf : cs.1 + rmc.cells ≤ rm.cells ∧ cs.2 + rmc.slots ≤ rm.slots) (hrest : (st.map fun v => v.category).sum ≤ 8) (hd : decode cc pc = .ok (.invokespecial 14, 3)) (kk : Sim Θ nL ρ σ1 F (cs.1 + rmc.cells, cs.2 + rmc.slots) (pc + 3) lv (st)) : Sim Θ nL ρ σ F cs pc lv (.int x1 :: .ref (vO (VX g) + x0) :: st) := s_callI hc (a := x0) (As := [.int x1]) (rest := st) (n := 1) hM q381 q72 q379 q380 (by decide +kernel) rfl rfl hrest hR hf hd kk
theorem dfX_X8 (o : Nat) : ∀ j, j < 1 → defaultValue (tyX8 j) = vp_V (([.int 0] : List Value).map (rv o)) j := by
  intro j hj
  match j, hj with
  | 0, _ => rfl
  | j + 1, hj => exact absurd hj (by omega)
theorem kX_X0_17 {γ : Type} {Θ : ThT Mem} {g : GeoX} {cc : ByteArray} {nL : Nat} {rm : Room} {ret : Option FieldType} {hs : List (Nat × Nat × Nat × Nat)} {ini : Bool} {O : Outcome} {σ' : Mem} {ρ : γ} {σ : Mem} {F : Option γ} {cs : Nat × Nat} {pc : Nat} {lv : List (Nat × Value)} {st : List Value} (hc : Cx Θ (VX g) cc nL RX0 rm ret hs ini O σ') {σ1 : Mem} {x0 : Nat} {x1 : Int32} {rmc : Room} (hM : ∀ l : Launch, Ct (VX g) l yX8_init cX8_init 2 none rmc [.ref (vO (VX g) + x0), .int x1] σ oV σ1) (hR : rmc.frames + 1 ≤ rm.frames ∧ 8 + (2 + 11) + rmc.locals ≤ rm.locals) (hf : cs.1 + rmc.cells ≤ rm.cells ∧ cs.2 + rmc.slots ≤ rm.slots) (hrest : (st.map fun v => v.category).sum ≤ 8) (hd : decode cc pc = .ok (.invokespecial 17, 3)) (kk : Sim Θ nL ρ σ1 F (cs.1 + rmc.cells, cs.2 + rmc.slots) (pc + 3) lv (st)) : Sim Θ nL ρ σ F cs pc lv (.int x1 :: .ref (vO (VX g) + x0) :: st) := s_callI hc (a := x0) (As := [.int x1]) (rest := st) (n := 1) hM q406 q73 q404 q405 (by decide +kernel) rfl rfl hrest hR hf hd kk
theorem dfX_X9 (o : Nat) : ∀ j, j < 1 → defaultValue (tyX9 j) = vp_V (([.int 0] : List Value).map (rv o)) j := by
  intro j hj
  match j, hj with
  | 0, _ => rfl
  | j + 1, hj => exact absurd hj (by omega)
theorem kX_X0_20 {γ : Type} {Θ : ThT Mem} {g : GeoX} {cc : ByteArray} {nL : Nat} {rm : Room} {ret : Option FieldType} {hs : List (Nat × Nat × Nat × Nat)} {ini : Bool} {O : Outcome} {σ' : Mem} {ρ : γ} {σ : Mem} {F : Option γ} {cs : Nat × Nat} {pc : Nat} {lv : List (Nat × Value)} {st : List Value} (hc : Cx Θ (VX g) cc nL RX0 rm ret hs ini O σ') {σ1 : Mem} {x0 : Nat} {x1 : Int32} {rmc : Room} (hM : ∀ l : Launch, Ct (VX g) l yX9_init cX9_init 2 none rmc [.ref (vO (VX g) + x0), .int x1] σ oV σ1) (hR : rmc.frames + 1 ≤ rm.frames ∧ 8 + (2 + 11) + rmc.locals ≤ rm.locals) (hf : cs.1 + rmc.cells ≤ rm.cells ∧ cs.2 + rmc.slots ≤ rm.slots) (hrest : (st.map fun v => v.category).sum ≤ 8) (hd : decode cc pc = .ok (.invokespecial 20, 3)) (kk : Sim Θ nL ρ σ1 F (cs.1 + rmc.cells, cs.2 + rmc.slots) (pc + 3) lv (st)) : Sim Θ nL ρ σ F cs pc lv (.int x1 :: .ref (vO (VX g) + x0) :: st) := s_callI hc (a := x0) (As := [.int x1]) (rest := st) (n := 1) hM q414 q74 q412 q413 (by decide +kernel) rfl rfl hrest hR hf hd kk
theorem dfX_X10 (o : Nat) : ∀ j, j < 1 → defaultValue (tyX10 j) = vp_V (([.int 0] : List Value).map (rv o)) j := by
  intro j hj
  match j, hj with
  | 0, _ => rfl
  | j + 1, hj => exact absurd hj (by omega)
theorem kX_X0_23 {γ : Type} {Θ : ThT Mem} {g : GeoX} {cc : ByteArray} {nL : Nat} {rm : Room} {ret : Option FieldType} {hs : List (Nat × Nat × Nat × Nat)} {ini : Bool} {O : Outcome} {σ' : Mem} {ρ : γ} {σ : Mem} {F : Option γ} {cs : Nat × Nat} {pc : Nat} {lv : List (Nat × Value)} {st : List Value} (hc : Cx Θ (VX g) cc nL RX0 rm ret hs ini O σ') {σ1 : Mem} {x0 : Nat} {x1 : Int32} {rmc : Room} (hM : ∀ l : Launch, Ct (VX g) l yX10_init cX10_init 2 none rmc [.ref (vO (VX g) + x0), .int x1] σ oV σ1) (hR : rmc.frames + 1 ≤ rm.frames ∧ 8 + (2 + 11) + rmc.locals ≤ rm.locals) (hf : cs.1 + rmc.cells ≤ rm.cells ∧ cs.2 + rmc.slots ≤ rm.slots) (hrest : (st.map fun v => v.category).sum ≤ 8) (hd : decode cc pc = .ok (.invokespecial 23, 3)) (kk : Sim Θ nL ρ σ1 F (cs.1 + rmc.cells, cs.2 + rmc.slots) (pc + 3) lv (st)) : Sim Θ nL ρ σ F cs pc lv (.int x1 :: .ref (vO (VX g) + x0) :: st) := s_callI hc (a := x0) (As := [.int x1]) (rest := st) (n := 1) hM q422 q75 q420 q421 (by decide +kernel) rfl rfl hrest hR hf hd kk
theorem dfX_X11 (o : Nat) : ∀ j, j < 1 → defaultValue (tyX11 j) = vp_V (([.int 0] : List Value).map (rv o)) j := by
  intro j hj
  match j, hj with
  | 0, _ => rfl
  | j + 1, hj => exact absurd hj (by omega)
theorem kX_X0_26 {γ : Type} {Θ : ThT Mem} {g : GeoX} {cc : ByteArray} {nL : Nat} {rm : Room} {ret : Option FieldType} {hs : List (Nat × Nat × Nat × Nat)} {ini : Bool} {O : Outcome} {σ' : Mem} {ρ : γ} {σ : Mem} {F : Option γ} {cs : Nat × Nat} {pc : Nat} {lv : List (Nat × Value)} {st : List Value} (hc : Cx Θ (VX g) cc nL RX0 rm ret hs ini O σ') {σ1 : Mem} {x0 : Nat} {x1 : Int32} {rmc : Room} (hM : ∀ l : Launch, Ct (VX g) l yX11_init cX11_init 2 none rmc [.ref (vO (VX g) + x0), .int x1] σ oV σ1) (hR : rmc.frames + 1 ≤ rm.frames ∧ 8 + (2 + 11) + rmc.locals ≤ rm.locals) (hf : cs.1 + rmc.cells ≤ rm.cells ∧ cs.2 + rmc.slots ≤ rm.slots) (hrest : (st.map fun v => v.category).sum ≤ 8) (hd : decode cc pc = .ok (.invokespecial 26, 3)) (kk : Sim Θ nL ρ σ1 F (cs.1 + rmc.cells, cs.2 + rmc.slots) (pc + 3) lv (st)) : Sim Θ nL ρ σ F cs pc lv (.int x1 :: .ref (vO (VX g) + x0) :: st) := s_callI hc (a := x0) (As := [.int x1]) (rest := st) (n := 1) hM q430 q76 q428 q429 (by decide +kernel) rfl rfl hrest hR hf hd kk
theorem dfX_X12 (o : Nat) : ∀ j, j < 1 → defaultValue (tyX12 j) = vp_V (([.int 0] : List Value).map (rv o)) j := by
  intro j hj
  match j, hj with
  | 0, _ => rfl
  | j + 1, hj => exact absurd hj (by omega)
theorem kX_X0_29 {γ : Type} {Θ : ThT Mem} {g : GeoX} {cc : ByteArray} {nL : Nat} {rm : Room} {ret : Option FieldType} {hs : List (Nat × Nat × Nat × Nat)} {ini : Bool} {O : Outcome} {σ' : Mem} {ρ : γ} {σ : Mem} {F : Option γ} {cs : Nat × Nat} {pc : Nat} {lv : List (Nat × Value)} {st : List Value} (hc : Cx Θ (VX g) cc nL RX0 rm ret hs ini O σ') {σ1 : Mem} {x0 : Nat} {x1 : Int32} {rmc : Room} (hM : ∀ l : Launch, Ct (VX g) l yX12_init cX12_init 2 none rmc [.ref (vO (VX g) + x0), .int x1] σ oV σ1) (hR : rmc.frames + 1 ≤ rm.frames ∧ 8 + (2 + 11) + rmc.locals ≤ rm.locals) (hf : cs.1 + rmc.cells ≤ rm.cells ∧ cs.2 + rmc.slots ≤ rm.slots) (hrest : (st.map fun v => v.category).sum ≤ 8) (hd : decode cc pc = .ok (.invokespecial 29, 3)) (kk : Sim Θ nL ρ σ1 F (cs.1 + rmc.cells, cs.2 + rmc.slots) (pc + 3) lv (st)) : Sim Θ nL ρ σ F cs pc lv (.int x1 :: .ref (vO (VX g) + x0) :: st) := s_callI hc (a := x0) (As := [.int x1]) (rest := st) (n := 1) hM q438 q77 q436 q437 (by decide +kernel) rfl rfl hrest hR hf hd kk
theorem dfX_X13 (o : Nat) : ∀ j, j < 1 → defaultValue (tyX13 j) = vp_V (([.int 0] : List Value).map (rv o)) j := by
  intro j hj
  match j, hj with
  | 0, _ => rfl
  | j + 1, hj => exact absurd hj (by omega)
theorem kX_X0_32 {γ : Type} {Θ : ThT Mem} {g : GeoX} {cc : ByteArray} {nL : Nat} {rm : Room} {ret : Option FieldType} {hs : List (Nat × Nat × Nat × Nat)} {ini : Bool} {O : Outcome} {σ' : Mem} {ρ : γ} {σ : Mem} {F : Option γ} {cs : Nat × Nat} {pc : Nat} {lv : List (Nat × Value)} {st : List Value} (hc : Cx Θ (VX g) cc nL RX0 rm ret hs ini O σ') {σ1 : Mem} {x0 : Nat} {x1 : Int32} {rmc : Room} (hM : ∀ l : Launch, Ct (VX g) l yX13_init cX13_init 2 none rmc [.ref (vO (VX g) + x0), .int x1] σ oV σ1) (hR : rmc.frames + 1 ≤ rm.frames ∧ 8 + (2 + 11) + rmc.locals ≤ rm.locals) (hf : cs.1 + rmc.cells ≤ rm.cells ∧ cs.2 + rmc.slots ≤ rm.slots) (hrest : (st.map fun v => v.category).sum ≤ 8) (hd : decode cc pc = .ok (.invokespecial 32, 3)) (kk : Sim Θ nL ρ σ1 F (cs.1 + rmc.cells, cs.2 + rmc.slots) (pc + 3) lv (st)) : Sim Θ nL ρ σ F cs pc lv (.int x1 :: .ref (vO (VX g) + x0) :: st) := s_callI hc (a := x0) (As := [.int x1]) (rest := st) (n := 1) hM q446 q78 q444 q445 (by decide +kernel) rfl rfl hrest hR hf hd kk
theorem dfX_X14 (o : Nat) : ∀ j, j < 1 → defaultValue (tyX14 j) = vp_V (([.int 0] : List Value).map (rv o)) j := by
  intro j hj
  match j, hj with
  | 0, _ => rfl
  | j + 1, hj => exact absurd hj (by omega)
theorem kX_X0_35 {γ : Type} {Θ : ThT Mem} {g : GeoX} {cc : ByteArray} {nL : Nat} {rm : Room} {ret : Option FieldType} {hs : List (Nat × Nat × Nat × Nat)} {ini : Bool} {O : Outcome} {σ' : Mem} {ρ : γ} {σ : Mem} {F : Option γ} {cs : Nat × Nat} {pc : Nat} {lv : List (Nat × Value)} {st : List Value} (hc : Cx Θ (VX g) cc nL RX0 rm ret hs ini O σ') {σ1 : Mem} {x0 : Nat} {x1 : Int32} {rmc : Room} (hM : ∀ l : Launch, Ct (VX g) l yX14_init cX14_init 2 none rmc [.ref (vO (VX g) + x0), .int x1] σ oV σ1) (hR : rmc.frames + 1 ≤ rm.frames ∧ 8 + (2 + 11) + rmc.locals ≤ rm.locals) (hf : cs.1 + rmc.cells ≤ rm.cells ∧ cs.2 + rmc.slots ≤ rm.slots) (hrest : (st.map fun v => v.category).sum ≤ 8) (hd : decode cc pc = .ok (.invokespecial 35, 3)) (kk : Sim Θ nL ρ σ1 F (cs.1 + rmc.cells, cs.2 + rmc.slots) (pc + 3) lv (st)) : Sim Θ nL ρ σ F cs pc lv (.int x1 :: .ref (vO (VX g) + x0) :: st) := s_callI hc (a := x0) (As := [.int x1]) (rest := st) (n := 1) hM q454 q79 q452 q453 (by decide +kernel) rfl rfl hrest hR hf hd kk
def fX0_groupOf (N : Nat) (σ : Mem) (x0 : Int32) (x1 : Int32) : Option (Option Nat × Mem) :=
  if x0 = (0 : Int32) then
  (lt_ (nC σ (.inr (8, [.int 0]))) (fun σ2 => 
  (fX7_init N σ2 (gN σ) x1).bind (fun q3 => 
  some (some (gN σ), q3.2))))
  else (if x0 = (1 : Int32) then
  (lt_ (nC σ (.inr (9, [.int 0]))) (fun σ6 => 
  (fX8_init N σ6 (gN σ) x1).bind (fun q7 => 
  some (some (gN σ), q7.2))))
  else (if x0 = (2 : Int32) then
  (lt_ (nC σ (.inr (10, [.int 0]))) (fun σ10 => 
  (fX9_init N σ10 (gN σ) x1).bind (fun q11 => 
  some (some (gN σ), q11.2))))
  else (if x0 = (3 : Int32) then
  (lt_ (nC σ (.inr (11, [.int 0]))) (fun σ14 => 
  (fX10_init N σ14 (gN σ) x1).bind (fun q15 => 
  some (some (gN σ), q15.2))))
  else (if x0 = (4 : Int32) then
  (lt_ (nC σ (.inr (12, [.int 0]))) (fun σ18 => 
  (fX11_init N σ18 (gN σ) x1).bind (fun q19 => 
  some (some (gN σ), q19.2))))
  else (if x0 = (5 : Int32) then
  (lt_ (nC σ (.inr (13, [.int 0]))) (fun σ22 => 
  (fX12_init N σ22 (gN σ) x1).bind (fun q23 => 
  some (some (gN σ), q23.2))))
  else (if x0 = (6 : Int32) then
  (lt_ (nC σ (.inr (14, [.int 0]))) (fun σ26 => 
  (fX13_init N σ26 (gN σ) x1).bind (fun q27 => 
  some (some (gN σ), q27.2))))
  else (lt_ (nC σ (.inr (15, [.int 0]))) (fun σ29 => 
  (fX14_init N σ29 (gN σ) x1).bind (fun q30 => 
  some (some (gN σ), q30.2))))))))))
set_option maxHeartbeats 4000000 in
theorem wfX0_groupOf {Θ : ThT Mem} {g : GeoX} {N : Nat}  {ρ : Option Nat × Mem} (σ : Mem) (x0 : Int32) (x1 : Int32) (hc : Cx Θ (VX g) cX0_groupOf 2 RX0 (rk 6 1 1) (some (.object "SlipWeeks$Cross")) [] false (oR (vO (VX g)) ρ.1) ρ.2) : Sim Θ 2 ρ σ (fX0_groupOf N σ x0 x1) (0, 0) 0 [(0, .int x0), (1, .int x1)] [] := by
  have hz := hc.z
  unfold fX0_groupOf
  refine s_iload_n hz dX0_groupOf_0 rfl 0 rfl ?_
  refine s_ite (fun h1 => ?_) (fun h1 => ?_)
  · refine s_tblIn (off := 43) (tgt := 44) (k := (0 : Int32)) hz dX0_groupOf_1 h1 (by decide) (by decide) rfl rfl ?_
    refine s_new hc (C := RX7) (T := TX7) (N := 1) (ci := 8) in_X7 tyX7_ok rfl q377 q378 q72 (dfX_X7 _) ⟨(Nat.le_of_ble_eq_true rfl), (Nat.le_of_ble_eq_true rfl)⟩ dX0_groupOf_44 (fun σ2 => ?_)
    refine s_dup hz dX0_groupOf_47 rfl ?_
    refine s_iload_n hz dX0_groupOf_48 rfl 1 rfl ?_
    refine s_bind (fun q3 e4 => ?_)
    refine kX_X0_14 hc (cfX7_init e4) ⟨(Nat.le_of_ble_eq_true rfl), (Nat.le_of_ble_eq_true rfl)⟩ ⟨(Nat.le_of_ble_eq_true rfl), (Nat.le_of_ble_eq_true rfl)⟩ (Nat.le_of_ble_eq_true rfl) dX0_groupOf_49 ?_
    exact s_aretM hc (Or.inl ⟨_, rfl⟩) dX0_groupOf_52 (Nat.le_of_ble_eq_true rfl) (Nat.le_of_ble_eq_true rfl)
  refine s_ite (fun h5 => ?_) (fun h5 => ?_)
  · refine s_tblIn (off := 52) (tgt := 53) (k := (1 : Int32)) hz dX0_groupOf_1 h5 (by decide) (by decide) rfl rfl ?_
    refine s_new hc (C := RX8) (T := TX8) (N := 1) (ci := 9) in_X8 tyX8_ok rfl q402 q403 q73 (dfX_X8 _) ⟨(Nat.le_of_ble_eq_true rfl), (Nat.le_of_ble_eq_true rfl)⟩ dX0_groupOf_53 (fun σ6 => ?_)
    refine s_dup hz dX0_groupOf_56 rfl ?_
    refine s_iload_n hz dX0_groupOf_57 rfl 1 rfl ?_
    refine s_bind (fun q7 e8 => ?_)
    refine kX_X0_17 hc (cfX8_init e8) ⟨(Nat.le_of_ble_eq_true rfl), (Nat.le_of_ble_eq_true rfl)⟩ ⟨(Nat.le_of_ble_eq_true rfl), (Nat.le_of_ble_eq_true rfl)⟩ (Nat.le_of_ble_eq_true rfl) dX0_groupOf_58 ?_
    exact s_aretM hc (Or.inl ⟨_, rfl⟩) dX0_groupOf_61 (Nat.le_of_ble_eq_true rfl) (Nat.le_of_ble_eq_true rfl)
  refine s_ite (fun h9 => ?_) (fun h9 => ?_)
  · refine s_tblIn (off := 61) (tgt := 62) (k := (2 : Int32)) hz dX0_groupOf_1 h9 (by decide) (by decide) rfl rfl ?_
    refine s_new hc (C := RX9) (T := TX9) (N := 1) (ci := 10) in_X9 tyX9_ok rfl q410 q411 q74 (dfX_X9 _) ⟨(Nat.le_of_ble_eq_true rfl), (Nat.le_of_ble_eq_true rfl)⟩ dX0_groupOf_62 (fun σ10 => ?_)
    refine s_dup hz dX0_groupOf_65 rfl ?_
    refine s_iload_n hz dX0_groupOf_66 rfl 1 rfl ?_
    refine s_bind (fun q11 e12 => ?_)
    refine kX_X0_20 hc (cfX9_init e12) ⟨(Nat.le_of_ble_eq_true rfl), (Nat.le_of_ble_eq_true rfl)⟩ ⟨(Nat.le_of_ble_eq_true rfl), (Nat.le_of_ble_eq_true rfl)⟩ (Nat.le_of_ble_eq_true rfl) dX0_groupOf_67 ?_
    exact s_aretM hc (Or.inl ⟨_, rfl⟩) dX0_groupOf_70 (Nat.le_of_ble_eq_true rfl) (Nat.le_of_ble_eq_true rfl)
  refine s_ite (fun h13 => ?_) (fun h13 => ?_)
  · refine s_tblIn (off := 70) (tgt := 71) (k := (3 : Int32)) hz dX0_groupOf_1 h13 (by decide) (by decide) rfl rfl ?_
    refine s_new hc (C := RX10) (T := TX10) (N := 1) (ci := 11) in_X10 tyX10_ok rfl q418 q419 q75 (dfX_X10 _) ⟨(Nat.le_of_ble_eq_true rfl), (Nat.le_of_ble_eq_true rfl)⟩ dX0_groupOf_71 (fun σ14 => ?_)
    refine s_dup hz dX0_groupOf_74 rfl ?_
    refine s_iload_n hz dX0_groupOf_75 rfl 1 rfl ?_
    refine s_bind (fun q15 e16 => ?_)
    refine kX_X0_23 hc (cfX10_init e16) ⟨(Nat.le_of_ble_eq_true rfl), (Nat.le_of_ble_eq_true rfl)⟩ ⟨(Nat.le_of_ble_eq_true rfl), (Nat.le_of_ble_eq_true rfl)⟩ (Nat.le_of_ble_eq_true rfl) dX0_groupOf_76 ?_
    exact s_aretM hc (Or.inl ⟨_, rfl⟩) dX0_groupOf_79 (Nat.le_of_ble_eq_true rfl) (Nat.le_of_ble_eq_true rfl)
  refine s_ite (fun h17 => ?_) (fun h17 => ?_)
  · refine s_tblIn (off := 79) (tgt := 80) (k := (4 : Int32)) hz dX0_groupOf_1 h17 (by decide) (by decide) rfl rfl ?_
    refine s_new hc (C := RX11) (T := TX11) (N := 1) (ci := 12) in_X11 tyX11_ok rfl q426 q427 q76 (dfX_X11 _) ⟨(Nat.le_of_ble_eq_true rfl), (Nat.le_of_ble_eq_true rfl)⟩ dX0_groupOf_80 (fun σ18 => ?_)
    refine s_dup hz dX0_groupOf_83 rfl ?_
    refine s_iload_n hz dX0_groupOf_84 rfl 1 rfl ?_
    refine s_bind (fun q19 e20 => ?_)
    refine kX_X0_26 hc (cfX11_init e20) ⟨(Nat.le_of_ble_eq_true rfl), (Nat.le_of_ble_eq_true rfl)⟩ ⟨(Nat.le_of_ble_eq_true rfl), (Nat.le_of_ble_eq_true rfl)⟩ (Nat.le_of_ble_eq_true rfl) dX0_groupOf_85 ?_
    exact s_aretM hc (Or.inl ⟨_, rfl⟩) dX0_groupOf_88 (Nat.le_of_ble_eq_true rfl) (Nat.le_of_ble_eq_true rfl)
  refine s_ite (fun h21 => ?_) (fun h21 => ?_)
  · refine s_tblIn (off := 88) (tgt := 89) (k := (5 : Int32)) hz dX0_groupOf_1 h21 (by decide) (by decide) rfl rfl ?_
    refine s_new hc (C := RX12) (T := TX12) (N := 1) (ci := 13) in_X12 tyX12_ok rfl q434 q435 q77 (dfX_X12 _) ⟨(Nat.le_of_ble_eq_true rfl), (Nat.le_of_ble_eq_true rfl)⟩ dX0_groupOf_89 (fun σ22 => ?_)
    refine s_dup hz dX0_groupOf_92 rfl ?_
    refine s_iload_n hz dX0_groupOf_93 rfl 1 rfl ?_
    refine s_bind (fun q23 e24 => ?_)
    refine kX_X0_29 hc (cfX12_init e24) ⟨(Nat.le_of_ble_eq_true rfl), (Nat.le_of_ble_eq_true rfl)⟩ ⟨(Nat.le_of_ble_eq_true rfl), (Nat.le_of_ble_eq_true rfl)⟩ (Nat.le_of_ble_eq_true rfl) dX0_groupOf_94 ?_
    exact s_aretM hc (Or.inl ⟨_, rfl⟩) dX0_groupOf_97 (Nat.le_of_ble_eq_true rfl) (Nat.le_of_ble_eq_true rfl)
  refine s_ite (fun h25 => ?_) (fun h25 => ?_)
  · refine s_tblIn (off := 97) (tgt := 98) (k := (6 : Int32)) hz dX0_groupOf_1 h25 (by decide) (by decide) rfl rfl ?_
    refine s_new hc (C := RX13) (T := TX13) (N := 1) (ci := 14) in_X13 tyX13_ok rfl q442 q443 q78 (dfX_X13 _) ⟨(Nat.le_of_ble_eq_true rfl), (Nat.le_of_ble_eq_true rfl)⟩ dX0_groupOf_98 (fun σ26 => ?_)
    refine s_dup hz dX0_groupOf_101 rfl ?_
    refine s_iload_n hz dX0_groupOf_102 rfl 1 rfl ?_
    refine s_bind (fun q27 e28 => ?_)
    refine kX_X0_32 hc (cfX13_init e28) ⟨(Nat.le_of_ble_eq_true rfl), (Nat.le_of_ble_eq_true rfl)⟩ ⟨(Nat.le_of_ble_eq_true rfl), (Nat.le_of_ble_eq_true rfl)⟩ (Nat.le_of_ble_eq_true rfl) dX0_groupOf_103 ?_
    exact s_aretM hc (Or.inl ⟨_, rfl⟩) dX0_groupOf_106 (Nat.le_of_ble_eq_true rfl) (Nat.le_of_ble_eq_true rfl)
  refine s_tblOut (tgt := 107) hz dX0_groupOf_1 (by have a0 : (x0).toInt ≠ 0 := lc_ne h1; have a1 : (x0).toInt ≠ 1 := lc_ne h5; have a2 : (x0).toInt ≠ 2 := lc_ne h9; have a3 : (x0).toInt ≠ 3 := lc_ne h13; have a4 : (x0).toInt ≠ 4 := lc_ne h17; have a5 : (x0).toInt ≠ 5 := lc_ne h21; have a6 : (x0).toInt ≠ 6 := lc_ne h25; omega) rfl ?_
  refine s_new hc (C := RX14) (T := TX14) (N := 1) (ci := 15) in_X14 tyX14_ok rfl q450 q451 q79 (dfX_X14 _) ⟨(Nat.le_of_ble_eq_true rfl), (Nat.le_of_ble_eq_true rfl)⟩ dX0_groupOf_107 (fun σ29 => ?_)
  refine s_dup hz dX0_groupOf_110 rfl ?_
  refine s_iload_n hz dX0_groupOf_111 rfl 1 rfl ?_
  refine s_bind (fun q30 e31 => ?_)
  refine kX_X0_35 hc (cfX14_init e31) ⟨(Nat.le_of_ble_eq_true rfl), (Nat.le_of_ble_eq_true rfl)⟩ ⟨(Nat.le_of_ble_eq_true rfl), (Nat.le_of_ble_eq_true rfl)⟩ (Nat.le_of_ble_eq_true rfl) dX0_groupOf_112 ?_
  exact s_aretM hc (Or.inl ⟨_, rfl⟩) dX0_groupOf_115 (Nat.le_of_ble_eq_true rfl) (Nat.le_of_ble_eq_true rfl)
theorem cfX0_groupOf {g : GeoX} {N : Nat}  {σ : Mem} {x0 : Int32} {x1 : Int32} {ρ : Option Nat × Mem} (hF : fX0_groupOf N σ x0 x1 = some ρ) (l : Launch) : Ct (VX g) l yX0_groupOf cX0_groupOf 2 (some (.object "SlipWeeks$Cross")) (rk 6 1 1) [.int x0, .int x1] σ (oR (vO (VX g)) ρ.1) ρ.2 :=
  Ct.of (by decide) (Nat.le_of_ble_eq_true rfl) (fun Θ hc ls hl => wfX0_groupOf σ x0 x1 hc hF ls hl)
def fX7_kind (N : Nat) (σ : Mem) (x0 : Nat) : Option (Int32) :=
  some (0 : Int32)
set_option maxHeartbeats 4000000 in
theorem wfX7_kind {Θ : ThT Mem} {g : GeoX} {N : Nat}  {ρ : Int32} (σ : Mem) (x0 : Nat) (hc : Cx Θ (VX g) cX7_kind 1 RX7 (rk 1 0 0) (some .int) [] false (oI ρ) σ) : Sim Θ 1 ρ σ (fX7_kind N σ x0) (0, 0) 0 [(0, .ref (vO (VX g) + x0))] [] := by
  have hz := hc.z
  unfold fX7_kind
  refine s_iconst (v := (0 : Int32)) hz dX7_kind_0 (by decide) ?_
  exact s_iret hc dX7_kind_1 (Nat.le_of_ble_eq_true rfl) (Nat.le_of_ble_eq_true rfl)
theorem cfX7_kind {g : GeoX} {N : Nat}  {σ : Mem} {x0 : Nat} {ρ : Int32} (hF : fX7_kind N σ x0 = some ρ) (l : Launch) : Ct (VX g) l yX7_kind cX7_kind 1 (some .int) (rk 1 0 0) [.ref (vO (VX g) + x0)] σ (oI ρ) σ :=
  Ct.of (by decide) (Nat.le_of_ble_eq_true rfl) (fun Θ hc ls hl => wfX7_kind σ x0 hc hF ls hl)
theorem kX_X8_7 {γ : Type} {Θ : ThT Mem} {g : GeoX} {cc : ByteArray} {nL : Nat} {rm : Room} {ret : Option FieldType} {hs : List (Nat × Nat × Nat × Nat)} {ini : Bool} {O : Outcome} {σ' : Mem} {ρ : γ} {σ : Mem} {F : Option γ} {cs : Nat × Nat} {pc : Nat} {lv : List (Nat × Value)} {st : List Value} (hc : Cx Θ (VX g) cc nL RX8 rm ret hs ini O σ') {σ1 : Mem} {x0 : Nat} {r : Int32} {rmc : Room} (hM : ∀ l : Launch, Ct (VX g) l yX7_kind cX7_kind 1 (some .int) rmc [.ref (vO (VX g) + x0)] σ (oI r) σ1) (hR : rmc.frames + 1 ≤ rm.frames ∧ 8 + (1 + 11) + rmc.locals ≤ rm.locals) (hf : cs.1 + rmc.cells ≤ rm.cells ∧ cs.2 + rmc.slots ≤ rm.slots) (hrest : (st.map fun v => v.category).sum ≤ 8) (hd : decode cc pc = .ok (.invokespecial 7, 3)) (hcl : (dC 8 16 σ x0).isSome = true) (kk : Sim Θ nL ρ σ1 F (cs.1 + rmc.cells, cs.2 + rmc.slots) (pc + 3) lv (.int r :: st)) : Sim Θ nL ρ σ F cs pc lv (.ref (vO (VX g) + x0) :: st) := by
  obtain ⟨c, hcl⟩ := Option.isSome_iff_exists.mp hcl
  obtain ⟨fs, ha, h1, h2⟩ := dC_spec hcl
  have h3 : c = 8 ∨ c = 9 ∨ c = 10 ∨ c = 11 ∨ c = 12 ∨ c = 13 ∨ c = 14 ∨ c = 15 := by omega
  rcases h3 with rfl | rfl | rfl | rfl | rfl | rfl | rfl | rfl
  · exact s_callSU hc (a := x0) (As := []) (rest := st) (n := 0) (ci := 8) (q := (RX7, TX7, 1)) hM (lw_SU q478 q474 q409 q472 q72 q503) (by decide +kernel) rfl (Ob.dyn ha) rfl rfl hrest hR hf hd kk
  · exact s_callSU hc (a := x0) (As := []) (rest := st) (n := 0) (ci := 9) (q := (RX8, TX8, 1)) hM (lw_SU q478 q474 q409 q472 q72 q503) (by decide +kernel) rfl (Ob.dyn ha) rfl rfl hrest hR hf hd kk
  · exact s_callSU hc (a := x0) (As := []) (rest := st) (n := 0) (ci := 10) (q := (RX9, TX9, 1)) hM (lw_SU q478 q474 q409 q472 q72 q503) (by decide +kernel) rfl (Ob.dyn ha) rfl rfl hrest hR hf hd kk
  · exact s_callSU hc (a := x0) (As := []) (rest := st) (n := 0) (ci := 11) (q := (RX10, TX10, 1)) hM (lw_SU q478 q474 q409 q472 q72 q503) (by decide +kernel) rfl (Ob.dyn ha) rfl rfl hrest hR hf hd kk
  · exact s_callSU hc (a := x0) (As := []) (rest := st) (n := 0) (ci := 12) (q := (RX11, TX11, 1)) hM (lw_SU q478 q474 q409 q472 q72 q503) (by decide +kernel) rfl (Ob.dyn ha) rfl rfl hrest hR hf hd kk
  · exact s_callSU hc (a := x0) (As := []) (rest := st) (n := 0) (ci := 13) (q := (RX12, TX12, 1)) hM (lw_SU q478 q474 q409 q472 q72 q503) (by decide +kernel) rfl (Ob.dyn ha) rfl rfl hrest hR hf hd kk
  · exact s_callSU hc (a := x0) (As := []) (rest := st) (n := 0) (ci := 14) (q := (RX13, TX13, 1)) hM (lw_SU q478 q474 q409 q472 q72 q503) (by decide +kernel) rfl (Ob.dyn ha) rfl rfl hrest hR hf hd kk
  · exact s_callSU hc (a := x0) (As := []) (rest := st) (n := 0) (ci := 15) (q := (RX14, TX14, 1)) hM (lw_SU q478 q474 q409 q472 q72 q503) (by decide +kernel) rfl (Ob.dyn ha) rfl rfl hrest hR hf hd kk
def fX8_kind (N : Nat) (σ : Mem) (x0 : Nat) : Option (Int32) :=
  gb (dC 8 16 σ x0).isSome ((fX7_kind N σ x0).bind (fun q2 => 
  some (q2 + (1 : Int32))))
set_option maxHeartbeats 4000000 in
theorem wfX8_kind {Θ : ThT Mem} {g : GeoX} {N : Nat}  {ρ : Int32} (σ : Mem) (x0 : Nat) (hc : Cx Θ (VX g) cX8_kind 1 RX8 (rk 2 0 0) (some .int) [] false (oI ρ) σ) : Sim Θ 1 ρ σ (fX8_kind N σ x0) (0, 0) 0 [(0, .ref (vO (VX g) + x0))] [] := by
  have hz := hc.z
  unfold fX8_kind
  refine s_aload_n hz dX8_kind_0 rfl 0 rfl ?_
  refine s_gb (fun h1 => ?_)
  refine s_bind (fun q2 e3 => ?_)
  refine kX_X8_7 hc (cfX7_kind e3) ⟨(Nat.le_of_ble_eq_true rfl), (Nat.le_of_ble_eq_true rfl)⟩ ⟨(Nat.le_of_ble_eq_true rfl), (Nat.le_of_ble_eq_true rfl)⟩ (Nat.le_of_ble_eq_true rfl) dX8_kind_1 h1 ?_
  refine s_iconst (v := (1 : Int32)) hz dX8_kind_4 (by decide) ?_
  refine s_iadd hz dX8_kind_5 ?_
  exact s_iret hc dX8_kind_6 (Nat.le_of_ble_eq_true rfl) (Nat.le_of_ble_eq_true rfl)
theorem cfX8_kind {g : GeoX} {N : Nat}  {σ : Mem} {x0 : Nat} {ρ : Int32} (hF : fX8_kind N σ x0 = some ρ) (l : Launch) : Ct (VX g) l yX8_kind cX8_kind 1 (some .int) (rk 2 0 0) [.ref (vO (VX g) + x0)] σ (oI ρ) σ :=
  Ct.of (by decide) (Nat.le_of_ble_eq_true rfl) (fun Θ hc ls hl => wfX8_kind σ x0 hc hF ls hl)
theorem kX_X9_7 {γ : Type} {Θ : ThT Mem} {g : GeoX} {cc : ByteArray} {nL : Nat} {rm : Room} {ret : Option FieldType} {hs : List (Nat × Nat × Nat × Nat)} {ini : Bool} {O : Outcome} {σ' : Mem} {ρ : γ} {σ : Mem} {F : Option γ} {cs : Nat × Nat} {pc : Nat} {lv : List (Nat × Value)} {st : List Value} (hc : Cx Θ (VX g) cc nL RX9 rm ret hs ini O σ') {σ1 : Mem} {x0 : Nat} {r : Int32} {rmc : Room} (hM : ∀ l : Launch, Ct (VX g) l yX7_kind cX7_kind 1 (some .int) rmc [.ref (vO (VX g) + x0)] σ (oI r) σ1) (hR : rmc.frames + 1 ≤ rm.frames ∧ 8 + (1 + 11) + rmc.locals ≤ rm.locals) (hf : cs.1 + rmc.cells ≤ rm.cells ∧ cs.2 + rmc.slots ≤ rm.slots) (hrest : (st.map fun v => v.category).sum ≤ 8) (hd : decode cc pc = .ok (.invokespecial 7, 3)) (hcl : (dC 8 16 σ x0).isSome = true) (kk : Sim Θ nL ρ σ1 F (cs.1 + rmc.cells, cs.2 + rmc.slots) (pc + 3) lv (.int r :: st)) : Sim Θ nL ρ σ F cs pc lv (.ref (vO (VX g) + x0) :: st) := by
  obtain ⟨c, hcl⟩ := Option.isSome_iff_exists.mp hcl
  obtain ⟨fs, ha, h1, h2⟩ := dC_spec hcl
  have h3 : c = 8 ∨ c = 9 ∨ c = 10 ∨ c = 11 ∨ c = 12 ∨ c = 13 ∨ c = 14 ∨ c = 15 := by omega
  rcases h3 with rfl | rfl | rfl | rfl | rfl | rfl | rfl | rfl
  · exact s_callSU hc (a := x0) (As := []) (rest := st) (n := 0) (ci := 8) (q := (RX7, TX7, 1)) hM (lw_SU q492 q474 q417 q472 q72 q503) (by decide +kernel) rfl (Ob.dyn ha) rfl rfl hrest hR hf hd kk
  · exact s_callSU hc (a := x0) (As := []) (rest := st) (n := 0) (ci := 9) (q := (RX8, TX8, 1)) hM (lw_SU q492 q474 q417 q472 q72 q503) (by decide +kernel) rfl (Ob.dyn ha) rfl rfl hrest hR hf hd kk
  · exact s_callSU hc (a := x0) (As := []) (rest := st) (n := 0) (ci := 10) (q := (RX9, TX9, 1)) hM (lw_SU q492 q474 q417 q472 q72 q503) (by decide +kernel) rfl (Ob.dyn ha) rfl rfl hrest hR hf hd kk
  · exact s_callSU hc (a := x0) (As := []) (rest := st) (n := 0) (ci := 11) (q := (RX10, TX10, 1)) hM (lw_SU q492 q474 q417 q472 q72 q503) (by decide +kernel) rfl (Ob.dyn ha) rfl rfl hrest hR hf hd kk
  · exact s_callSU hc (a := x0) (As := []) (rest := st) (n := 0) (ci := 12) (q := (RX11, TX11, 1)) hM (lw_SU q492 q474 q417 q472 q72 q503) (by decide +kernel) rfl (Ob.dyn ha) rfl rfl hrest hR hf hd kk
  · exact s_callSU hc (a := x0) (As := []) (rest := st) (n := 0) (ci := 13) (q := (RX12, TX12, 1)) hM (lw_SU q492 q474 q417 q472 q72 q503) (by decide +kernel) rfl (Ob.dyn ha) rfl rfl hrest hR hf hd kk
  · exact s_callSU hc (a := x0) (As := []) (rest := st) (n := 0) (ci := 14) (q := (RX13, TX13, 1)) hM (lw_SU q492 q474 q417 q472 q72 q503) (by decide +kernel) rfl (Ob.dyn ha) rfl rfl hrest hR hf hd kk
  · exact s_callSU hc (a := x0) (As := []) (rest := st) (n := 0) (ci := 15) (q := (RX14, TX14, 1)) hM (lw_SU q492 q474 q417 q472 q72 q503) (by decide +kernel) rfl (Ob.dyn ha) rfl rfl hrest hR hf hd kk
def fX9_kind (N : Nat) (σ : Mem) (x0 : Nat) : Option (Int32) :=
  gb (dC 8 16 σ x0).isSome ((fX7_kind N σ x0).bind (fun q2 => 
  some (q2 + (2 : Int32))))
set_option maxHeartbeats 4000000 in
theorem wfX9_kind {Θ : ThT Mem} {g : GeoX} {N : Nat}  {ρ : Int32} (σ : Mem) (x0 : Nat) (hc : Cx Θ (VX g) cX9_kind 1 RX9 (rk 2 0 0) (some .int) [] false (oI ρ) σ) : Sim Θ 1 ρ σ (fX9_kind N σ x0) (0, 0) 0 [(0, .ref (vO (VX g) + x0))] [] := by
  have hz := hc.z
  unfold fX9_kind
  refine s_aload_n hz dX9_kind_0 rfl 0 rfl ?_
  refine s_gb (fun h1 => ?_)
  refine s_bind (fun q2 e3 => ?_)
  refine kX_X9_7 hc (cfX7_kind e3) ⟨(Nat.le_of_ble_eq_true rfl), (Nat.le_of_ble_eq_true rfl)⟩ ⟨(Nat.le_of_ble_eq_true rfl), (Nat.le_of_ble_eq_true rfl)⟩ (Nat.le_of_ble_eq_true rfl) dX9_kind_1 h1 ?_
  refine s_iconst (v := (2 : Int32)) hz dX9_kind_4 (by decide) ?_
  refine s_iadd hz dX9_kind_5 ?_
  exact s_iret hc dX9_kind_6 (Nat.le_of_ble_eq_true rfl) (Nat.le_of_ble_eq_true rfl)
theorem cfX9_kind {g : GeoX} {N : Nat}  {σ : Mem} {x0 : Nat} {ρ : Int32} (hF : fX9_kind N σ x0 = some ρ) (l : Launch) : Ct (VX g) l yX9_kind cX9_kind 1 (some .int) (rk 2 0 0) [.ref (vO (VX g) + x0)] σ (oI ρ) σ :=
  Ct.of (by decide) (Nat.le_of_ble_eq_true rfl) (fun Θ hc ls hl => wfX9_kind σ x0 hc hF ls hl)
theorem kX_X10_7 {γ : Type} {Θ : ThT Mem} {g : GeoX} {cc : ByteArray} {nL : Nat} {rm : Room} {ret : Option FieldType} {hs : List (Nat × Nat × Nat × Nat)} {ini : Bool} {O : Outcome} {σ' : Mem} {ρ : γ} {σ : Mem} {F : Option γ} {cs : Nat × Nat} {pc : Nat} {lv : List (Nat × Value)} {st : List Value} (hc : Cx Θ (VX g) cc nL RX10 rm ret hs ini O σ') {σ1 : Mem} {x0 : Nat} {r : Int32} {rmc : Room} (hM : ∀ l : Launch, Ct (VX g) l yX7_kind cX7_kind 1 (some .int) rmc [.ref (vO (VX g) + x0)] σ (oI r) σ1) (hR : rmc.frames + 1 ≤ rm.frames ∧ 8 + (1 + 11) + rmc.locals ≤ rm.locals) (hf : cs.1 + rmc.cells ≤ rm.cells ∧ cs.2 + rmc.slots ≤ rm.slots) (hrest : (st.map fun v => v.category).sum ≤ 8) (hd : decode cc pc = .ok (.invokespecial 7, 3)) (hcl : (dC 8 16 σ x0).isSome = true) (kk : Sim Θ nL ρ σ1 F (cs.1 + rmc.cells, cs.2 + rmc.slots) (pc + 3) lv (.int r :: st)) : Sim Θ nL ρ σ F cs pc lv (.ref (vO (VX g) + x0) :: st) := by
  obtain ⟨c, hcl⟩ := Option.isSome_iff_exists.mp hcl
  obtain ⟨fs, ha, h1, h2⟩ := dC_spec hcl
  have h3 : c = 8 ∨ c = 9 ∨ c = 10 ∨ c = 11 ∨ c = 12 ∨ c = 13 ∨ c = 14 ∨ c = 15 := by omega
  rcases h3 with rfl | rfl | rfl | rfl | rfl | rfl | rfl | rfl
  · exact s_callSU hc (a := x0) (As := []) (rest := st) (n := 0) (ci := 8) (q := (RX7, TX7, 1)) hM (lw_SU q488 q474 q425 q472 q72 q503) (by decide +kernel) rfl (Ob.dyn ha) rfl rfl hrest hR hf hd kk
  · exact s_callSU hc (a := x0) (As := []) (rest := st) (n := 0) (ci := 9) (q := (RX8, TX8, 1)) hM (lw_SU q488 q474 q425 q472 q72 q503) (by decide +kernel) rfl (Ob.dyn ha) rfl rfl hrest hR hf hd kk
  · exact s_callSU hc (a := x0) (As := []) (rest := st) (n := 0) (ci := 10) (q := (RX9, TX9, 1)) hM (lw_SU q488 q474 q425 q472 q72 q503) (by decide +kernel) rfl (Ob.dyn ha) rfl rfl hrest hR hf hd kk
  · exact s_callSU hc (a := x0) (As := []) (rest := st) (n := 0) (ci := 11) (q := (RX10, TX10, 1)) hM (lw_SU q488 q474 q425 q472 q72 q503) (by decide +kernel) rfl (Ob.dyn ha) rfl rfl hrest hR hf hd kk
  · exact s_callSU hc (a := x0) (As := []) (rest := st) (n := 0) (ci := 12) (q := (RX11, TX11, 1)) hM (lw_SU q488 q474 q425 q472 q72 q503) (by decide +kernel) rfl (Ob.dyn ha) rfl rfl hrest hR hf hd kk
  · exact s_callSU hc (a := x0) (As := []) (rest := st) (n := 0) (ci := 13) (q := (RX12, TX12, 1)) hM (lw_SU q488 q474 q425 q472 q72 q503) (by decide +kernel) rfl (Ob.dyn ha) rfl rfl hrest hR hf hd kk
  · exact s_callSU hc (a := x0) (As := []) (rest := st) (n := 0) (ci := 14) (q := (RX13, TX13, 1)) hM (lw_SU q488 q474 q425 q472 q72 q503) (by decide +kernel) rfl (Ob.dyn ha) rfl rfl hrest hR hf hd kk
  · exact s_callSU hc (a := x0) (As := []) (rest := st) (n := 0) (ci := 15) (q := (RX14, TX14, 1)) hM (lw_SU q488 q474 q425 q472 q72 q503) (by decide +kernel) rfl (Ob.dyn ha) rfl rfl hrest hR hf hd kk
def fX10_kind (N : Nat) (σ : Mem) (x0 : Nat) : Option (Int32) :=
  gb (dC 8 16 σ x0).isSome ((fX7_kind N σ x0).bind (fun q2 => 
  some (q2 + (3 : Int32))))
set_option maxHeartbeats 4000000 in
theorem wfX10_kind {Θ : ThT Mem} {g : GeoX} {N : Nat}  {ρ : Int32} (σ : Mem) (x0 : Nat) (hc : Cx Θ (VX g) cX10_kind 1 RX10 (rk 2 0 0) (some .int) [] false (oI ρ) σ) : Sim Θ 1 ρ σ (fX10_kind N σ x0) (0, 0) 0 [(0, .ref (vO (VX g) + x0))] [] := by
  have hz := hc.z
  unfold fX10_kind
  refine s_aload_n hz dX10_kind_0 rfl 0 rfl ?_
  refine s_gb (fun h1 => ?_)
  refine s_bind (fun q2 e3 => ?_)
  refine kX_X10_7 hc (cfX7_kind e3) ⟨(Nat.le_of_ble_eq_true rfl), (Nat.le_of_ble_eq_true rfl)⟩ ⟨(Nat.le_of_ble_eq_true rfl), (Nat.le_of_ble_eq_true rfl)⟩ (Nat.le_of_ble_eq_true rfl) dX10_kind_1 h1 ?_
  refine s_iconst (v := (3 : Int32)) hz dX10_kind_4 (by decide) ?_
  refine s_iadd hz dX10_kind_5 ?_
  exact s_iret hc dX10_kind_6 (Nat.le_of_ble_eq_true rfl) (Nat.le_of_ble_eq_true rfl)
theorem cfX10_kind {g : GeoX} {N : Nat}  {σ : Mem} {x0 : Nat} {ρ : Int32} (hF : fX10_kind N σ x0 = some ρ) (l : Launch) : Ct (VX g) l yX10_kind cX10_kind 1 (some .int) (rk 2 0 0) [.ref (vO (VX g) + x0)] σ (oI ρ) σ :=
  Ct.of (by decide) (Nat.le_of_ble_eq_true rfl) (fun Θ hc ls hl => wfX10_kind σ x0 hc hF ls hl)
theorem kX_X11_7 {γ : Type} {Θ : ThT Mem} {g : GeoX} {cc : ByteArray} {nL : Nat} {rm : Room} {ret : Option FieldType} {hs : List (Nat × Nat × Nat × Nat)} {ini : Bool} {O : Outcome} {σ' : Mem} {ρ : γ} {σ : Mem} {F : Option γ} {cs : Nat × Nat} {pc : Nat} {lv : List (Nat × Value)} {st : List Value} (hc : Cx Θ (VX g) cc nL RX11 rm ret hs ini O σ') {σ1 : Mem} {x0 : Nat} {r : Int32} {rmc : Room} (hM : ∀ l : Launch, Ct (VX g) l yX7_kind cX7_kind 1 (some .int) rmc [.ref (vO (VX g) + x0)] σ (oI r) σ1) (hR : rmc.frames + 1 ≤ rm.frames ∧ 8 + (1 + 11) + rmc.locals ≤ rm.locals) (hf : cs.1 + rmc.cells ≤ rm.cells ∧ cs.2 + rmc.slots ≤ rm.slots) (hrest : (st.map fun v => v.category).sum ≤ 8) (hd : decode cc pc = .ok (.invokespecial 7, 3)) (hcl : (dC 8 16 σ x0).isSome = true) (kk : Sim Θ nL ρ σ1 F (cs.1 + rmc.cells, cs.2 + rmc.slots) (pc + 3) lv (.int r :: st)) : Sim Θ nL ρ σ F cs pc lv (.ref (vO (VX g) + x0) :: st) := by
  obtain ⟨c, hcl⟩ := Option.isSome_iff_exists.mp hcl
  obtain ⟨fs, ha, h1, h2⟩ := dC_spec hcl
  have h3 : c = 8 ∨ c = 9 ∨ c = 10 ∨ c = 11 ∨ c = 12 ∨ c = 13 ∨ c = 14 ∨ c = 15 := by omega
  rcases h3 with rfl | rfl | rfl | rfl | rfl | rfl | rfl | rfl
  · exact s_callSU hc (a := x0) (As := []) (rest := st) (n := 0) (ci := 8) (q := (RX7, TX7, 1)) hM (lw_SU q496 q474 q433 q472 q72 q503) (by decide +kernel) rfl (Ob.dyn ha) rfl rfl hrest hR hf hd kk
  · exact s_callSU hc (a := x0) (As := []) (rest := st) (n := 0) (ci := 9) (q := (RX8, TX8, 1)) hM (lw_SU q496 q474 q433 q472 q72 q503) (by decide +kernel) rfl (Ob.dyn ha) rfl rfl hrest hR hf hd kk
  · exact s_callSU hc (a := x0) (As := []) (rest := st) (n := 0) (ci := 10) (q := (RX9, TX9, 1)) hM (lw_SU q496 q474 q433 q472 q72 q503) (by decide +kernel) rfl (Ob.dyn ha) rfl rfl hrest hR hf hd kk
  · exact s_callSU hc (a := x0) (As := []) (rest := st) (n := 0) (ci := 11) (q := (RX10, TX10, 1)) hM (lw_SU q496 q474 q433 q472 q72 q503) (by decide +kernel) rfl (Ob.dyn ha) rfl rfl hrest hR hf hd kk
  · exact s_callSU hc (a := x0) (As := []) (rest := st) (n := 0) (ci := 12) (q := (RX11, TX11, 1)) hM (lw_SU q496 q474 q433 q472 q72 q503) (by decide +kernel) rfl (Ob.dyn ha) rfl rfl hrest hR hf hd kk
  · exact s_callSU hc (a := x0) (As := []) (rest := st) (n := 0) (ci := 13) (q := (RX12, TX12, 1)) hM (lw_SU q496 q474 q433 q472 q72 q503) (by decide +kernel) rfl (Ob.dyn ha) rfl rfl hrest hR hf hd kk
  · exact s_callSU hc (a := x0) (As := []) (rest := st) (n := 0) (ci := 14) (q := (RX13, TX13, 1)) hM (lw_SU q496 q474 q433 q472 q72 q503) (by decide +kernel) rfl (Ob.dyn ha) rfl rfl hrest hR hf hd kk
  · exact s_callSU hc (a := x0) (As := []) (rest := st) (n := 0) (ci := 15) (q := (RX14, TX14, 1)) hM (lw_SU q496 q474 q433 q472 q72 q503) (by decide +kernel) rfl (Ob.dyn ha) rfl rfl hrest hR hf hd kk
def fX11_kind (N : Nat) (σ : Mem) (x0 : Nat) : Option (Int32) :=
  gb (dC 8 16 σ x0).isSome ((fX7_kind N σ x0).bind (fun q2 => 
  some (q2 + (4 : Int32))))
set_option maxHeartbeats 4000000 in
theorem wfX11_kind {Θ : ThT Mem} {g : GeoX} {N : Nat}  {ρ : Int32} (σ : Mem) (x0 : Nat) (hc : Cx Θ (VX g) cX11_kind 1 RX11 (rk 2 0 0) (some .int) [] false (oI ρ) σ) : Sim Θ 1 ρ σ (fX11_kind N σ x0) (0, 0) 0 [(0, .ref (vO (VX g) + x0))] [] := by
  have hz := hc.z
  unfold fX11_kind
  refine s_aload_n hz dX11_kind_0 rfl 0 rfl ?_
  refine s_gb (fun h1 => ?_)
  refine s_bind (fun q2 e3 => ?_)
  refine kX_X11_7 hc (cfX7_kind e3) ⟨(Nat.le_of_ble_eq_true rfl), (Nat.le_of_ble_eq_true rfl)⟩ ⟨(Nat.le_of_ble_eq_true rfl), (Nat.le_of_ble_eq_true rfl)⟩ (Nat.le_of_ble_eq_true rfl) dX11_kind_1 h1 ?_
  refine s_iconst (v := (4 : Int32)) hz dX11_kind_4 (by decide) ?_
  refine s_iadd hz dX11_kind_5 ?_
  exact s_iret hc dX11_kind_6 (Nat.le_of_ble_eq_true rfl) (Nat.le_of_ble_eq_true rfl)
theorem cfX11_kind {g : GeoX} {N : Nat}  {σ : Mem} {x0 : Nat} {ρ : Int32} (hF : fX11_kind N σ x0 = some ρ) (l : Launch) : Ct (VX g) l yX11_kind cX11_kind 1 (some .int) (rk 2 0 0) [.ref (vO (VX g) + x0)] σ (oI ρ) σ :=
  Ct.of (by decide) (Nat.le_of_ble_eq_true rfl) (fun Θ hc ls hl => wfX11_kind σ x0 hc hF ls hl)
theorem kX_X12_7 {γ : Type} {Θ : ThT Mem} {g : GeoX} {cc : ByteArray} {nL : Nat} {rm : Room} {ret : Option FieldType} {hs : List (Nat × Nat × Nat × Nat)} {ini : Bool} {O : Outcome} {σ' : Mem} {ρ : γ} {σ : Mem} {F : Option γ} {cs : Nat × Nat} {pc : Nat} {lv : List (Nat × Value)} {st : List Value} (hc : Cx Θ (VX g) cc nL RX12 rm ret hs ini O σ') {σ1 : Mem} {x0 : Nat} {r : Int32} {rmc : Room} (hM : ∀ l : Launch, Ct (VX g) l yX8_kind cX8_kind 1 (some .int) rmc [.ref (vO (VX g) + x0)] σ (oI r) σ1) (hR : rmc.frames + 1 ≤ rm.frames ∧ 8 + (1 + 11) + rmc.locals ≤ rm.locals) (hf : cs.1 + rmc.cells ≤ rm.cells ∧ cs.2 + rmc.slots ≤ rm.slots) (hrest : (st.map fun v => v.category).sum ≤ 8) (hd : decode cc pc = .ok (.invokespecial 7, 3)) (hcl : (dC 8 16 σ x0).isSome = true) (kk : Sim Θ nL ρ σ1 F (cs.1 + rmc.cells, cs.2 + rmc.slots) (pc + 3) lv (.int r :: st)) : Sim Θ nL ρ σ F cs pc lv (.ref (vO (VX g) + x0) :: st) := by
  obtain ⟨c, hcl⟩ := Option.isSome_iff_exists.mp hcl
  obtain ⟨fs, ha, h1, h2⟩ := dC_spec hcl
  have h3 : c = 8 ∨ c = 9 ∨ c = 10 ∨ c = 11 ∨ c = 12 ∨ c = 13 ∨ c = 14 ∨ c = 15 := by omega
  rcases h3 with rfl | rfl | rfl | rfl | rfl | rfl | rfl | rfl
  · exact s_callSU hc (a := x0) (As := []) (rest := st) (n := 0) (ci := 8) (q := (RX7, TX7, 1)) hM (lw_SU q500 q1534 q441 q476 q73 q477) (by decide +kernel) rfl (Ob.dyn ha) rfl rfl hrest hR hf hd kk
  · exact s_callSU hc (a := x0) (As := []) (rest := st) (n := 0) (ci := 9) (q := (RX8, TX8, 1)) hM (lw_SU q500 q1534 q441 q476 q73 q477) (by decide +kernel) rfl (Ob.dyn ha) rfl rfl hrest hR hf hd kk
  · exact s_callSU hc (a := x0) (As := []) (rest := st) (n := 0) (ci := 10) (q := (RX9, TX9, 1)) hM (lw_SU q500 q1534 q441 q476 q73 q477) (by decide +kernel) rfl (Ob.dyn ha) rfl rfl hrest hR hf hd kk
  · exact s_callSU hc (a := x0) (As := []) (rest := st) (n := 0) (ci := 11) (q := (RX10, TX10, 1)) hM (lw_SU q500 q1534 q441 q476 q73 q477) (by decide +kernel) rfl (Ob.dyn ha) rfl rfl hrest hR hf hd kk
  · exact s_callSU hc (a := x0) (As := []) (rest := st) (n := 0) (ci := 12) (q := (RX11, TX11, 1)) hM (lw_SU q500 q1534 q441 q476 q73 q477) (by decide +kernel) rfl (Ob.dyn ha) rfl rfl hrest hR hf hd kk
  · exact s_callSU hc (a := x0) (As := []) (rest := st) (n := 0) (ci := 13) (q := (RX12, TX12, 1)) hM (lw_SU q500 q1534 q441 q476 q73 q477) (by decide +kernel) rfl (Ob.dyn ha) rfl rfl hrest hR hf hd kk
  · exact s_callSU hc (a := x0) (As := []) (rest := st) (n := 0) (ci := 14) (q := (RX13, TX13, 1)) hM (lw_SU q500 q1534 q441 q476 q73 q477) (by decide +kernel) rfl (Ob.dyn ha) rfl rfl hrest hR hf hd kk
  · exact s_callSU hc (a := x0) (As := []) (rest := st) (n := 0) (ci := 15) (q := (RX14, TX14, 1)) hM (lw_SU q500 q1534 q441 q476 q73 q477) (by decide +kernel) rfl (Ob.dyn ha) rfl rfl hrest hR hf hd kk
def fX12_kind (N : Nat) (σ : Mem) (x0 : Nat) : Option (Int32) :=
  gb (dC 8 16 σ x0).isSome ((fX8_kind N σ x0).bind (fun q2 => 
  some (q2 + (4 : Int32))))
set_option maxHeartbeats 4000000 in
theorem wfX12_kind {Θ : ThT Mem} {g : GeoX} {N : Nat}  {ρ : Int32} (σ : Mem) (x0 : Nat) (hc : Cx Θ (VX g) cX12_kind 1 RX12 (rk 3 0 0) (some .int) [] false (oI ρ) σ) : Sim Θ 1 ρ σ (fX12_kind N σ x0) (0, 0) 0 [(0, .ref (vO (VX g) + x0))] [] := by
  have hz := hc.z
  unfold fX12_kind
  refine s_aload_n hz dX12_kind_0 rfl 0 rfl ?_
  refine s_gb (fun h1 => ?_)
  refine s_bind (fun q2 e3 => ?_)
  refine kX_X12_7 hc (cfX8_kind e3) ⟨(Nat.le_of_ble_eq_true rfl), (Nat.le_of_ble_eq_true rfl)⟩ ⟨(Nat.le_of_ble_eq_true rfl), (Nat.le_of_ble_eq_true rfl)⟩ (Nat.le_of_ble_eq_true rfl) dX12_kind_1 h1 ?_
  refine s_iconst (v := (4 : Int32)) hz dX12_kind_4 (by decide) ?_
  refine s_iadd hz dX12_kind_5 ?_
  exact s_iret hc dX12_kind_6 (Nat.le_of_ble_eq_true rfl) (Nat.le_of_ble_eq_true rfl)
theorem cfX12_kind {g : GeoX} {N : Nat}  {σ : Mem} {x0 : Nat} {ρ : Int32} (hF : fX12_kind N σ x0 = some ρ) (l : Launch) : Ct (VX g) l yX12_kind cX12_kind 1 (some .int) (rk 3 0 0) [.ref (vO (VX g) + x0)] σ (oI ρ) σ :=
  Ct.of (by decide) (Nat.le_of_ble_eq_true rfl) (fun Θ hc ls hl => wfX12_kind σ x0 hc hF ls hl)
theorem kX_X13_7 {γ : Type} {Θ : ThT Mem} {g : GeoX} {cc : ByteArray} {nL : Nat} {rm : Room} {ret : Option FieldType} {hs : List (Nat × Nat × Nat × Nat)} {ini : Bool} {O : Outcome} {σ' : Mem} {ρ : γ} {σ : Mem} {F : Option γ} {cs : Nat × Nat} {pc : Nat} {lv : List (Nat × Value)} {st : List Value} (hc : Cx Θ (VX g) cc nL RX13 rm ret hs ini O σ') {σ1 : Mem} {x0 : Nat} {r : Int32} {rmc : Room} (hM : ∀ l : Launch, Ct (VX g) l yX10_kind cX10_kind 1 (some .int) rmc [.ref (vO (VX g) + x0)] σ (oI r) σ1) (hR : rmc.frames + 1 ≤ rm.frames ∧ 8 + (1 + 11) + rmc.locals ≤ rm.locals) (hf : cs.1 + rmc.cells ≤ rm.cells ∧ cs.2 + rmc.slots ≤ rm.slots) (hrest : (st.map fun v => v.category).sum ≤ 8) (hd : decode cc pc = .ok (.invokespecial 7, 3)) (hcl : (dC 8 16 σ x0).isSome = true) (kk : Sim Θ nL ρ σ1 F (cs.1 + rmc.cells, cs.2 + rmc.slots) (pc + 3) lv (.int r :: st)) : Sim Θ nL ρ σ F cs pc lv (.ref (vO (VX g) + x0) :: st) := by
  obtain ⟨c, hcl⟩ := Option.isSome_iff_exists.mp hcl
  obtain ⟨fs, ha, h1, h2⟩ := dC_spec hcl
  have h3 : c = 8 ∨ c = 9 ∨ c = 10 ∨ c = 11 ∨ c = 12 ∨ c = 13 ∨ c = 14 ∨ c = 15 := by omega
  rcases h3 with rfl | rfl | rfl | rfl | rfl | rfl | rfl | rfl
  · exact s_callSU hc (a := x0) (As := []) (rest := st) (n := 0) (ci := 8) (q := (RX7, TX7, 1)) hM (lw_SU q485 q1533 q449 q486 q75 q487) (by decide +kernel) rfl (Ob.dyn ha) rfl rfl hrest hR hf hd kk
  · exact s_callSU hc (a := x0) (As := []) (rest := st) (n := 0) (ci := 9) (q := (RX8, TX8, 1)) hM (lw_SU q485 q1533 q449 q486 q75 q487) (by decide +kernel) rfl (Ob.dyn ha) rfl rfl hrest hR hf hd kk
  · exact s_callSU hc (a := x0) (As := []) (rest := st) (n := 0) (ci := 10) (q := (RX9, TX9, 1)) hM (lw_SU q485 q1533 q449 q486 q75 q487) (by decide +kernel) rfl (Ob.dyn ha) rfl rfl hrest hR hf hd kk
  · exact s_callSU hc (a := x0) (As := []) (rest := st) (n := 0) (ci := 11) (q := (RX10, TX10, 1)) hM (lw_SU q485 q1533 q449 q486 q75 q487) (by decide +kernel) rfl (Ob.dyn ha) rfl rfl hrest hR hf hd kk
  · exact s_callSU hc (a := x0) (As := []) (rest := st) (n := 0) (ci := 12) (q := (RX11, TX11, 1)) hM (lw_SU q485 q1533 q449 q486 q75 q487) (by decide +kernel) rfl (Ob.dyn ha) rfl rfl hrest hR hf hd kk
  · exact s_callSU hc (a := x0) (As := []) (rest := st) (n := 0) (ci := 13) (q := (RX12, TX12, 1)) hM (lw_SU q485 q1533 q449 q486 q75 q487) (by decide +kernel) rfl (Ob.dyn ha) rfl rfl hrest hR hf hd kk
  · exact s_callSU hc (a := x0) (As := []) (rest := st) (n := 0) (ci := 14) (q := (RX13, TX13, 1)) hM (lw_SU q485 q1533 q449 q486 q75 q487) (by decide +kernel) rfl (Ob.dyn ha) rfl rfl hrest hR hf hd kk
  · exact s_callSU hc (a := x0) (As := []) (rest := st) (n := 0) (ci := 15) (q := (RX14, TX14, 1)) hM (lw_SU q485 q1533 q449 q486 q75 q487) (by decide +kernel) rfl (Ob.dyn ha) rfl rfl hrest hR hf hd kk
def fX13_kind (N : Nat) (σ : Mem) (x0 : Nat) : Option (Int32) :=
  gb (dC 8 16 σ x0).isSome ((fX10_kind N σ x0).bind (fun q2 => 
  some (q2 + (3 : Int32))))
set_option maxHeartbeats 4000000 in
theorem wfX13_kind {Θ : ThT Mem} {g : GeoX} {N : Nat}  {ρ : Int32} (σ : Mem) (x0 : Nat) (hc : Cx Θ (VX g) cX13_kind 1 RX13 (rk 3 0 0) (some .int) [] false (oI ρ) σ) : Sim Θ 1 ρ σ (fX13_kind N σ x0) (0, 0) 0 [(0, .ref (vO (VX g) + x0))] [] := by
  have hz := hc.z
  unfold fX13_kind
  refine s_aload_n hz dX13_kind_0 rfl 0 rfl ?_
  refine s_gb (fun h1 => ?_)
  refine s_bind (fun q2 e3 => ?_)
  refine kX_X13_7 hc (cfX10_kind e3) ⟨(Nat.le_of_ble_eq_true rfl), (Nat.le_of_ble_eq_true rfl)⟩ ⟨(Nat.le_of_ble_eq_true rfl), (Nat.le_of_ble_eq_true rfl)⟩ (Nat.le_of_ble_eq_true rfl) dX13_kind_1 h1 ?_
  refine s_iconst (v := (3 : Int32)) hz dX13_kind_4 (by decide) ?_
  refine s_iadd hz dX13_kind_5 ?_
  exact s_iret hc dX13_kind_6 (Nat.le_of_ble_eq_true rfl) (Nat.le_of_ble_eq_true rfl)
theorem cfX13_kind {g : GeoX} {N : Nat}  {σ : Mem} {x0 : Nat} {ρ : Int32} (hF : fX13_kind N σ x0 = some ρ) (l : Launch) : Ct (VX g) l yX13_kind cX13_kind 1 (some .int) (rk 3 0 0) [.ref (vO (VX g) + x0)] σ (oI ρ) σ :=
  Ct.of (by decide) (Nat.le_of_ble_eq_true rfl) (fun Θ hc ls hl => wfX13_kind σ x0 hc hF ls hl)
theorem kX_X14_7 {γ : Type} {Θ : ThT Mem} {g : GeoX} {cc : ByteArray} {nL : Nat} {rm : Room} {ret : Option FieldType} {hs : List (Nat × Nat × Nat × Nat)} {ini : Bool} {O : Outcome} {σ' : Mem} {ρ : γ} {σ : Mem} {F : Option γ} {cs : Nat × Nat} {pc : Nat} {lv : List (Nat × Value)} {st : List Value} (hc : Cx Θ (VX g) cc nL RX14 rm ret hs ini O σ') {σ1 : Mem} {x0 : Nat} {r : Int32} {rmc : Room} (hM : ∀ l : Launch, Ct (VX g) l yX13_kind cX13_kind 1 (some .int) rmc [.ref (vO (VX g) + x0)] σ (oI r) σ1) (hR : rmc.frames + 1 ≤ rm.frames ∧ 8 + (1 + 11) + rmc.locals ≤ rm.locals) (hf : cs.1 + rmc.cells ≤ rm.cells ∧ cs.2 + rmc.slots ≤ rm.slots) (hrest : (st.map fun v => v.category).sum ≤ 8) (hd : decode cc pc = .ok (.invokespecial 7, 3)) (hcl : (dC 8 16 σ x0).isSome = true) (kk : Sim Θ nL ρ σ1 F (cs.1 + rmc.cells, cs.2 + rmc.slots) (pc + 3) lv (.int r :: st)) : Sim Θ nL ρ σ F cs pc lv (.ref (vO (VX g) + x0) :: st) := by
  obtain ⟨c, hcl⟩ := Option.isSome_iff_exists.mp hcl
  obtain ⟨fs, ha, h1, h2⟩ := dC_spec hcl
  have h3 : c = 8 ∨ c = 9 ∨ c = 10 ∨ c = 11 ∨ c = 12 ∨ c = 13 ∨ c = 14 ∨ c = 15 := by omega
  rcases h3 with rfl | rfl | rfl | rfl | rfl | rfl | rfl | rfl
  · exact s_callSU hc (a := x0) (As := []) (rest := st) (n := 0) (ci := 8) (q := (RX7, TX7, 1)) hM (lw_SU q482 q1532 q457 q483 q78 q484) (by decide +kernel) rfl (Ob.dyn ha) rfl rfl hrest hR hf hd kk
  · exact s_callSU hc (a := x0) (As := []) (rest := st) (n := 0) (ci := 9) (q := (RX8, TX8, 1)) hM (lw_SU q482 q1532 q457 q483 q78 q484) (by decide +kernel) rfl (Ob.dyn ha) rfl rfl hrest hR hf hd kk
  · exact s_callSU hc (a := x0) (As := []) (rest := st) (n := 0) (ci := 10) (q := (RX9, TX9, 1)) hM (lw_SU q482 q1532 q457 q483 q78 q484) (by decide +kernel) rfl (Ob.dyn ha) rfl rfl hrest hR hf hd kk
  · exact s_callSU hc (a := x0) (As := []) (rest := st) (n := 0) (ci := 11) (q := (RX10, TX10, 1)) hM (lw_SU q482 q1532 q457 q483 q78 q484) (by decide +kernel) rfl (Ob.dyn ha) rfl rfl hrest hR hf hd kk
  · exact s_callSU hc (a := x0) (As := []) (rest := st) (n := 0) (ci := 12) (q := (RX11, TX11, 1)) hM (lw_SU q482 q1532 q457 q483 q78 q484) (by decide +kernel) rfl (Ob.dyn ha) rfl rfl hrest hR hf hd kk
  · exact s_callSU hc (a := x0) (As := []) (rest := st) (n := 0) (ci := 13) (q := (RX12, TX12, 1)) hM (lw_SU q482 q1532 q457 q483 q78 q484) (by decide +kernel) rfl (Ob.dyn ha) rfl rfl hrest hR hf hd kk
  · exact s_callSU hc (a := x0) (As := []) (rest := st) (n := 0) (ci := 14) (q := (RX13, TX13, 1)) hM (lw_SU q482 q1532 q457 q483 q78 q484) (by decide +kernel) rfl (Ob.dyn ha) rfl rfl hrest hR hf hd kk
  · exact s_callSU hc (a := x0) (As := []) (rest := st) (n := 0) (ci := 15) (q := (RX14, TX14, 1)) hM (lw_SU q482 q1532 q457 q483 q78 q484) (by decide +kernel) rfl (Ob.dyn ha) rfl rfl hrest hR hf hd kk
def fX14_kind (N : Nat) (σ : Mem) (x0 : Nat) : Option (Int32) :=
  gb (dC 8 16 σ x0).isSome ((fX13_kind N σ x0).bind (fun q2 => 
  some (q2 + (1 : Int32))))
set_option maxHeartbeats 4000000 in
theorem wfX14_kind {Θ : ThT Mem} {g : GeoX} {N : Nat}  {ρ : Int32} (σ : Mem) (x0 : Nat) (hc : Cx Θ (VX g) cX14_kind 1 RX14 (rk 4 0 0) (some .int) [] false (oI ρ) σ) : Sim Θ 1 ρ σ (fX14_kind N σ x0) (0, 0) 0 [(0, .ref (vO (VX g) + x0))] [] := by
  have hz := hc.z
  unfold fX14_kind
  refine s_aload_n hz dX14_kind_0 rfl 0 rfl ?_
  refine s_gb (fun h1 => ?_)
  refine s_bind (fun q2 e3 => ?_)
  refine kX_X14_7 hc (cfX13_kind e3) ⟨(Nat.le_of_ble_eq_true rfl), (Nat.le_of_ble_eq_true rfl)⟩ ⟨(Nat.le_of_ble_eq_true rfl), (Nat.le_of_ble_eq_true rfl)⟩ (Nat.le_of_ble_eq_true rfl) dX14_kind_1 h1 ?_
  refine s_iconst (v := (1 : Int32)) hz dX14_kind_4 (by decide) ?_
  refine s_iadd hz dX14_kind_5 ?_
  exact s_iret hc dX14_kind_6 (Nat.le_of_ble_eq_true rfl) (Nat.le_of_ble_eq_true rfl)
theorem cfX14_kind {g : GeoX} {N : Nat}  {σ : Mem} {x0 : Nat} {ρ : Int32} (hF : fX14_kind N σ x0 = some ρ) (l : Launch) : Ct (VX g) l yX14_kind cX14_kind 1 (some .int) (rk 4 0 0) [.ref (vO (VX g) + x0)] σ (oI ρ) σ :=
  Ct.of (by decide) (Nat.le_of_ble_eq_true rfl) (fun Θ hc ls hl => wfX14_kind σ x0 hc hF ls hl)
def dX_kind (N : Nat) (σ : Mem) (x0 : Nat) : Option (Int32) := (dC 8 16 σ x0).bind (fun c => if c = 8 then fX7_kind N σ x0 else if c = 9 then fX8_kind N σ x0 else if c = 10 then fX9_kind N σ x0 else if c = 11 then fX10_kind N σ x0 else if c = 12 then fX11_kind N σ x0 else if c = 13 then fX12_kind N σ x0 else if c = 14 then fX13_kind N σ x0 else if c = 15 then fX14_kind N σ x0 else none)
set_option maxHeartbeats 4000000 in
theorem kX_X7_13 {γ : Type} {Θ : ThT Mem} {g : GeoX} {cc : ByteArray} {nL : Nat} {rm : Room} {ret : Option FieldType} {hs : List (Nat × Nat × Nat × Nat)} {ini : Bool} {O : Outcome} {σ' : Mem} {ρ : γ} {σ : Mem} {F : Option γ} {cs : Nat × Nat} {pc : Nat} {lv : List (Nat × Value)} {st : List Value} (hc : Cx Θ (VX g) cc nL RX7 rm ret hs ini O σ') {N : Nat} {x0 : Nat} {r : Int32} (h : dX_kind N σ x0 = some r) (hR : 4 + 1 ≤ rm.frames ∧ 8 + (1 + 11) + 40 * 4 ≤ rm.locals) (hf : cs.1 + 0 ≤ rm.cells ∧ cs.2 + 0 ≤ rm.slots) (hrest : (st.map fun v => v.category).sum ≤ 8) (hd : decode cc pc = .ok (.invokevirtual 13, 3)) (kk : Sim Θ nL ρ σ F (cs.1 + 0, cs.2 + 0) (pc + 3) lv (.int r :: st)) : Sim Θ nL ρ σ F cs pc lv (.ref (vO (VX g) + x0) :: st) := by
  unfold dX_kind at h
  obtain ⟨c, hcl, h⟩ := Option.bind_eq_some_iff.mp h
  obtain ⟨fs, ha, h1, h2⟩ := dC_spec hcl
  have h3 : c = 8 ∨ c = 9 ∨ c = 10 ∨ c = 11 ∨ c = 12 ∨ c = 13 ∨ c = 14 ∨ c = 15 := by omega
  rcases h3 with rfl | rfl | rfl | rfl | rfl | rfl | rfl | rfl
  · have h : fX7_kind N σ x0 = some r := h
    exact s_callVo hc (a := x0) (As := []) (rest := st) (n := 0) (ci := 8) (q := (RX7, TX7, 1)) (cfX7_kind h) (lw_V q533 q472 q473 q72 q503) (by decide +kernel) rfl (Ob.dyn ha) rfl rfl hrest ⟨by have := hR.1; simp only [rk] at *; omega, by have := hR.2; simp only [rk] at *; omega⟩ hf hd kk
  · have h : fX8_kind N σ x0 = some r := h
    exact s_callUo hc (a := x0) (As := []) (rest := st) (n := 0) (ci := 9) (owner := "SlipWeeks$Cross") (x := yX7_kind) (q := (RX8, TX8, 1)) (cfX8_kind h) (lw_O q533 q474 q472 q475 q476 q73 q477) q503 (by decide +kernel) rfl (Ob.dyn ha) rfl rfl hrest ⟨by have := hR.1; simp only [rk] at *; omega, by have := hR.2; simp only [rk] at *; omega⟩ hf hd kk
  · have h : fX9_kind N σ x0 = some r := h
    exact s_callUo hc (a := x0) (As := []) (rest := st) (n := 0) (ci := 10) (owner := "SlipWeeks$Cross") (x := yX7_kind) (q := (RX9, TX9, 1)) (cfX9_kind h) (lw_O q533 q474 q472 q489 q490 q74 q491) q503 (by decide +kernel) rfl (Ob.dyn ha) rfl rfl hrest ⟨by have := hR.1; simp only [rk] at *; omega, by have := hR.2; simp only [rk] at *; omega⟩ hf hd kk
  · have h : fX10_kind N σ x0 = some r := h
    exact s_callUo hc (a := x0) (As := []) (rest := st) (n := 0) (ci := 11) (owner := "SlipWeeks$Cross") (x := yX7_kind) (q := (RX10, TX10, 1)) (cfX10_kind h) (lw_O q533 q474 q472 q501 q486 q75 q487) q503 (by decide +kernel) rfl (Ob.dyn ha) rfl rfl hrest ⟨by have := hR.1; simp only [rk] at *; omega, by have := hR.2; simp only [rk] at *; omega⟩ hf hd kk
  · have h : fX11_kind N σ x0 = some r := h
    exact s_callUo hc (a := x0) (As := []) (rest := st) (n := 0) (ci := 12) (owner := "SlipWeeks$Cross") (x := yX7_kind) (q := (RX11, TX11, 1)) (cfX11_kind h) (lw_O q533 q474 q472 q493 q494 q76 q495) q503 (by decide +kernel) rfl (Ob.dyn ha) rfl rfl hrest ⟨by have := hR.1; simp only [rk] at *; omega, by have := hR.2; simp only [rk] at *; omega⟩ hf hd kk
  · have h : fX12_kind N σ x0 = some r := h
    exact s_callUo hc (a := x0) (As := []) (rest := st) (n := 0) (ci := 13) (owner := "SlipWeeks$Cross") (x := yX7_kind) (q := (RX12, TX12, 1)) (cfX12_kind h) (lw_O q533 q474 q472 q497 q498 q77 q499) q503 (by decide +kernel) rfl (Ob.dyn ha) rfl rfl hrest ⟨by have := hR.1; simp only [rk] at *; omega, by have := hR.2; simp only [rk] at *; omega⟩ hf hd kk
  · have h : fX13_kind N σ x0 = some r := h
    exact s_callUo hc (a := x0) (As := []) (rest := st) (n := 0) (ci := 14) (owner := "SlipWeeks$Cross") (x := yX7_kind) (q := (RX13, TX13, 1)) (cfX13_kind h) (lw_O q533 q474 q472 q502 q483 q78 q484) q503 (by decide +kernel) rfl (Ob.dyn ha) rfl rfl hrest ⟨by have := hR.1; simp only [rk] at *; omega, by have := hR.2; simp only [rk] at *; omega⟩ hf hd kk
  · have h : fX14_kind N σ x0 = some r := h
    exact s_callUo hc (a := x0) (As := []) (rest := st) (n := 0) (ci := 15) (owner := "SlipWeeks$Cross") (x := yX7_kind) (q := (RX14, TX14, 1)) (cfX14_kind h) (lw_O q533 q474 q472 q479 q480 q79 q481) q503 (by decide +kernel) rfl (Ob.dyn ha) rfl rfl hrest ⟨by have := hR.1; simp only [rk] at *; omega, by have := hR.2; simp only [rk] at *; omega⟩ hf hd kk
def fX7_is (N : Nat) (σ : Mem) (x0 : Nat) (x1 : Int32) : Option (Int32) :=
  if x1 = (0 : Int32) then
  (some (1 : Int32))
  else ((dX_kind N σ x0).bind (fun q2 => 
  some (if x1 = q2 then (1 : Int32) else (0 : Int32))))
set_option maxHeartbeats 4000000 in
theorem wfX7_is {Θ : ThT Mem} {g : GeoX} {N : Nat}  {ρ : Int32} (σ : Mem) (x0 : Nat) (x1 : Int32) (hc : Cx Θ (VX g) cX7_is 2 RX7 (rk 5 0 0) (some .boolean) [] false (oI ρ) σ) : Sim Θ 2 ρ σ (fX7_is N σ x0 x1) (0, 0) 0 [(0, .ref (vO (VX g) + x0)), (1, .int x1)] [] := by
  have hz := hc.z
  unfold fX7_is
  refine s_iload_n hz dX7_is_0 rfl 1 rfl ?_
  refine s_if_eq (tgt := 12) hz dX7_is_1 rfl (fun h1 => ?_) (fun h1 => ?_)
  · refine s_iconst (v := (1 : Int32)) hz dX7_is_12 (by decide) ?_
    refine s_goto (tgt := 17) hz dX7_is_13 rfl ?_
    exact s_zret hc rfl dX7_is_17 (Nat.le_of_ble_eq_true rfl) (Nat.le_of_ble_eq_true rfl)
  · refine s_iload_n hz dX7_is_4 rfl 1 rfl ?_
    refine s_aload_n hz dX7_is_5 rfl 0 rfl ?_
    refine s_bind (fun q2 e3 => ?_)
    refine kX_X7_13 hc e3 ⟨(Nat.le_of_ble_eq_true rfl), (Nat.le_of_ble_eq_true rfl)⟩ ⟨(Nat.le_of_ble_eq_true rfl), (Nat.le_of_ble_eq_true rfl)⟩ (Nat.le_of_ble_eq_true rfl) dX7_is_6 ?_
    refine s_dia (J := 17) (v := .int (if x1 = q2 then (1 : Int32) else (0 : Int32))) (st := []) (fun _ hj4 => ?_) ?_
    · refine s_icmp_ne_ (tgt := 16) hz dX7_is_9 rfl (fun h5 => ?_) (fun h5 => ?_)
      · refine s_iconst (v := (0 : Int32)) hz dX7_is_16 (by decide) ?_
        rw [if_neg h5] at hj4
        exact hj4
      · refine s_iconst (v := (1 : Int32)) hz dX7_is_12 (by decide) ?_
        refine s_goto (tgt := 17) hz dX7_is_13 rfl ?_
        rw [if_pos h5] at hj4
        exact hj4
    exact s_zret hc (nb_ite rfl rfl) dX7_is_17 (Nat.le_of_ble_eq_true rfl) (Nat.le_of_ble_eq_true rfl)
theorem cfX7_is {g : GeoX} {N : Nat}  {σ : Mem} {x0 : Nat} {x1 : Int32} {ρ : Int32} (hF : fX7_is N σ x0 x1 = some ρ) (l : Launch) : Ct (VX g) l yX7_is cX7_is 2 (some .boolean) (rk 5 0 0) [.ref (vO (VX g) + x0), .int x1] σ (oI ρ) σ :=
  Ct.of (by decide) (Nat.le_of_ble_eq_true rfl) (fun Θ hc ls hl => wfX7_is σ x0 x1 hc hF ls hl)
theorem kX_X8_11 {γ : Type} {Θ : ThT Mem} {g : GeoX} {cc : ByteArray} {nL : Nat} {rm : Room} {ret : Option FieldType} {hs : List (Nat × Nat × Nat × Nat)} {ini : Bool} {O : Outcome} {σ' : Mem} {ρ : γ} {σ : Mem} {F : Option γ} {cs : Nat × Nat} {pc : Nat} {lv : List (Nat × Value)} {st : List Value} (hc : Cx Θ (VX g) cc nL RX8 rm ret hs ini O σ') {σ1 : Mem} {x0 : Nat} {x1 : Int32} {r : Int32} {rmc : Room} (hM : ∀ l : Launch, Ct (VX g) l yX7_is cX7_is 2 (some .boolean) rmc [.ref (vO (VX g) + x0), .int x1] σ (oI r) σ1) (hR : rmc.frames + 1 ≤ rm.frames ∧ 8 + (2 + 11) + rmc.locals ≤ rm.locals) (hf : cs.1 + rmc.cells ≤ rm.cells ∧ cs.2 + rmc.slots ≤ rm.slots) (hrest : (st.map fun v => v.category).sum ≤ 8) (hd : decode cc pc = .ok (.invokespecial 11, 3)) (hcl : (dC 8 16 σ x0).isSome = true) (kk : Sim Θ nL ρ σ1 F (cs.1 + rmc.cells, cs.2 + rmc.slots) (pc + 3) lv (.int r :: st)) : Sim Θ nL ρ σ F cs pc lv (.int x1 :: .ref (vO (VX g) + x0) :: st) := by
  obtain ⟨c, hcl⟩ := Option.isSome_iff_exists.mp hcl
  obtain ⟨fs, ha, h1, h2⟩ := dC_spec hcl
  have h3 : c = 8 ∨ c = 9 ∨ c = 10 ∨ c = 11 ∨ c = 12 ∨ c = 13 ∨ c = 14 ∨ c = 15 := by omega
  rcases h3 with rfl | rfl | rfl | rfl | rfl | rfl | rfl | rfl
  · exact s_callSU hc (a := x0) (As := [.int x1]) (rest := st) (n := 1) (ci := 8) (q := (RX7, TX7, 1)) hM (lw_SU q519 q515 q409 q513 q72 q532) (by decide +kernel) rfl (Ob.dyn ha) rfl rfl hrest hR hf hd kk
  · exact s_callSU hc (a := x0) (As := [.int x1]) (rest := st) (n := 1) (ci := 9) (q := (RX8, TX8, 1)) hM (lw_SU q519 q515 q409 q513 q72 q532) (by decide +kernel) rfl (Ob.dyn ha) rfl rfl hrest hR hf hd kk
  · exact s_callSU hc (a := x0) (As := [.int x1]) (rest := st) (n := 1) (ci := 10) (q := (RX9, TX9, 1)) hM (lw_SU q519 q515 q409 q513 q72 q532) (by decide +kernel) rfl (Ob.dyn ha) rfl rfl hrest hR hf hd kk
  · exact s_callSU hc (a := x0) (As := [.int x1]) (rest := st) (n := 1) (ci := 11) (q := (RX10, TX10, 1)) hM (lw_SU q519 q515 q409 q513 q72 q532) (by decide +kernel) rfl (Ob.dyn ha) rfl rfl hrest hR hf hd kk
  · exact s_callSU hc (a := x0) (As := [.int x1]) (rest := st) (n := 1) (ci := 12) (q := (RX11, TX11, 1)) hM (lw_SU q519 q515 q409 q513 q72 q532) (by decide +kernel) rfl (Ob.dyn ha) rfl rfl hrest hR hf hd kk
  · exact s_callSU hc (a := x0) (As := [.int x1]) (rest := st) (n := 1) (ci := 13) (q := (RX12, TX12, 1)) hM (lw_SU q519 q515 q409 q513 q72 q532) (by decide +kernel) rfl (Ob.dyn ha) rfl rfl hrest hR hf hd kk
  · exact s_callSU hc (a := x0) (As := [.int x1]) (rest := st) (n := 1) (ci := 14) (q := (RX13, TX13, 1)) hM (lw_SU q519 q515 q409 q513 q72 q532) (by decide +kernel) rfl (Ob.dyn ha) rfl rfl hrest hR hf hd kk
  · exact s_callSU hc (a := x0) (As := [.int x1]) (rest := st) (n := 1) (ci := 15) (q := (RX14, TX14, 1)) hM (lw_SU q519 q515 q409 q513 q72 q532) (by decide +kernel) rfl (Ob.dyn ha) rfl rfl hrest hR hf hd kk
def fX8_is (N : Nat) (σ : Mem) (x0 : Nat) (x1 : Int32) : Option (Int32) :=
  if x1 = (1 : Int32) then
  (some (1 : Int32))
  else (gb (dC 8 16 σ x0).isSome ((fX7_is N σ x0 x1).bind (fun q3 => 
  some (if q3 = (0 : Int32) then (0 : Int32) else (1 : Int32)))))
set_option maxHeartbeats 4000000 in
theorem wfX8_is {Θ : ThT Mem} {g : GeoX} {N : Nat}  {ρ : Int32} (σ : Mem) (x0 : Nat) (x1 : Int32) (hc : Cx Θ (VX g) cX8_is 2 RX8 (rk 6 0 0) (some .boolean) [] false (oI ρ) σ) : Sim Θ 2 ρ σ (fX8_is N σ x0 x1) (0, 0) 0 [(0, .ref (vO (VX g) + x0)), (1, .int x1)] [] := by
  have hz := hc.z
  unfold fX8_is
  refine s_iload_n hz dX8_is_0 rfl 1 rfl ?_
  refine s_iconst (v := (1 : Int32)) hz dX8_is_1 (by decide) ?_
  refine s_icmp_eq (tgt := 13) hz dX8_is_2 rfl (fun h1 => ?_) (fun h1 => ?_)
  · refine s_iconst (v := (1 : Int32)) hz dX8_is_13 (by decide) ?_
    refine s_goto (tgt := 18) hz dX8_is_14 rfl ?_
    exact s_zret hc rfl dX8_is_18 (Nat.le_of_ble_eq_true rfl) (Nat.le_of_ble_eq_true rfl)
  · refine s_aload_n hz dX8_is_5 rfl 0 rfl ?_
    refine s_iload_n hz dX8_is_6 rfl 1 rfl ?_
    refine s_gb (fun h2 => ?_)
    refine s_bind (fun q3 e4 => ?_)
    refine kX_X8_11 hc (cfX7_is e4) ⟨(Nat.le_of_ble_eq_true rfl), (Nat.le_of_ble_eq_true rfl)⟩ ⟨(Nat.le_of_ble_eq_true rfl), (Nat.le_of_ble_eq_true rfl)⟩ (Nat.le_of_ble_eq_true rfl) dX8_is_7 h2 ?_
    refine s_dia (J := 18) (v := .int (if q3 = (0 : Int32) then (0 : Int32) else (1 : Int32))) (st := []) (fun _ hj5 => ?_) ?_
    · refine s_if_eq_ (tgt := 17) hz dX8_is_10 rfl (fun h6 => ?_) (fun h6 => ?_)
      · refine s_iconst (v := (0 : Int32)) hz dX8_is_17 (by decide) ?_
        rw [if_pos h6] at hj5
        exact hj5
      · refine s_iconst (v := (1 : Int32)) hz dX8_is_13 (by decide) ?_
        refine s_goto (tgt := 18) hz dX8_is_14 rfl ?_
        rw [if_neg h6] at hj5
        exact hj5
    exact s_zret hc (nb_ite rfl rfl) dX8_is_18 (Nat.le_of_ble_eq_true rfl) (Nat.le_of_ble_eq_true rfl)
theorem cfX8_is {g : GeoX} {N : Nat}  {σ : Mem} {x0 : Nat} {x1 : Int32} {ρ : Int32} (hF : fX8_is N σ x0 x1 = some ρ) (l : Launch) : Ct (VX g) l yX8_is cX8_is 2 (some .boolean) (rk 6 0 0) [.ref (vO (VX g) + x0), .int x1] σ (oI ρ) σ :=
  Ct.of (by decide) (Nat.le_of_ble_eq_true rfl) (fun Θ hc ls hl => wfX8_is σ x0 x1 hc hF ls hl)
theorem kX_X10_11 {γ : Type} {Θ : ThT Mem} {g : GeoX} {cc : ByteArray} {nL : Nat} {rm : Room} {ret : Option FieldType} {hs : List (Nat × Nat × Nat × Nat)} {ini : Bool} {O : Outcome} {σ' : Mem} {ρ : γ} {σ : Mem} {F : Option γ} {cs : Nat × Nat} {pc : Nat} {lv : List (Nat × Value)} {st : List Value} (hc : Cx Θ (VX g) cc nL RX10 rm ret hs ini O σ') {σ1 : Mem} {x0 : Nat} {x1 : Int32} {r : Int32} {rmc : Room} (hM : ∀ l : Launch, Ct (VX g) l yX7_is cX7_is 2 (some .boolean) rmc [.ref (vO (VX g) + x0), .int x1] σ (oI r) σ1) (hR : rmc.frames + 1 ≤ rm.frames ∧ 8 + (2 + 11) + rmc.locals ≤ rm.locals) (hf : cs.1 + rmc.cells ≤ rm.cells ∧ cs.2 + rmc.slots ≤ rm.slots) (hrest : (st.map fun v => v.category).sum ≤ 8) (hd : decode cc pc = .ok (.invokespecial 11, 3)) (hcl : (dC 8 16 σ x0).isSome = true) (kk : Sim Θ nL ρ σ1 F (cs.1 + rmc.cells, cs.2 + rmc.slots) (pc + 3) lv (.int r :: st)) : Sim Θ nL ρ σ F cs pc lv (.int x1 :: .ref (vO (VX g) + x0) :: st) := by
  obtain ⟨c, hcl⟩ := Option.isSome_iff_exists.mp hcl
  obtain ⟨fs, ha, h1, h2⟩ := dC_spec hcl
  have h3 : c = 8 ∨ c = 9 ∨ c = 10 ∨ c = 11 ∨ c = 12 ∨ c = 13 ∨ c = 14 ∨ c = 15 := by omega
  rcases h3 with rfl | rfl | rfl | rfl | rfl | rfl | rfl | rfl
  · exact s_callSU hc (a := x0) (As := [.int x1]) (rest := st) (n := 1) (ci := 8) (q := (RX7, TX7, 1)) hM (lw_SU q526 q515 q425 q513 q72 q532) (by decide +kernel) rfl (Ob.dyn ha) rfl rfl hrest hR hf hd kk
  · exact s_callSU hc (a := x0) (As := [.int x1]) (rest := st) (n := 1) (ci := 9) (q := (RX8, TX8, 1)) hM (lw_SU q526 q515 q425 q513 q72 q532) (by decide +kernel) rfl (Ob.dyn ha) rfl rfl hrest hR hf hd kk
  · exact s_callSU hc (a := x0) (As := [.int x1]) (rest := st) (n := 1) (ci := 10) (q := (RX9, TX9, 1)) hM (lw_SU q526 q515 q425 q513 q72 q532) (by decide +kernel) rfl (Ob.dyn ha) rfl rfl hrest hR hf hd kk
  · exact s_callSU hc (a := x0) (As := [.int x1]) (rest := st) (n := 1) (ci := 11) (q := (RX10, TX10, 1)) hM (lw_SU q526 q515 q425 q513 q72 q532) (by decide +kernel) rfl (Ob.dyn ha) rfl rfl hrest hR hf hd kk
  · exact s_callSU hc (a := x0) (As := [.int x1]) (rest := st) (n := 1) (ci := 12) (q := (RX11, TX11, 1)) hM (lw_SU q526 q515 q425 q513 q72 q532) (by decide +kernel) rfl (Ob.dyn ha) rfl rfl hrest hR hf hd kk
  · exact s_callSU hc (a := x0) (As := [.int x1]) (rest := st) (n := 1) (ci := 13) (q := (RX12, TX12, 1)) hM (lw_SU q526 q515 q425 q513 q72 q532) (by decide +kernel) rfl (Ob.dyn ha) rfl rfl hrest hR hf hd kk
  · exact s_callSU hc (a := x0) (As := [.int x1]) (rest := st) (n := 1) (ci := 14) (q := (RX13, TX13, 1)) hM (lw_SU q526 q515 q425 q513 q72 q532) (by decide +kernel) rfl (Ob.dyn ha) rfl rfl hrest hR hf hd kk
  · exact s_callSU hc (a := x0) (As := [.int x1]) (rest := st) (n := 1) (ci := 15) (q := (RX14, TX14, 1)) hM (lw_SU q526 q515 q425 q513 q72 q532) (by decide +kernel) rfl (Ob.dyn ha) rfl rfl hrest hR hf hd kk
def fX10_is (N : Nat) (σ : Mem) (x0 : Nat) (x1 : Int32) : Option (Int32) :=
  if x1 = (3 : Int32) then
  (some (1 : Int32))
  else (gb (dC 8 16 σ x0).isSome ((fX7_is N σ x0 x1).bind (fun q3 => 
  some (if q3 = (0 : Int32) then (0 : Int32) else (1 : Int32)))))
set_option maxHeartbeats 4000000 in
theorem wfX10_is {Θ : ThT Mem} {g : GeoX} {N : Nat}  {ρ : Int32} (σ : Mem) (x0 : Nat) (x1 : Int32) (hc : Cx Θ (VX g) cX10_is 2 RX10 (rk 6 0 0) (some .boolean) [] false (oI ρ) σ) : Sim Θ 2 ρ σ (fX10_is N σ x0 x1) (0, 0) 0 [(0, .ref (vO (VX g) + x0)), (1, .int x1)] [] := by
  have hz := hc.z
  unfold fX10_is
  refine s_iload_n hz dX10_is_0 rfl 1 rfl ?_
  refine s_iconst (v := (3 : Int32)) hz dX10_is_1 (by decide) ?_
  refine s_icmp_eq (tgt := 13) hz dX10_is_2 rfl (fun h1 => ?_) (fun h1 => ?_)
  · refine s_iconst (v := (1 : Int32)) hz dX10_is_13 (by decide) ?_
    refine s_goto (tgt := 18) hz dX10_is_14 rfl ?_
    exact s_zret hc rfl dX10_is_18 (Nat.le_of_ble_eq_true rfl) (Nat.le_of_ble_eq_true rfl)
  · refine s_aload_n hz dX10_is_5 rfl 0 rfl ?_
    refine s_iload_n hz dX10_is_6 rfl 1 rfl ?_
    refine s_gb (fun h2 => ?_)
    refine s_bind (fun q3 e4 => ?_)
    refine kX_X10_11 hc (cfX7_is e4) ⟨(Nat.le_of_ble_eq_true rfl), (Nat.le_of_ble_eq_true rfl)⟩ ⟨(Nat.le_of_ble_eq_true rfl), (Nat.le_of_ble_eq_true rfl)⟩ (Nat.le_of_ble_eq_true rfl) dX10_is_7 h2 ?_
    refine s_dia (J := 18) (v := .int (if q3 = (0 : Int32) then (0 : Int32) else (1 : Int32))) (st := []) (fun _ hj5 => ?_) ?_
    · refine s_if_eq_ (tgt := 17) hz dX10_is_10 rfl (fun h6 => ?_) (fun h6 => ?_)
      · refine s_iconst (v := (0 : Int32)) hz dX10_is_17 (by decide) ?_
        rw [if_pos h6] at hj5
        exact hj5
      · refine s_iconst (v := (1 : Int32)) hz dX10_is_13 (by decide) ?_
        refine s_goto (tgt := 18) hz dX10_is_14 rfl ?_
        rw [if_neg h6] at hj5
        exact hj5
    exact s_zret hc (nb_ite rfl rfl) dX10_is_18 (Nat.le_of_ble_eq_true rfl) (Nat.le_of_ble_eq_true rfl)
theorem cfX10_is {g : GeoX} {N : Nat}  {σ : Mem} {x0 : Nat} {x1 : Int32} {ρ : Int32} (hF : fX10_is N σ x0 x1 = some ρ) (l : Launch) : Ct (VX g) l yX10_is cX10_is 2 (some .boolean) (rk 6 0 0) [.ref (vO (VX g) + x0), .int x1] σ (oI ρ) σ :=
  Ct.of (by decide) (Nat.le_of_ble_eq_true rfl) (fun Θ hc ls hl => wfX10_is σ x0 x1 hc hF ls hl)
theorem kX_X13_11 {γ : Type} {Θ : ThT Mem} {g : GeoX} {cc : ByteArray} {nL : Nat} {rm : Room} {ret : Option FieldType} {hs : List (Nat × Nat × Nat × Nat)} {ini : Bool} {O : Outcome} {σ' : Mem} {ρ : γ} {σ : Mem} {F : Option γ} {cs : Nat × Nat} {pc : Nat} {lv : List (Nat × Value)} {st : List Value} (hc : Cx Θ (VX g) cc nL RX13 rm ret hs ini O σ') {σ1 : Mem} {x0 : Nat} {x1 : Int32} {r : Int32} {rmc : Room} (hM : ∀ l : Launch, Ct (VX g) l yX10_is cX10_is 2 (some .boolean) rmc [.ref (vO (VX g) + x0), .int x1] σ (oI r) σ1) (hR : rmc.frames + 1 ≤ rm.frames ∧ 8 + (2 + 11) + rmc.locals ≤ rm.locals) (hf : cs.1 + rmc.cells ≤ rm.cells ∧ cs.2 + rmc.slots ≤ rm.slots) (hrest : (st.map fun v => v.category).sum ≤ 8) (hd : decode cc pc = .ok (.invokespecial 11, 3)) (hcl : (dC 8 16 σ x0).isSome = true) (kk : Sim Θ nL ρ σ1 F (cs.1 + rmc.cells, cs.2 + rmc.slots) (pc + 3) lv (.int r :: st)) : Sim Θ nL ρ σ F cs pc lv (.int x1 :: .ref (vO (VX g) + x0) :: st) := by
  obtain ⟨c, hcl⟩ := Option.isSome_iff_exists.mp hcl
  obtain ⟨fs, ha, h1, h2⟩ := dC_spec hcl
  have h3 : c = 8 ∨ c = 9 ∨ c = 10 ∨ c = 11 ∨ c = 12 ∨ c = 13 ∨ c = 14 ∨ c = 15 := by omega
  rcases h3 with rfl | rfl | rfl | rfl | rfl | rfl | rfl | rfl
  · exact s_callSU hc (a := x0) (As := [.int x1]) (rest := st) (n := 1) (ci := 8) (q := (RX7, TX7, 1)) hM (lw_SU q523 q1535 q449 q524 q75 q525) (by decide +kernel) rfl (Ob.dyn ha) rfl rfl hrest hR hf hd kk
  · exact s_callSU hc (a := x0) (As := [.int x1]) (rest := st) (n := 1) (ci := 9) (q := (RX8, TX8, 1)) hM (lw_SU q523 q1535 q449 q524 q75 q525) (by decide +kernel) rfl (Ob.dyn ha) rfl rfl hrest hR hf hd kk
  · exact s_callSU hc (a := x0) (As := [.int x1]) (rest := st) (n := 1) (ci := 10) (q := (RX9, TX9, 1)) hM (lw_SU q523 q1535 q449 q524 q75 q525) (by decide +kernel) rfl (Ob.dyn ha) rfl rfl hrest hR hf hd kk
  · exact s_callSU hc (a := x0) (As := [.int x1]) (rest := st) (n := 1) (ci := 11) (q := (RX10, TX10, 1)) hM (lw_SU q523 q1535 q449 q524 q75 q525) (by decide +kernel) rfl (Ob.dyn ha) rfl rfl hrest hR hf hd kk
  · exact s_callSU hc (a := x0) (As := [.int x1]) (rest := st) (n := 1) (ci := 12) (q := (RX11, TX11, 1)) hM (lw_SU q523 q1535 q449 q524 q75 q525) (by decide +kernel) rfl (Ob.dyn ha) rfl rfl hrest hR hf hd kk
  · exact s_callSU hc (a := x0) (As := [.int x1]) (rest := st) (n := 1) (ci := 13) (q := (RX12, TX12, 1)) hM (lw_SU q523 q1535 q449 q524 q75 q525) (by decide +kernel) rfl (Ob.dyn ha) rfl rfl hrest hR hf hd kk
  · exact s_callSU hc (a := x0) (As := [.int x1]) (rest := st) (n := 1) (ci := 14) (q := (RX13, TX13, 1)) hM (lw_SU q523 q1535 q449 q524 q75 q525) (by decide +kernel) rfl (Ob.dyn ha) rfl rfl hrest hR hf hd kk
  · exact s_callSU hc (a := x0) (As := [.int x1]) (rest := st) (n := 1) (ci := 15) (q := (RX14, TX14, 1)) hM (lw_SU q523 q1535 q449 q524 q75 q525) (by decide +kernel) rfl (Ob.dyn ha) rfl rfl hrest hR hf hd kk
def fX13_is (N : Nat) (σ : Mem) (x0 : Nat) (x1 : Int32) : Option (Int32) :=
  if x1 = (6 : Int32) then
  (some (1 : Int32))
  else (gb (dC 8 16 σ x0).isSome ((fX10_is N σ x0 x1).bind (fun q3 => 
  some (if q3 = (0 : Int32) then (0 : Int32) else (1 : Int32)))))
set_option maxHeartbeats 4000000 in
theorem wfX13_is {Θ : ThT Mem} {g : GeoX} {N : Nat}  {ρ : Int32} (σ : Mem) (x0 : Nat) (x1 : Int32) (hc : Cx Θ (VX g) cX13_is 2 RX13 (rk 7 0 0) (some .boolean) [] false (oI ρ) σ) : Sim Θ 2 ρ σ (fX13_is N σ x0 x1) (0, 0) 0 [(0, .ref (vO (VX g) + x0)), (1, .int x1)] [] := by
  have hz := hc.z
  unfold fX13_is
  refine s_iload_n hz dX13_is_0 rfl 1 rfl ?_
  refine s_bipush (v := (6 : Int32)) hz dX13_is_1 (by decide) ?_
  refine s_icmp_eq (tgt := 14) hz dX13_is_3 rfl (fun h1 => ?_) (fun h1 => ?_)
  · refine s_iconst (v := (1 : Int32)) hz dX13_is_14 (by decide) ?_
    refine s_goto (tgt := 19) hz dX13_is_15 rfl ?_
    exact s_zret hc rfl dX13_is_19 (Nat.le_of_ble_eq_true rfl) (Nat.le_of_ble_eq_true rfl)
  · refine s_aload_n hz dX13_is_6 rfl 0 rfl ?_
    refine s_iload_n hz dX13_is_7 rfl 1 rfl ?_
    refine s_gb (fun h2 => ?_)
    refine s_bind (fun q3 e4 => ?_)
    refine kX_X13_11 hc (cfX10_is e4) ⟨(Nat.le_of_ble_eq_true rfl), (Nat.le_of_ble_eq_true rfl)⟩ ⟨(Nat.le_of_ble_eq_true rfl), (Nat.le_of_ble_eq_true rfl)⟩ (Nat.le_of_ble_eq_true rfl) dX13_is_8 h2 ?_
    refine s_dia (J := 19) (v := .int (if q3 = (0 : Int32) then (0 : Int32) else (1 : Int32))) (st := []) (fun _ hj5 => ?_) ?_
    · refine s_if_eq_ (tgt := 18) hz dX13_is_11 rfl (fun h6 => ?_) (fun h6 => ?_)
      · refine s_iconst (v := (0 : Int32)) hz dX13_is_18 (by decide) ?_
        rw [if_pos h6] at hj5
        exact hj5
      · refine s_iconst (v := (1 : Int32)) hz dX13_is_14 (by decide) ?_
        refine s_goto (tgt := 19) hz dX13_is_15 rfl ?_
        rw [if_neg h6] at hj5
        exact hj5
    exact s_zret hc (nb_ite rfl rfl) dX13_is_19 (Nat.le_of_ble_eq_true rfl) (Nat.le_of_ble_eq_true rfl)
theorem cfX13_is {g : GeoX} {N : Nat}  {σ : Mem} {x0 : Nat} {x1 : Int32} {ρ : Int32} (hF : fX13_is N σ x0 x1 = some ρ) (l : Launch) : Ct (VX g) l yX13_is cX13_is 2 (some .boolean) (rk 7 0 0) [.ref (vO (VX g) + x0), .int x1] σ (oI ρ) σ :=
  Ct.of (by decide) (Nat.le_of_ble_eq_true rfl) (fun Θ hc ls hl => wfX13_is σ x0 x1 hc hF ls hl)
def dX_is (N : Nat) (σ : Mem) (x0 : Nat) (x1 : Int32) : Option (Int32) := (dC 8 16 σ x0).bind (fun c => if c = 8 then fX7_is N σ x0 x1 else if c = 9 then fX8_is N σ x0 x1 else if c = 10 then fX7_is N σ x0 x1 else if c = 11 then fX10_is N σ x0 x1 else if c = 12 then fX7_is N σ x0 x1 else if c = 13 then fX8_is N σ x0 x1 else if c = 14 then fX13_is N σ x0 x1 else if c = 15 then fX13_is N σ x0 x1 else none)
theorem rX_g_X7_20_63 {γ : Type} {Θ : ThT Mem} {g : GeoX} {cc : ByteArray} {nL : Nat} {rm : Room} {ret : Option FieldType} {hs : List (Nat × Nat × Nat × Nat)} {ini : Bool} {O : Outcome} {σ' : Mem} {ρ : γ} {σ : Mem} {F : Option γ} {cs : Nat × Nat} {pc : Nat} {lv : List (Nat × Value)} {st : List Value} (hc : Cx Θ (VX g) cc nL RX7 rm ret hs ini O σ') (hd : decode cc pc = .ok (.getfield 20, 3)) (kk : Sim Θ nL ρ σ F cs (pc + 3) lv (.int (gI σ 63 3) :: st)) : Sim Θ nL ρ σ F cs pc lv (.ref (vO (VX g) + 63) :: st) := s_get hc (C := RX3) (T := TX3) (N := 4) (ci := 3) (k := 63) in_X3 (Nat.le_of_ble_eq_true rfl) rfl rfl 3 (Nat.le_of_ble_eq_true rfl) q180 (fun _ _ _ _ h => h) rfl hd kk
def fX7_likes (N : Nat) (σ : Mem) (x0 : Nat) : Option (Int32) :=
  some (gI σ 63 3)
set_option maxHeartbeats 4000000 in
theorem wfX7_likes {Θ : ThT Mem} {g : GeoX} {N : Nat}  {ρ : Int32} (σ : Mem) (x0 : Nat) (hc : Cx Θ (VX g) cX7_likes 2 RX7 (rk 1 0 0) (some .int) [] false (oI ρ) σ) : Sim Θ 2 ρ σ (fX7_likes N σ x0) (0, 0) 0 [(0, .ref (vO (VX g) + x0)), (1, .ref (vO (VX g) + 63))] [] := by
  have hz := hc.z
  unfold fX7_likes
  refine s_aload_n hz dX7_likes_0 rfl 1 rfl ?_
  refine rX_g_X7_20_63 hc dX7_likes_1 ?_
  exact s_iret hc dX7_likes_4 (Nat.le_of_ble_eq_true rfl) (Nat.le_of_ble_eq_true rfl)
theorem cfX7_likes {g : GeoX} {N : Nat}  {σ : Mem} {x0 : Nat} {ρ : Int32} (hF : fX7_likes N σ x0 = some ρ) (l : Launch) : Ct (VX g) l yX7_likes cX7_likes 2 (some .int) (rk 1 0 0) [.ref (vO (VX g) + x0), .ref (vO (VX g) + 63)] σ (oI ρ) σ :=
  Ct.of (by decide) (Nat.le_of_ble_eq_true rfl) (fun Θ hc ls hl => wfX7_likes σ x0 hc hF ls hl)
theorem kX_X8_22 {γ : Type} {Θ : ThT Mem} {g : GeoX} {cc : ByteArray} {nL : Nat} {rm : Room} {ret : Option FieldType} {hs : List (Nat × Nat × Nat × Nat)} {ini : Bool} {O : Outcome} {σ' : Mem} {ρ : γ} {σ : Mem} {F : Option γ} {cs : Nat × Nat} {pc : Nat} {lv : List (Nat × Value)} {st : List Value} (hc : Cx Θ (VX g) cc nL RX8 rm ret hs ini O σ') {σ1 : Mem} {x0 : Nat} {r : Int32} {rmc : Room} (hM : ∀ l : Launch, Ct (VX g) l yX7_likes cX7_likes 2 (some .int) rmc [.ref (vO (VX g) + x0), .ref (vO (VX g) + 63)] σ (oI r) σ1) (hR : rmc.frames + 1 ≤ rm.frames ∧ 8 + (2 + 11) + rmc.locals ≤ rm.locals) (hf : cs.1 + rmc.cells ≤ rm.cells ∧ cs.2 + rmc.slots ≤ rm.slots) (hrest : (st.map fun v => v.category).sum ≤ 8) (hd : decode cc pc = .ok (.invokespecial 22, 3)) (hcl : (dC 8 16 σ x0).isSome = true) (kk : Sim Θ nL ρ σ1 F (cs.1 + rmc.cells, cs.2 + rmc.slots) (pc + 3) lv (.int r :: st)) : Sim Θ nL ρ σ F cs pc lv (.ref (vO (VX g) + 63) :: .ref (vO (VX g) + x0) :: st) := by
  obtain ⟨c, hcl⟩ := Option.isSome_iff_exists.mp hcl
  obtain ⟨fs, ha, h1, h2⟩ := dC_spec hcl
  have h3 : c = 8 ∨ c = 9 ∨ c = 10 ∨ c = 11 ∨ c = 12 ∨ c = 13 ∨ c = 14 ∨ c = 15 := by omega
  rcases h3 with rfl | rfl | rfl | rfl | rfl | rfl | rfl | rfl
  · exact s_callSU hc (a := x0) (As := [.ref (vO (VX g) + 63)]) (rest := st) (n := 1) (ci := 8) (q := (RX7, TX7, 1)) hM (lw_SU q633 q629 q409 q627 q72 q661) (by decide +kernel) rfl (Ob.dyn ha) rfl rfl hrest hR hf hd kk
  · exact s_callSU hc (a := x0) (As := [.ref (vO (VX g) + 63)]) (rest := st) (n := 1) (ci := 9) (q := (RX8, TX8, 1)) hM (lw_SU q633 q629 q409 q627 q72 q661) (by decide +kernel) rfl (Ob.dyn ha) rfl rfl hrest hR hf hd kk
  · exact s_callSU hc (a := x0) (As := [.ref (vO (VX g) + 63)]) (rest := st) (n := 1) (ci := 10) (q := (RX9, TX9, 1)) hM (lw_SU q633 q629 q409 q627 q72 q661) (by decide +kernel) rfl (Ob.dyn ha) rfl rfl hrest hR hf hd kk
  · exact s_callSU hc (a := x0) (As := [.ref (vO (VX g) + 63)]) (rest := st) (n := 1) (ci := 11) (q := (RX10, TX10, 1)) hM (lw_SU q633 q629 q409 q627 q72 q661) (by decide +kernel) rfl (Ob.dyn ha) rfl rfl hrest hR hf hd kk
  · exact s_callSU hc (a := x0) (As := [.ref (vO (VX g) + 63)]) (rest := st) (n := 1) (ci := 12) (q := (RX11, TX11, 1)) hM (lw_SU q633 q629 q409 q627 q72 q661) (by decide +kernel) rfl (Ob.dyn ha) rfl rfl hrest hR hf hd kk
  · exact s_callSU hc (a := x0) (As := [.ref (vO (VX g) + 63)]) (rest := st) (n := 1) (ci := 13) (q := (RX12, TX12, 1)) hM (lw_SU q633 q629 q409 q627 q72 q661) (by decide +kernel) rfl (Ob.dyn ha) rfl rfl hrest hR hf hd kk
  · exact s_callSU hc (a := x0) (As := [.ref (vO (VX g) + 63)]) (rest := st) (n := 1) (ci := 14) (q := (RX13, TX13, 1)) hM (lw_SU q633 q629 q409 q627 q72 q661) (by decide +kernel) rfl (Ob.dyn ha) rfl rfl hrest hR hf hd kk
  · exact s_callSU hc (a := x0) (As := [.ref (vO (VX g) + 63)]) (rest := st) (n := 1) (ci := 15) (q := (RX14, TX14, 1)) hM (lw_SU q633 q629 q409 q627 q72 q661) (by decide +kernel) rfl (Ob.dyn ha) rfl rfl hrest hR hf hd kk
theorem rX_g_X8_26_63 {γ : Type} {Θ : ThT Mem} {g : GeoX} {cc : ByteArray} {nL : Nat} {rm : Room} {ret : Option FieldType} {hs : List (Nat × Nat × Nat × Nat)} {ini : Bool} {O : Outcome} {σ' : Mem} {ρ : γ} {σ : Mem} {F : Option γ} {cs : Nat × Nat} {pc : Nat} {lv : List (Nat × Value)} {st : List Value} (hc : Cx Θ (VX g) cc nL RX8 rm ret hs ini O σ') (hd : decode cc pc = .ok (.getfield 26, 3)) (kk : Sim Θ nL ρ σ F cs (pc + 3) lv (.int (gI σ 63 0) :: st)) : Sim Θ nL ρ σ F cs pc lv (.ref (vO (VX g) + 63) :: st) := s_get hc (C := RX3) (T := TX3) (N := 4) (ci := 3) (k := 63) in_X3 (Nat.le_of_ble_eq_true rfl) rfl rfl 0 (Nat.le_of_ble_eq_true rfl) q174 (fun _ _ _ _ h => h) rfl hd kk
theorem kX_X8_31 {γ : Type} {Θ : ThT Mem} {g : GeoX} {cc : ByteArray} {nL : Nat} {rm : Room} {ret : Option FieldType} {hs : List (Nat × Nat × Nat × Nat)} {ini : Bool} {O : Outcome} {σ' : Mem} {ρ : γ} {σ : Mem} {F : Option γ} {cs : Nat × Nat} {pc : Nat} {lv : List (Nat × Value)} {st : List Value} (hc : Cx Θ (VX g) cc nL RX8 rm ret hs ini O σ') {σ1 : Mem} {x0 : Int32} {r : Int32} {rmc : Room} (hM : ∀ l : Launch, Ct (VX g) l yJ0_bitCount cJ0_bitCount 1 (some .int) rmc [.int x0] σ (oI r) σ1) (hR : rmc.frames + 1 ≤ rm.frames ∧ 8 + (1 + 11) + rmc.locals ≤ rm.locals) (hf : cs.1 + rmc.cells ≤ rm.cells ∧ cs.2 + rmc.slots ≤ rm.slots) (hrest : (st.map fun v => v.category).sum ≤ 8) (hd : decode cc pc = .ok (.invokestatic 31, 3)) (kk : Sim Θ nL ρ σ1 F (cs.1 + rmc.cells, cs.2 + rmc.slots) (pc + 3) lv (.int r :: st)) : Sim Θ nL ρ σ F cs pc lv (.int x0 :: st) := s_callS hc (As := [.int x0]) (rest := st) (n := 1) hM (lw_S q634 q205 q67 q206) (by decide +kernel) rfl rfl hrest hR hf hd kk
def fX8_likes (N : Nat) (σ : Mem) (x0 : Nat) : Option (Int32) :=
  gb (dC 8 16 σ x0).isSome ((fX7_likes N σ x0).bind (fun q2 => 
  (fJ0_bitCount N σ ((gI σ 63 0) &&& (63 : Int32))).bind (fun q4 => 
  some (q2 + ((2 : Int32) * q4)))))
set_option maxHeartbeats 4000000 in
theorem wfX8_likes {Θ : ThT Mem} {g : GeoX} {N : Nat}  {ρ : Int32} (σ : Mem) (x0 : Nat) (hc : Cx Θ (VX g) cX8_likes 2 RX8 (rk 2 0 0) (some .int) [] false (oI ρ) σ) : Sim Θ 2 ρ σ (fX8_likes N σ x0) (0, 0) 0 [(0, .ref (vO (VX g) + x0)), (1, .ref (vO (VX g) + 63))] [] := by
  have hz := hc.z
  unfold fX8_likes
  refine s_aload_n hz dX8_likes_0 rfl 0 rfl ?_
  refine s_aload_n hz dX8_likes_1 rfl 1 rfl ?_
  refine s_gb (fun h1 => ?_)
  refine s_bind (fun q2 e3 => ?_)
  refine kX_X8_22 hc (cfX7_likes e3) ⟨(Nat.le_of_ble_eq_true rfl), (Nat.le_of_ble_eq_true rfl)⟩ ⟨(Nat.le_of_ble_eq_true rfl), (Nat.le_of_ble_eq_true rfl)⟩ (Nat.le_of_ble_eq_true rfl) dX8_likes_2 h1 ?_
  refine s_iconst (v := (2 : Int32)) hz dX8_likes_5 (by decide) ?_
  refine s_aload_n hz dX8_likes_6 rfl 1 rfl ?_
  refine rX_g_X8_26_63 hc dX8_likes_7 ?_
  refine s_bipush (v := (63 : Int32)) hz dX8_likes_10 (by decide) ?_
  refine s_iand hz dX8_likes_12 ?_
  refine s_bind (fun q4 e5 => ?_)
  refine kX_X8_31 hc (cfJ0_bitCount e5) ⟨(Nat.le_of_ble_eq_true rfl), (Nat.le_of_ble_eq_true rfl)⟩ ⟨(Nat.le_of_ble_eq_true rfl), (Nat.le_of_ble_eq_true rfl)⟩ (Nat.le_of_ble_eq_true rfl) dX8_likes_13 ?_
  refine s_imul hz dX8_likes_16 ?_
  refine s_iadd hz dX8_likes_17 ?_
  exact s_iret hc dX8_likes_18 (Nat.le_of_ble_eq_true rfl) (Nat.le_of_ble_eq_true rfl)
theorem cfX8_likes {g : GeoX} {N : Nat}  {σ : Mem} {x0 : Nat} {ρ : Int32} (hF : fX8_likes N σ x0 = some ρ) (l : Launch) : Ct (VX g) l yX8_likes cX8_likes 2 (some .int) (rk 2 0 0) [.ref (vO (VX g) + x0), .ref (vO (VX g) + 63)] σ (oI ρ) σ :=
  Ct.of (by decide) (Nat.le_of_ble_eq_true rfl) (fun Θ hc ls hl => wfX8_likes σ x0 hc hF ls hl)
theorem kX_X9_23 {γ : Type} {Θ : ThT Mem} {g : GeoX} {cc : ByteArray} {nL : Nat} {rm : Room} {ret : Option FieldType} {hs : List (Nat × Nat × Nat × Nat)} {ini : Bool} {O : Outcome} {σ' : Mem} {ρ : γ} {σ : Mem} {F : Option γ} {cs : Nat × Nat} {pc : Nat} {lv : List (Nat × Value)} {st : List Value} (hc : Cx Θ (VX g) cc nL RX9 rm ret hs ini O σ') {σ1 : Mem} {x0 : Nat} {r : Int32} {rmc : Room} (hM : ∀ l : Launch, Ct (VX g) l yX7_likes cX7_likes 2 (some .int) rmc [.ref (vO (VX g) + x0), .ref (vO (VX g) + 63)] σ (oI r) σ1) (hR : rmc.frames + 1 ≤ rm.frames ∧ 8 + (2 + 11) + rmc.locals ≤ rm.locals) (hf : cs.1 + rmc.cells ≤ rm.cells ∧ cs.2 + rmc.slots ≤ rm.slots) (hrest : (st.map fun v => v.category).sum ≤ 8) (hd : decode cc pc = .ok (.invokespecial 23, 3)) (hcl : (dC 8 16 σ x0).isSome = true) (kk : Sim Θ nL ρ σ1 F (cs.1 + rmc.cells, cs.2 + rmc.slots) (pc + 3) lv (.int r :: st)) : Sim Θ nL ρ σ F cs pc lv (.ref (vO (VX g) + 63) :: .ref (vO (VX g) + x0) :: st) := by
  obtain ⟨c, hcl⟩ := Option.isSome_iff_exists.mp hcl
  obtain ⟨fs, ha, h1, h2⟩ := dC_spec hcl
  have h3 : c = 8 ∨ c = 9 ∨ c = 10 ∨ c = 11 ∨ c = 12 ∨ c = 13 ∨ c = 14 ∨ c = 15 := by omega
  rcases h3 with rfl | rfl | rfl | rfl | rfl | rfl | rfl | rfl
  · exact s_callSU hc (a := x0) (As := [.ref (vO (VX g) + 63)]) (rest := st) (n := 1) (ci := 8) (q := (RX7, TX7, 1)) hM (lw_SU q648 q629 q417 q627 q72 q661) (by decide +kernel) rfl (Ob.dyn ha) rfl rfl hrest hR hf hd kk
  · exact s_callSU hc (a := x0) (As := [.ref (vO (VX g) + 63)]) (rest := st) (n := 1) (ci := 9) (q := (RX8, TX8, 1)) hM (lw_SU q648 q629 q417 q627 q72 q661) (by decide +kernel) rfl (Ob.dyn ha) rfl rfl hrest hR hf hd kk
  · exact s_callSU hc (a := x0) (As := [.ref (vO (VX g) + 63)]) (rest := st) (n := 1) (ci := 10) (q := (RX9, TX9, 1)) hM (lw_SU q648 q629 q417 q627 q72 q661) (by decide +kernel) rfl (Ob.dyn ha) rfl rfl hrest hR hf hd kk
  · exact s_callSU hc (a := x0) (As := [.ref (vO (VX g) + 63)]) (rest := st) (n := 1) (ci := 11) (q := (RX10, TX10, 1)) hM (lw_SU q648 q629 q417 q627 q72 q661) (by decide +kernel) rfl (Ob.dyn ha) rfl rfl hrest hR hf hd kk
  · exact s_callSU hc (a := x0) (As := [.ref (vO (VX g) + 63)]) (rest := st) (n := 1) (ci := 12) (q := (RX11, TX11, 1)) hM (lw_SU q648 q629 q417 q627 q72 q661) (by decide +kernel) rfl (Ob.dyn ha) rfl rfl hrest hR hf hd kk
  · exact s_callSU hc (a := x0) (As := [.ref (vO (VX g) + 63)]) (rest := st) (n := 1) (ci := 13) (q := (RX12, TX12, 1)) hM (lw_SU q648 q629 q417 q627 q72 q661) (by decide +kernel) rfl (Ob.dyn ha) rfl rfl hrest hR hf hd kk
  · exact s_callSU hc (a := x0) (As := [.ref (vO (VX g) + 63)]) (rest := st) (n := 1) (ci := 14) (q := (RX13, TX13, 1)) hM (lw_SU q648 q629 q417 q627 q72 q661) (by decide +kernel) rfl (Ob.dyn ha) rfl rfl hrest hR hf hd kk
  · exact s_callSU hc (a := x0) (As := [.ref (vO (VX g) + 63)]) (rest := st) (n := 1) (ci := 15) (q := (RX14, TX14, 1)) hM (lw_SU q648 q629 q417 q627 q72 q661) (by decide +kernel) rfl (Ob.dyn ha) rfl rfl hrest hR hf hd kk
theorem rX_g_X9_18_63 {γ : Type} {Θ : ThT Mem} {g : GeoX} {cc : ByteArray} {nL : Nat} {rm : Room} {ret : Option FieldType} {hs : List (Nat × Nat × Nat × Nat)} {ini : Bool} {O : Outcome} {σ' : Mem} {ρ : γ} {σ : Mem} {F : Option γ} {cs : Nat × Nat} {pc : Nat} {lv : List (Nat × Value)} {st : List Value} (hc : Cx Θ (VX g) cc nL RX9 rm ret hs ini O σ') (hd : decode cc pc = .ok (.getfield 18, 3)) (kk : Sim Θ nL ρ σ F cs (pc + 3) lv (.int (gI σ 63 0) :: st)) : Sim Θ nL ρ σ F cs pc lv (.ref (vO (VX g) + 63) :: st) := s_get hc (C := RX3) (T := TX3) (N := 4) (ci := 3) (k := 63) in_X3 (Nat.le_of_ble_eq_true rfl) rfl rfl 0 (Nat.le_of_ble_eq_true rfl) q172 (fun _ _ _ _ h => h) rfl hd kk
def bX9_likes_47 (N : Nat) (σ : Mem) (x0 : Nat) (x2 : Int32) (r47 : (Int32 × Int32) → Option (Int32)) (y47 : Int32 × Int32) : Option (Int32) :=
  if (4 : Int32) ≤ y47.2 then
  (gb (dC 8 16 σ x0).isSome ((fX7_likes N σ x0).bind (fun q4 => 
  some (q4 + (if x2 = (0 : Int32) then (if y47.1 = (0 : Int32) then (0 : Int32) else (10 : Int32)) else (20 : Int32))))))
  else (lt_ (y47.1 ||| (if (((gI σ 63 0) >>> (y47.2 &&& 31)) &&& (273 : Int32)) = (273 : Int32) then (1 : Int32) else (0 : Int32))) (fun v9 => 
  r47 (v9, (y47.2 + (1 : Int32)))))
set_option maxHeartbeats 4000000 in
theorem wbX9_likes_47 {Θ : ThT Mem} {g : GeoX} {N : Nat}  {ρ : Int32} (σ : Mem) (hc : Cx Θ (VX g) cX9_likes 5 RX9 (rk 2 0 0) (some .int) [] false (oI ρ) σ) (x0 : Nat) (x2 : Int32) (r47 : (Int32 × Int32) → Option (Int32)) (hr47 : ∀ y : Int32 × Int32, Sim Θ 5 ρ (σ) (r47 y) (0, 0) 47 [(0, .ref (vO (VX g) + x0)), (1, .ref (vO (VX g) + 63)), (2, .int x2), (3, .int y.1), (4, .int y.2)] []) : ∀ y47 : Int32 × Int32, Sim Θ 5 ρ (σ) (bX9_likes_47 N σ x0 x2 r47 y47) (0, 0) 47 [(0, .ref (vO (VX g) + x0)), (1, .ref (vO (VX g) + 63)), (2, .int x2), (3, .int y47.1), (4, .int y47.2)] [] := by
  intro y47
  have hz := hc.z
  have hr47c : ∀ (z0_ : Int32) (z1_ : Int32), Sim Θ 5 ρ (σ) (r47 (z0_, z1_)) (0, 0) 47 [(0, .ref (vO (VX g) + x0)), (1, .ref (vO (VX g) + 63)), (2, .int x2), (3, .int z0_), (4, .int z1_)] [] := fun z0_ z1_ => hr47 (z0_, z1_)
  unfold bX9_likes_47
  refine s_iload hz dX9_likes_47 4 rfl ?_
  refine s_iconst (v := (4 : Int32)) hz dX9_likes_49 (by decide) ?_
  refine s_icmp_ge (tgt := 84) hz dX9_likes_50 rfl (fun h2 => ?_) (fun h2 => ?_)
  · refine s_aload_n hz dX9_likes_84 rfl 0 rfl ?_
    refine s_aload_n hz dX9_likes_85 rfl 1 rfl ?_
    refine s_gb (fun h3 => ?_)
    refine s_bind (fun q4 e5 => ?_)
    refine kX_X9_23 hc (cfX7_likes e5) ⟨(Nat.le_of_ble_eq_true rfl), (Nat.le_of_ble_eq_true rfl)⟩ ⟨(Nat.le_of_ble_eq_true rfl), (Nat.le_of_ble_eq_true rfl)⟩ (Nat.le_of_ble_eq_true rfl) dX9_likes_86 h3 ?_
    refine s_iload_n hz dX9_likes_89 rfl 2 rfl ?_
    refine s_dia (J := 108) (v := .int (if x2 = (0 : Int32) then (if y47.1 = (0 : Int32) then (0 : Int32) else (10 : Int32)) else (20 : Int32))) (st := [.int q4]) (fun _ hj6 => ?_) ?_
    · refine s_if_eq_ (tgt := 98) hz dX9_likes_90 rfl (fun h7 => ?_) (fun h7 => ?_)
      · refine s_iload_n hz dX9_likes_98 rfl 3 rfl ?_
        refine s_if_eq_ (tgt := 107) hz dX9_likes_99 rfl (fun h8 => ?_) (fun h8 => ?_)
        · refine s_iconst (v := (0 : Int32)) hz dX9_likes_107 (by decide) ?_
          rw [if_pos h7, if_pos h8] at hj6
          exact hj6
        · refine s_bipush (v := (10 : Int32)) hz dX9_likes_102 (by decide) ?_
          refine s_goto (tgt := 108) hz dX9_likes_104 rfl ?_
          rw [if_pos h7, if_neg h8] at hj6
          exact hj6
      · refine s_bipush (v := (20 : Int32)) hz dX9_likes_93 (by decide) ?_
        refine s_goto (tgt := 108) hz dX9_likes_95 rfl ?_
        rw [if_neg h7] at hj6
        exact hj6
    refine s_iadd hz dX9_likes_108 ?_
    exact s_iret hc dX9_likes_109 (Nat.le_of_ble_eq_true rfl) (Nat.le_of_ble_eq_true rfl)
  · refine s_iload_n hz dX9_likes_53 rfl 3 rfl ?_
    refine s_aload_n hz dX9_likes_54 rfl 1 rfl ?_
    refine rX_g_X9_18_63 hc dX9_likes_55 ?_
    refine s_iload hz dX9_likes_58 4 rfl ?_
    refine s_ishr hz dX9_likes_60 ?_
    refine s_sipush (v := (273 : Int32)) hz dX9_likes_61 (by decide) ?_
    refine s_iand hz dX9_likes_64 ?_
    refine s_sipush (v := (273 : Int32)) hz dX9_likes_65 (by decide) ?_
    refine s_dia (J := 76) (v := .int (if (((gI σ 63 0) >>> (y47.2 &&& 31)) &&& (273 : Int32)) = (273 : Int32) then (1 : Int32) else (0 : Int32))) (st := [.int y47.1]) (fun _ hj10 => ?_) ?_
    · refine s_icmp_ne_ (tgt := 75) hz dX9_likes_68 rfl (fun h11 => ?_) (fun h11 => ?_)
      · refine s_iconst (v := (0 : Int32)) hz dX9_likes_75 (by decide) ?_
        rw [if_neg h11] at hj10
        exact hj10
      · refine s_iconst (v := (1 : Int32)) hz dX9_likes_71 (by decide) ?_
        refine s_goto (tgt := 76) hz dX9_likes_72 rfl ?_
        rw [if_pos h11] at hj10
        exact hj10
    refine s_ior hz dX9_likes_76 ?_
    refine s_nmI (fun v9 => ?_)
    refine s_istore_n (lv' := [(3, .int v9), (0, .ref (vO (VX g) + x0)), (1, .ref (vO (VX g) + 63)), (2, .int x2), (4, .int y47.2)]) hz dX9_likes_77 rfl (Nat.le_of_ble_eq_true rfl) rfl ?_
    refine s_iinc (v := (1 : Int32)) (lv' := [(4, .int (y47.2 + (1 : Int32))), (3, .int v9), (0, .ref (vO (VX g) + x0)), (1, .ref (vO (VX g) + 63)), (2, .int x2)]) hz dX9_likes_78 4 rfl (by decide) (Nat.le_of_ble_eq_true rfl) rfl ?_
    refine s_goto (tgt := 47) hz dX9_likes_81 rfl ?_
    exact s_sub [2, 3, 4, 1, 0] rfl (hr47c v9 (y47.2 + (1 : Int32)))
def bX9_likes_7 (N : Nat) (σ : Mem) (x0 : Nat) (x3 : Int32) (r7 : (Int32 × Int32) → Option (Int32)) (y7 : Int32 × Int32) : Option (Int32) :=
  if (3 : Int32) ≤ y7.2 then
  (lp (bX9_likes_47 N σ x0 y7.1) N (x3, (0 : Int32)))
  else (lt_ (y7.1 ||| (if (((gI σ 63 0) >>> (((4 : Int32) * y7.2) &&& 31)) &&& (15 : Int32)) = (15 : Int32) then (1 : Int32) else (0 : Int32))) (fun v12 => 
  r7 (v12, (y7.2 + (1 : Int32)))))
set_option maxHeartbeats 4000000 in
theorem wbX9_likes_7 {Θ : ThT Mem} {g : GeoX} {N : Nat}  {ρ : Int32} (σ : Mem) (hc : Cx Θ (VX g) cX9_likes 5 RX9 (rk 2 0 0) (some .int) [] false (oI ρ) σ) (x0 : Nat) (x3 : Int32) (r7 : (Int32 × Int32) → Option (Int32)) (hr7 : ∀ y : Int32 × Int32, Sim Θ 5 ρ (σ) (r7 y) (0, 0) 7 [(0, .ref (vO (VX g) + x0)), (1, .ref (vO (VX g) + 63)), (2, .int y.1), (3, .int x3), (4, .int y.2)] []) : ∀ y7 : Int32 × Int32, Sim Θ 5 ρ (σ) (bX9_likes_7 N σ x0 x3 r7 y7) (0, 0) 7 [(0, .ref (vO (VX g) + x0)), (1, .ref (vO (VX g) + 63)), (2, .int y7.1), (3, .int x3), (4, .int y7.2)] [] := by
  intro y7
  have hz := hc.z
  have hr7c : ∀ (z0_ : Int32) (z1_ : Int32), Sim Θ 5 ρ (σ) (r7 (z0_, z1_)) (0, 0) 7 [(0, .ref (vO (VX g) + x0)), (1, .ref (vO (VX g) + 63)), (2, .int z0_), (3, .int x3), (4, .int z1_)] [] := fun z0_ z1_ => hr7 (z0_, z1_)
  unfold bX9_likes_7
  refine s_iload hz dX9_likes_7 4 rfl ?_
  refine s_iconst (v := (3 : Int32)) hz dX9_likes_9 (by decide) ?_
  refine s_icmp_ge (tgt := 44) hz dX9_likes_10 rfl (fun h1 => ?_) (fun h1 => ?_)
  · refine s_iconst (v := (0 : Int32)) hz dX9_likes_44 (by decide) ?_
    refine s_istore (lv' := [(4, .int (0 : Int32)), (0, .ref (vO (VX g) + x0)), (1, .ref (vO (VX g) + 63)), (2, .int y7.1), (3, .int x3)]) hz dX9_likes_45 (Nat.le_of_ble_eq_true rfl) rfl ?_
    exact s_sub [1, 2, 3, 4, 0] rfl (s_lp (sg := fun y : Int32 × Int32 => σ) (lvs := fun y : Int32 × Int32 => [(0, .ref (vO (VX g) + x0)), (1, .ref (vO (VX g) + 63)), (2, .int y7.1), (3, .int y.1), (4, .int y.2)]) (fun rec hrec => wbX9_likes_47 σ hc x0 y7.1  rec hrec) N (x3, (0 : Int32)))
  · refine s_iload_n hz dX9_likes_13 rfl 2 rfl ?_
    refine s_aload_n hz dX9_likes_14 rfl 1 rfl ?_
    refine rX_g_X9_18_63 hc dX9_likes_15 ?_
    refine s_iconst (v := (4 : Int32)) hz dX9_likes_18 (by decide) ?_
    refine s_iload hz dX9_likes_19 4 rfl ?_
    refine s_imul hz dX9_likes_21 ?_
    refine s_ishr hz dX9_likes_22 ?_
    refine s_bipush (v := (15 : Int32)) hz dX9_likes_23 (by decide) ?_
    refine s_iand hz dX9_likes_25 ?_
    refine s_bipush (v := (15 : Int32)) hz dX9_likes_26 (by decide) ?_
    refine s_dia (J := 36) (v := .int (if (((gI σ 63 0) >>> (((4 : Int32) * y7.2) &&& 31)) &&& (15 : Int32)) = (15 : Int32) then (1 : Int32) else (0 : Int32))) (st := [.int y7.1]) (fun _ hj13 => ?_) ?_
    · refine s_icmp_ne_ (tgt := 35) hz dX9_likes_28 rfl (fun h14 => ?_) (fun h14 => ?_)
      · refine s_iconst (v := (0 : Int32)) hz dX9_likes_35 (by decide) ?_
        rw [if_neg h14] at hj13
        exact hj13
      · refine s_iconst (v := (1 : Int32)) hz dX9_likes_31 (by decide) ?_
        refine s_goto (tgt := 36) hz dX9_likes_32 rfl ?_
        rw [if_pos h14] at hj13
        exact hj13
    refine s_ior hz dX9_likes_36 ?_
    refine s_nmI (fun v12 => ?_)
    refine s_istore_n (lv' := [(2, .int v12), (0, .ref (vO (VX g) + x0)), (1, .ref (vO (VX g) + 63)), (3, .int x3), (4, .int y7.2)]) hz dX9_likes_37 rfl (Nat.le_of_ble_eq_true rfl) rfl ?_
    refine s_iinc (v := (1 : Int32)) (lv' := [(4, .int (y7.2 + (1 : Int32))), (2, .int v12), (0, .ref (vO (VX g) + x0)), (1, .ref (vO (VX g) + 63)), (3, .int x3)]) hz dX9_likes_38 4 rfl (by decide) (Nat.le_of_ble_eq_true rfl) rfl ?_
    refine s_goto (tgt := 7) hz dX9_likes_41 rfl ?_
    exact s_sub [2, 3, 1, 4, 0] rfl (hr7c v12 (y7.2 + (1 : Int32)))
def fX9_likes (N : Nat) (σ : Mem) (x0 : Nat) : Option (Int32) :=
  lp (bX9_likes_7 N σ x0 (0 : Int32)) N ((0 : Int32), (0 : Int32))
set_option maxHeartbeats 4000000 in
theorem wfX9_likes {Θ : ThT Mem} {g : GeoX} {N : Nat}  {ρ : Int32} (σ : Mem) (x0 : Nat) (hc : Cx Θ (VX g) cX9_likes 5 RX9 (rk 2 0 0) (some .int) [] false (oI ρ) σ) : Sim Θ 5 ρ σ (fX9_likes N σ x0) (0, 0) 0 [(0, .ref (vO (VX g) + x0)), (1, .ref (vO (VX g) + 63))] [] := by
  have hz := hc.z
  unfold fX9_likes
  refine s_iconst (v := (0 : Int32)) hz dX9_likes_0 (by decide) ?_
  refine s_istore_n (lv' := [(2, .int (0 : Int32)), (0, .ref (vO (VX g) + x0)), (1, .ref (vO (VX g) + 63))]) hz dX9_likes_1 rfl (Nat.le_of_ble_eq_true rfl) rfl ?_
  refine s_iconst (v := (0 : Int32)) hz dX9_likes_2 (by decide) ?_
  refine s_istore_n (lv' := [(3, .int (0 : Int32)), (2, .int (0 : Int32)), (0, .ref (vO (VX g) + x0)), (1, .ref (vO (VX g) + 63))]) hz dX9_likes_3 rfl (Nat.le_of_ble_eq_true rfl) rfl ?_
  refine s_iconst (v := (0 : Int32)) hz dX9_likes_4 (by decide) ?_
  refine s_istore (lv' := [(4, .int (0 : Int32)), (3, .int (0 : Int32)), (2, .int (0 : Int32)), (0, .ref (vO (VX g) + x0)), (1, .ref (vO (VX g) + 63))]) hz dX9_likes_5 (Nat.le_of_ble_eq_true rfl) rfl ?_
  exact s_sub [3, 4, 2, 1, 0] rfl (s_lp (sg := fun y : Int32 × Int32 => σ) (lvs := fun y : Int32 × Int32 => [(0, .ref (vO (VX g) + x0)), (1, .ref (vO (VX g) + 63)), (2, .int y.1), (3, .int (0 : Int32)), (4, .int y.2)]) (fun rec hrec => wbX9_likes_7 σ hc x0 (0 : Int32)  rec hrec) N ((0 : Int32), (0 : Int32)))
theorem cfX9_likes {g : GeoX} {N : Nat}  {σ : Mem} {x0 : Nat} {ρ : Int32} (hF : fX9_likes N σ x0 = some ρ) (l : Launch) : Ct (VX g) l yX9_likes cX9_likes 5 (some .int) (rk 2 0 0) [.ref (vO (VX g) + x0), .ref (vO (VX g) + 63)] σ (oI ρ) σ :=
  Ct.of (by decide) (Nat.le_of_ble_eq_true rfl) (fun Θ hc ls hl => wfX9_likes σ x0 hc hF ls hl)
def fX10_likes (N : Nat) (σ : Mem) (x0 : Nat) : Option (Int32) :=
  some (1 : Int32)
set_option maxHeartbeats 4000000 in
theorem wfX10_likes {Θ : ThT Mem} {g : GeoX} {N : Nat}  {ρ : Int32} (σ : Mem) (x0 : Nat) (hc : Cx Θ (VX g) cX10_likes 2 RX10 (rk 1 0 0) (some .int) [] false (oI ρ) σ) : Sim Θ 2 ρ σ (fX10_likes N σ x0) (0, 0) 0 [(0, .ref (vO (VX g) + x0)), (1, .ref (vO (VX g) + 63))] [] := by
  have hz := hc.z
  unfold fX10_likes
  refine s_iconst (v := (1 : Int32)) hz dX10_likes_0 (by decide) ?_
  exact s_iret hc dX10_likes_1 (Nat.le_of_ble_eq_true rfl) (Nat.le_of_ble_eq_true rfl)
theorem cfX10_likes {g : GeoX} {N : Nat}  {σ : Mem} {x0 : Nat} {ρ : Int32} (hF : fX10_likes N σ x0 = some ρ) (l : Launch) : Ct (VX g) l yX10_likes cX10_likes 2 (some .int) (rk 1 0 0) [.ref (vO (VX g) + x0), .ref (vO (VX g) + 63)] σ (oI ρ) σ :=
  Ct.of (by decide) (Nat.le_of_ble_eq_true rfl) (fun Θ hc ls hl => wfX10_likes σ x0 hc hF ls hl)
theorem kX_X11_18 {γ : Type} {Θ : ThT Mem} {g : GeoX} {cc : ByteArray} {nL : Nat} {rm : Room} {ret : Option FieldType} {hs : List (Nat × Nat × Nat × Nat)} {ini : Bool} {O : Outcome} {σ' : Mem} {ρ : γ} {σ : Mem} {F : Option γ} {cs : Nat × Nat} {pc : Nat} {lv : List (Nat × Value)} {st : List Value} (hc : Cx Θ (VX g) cc nL RX11 rm ret hs ini O σ') {σ1 : Mem} {x0 : Nat} {r : Int32} {rmc : Room} (hM : ∀ l : Launch, Ct (VX g) l yX7_likes cX7_likes 2 (some .int) rmc [.ref (vO (VX g) + x0), .ref (vO (VX g) + 63)] σ (oI r) σ1) (hR : rmc.frames + 1 ≤ rm.frames ∧ 8 + (2 + 11) + rmc.locals ≤ rm.locals) (hf : cs.1 + rmc.cells ≤ rm.cells ∧ cs.2 + rmc.slots ≤ rm.slots) (hrest : (st.map fun v => v.category).sum ≤ 8) (hd : decode cc pc = .ok (.invokespecial 18, 3)) (hcl : (dC 8 16 σ x0).isSome = true) (kk : Sim Θ nL ρ σ1 F (cs.1 + rmc.cells, cs.2 + rmc.slots) (pc + 3) lv (.int r :: st)) : Sim Θ nL ρ σ F cs pc lv (.ref (vO (VX g) + 63) :: .ref (vO (VX g) + x0) :: st) := by
  obtain ⟨c, hcl⟩ := Option.isSome_iff_exists.mp hcl
  obtain ⟨fs, ha, h1, h2⟩ := dC_spec hcl
  have h3 : c = 8 ∨ c = 9 ∨ c = 10 ∨ c = 11 ∨ c = 12 ∨ c = 13 ∨ c = 14 ∨ c = 15 := by omega
  rcases h3 with rfl | rfl | rfl | rfl | rfl | rfl | rfl | rfl
  · exact s_callSU hc (a := x0) (As := [.ref (vO (VX g) + 63)]) (rest := st) (n := 1) (ci := 8) (q := (RX7, TX7, 1)) hM (lw_SU q652 q629 q433 q627 q72 q661) (by decide +kernel) rfl (Ob.dyn ha) rfl rfl hrest hR hf hd kk
  · exact s_callSU hc (a := x0) (As := [.ref (vO (VX g) + 63)]) (rest := st) (n := 1) (ci := 9) (q := (RX8, TX8, 1)) hM (lw_SU q652 q629 q433 q627 q72 q661) (by decide +kernel) rfl (Ob.dyn ha) rfl rfl hrest hR hf hd kk
  · exact s_callSU hc (a := x0) (As := [.ref (vO (VX g) + 63)]) (rest := st) (n := 1) (ci := 10) (q := (RX9, TX9, 1)) hM (lw_SU q652 q629 q433 q627 q72 q661) (by decide +kernel) rfl (Ob.dyn ha) rfl rfl hrest hR hf hd kk
  · exact s_callSU hc (a := x0) (As := [.ref (vO (VX g) + 63)]) (rest := st) (n := 1) (ci := 11) (q := (RX10, TX10, 1)) hM (lw_SU q652 q629 q433 q627 q72 q661) (by decide +kernel) rfl (Ob.dyn ha) rfl rfl hrest hR hf hd kk
  · exact s_callSU hc (a := x0) (As := [.ref (vO (VX g) + 63)]) (rest := st) (n := 1) (ci := 12) (q := (RX11, TX11, 1)) hM (lw_SU q652 q629 q433 q627 q72 q661) (by decide +kernel) rfl (Ob.dyn ha) rfl rfl hrest hR hf hd kk
  · exact s_callSU hc (a := x0) (As := [.ref (vO (VX g) + 63)]) (rest := st) (n := 1) (ci := 13) (q := (RX12, TX12, 1)) hM (lw_SU q652 q629 q433 q627 q72 q661) (by decide +kernel) rfl (Ob.dyn ha) rfl rfl hrest hR hf hd kk
  · exact s_callSU hc (a := x0) (As := [.ref (vO (VX g) + 63)]) (rest := st) (n := 1) (ci := 14) (q := (RX13, TX13, 1)) hM (lw_SU q652 q629 q433 q627 q72 q661) (by decide +kernel) rfl (Ob.dyn ha) rfl rfl hrest hR hf hd kk
  · exact s_callSU hc (a := x0) (As := [.ref (vO (VX g) + 63)]) (rest := st) (n := 1) (ci := 15) (q := (RX14, TX14, 1)) hM (lw_SU q652 q629 q433 q627 q72 q661) (by decide +kernel) rfl (Ob.dyn ha) rfl rfl hrest hR hf hd kk
theorem rX_g_X11_22_63 {γ : Type} {Θ : ThT Mem} {g : GeoX} {cc : ByteArray} {nL : Nat} {rm : Room} {ret : Option FieldType} {hs : List (Nat × Nat × Nat × Nat)} {ini : Bool} {O : Outcome} {σ' : Mem} {ρ : γ} {σ : Mem} {F : Option γ} {cs : Nat × Nat} {pc : Nat} {lv : List (Nat × Value)} {st : List Value} (hc : Cx Θ (VX g) cc nL RX11 rm ret hs ini O σ') (hd : decode cc pc = .ok (.getfield 22, 3)) (kk : Sim Θ nL ρ σ F cs (pc + 3) lv (.int (gI σ 63 0) :: st)) : Sim Θ nL ρ σ F cs pc lv (.ref (vO (VX g) + 63) :: st) := s_get hc (C := RX3) (T := TX3) (N := 4) (ci := 3) (k := 63) in_X3 (Nat.le_of_ble_eq_true rfl) rfl rfl 0 (Nat.le_of_ble_eq_true rfl) q171 (fun _ _ _ _ h => h) rfl hd kk
theorem rX_g_X11_27_63 {γ : Type} {Θ : ThT Mem} {g : GeoX} {cc : ByteArray} {nL : Nat} {rm : Room} {ret : Option FieldType} {hs : List (Nat × Nat × Nat × Nat)} {ini : Bool} {O : Outcome} {σ' : Mem} {ρ : γ} {σ : Mem} {F : Option γ} {cs : Nat × Nat} {pc : Nat} {lv : List (Nat × Value)} {st : List Value} (hc : Cx Θ (VX g) cc nL RX11 rm ret hs ini O σ') (hd : decode cc pc = .ok (.getfield 27, 3)) (kk : Sim Θ nL ρ σ F cs (pc + 3) lv (.int (gI σ 63 2) :: st)) : Sim Θ nL ρ σ F cs pc lv (.ref (vO (VX g) + 63) :: st) := s_get hc (C := RX3) (T := TX3) (N := 4) (ci := 3) (k := 63) in_X3 (Nat.le_of_ble_eq_true rfl) rfl rfl 2 (Nat.le_of_ble_eq_true rfl) q178 (fun _ _ _ _ h => h) rfl hd kk
theorem kX_X11_30 {γ : Type} {Θ : ThT Mem} {g : GeoX} {cc : ByteArray} {nL : Nat} {rm : Room} {ret : Option FieldType} {hs : List (Nat × Nat × Nat × Nat)} {ini : Bool} {O : Outcome} {σ' : Mem} {ρ : γ} {σ : Mem} {F : Option γ} {cs : Nat × Nat} {pc : Nat} {lv : List (Nat × Value)} {st : List Value} (hc : Cx Θ (VX g) cc nL RX11 rm ret hs ini O σ') {σ1 : Mem} {x0 : Int32} {r : Int32} {rmc : Room} (hM : ∀ l : Launch, Ct (VX g) l yJ0_bitCount cJ0_bitCount 1 (some .int) rmc [.int x0] σ (oI r) σ1) (hR : rmc.frames + 1 ≤ rm.frames ∧ 8 + (1 + 11) + rmc.locals ≤ rm.locals) (hf : cs.1 + rmc.cells ≤ rm.cells ∧ cs.2 + rmc.slots ≤ rm.slots) (hrest : (st.map fun v => v.category).sum ≤ 8) (hd : decode cc pc = .ok (.invokestatic 30, 3)) (kk : Sim Θ nL ρ σ1 F (cs.1 + rmc.cells, cs.2 + rmc.slots) (pc + 3) lv (.int r :: st)) : Sim Θ nL ρ σ F cs pc lv (.int x0 :: st) := s_callS hc (As := [.int x0]) (rest := st) (n := 1) hM (lw_S q653 q205 q67 q206) (by decide +kernel) rfl rfl hrest hR hf hd kk
def fX11_likes (N : Nat) (σ : Mem) (x0 : Nat) : Option (Int32) :=
  gb (dC 8 16 σ x0).isSome ((fX7_likes N σ x0).bind (fun q2 => 
  (fJ0_bitCount N σ ((gI σ 63 0) &&& (gI σ 63 2))).bind (fun q4 => 
  some (q2 + ((3 : Int32) * q4)))))
set_option maxHeartbeats 4000000 in
theorem wfX11_likes {Θ : ThT Mem} {g : GeoX} {N : Nat}  {ρ : Int32} (σ : Mem) (x0 : Nat) (hc : Cx Θ (VX g) cX11_likes 2 RX11 (rk 2 0 0) (some .int) [] false (oI ρ) σ) : Sim Θ 2 ρ σ (fX11_likes N σ x0) (0, 0) 0 [(0, .ref (vO (VX g) + x0)), (1, .ref (vO (VX g) + 63))] [] := by
  have hz := hc.z
  unfold fX11_likes
  refine s_aload_n hz dX11_likes_0 rfl 0 rfl ?_
  refine s_aload_n hz dX11_likes_1 rfl 1 rfl ?_
  refine s_gb (fun h1 => ?_)
  refine s_bind (fun q2 e3 => ?_)
  refine kX_X11_18 hc (cfX7_likes e3) ⟨(Nat.le_of_ble_eq_true rfl), (Nat.le_of_ble_eq_true rfl)⟩ ⟨(Nat.le_of_ble_eq_true rfl), (Nat.le_of_ble_eq_true rfl)⟩ (Nat.le_of_ble_eq_true rfl) dX11_likes_2 h1 ?_
  refine s_iconst (v := (3 : Int32)) hz dX11_likes_5 (by decide) ?_
  refine s_aload_n hz dX11_likes_6 rfl 1 rfl ?_
  refine rX_g_X11_22_63 hc dX11_likes_7 ?_
  refine s_aload_n hz dX11_likes_10 rfl 1 rfl ?_
  refine rX_g_X11_27_63 hc dX11_likes_11 ?_
  refine s_iand hz dX11_likes_14 ?_
  refine s_bind (fun q4 e5 => ?_)
  refine kX_X11_30 hc (cfJ0_bitCount e5) ⟨(Nat.le_of_ble_eq_true rfl), (Nat.le_of_ble_eq_true rfl)⟩ ⟨(Nat.le_of_ble_eq_true rfl), (Nat.le_of_ble_eq_true rfl)⟩ (Nat.le_of_ble_eq_true rfl) dX11_likes_15 ?_
  refine s_imul hz dX11_likes_18 ?_
  refine s_iadd hz dX11_likes_19 ?_
  exact s_iret hc dX11_likes_20 (Nat.le_of_ble_eq_true rfl) (Nat.le_of_ble_eq_true rfl)
theorem cfX11_likes {g : GeoX} {N : Nat}  {σ : Mem} {x0 : Nat} {ρ : Int32} (hF : fX11_likes N σ x0 = some ρ) (l : Launch) : Ct (VX g) l yX11_likes cX11_likes 2 (some .int) (rk 2 0 0) [.ref (vO (VX g) + x0), .ref (vO (VX g) + 63)] σ (oI ρ) σ :=
  Ct.of (by decide) (Nat.le_of_ble_eq_true rfl) (fun Θ hc ls hl => wfX11_likes σ x0 hc hF ls hl)
theorem rX_g_X12_18_63 {γ : Type} {Θ : ThT Mem} {g : GeoX} {cc : ByteArray} {nL : Nat} {rm : Room} {ret : Option FieldType} {hs : List (Nat × Nat × Nat × Nat)} {ini : Bool} {O : Outcome} {σ' : Mem} {ρ : γ} {σ : Mem} {F : Option γ} {cs : Nat × Nat} {pc : Nat} {lv : List (Nat × Value)} {st : List Value} (hc : Cx Θ (VX g) cc nL RX12 rm ret hs ini O σ') (hd : decode cc pc = .ok (.getfield 18, 3)) (kk : Sim Θ nL ρ σ F cs (pc + 3) lv (.int (gI σ 63 0) :: st)) : Sim Θ nL ρ σ F cs pc lv (.ref (vO (VX g) + 63) :: st) := s_get hc (C := RX3) (T := TX3) (N := 4) (ci := 3) (k := 63) in_X3 (Nat.le_of_ble_eq_true rfl) rfl rfl 0 (Nat.le_of_ble_eq_true rfl) q170 (fun _ _ _ _ h => h) rfl hd kk
theorem kX_X12_23 {γ : Type} {Θ : ThT Mem} {g : GeoX} {cc : ByteArray} {nL : Nat} {rm : Room} {ret : Option FieldType} {hs : List (Nat × Nat × Nat × Nat)} {ini : Bool} {O : Outcome} {σ' : Mem} {ρ : γ} {σ : Mem} {F : Option γ} {cs : Nat × Nat} {pc : Nat} {lv : List (Nat × Value)} {st : List Value} (hc : Cx Θ (VX g) cc nL RX12 rm ret hs ini O σ') {σ1 : Mem} {x0 : Int32} {x1 : Int32} {r : Int32} {rmc : Room} (hM : ∀ l : Launch, Ct (VX g) l yX0_has cX0_has 2 (some .boolean) rmc [.int x0, .int x1] σ (oI r) σ1) (hR : rmc.frames + 1 ≤ rm.frames ∧ 8 + (2 + 11) + rmc.locals ≤ rm.locals) (hf : cs.1 + rmc.cells ≤ rm.cells ∧ cs.2 + rmc.slots ≤ rm.slots) (hrest : (st.map fun v => v.category).sum ≤ 8) (hd : decode cc pc = .ok (.invokestatic 23, 3)) (kk : Sim Θ nL ρ σ1 F (cs.1 + rmc.cells, cs.2 + rmc.slots) (pc + 3) lv (.int r :: st)) : Sim Θ nL ρ σ F cs pc lv (.int x1 :: .int x0 :: st) := s_callSN hc (As := [.int x0, .int x1]) (rest := st) (n := 2) (host := "SlipWeeks") hM q556 q62 (fun U hU => hU.1 _ (List.mem_of_getElem? (i := 8) rfl)) q555 (by decide +kernel) rfl rfl hrest hR hf hd kk
theorem kX_X12_29 {γ : Type} {Θ : ThT Mem} {g : GeoX} {cc : ByteArray} {nL : Nat} {rm : Room} {ret : Option FieldType} {hs : List (Nat × Nat × Nat × Nat)} {ini : Bool} {O : Outcome} {σ' : Mem} {ρ : γ} {σ : Mem} {F : Option γ} {cs : Nat × Nat} {pc : Nat} {lv : List (Nat × Value)} {st : List Value} (hc : Cx Θ (VX g) cc nL RX12 rm ret hs ini O σ') {σ1 : Mem} {x0 : Nat} {r : Int32} {rmc : Room} (hM : ∀ l : Launch, Ct (VX g) l yX8_likes cX8_likes 2 (some .int) rmc [.ref (vO (VX g) + x0), .ref (vO (VX g) + 63)] σ (oI r) σ1) (hR : rmc.frames + 1 ≤ rm.frames ∧ 8 + (2 + 11) + rmc.locals ≤ rm.locals) (hf : cs.1 + rmc.cells ≤ rm.cells ∧ cs.2 + rmc.slots ≤ rm.slots) (hrest : (st.map fun v => v.category).sum ≤ 8) (hd : decode cc pc = .ok (.invokespecial 29, 3)) (hcl : (dC 8 16 σ x0).isSome = true) (kk : Sim Θ nL ρ σ1 F (cs.1 + rmc.cells, cs.2 + rmc.slots) (pc + 3) lv (.int r :: st)) : Sim Θ nL ρ σ F cs pc lv (.ref (vO (VX g) + 63) :: .ref (vO (VX g) + x0) :: st) := by
  obtain ⟨c, hcl⟩ := Option.isSome_iff_exists.mp hcl
  obtain ⟨fs, ha, h1, h2⟩ := dC_spec hcl
  have h3 : c = 8 ∨ c = 9 ∨ c = 10 ∨ c = 11 ∨ c = 12 ∨ c = 13 ∨ c = 14 ∨ c = 15 := by omega
  rcases h3 with rfl | rfl | rfl | rfl | rfl | rfl | rfl | rfl
  · exact s_callSU hc (a := x0) (As := [.ref (vO (VX g) + 63)]) (rest := st) (n := 1) (ci := 8) (q := (RX7, TX7, 1)) hM (lw_SU q658 q1539 q441 q631 q73 q632) (by decide +kernel) rfl (Ob.dyn ha) rfl rfl hrest hR hf hd kk
  · exact s_callSU hc (a := x0) (As := [.ref (vO (VX g) + 63)]) (rest := st) (n := 1) (ci := 9) (q := (RX8, TX8, 1)) hM (lw_SU q658 q1539 q441 q631 q73 q632) (by decide +kernel) rfl (Ob.dyn ha) rfl rfl hrest hR hf hd kk
  · exact s_callSU hc (a := x0) (As := [.ref (vO (VX g) + 63)]) (rest := st) (n := 1) (ci := 10) (q := (RX9, TX9, 1)) hM (lw_SU q658 q1539 q441 q631 q73 q632) (by decide +kernel) rfl (Ob.dyn ha) rfl rfl hrest hR hf hd kk
  · exact s_callSU hc (a := x0) (As := [.ref (vO (VX g) + 63)]) (rest := st) (n := 1) (ci := 11) (q := (RX10, TX10, 1)) hM (lw_SU q658 q1539 q441 q631 q73 q632) (by decide +kernel) rfl (Ob.dyn ha) rfl rfl hrest hR hf hd kk
  · exact s_callSU hc (a := x0) (As := [.ref (vO (VX g) + 63)]) (rest := st) (n := 1) (ci := 12) (q := (RX11, TX11, 1)) hM (lw_SU q658 q1539 q441 q631 q73 q632) (by decide +kernel) rfl (Ob.dyn ha) rfl rfl hrest hR hf hd kk
  · exact s_callSU hc (a := x0) (As := [.ref (vO (VX g) + 63)]) (rest := st) (n := 1) (ci := 13) (q := (RX12, TX12, 1)) hM (lw_SU q658 q1539 q441 q631 q73 q632) (by decide +kernel) rfl (Ob.dyn ha) rfl rfl hrest hR hf hd kk
  · exact s_callSU hc (a := x0) (As := [.ref (vO (VX g) + 63)]) (rest := st) (n := 1) (ci := 14) (q := (RX13, TX13, 1)) hM (lw_SU q658 q1539 q441 q631 q73 q632) (by decide +kernel) rfl (Ob.dyn ha) rfl rfl hrest hR hf hd kk
  · exact s_callSU hc (a := x0) (As := [.ref (vO (VX g) + 63)]) (rest := st) (n := 1) (ci := 15) (q := (RX14, TX14, 1)) hM (lw_SU q658 q1539 q441 q631 q73 q632) (by decide +kernel) rfl (Ob.dyn ha) rfl rfl hrest hR hf hd kk
def fX12_likes (N : Nat) (σ : Mem) (x0 : Nat) : Option (Int32) :=
  (fX0_has N σ (gI σ 63 0) (7 : Int32)).bind (fun q1 => 
  if q1 = (0 : Int32) then
  (gb (dC 8 16 σ x0).isSome ((fX8_likes N σ x0).bind (fun q5 => 
  some q5)))
  else (gb (dC 8 16 σ x0).isSome ((fX8_likes N σ x0).bind (fun q8 => 
  some ((2 : Int32) * q8)))))
set_option maxHeartbeats 4000000 in
theorem wfX12_likes {Θ : ThT Mem} {g : GeoX} {N : Nat}  {ρ : Int32} (σ : Mem) (x0 : Nat) (hc : Cx Θ (VX g) cX12_likes 2 RX12 (rk 3 0 0) (some .int) [] false (oI ρ) σ) : Sim Θ 2 ρ σ (fX12_likes N σ x0) (0, 0) 0 [(0, .ref (vO (VX g) + x0)), (1, .ref (vO (VX g) + 63))] [] := by
  have hz := hc.z
  unfold fX12_likes
  refine s_aload_n hz dX12_likes_0 rfl 1 rfl ?_
  refine rX_g_X12_18_63 hc dX12_likes_1 ?_
  refine s_bipush (v := (7 : Int32)) hz dX12_likes_4 (by decide) ?_
  refine s_bind (fun q1 e2 => ?_)
  refine kX_X12_23 hc (cfX0_has e2) ⟨(Nat.le_of_ble_eq_true rfl), (Nat.le_of_ble_eq_true rfl)⟩ ⟨(Nat.le_of_ble_eq_true rfl), (Nat.le_of_ble_eq_true rfl)⟩ (Nat.le_of_ble_eq_true rfl) dX12_likes_6 ?_
  refine s_if_eq (tgt := 22) hz dX12_likes_9 rfl (fun h3 => ?_) (fun h3 => ?_)
  · refine s_aload_n hz dX12_likes_22 rfl 0 rfl ?_
    refine s_aload_n hz dX12_likes_23 rfl 1 rfl ?_
    refine s_gb (fun h4 => ?_)
    refine s_bind (fun q5 e6 => ?_)
    refine kX_X12_29 hc (cfX8_likes e6) ⟨(Nat.le_of_ble_eq_true rfl), (Nat.le_of_ble_eq_true rfl)⟩ ⟨(Nat.le_of_ble_eq_true rfl), (Nat.le_of_ble_eq_true rfl)⟩ (Nat.le_of_ble_eq_true rfl) dX12_likes_24 h4 ?_
    exact s_iret hc dX12_likes_27 (Nat.le_of_ble_eq_true rfl) (Nat.le_of_ble_eq_true rfl)
  · refine s_iconst (v := (2 : Int32)) hz dX12_likes_12 (by decide) ?_
    refine s_aload_n hz dX12_likes_13 rfl 0 rfl ?_
    refine s_aload_n hz dX12_likes_14 rfl 1 rfl ?_
    refine s_gb (fun h7 => ?_)
    refine s_bind (fun q8 e9 => ?_)
    refine kX_X12_29 hc (cfX8_likes e9) ⟨(Nat.le_of_ble_eq_true rfl), (Nat.le_of_ble_eq_true rfl)⟩ ⟨(Nat.le_of_ble_eq_true rfl), (Nat.le_of_ble_eq_true rfl)⟩ (Nat.le_of_ble_eq_true rfl) dX12_likes_15 h7 ?_
    refine s_imul hz dX12_likes_18 ?_
    refine s_goto (tgt := 27) hz dX12_likes_19 rfl ?_
    exact s_iret hc dX12_likes_27 (Nat.le_of_ble_eq_true rfl) (Nat.le_of_ble_eq_true rfl)
theorem cfX12_likes {g : GeoX} {N : Nat}  {σ : Mem} {x0 : Nat} {ρ : Int32} (hF : fX12_likes N σ x0 = some ρ) (l : Launch) : Ct (VX g) l yX12_likes cX12_likes 2 (some .int) (rk 3 0 0) [.ref (vO (VX g) + x0), .ref (vO (VX g) + 63)] σ (oI ρ) σ :=
  Ct.of (by decide) (Nat.le_of_ble_eq_true rfl) (fun Θ hc ls hl => wfX12_likes σ x0 hc hF ls hl)
theorem kX_X13_22 {γ : Type} {Θ : ThT Mem} {g : GeoX} {cc : ByteArray} {nL : Nat} {rm : Room} {ret : Option FieldType} {hs : List (Nat × Nat × Nat × Nat)} {ini : Bool} {O : Outcome} {σ' : Mem} {ρ : γ} {σ : Mem} {F : Option γ} {cs : Nat × Nat} {pc : Nat} {lv : List (Nat × Value)} {st : List Value} (hc : Cx Θ (VX g) cc nL RX13 rm ret hs ini O σ') {σ1 : Mem} {x0 : Nat} {r : Int32} {rmc : Room} (hM : ∀ l : Launch, Ct (VX g) l yX10_likes cX10_likes 2 (some .int) rmc [.ref (vO (VX g) + x0), .ref (vO (VX g) + 63)] σ (oI r) σ1) (hR : rmc.frames + 1 ≤ rm.frames ∧ 8 + (2 + 11) + rmc.locals ≤ rm.locals) (hf : cs.1 + rmc.cells ≤ rm.cells ∧ cs.2 + rmc.slots ≤ rm.slots) (hrest : (st.map fun v => v.category).sum ≤ 8) (hd : decode cc pc = .ok (.invokespecial 22, 3)) (hcl : (dC 8 16 σ x0).isSome = true) (kk : Sim Θ nL ρ σ1 F (cs.1 + rmc.cells, cs.2 + rmc.slots) (pc + 3) lv (.int r :: st)) : Sim Θ nL ρ σ F cs pc lv (.ref (vO (VX g) + 63) :: .ref (vO (VX g) + x0) :: st) := by
  obtain ⟨c, hcl⟩ := Option.isSome_iff_exists.mp hcl
  obtain ⟨fs, ha, h1, h2⟩ := dC_spec hcl
  have h3 : c = 8 ∨ c = 9 ∨ c = 10 ∨ c = 11 ∨ c = 12 ∨ c = 13 ∨ c = 14 ∨ c = 15 := by omega
  rcases h3 with rfl | rfl | rfl | rfl | rfl | rfl | rfl | rfl
  · exact s_callSU hc (a := x0) (As := [.ref (vO (VX g) + 63)]) (rest := st) (n := 1) (ci := 8) (q := (RX7, TX7, 1)) hM (lw_SU q641 q1538 q449 q642 q75 q643) (by decide +kernel) rfl (Ob.dyn ha) rfl rfl hrest hR hf hd kk
  · exact s_callSU hc (a := x0) (As := [.ref (vO (VX g) + 63)]) (rest := st) (n := 1) (ci := 9) (q := (RX8, TX8, 1)) hM (lw_SU q641 q1538 q449 q642 q75 q643) (by decide +kernel) rfl (Ob.dyn ha) rfl rfl hrest hR hf hd kk
  · exact s_callSU hc (a := x0) (As := [.ref (vO (VX g) + 63)]) (rest := st) (n := 1) (ci := 10) (q := (RX9, TX9, 1)) hM (lw_SU q641 q1538 q449 q642 q75 q643) (by decide +kernel) rfl (Ob.dyn ha) rfl rfl hrest hR hf hd kk
  · exact s_callSU hc (a := x0) (As := [.ref (vO (VX g) + 63)]) (rest := st) (n := 1) (ci := 11) (q := (RX10, TX10, 1)) hM (lw_SU q641 q1538 q449 q642 q75 q643) (by decide +kernel) rfl (Ob.dyn ha) rfl rfl hrest hR hf hd kk
  · exact s_callSU hc (a := x0) (As := [.ref (vO (VX g) + 63)]) (rest := st) (n := 1) (ci := 12) (q := (RX11, TX11, 1)) hM (lw_SU q641 q1538 q449 q642 q75 q643) (by decide +kernel) rfl (Ob.dyn ha) rfl rfl hrest hR hf hd kk
  · exact s_callSU hc (a := x0) (As := [.ref (vO (VX g) + 63)]) (rest := st) (n := 1) (ci := 13) (q := (RX12, TX12, 1)) hM (lw_SU q641 q1538 q449 q642 q75 q643) (by decide +kernel) rfl (Ob.dyn ha) rfl rfl hrest hR hf hd kk
  · exact s_callSU hc (a := x0) (As := [.ref (vO (VX g) + 63)]) (rest := st) (n := 1) (ci := 14) (q := (RX13, TX13, 1)) hM (lw_SU q641 q1538 q449 q642 q75 q643) (by decide +kernel) rfl (Ob.dyn ha) rfl rfl hrest hR hf hd kk
  · exact s_callSU hc (a := x0) (As := [.ref (vO (VX g) + 63)]) (rest := st) (n := 1) (ci := 15) (q := (RX14, TX14, 1)) hM (lw_SU q641 q1538 q449 q642 q75 q643) (by decide +kernel) rfl (Ob.dyn ha) rfl rfl hrest hR hf hd kk
theorem rX_g_X13_26_63 {γ : Type} {Θ : ThT Mem} {g : GeoX} {cc : ByteArray} {nL : Nat} {rm : Room} {ret : Option FieldType} {hs : List (Nat × Nat × Nat × Nat)} {ini : Bool} {O : Outcome} {σ' : Mem} {ρ : γ} {σ : Mem} {F : Option γ} {cs : Nat × Nat} {pc : Nat} {lv : List (Nat × Value)} {st : List Value} (hc : Cx Θ (VX g) cc nL RX13 rm ret hs ini O σ') (hd : decode cc pc = .ok (.getfield 26, 3)) (kk : Sim Θ nL ρ σ F cs (pc + 3) lv (.int (gI σ 63 0) :: st)) : Sim Θ nL ρ σ F cs pc lv (.ref (vO (VX g) + 63) :: st) := s_get hc (C := RX3) (T := TX3) (N := 4) (ci := 3) (k := 63) in_X3 (Nat.le_of_ble_eq_true rfl) rfl rfl 0 (Nat.le_of_ble_eq_true rfl) q173 (fun _ _ _ _ h => h) rfl hd kk
theorem kX_X13_31 {γ : Type} {Θ : ThT Mem} {g : GeoX} {cc : ByteArray} {nL : Nat} {rm : Room} {ret : Option FieldType} {hs : List (Nat × Nat × Nat × Nat)} {ini : Bool} {O : Outcome} {σ' : Mem} {ρ : γ} {σ : Mem} {F : Option γ} {cs : Nat × Nat} {pc : Nat} {lv : List (Nat × Value)} {st : List Value} (hc : Cx Θ (VX g) cc nL RX13 rm ret hs ini O σ') {σ1 : Mem} {x0 : Int32} {r : Int32} {rmc : Room} (hM : ∀ l : Launch, Ct (VX g) l yJ0_bitCount cJ0_bitCount 1 (some .int) rmc [.int x0] σ (oI r) σ1) (hR : rmc.frames + 1 ≤ rm.frames ∧ 8 + (1 + 11) + rmc.locals ≤ rm.locals) (hf : cs.1 + rmc.cells ≤ rm.cells ∧ cs.2 + rmc.slots ≤ rm.slots) (hrest : (st.map fun v => v.category).sum ≤ 8) (hd : decode cc pc = .ok (.invokestatic 31, 3)) (kk : Sim Θ nL ρ σ1 F (cs.1 + rmc.cells, cs.2 + rmc.slots) (pc + 3) lv (.int r :: st)) : Sim Θ nL ρ σ F cs pc lv (.int x0 :: st) := s_callS hc (As := [.int x0]) (rest := st) (n := 1) hM (lw_S q644 q205 q67 q206) (by decide +kernel) rfl rfl hrest hR hf hd kk
def fX13_likes (N : Nat) (σ : Mem) (x0 : Nat) : Option (Int32) :=
  gb (dC 8 16 σ x0).isSome ((fX10_likes N σ x0).bind (fun q2 => 
  (fJ0_bitCount N σ ((gI σ 63 0) >>> ((8 : Int32) &&& 31))).bind (fun q4 => 
  some (q2 + q4))))
set_option maxHeartbeats 4000000 in
theorem wfX13_likes {Θ : ThT Mem} {g : GeoX} {N : Nat}  {ρ : Int32} (σ : Mem) (x0 : Nat) (hc : Cx Θ (VX g) cX13_likes 2 RX13 (rk 2 0 0) (some .int) [] false (oI ρ) σ) : Sim Θ 2 ρ σ (fX13_likes N σ x0) (0, 0) 0 [(0, .ref (vO (VX g) + x0)), (1, .ref (vO (VX g) + 63))] [] := by
  have hz := hc.z
  unfold fX13_likes
  refine s_aload_n hz dX13_likes_0 rfl 0 rfl ?_
  refine s_aload_n hz dX13_likes_1 rfl 1 rfl ?_
  refine s_gb (fun h1 => ?_)
  refine s_bind (fun q2 e3 => ?_)
  refine kX_X13_22 hc (cfX10_likes e3) ⟨(Nat.le_of_ble_eq_true rfl), (Nat.le_of_ble_eq_true rfl)⟩ ⟨(Nat.le_of_ble_eq_true rfl), (Nat.le_of_ble_eq_true rfl)⟩ (Nat.le_of_ble_eq_true rfl) dX13_likes_2 h1 ?_
  refine s_aload_n hz dX13_likes_5 rfl 1 rfl ?_
  refine rX_g_X13_26_63 hc dX13_likes_6 ?_
  refine s_bipush (v := (8 : Int32)) hz dX13_likes_9 (by decide) ?_
  refine s_ishr hz dX13_likes_11 ?_
  refine s_bind (fun q4 e5 => ?_)
  refine kX_X13_31 hc (cfJ0_bitCount e5) ⟨(Nat.le_of_ble_eq_true rfl), (Nat.le_of_ble_eq_true rfl)⟩ ⟨(Nat.le_of_ble_eq_true rfl), (Nat.le_of_ble_eq_true rfl)⟩ (Nat.le_of_ble_eq_true rfl) dX13_likes_12 ?_
  refine s_iadd hz dX13_likes_15 ?_
  exact s_iret hc dX13_likes_16 (Nat.le_of_ble_eq_true rfl) (Nat.le_of_ble_eq_true rfl)
theorem cfX13_likes {g : GeoX} {N : Nat}  {σ : Mem} {x0 : Nat} {ρ : Int32} (hF : fX13_likes N σ x0 = some ρ) (l : Launch) : Ct (VX g) l yX13_likes cX13_likes 2 (some .int) (rk 2 0 0) [.ref (vO (VX g) + x0), .ref (vO (VX g) + 63)] σ (oI ρ) σ :=
  Ct.of (by decide) (Nat.le_of_ble_eq_true rfl) (fun Θ hc ls hl => wfX13_likes σ x0 hc hF ls hl)
theorem rX_g_X14_18_63 {γ : Type} {Θ : ThT Mem} {g : GeoX} {cc : ByteArray} {nL : Nat} {rm : Room} {ret : Option FieldType} {hs : List (Nat × Nat × Nat × Nat)} {ini : Bool} {O : Outcome} {σ' : Mem} {ρ : γ} {σ : Mem} {F : Option γ} {cs : Nat × Nat} {pc : Nat} {lv : List (Nat × Value)} {st : List Value} (hc : Cx Θ (VX g) cc nL RX14 rm ret hs ini O σ') (hd : decode cc pc = .ok (.getfield 18, 3)) (kk : Sim Θ nL ρ σ F cs (pc + 3) lv (.int (gI σ 63 1) :: st)) : Sim Θ nL ρ σ F cs pc lv (.ref (vO (VX g) + 63) :: st) := s_get hc (C := RX3) (T := TX3) (N := 4) (ci := 3) (k := 63) in_X3 (Nat.le_of_ble_eq_true rfl) rfl rfl 1 (Nat.le_of_ble_eq_true rfl) q176 (fun _ _ _ _ h => h) rfl hd kk
theorem rX_d_X14_13 {γ : Type} {Θ : ThT Mem} {g : GeoX} {cc : ByteArray} {nL : Nat} {rm : Room} {ret : Option FieldType} {hs : List (Nat × Nat × Nat × Nat)} {ini : Bool} {O : Outcome} {σ' : Mem} {ρ : γ} {σ : Mem} {F : Option γ} {cs : Nat × Nat} {pc : Nat} {lv : List (Nat × Value)} {st : List Value} (hc : Cx Θ (VX g) cc nL RX14 rm ret hs ini O σ') {a : Nat} {v : Int32} (h : dI 8 16 σ a 0 = some v) (hd : decode cc pc = .ok (.getfield 13, 3)) (kk : Sim Θ nL ρ σ F cs (pc + 3) lv (.int v :: st)) : Sim Θ nL ρ σ F cs pc lv (.ref (vO (VX g) + a) :: st) := by
  obtain ⟨c, fs, ha, h1, h2, hv⟩ := dI_spec h
  have h3 : c = 8 ∨ c = 9 ∨ c = 10 ∨ c = 11 ∨ c = 12 ∨ c = 13 ∨ c = 14 ∨ c = 15 := by omega
  rcases h3 with rfl | rfl | rfl | rfl | rfl | rfl | rfl | rfl
  · exact s_dget hc (C := RX7) (T := TX7) (N := 1) ha in_X7 rfl 0 (Nat.le_of_ble_eq_true rfl) q384 (fun s args hts x h => u_same (hts _ q385) x h) hv hd kk
  · exact s_dget hc (C := RX8) (T := TX8) (N := 1) ha in_X8 rfl 0 (Nat.le_of_ble_eq_true rfl) q384 (fun s args hts x h => u_same (hts _ q385) x h) hv hd kk
  · exact s_dget hc (C := RX9) (T := TX9) (N := 1) ha in_X9 rfl 0 (Nat.le_of_ble_eq_true rfl) q384 (fun s args hts x h => u_same (hts _ q385) x h) hv hd kk
  · exact s_dget hc (C := RX10) (T := TX10) (N := 1) ha in_X10 rfl 0 (Nat.le_of_ble_eq_true rfl) q384 (fun s args hts x h => u_same (hts _ q385) x h) hv hd kk
  · exact s_dget hc (C := RX11) (T := TX11) (N := 1) ha in_X11 rfl 0 (Nat.le_of_ble_eq_true rfl) q384 (fun s args hts x h => u_same (hts _ q385) x h) hv hd kk
  · exact s_dget hc (C := RX12) (T := TX12) (N := 1) ha in_X12 rfl 0 (Nat.le_of_ble_eq_true rfl) q384 (fun s args hts x h => u_same (hts _ q385) x h) hv hd kk
  · exact s_dget hc (C := RX13) (T := TX13) (N := 1) ha in_X13 rfl 0 (Nat.le_of_ble_eq_true rfl) q384 (fun s args hts x h => u_same (hts _ q385) x h) hv hd kk
  · exact s_dget hc (C := RX14) (T := TX14) (N := 1) ha in_X14 rfl 0 (Nat.le_of_ble_eq_true rfl) q384 (fun s args hts x h => u_same (hts _ q385) x h) hv hd kk
theorem kX_X14_23 {γ : Type} {Θ : ThT Mem} {g : GeoX} {cc : ByteArray} {nL : Nat} {rm : Room} {ret : Option FieldType} {hs : List (Nat × Nat × Nat × Nat)} {ini : Bool} {O : Outcome} {σ' : Mem} {ρ : γ} {σ : Mem} {F : Option γ} {cs : Nat × Nat} {pc : Nat} {lv : List (Nat × Value)} {st : List Value} (hc : Cx Θ (VX g) cc nL RX14 rm ret hs ini O σ') {σ1 : Mem} {x0 : Nat} {r : Int32} {rmc : Room} (hM : ∀ l : Launch, Ct (VX g) l yX13_likes cX13_likes 2 (some .int) rmc [.ref (vO (VX g) + x0), .ref (vO (VX g) + 63)] σ (oI r) σ1) (hR : rmc.frames + 1 ≤ rm.frames ∧ 8 + (2 + 11) + rmc.locals ≤ rm.locals) (hf : cs.1 + rmc.cells ≤ rm.cells ∧ cs.2 + rmc.slots ≤ rm.slots) (hrest : (st.map fun v => v.category).sum ≤ 8) (hd : decode cc pc = .ok (.invokespecial 23, 3)) (hcl : (dC 8 16 σ x0).isSome = true) (kk : Sim Θ nL ρ σ1 F (cs.1 + rmc.cells, cs.2 + rmc.slots) (pc + 3) lv (.int r :: st)) : Sim Θ nL ρ σ F cs pc lv (.ref (vO (VX g) + 63) :: .ref (vO (VX g) + x0) :: st) := by
  obtain ⟨c, hcl⟩ := Option.isSome_iff_exists.mp hcl
  obtain ⟨fs, ha, h1, h2⟩ := dC_spec hcl
  have h3 : c = 8 ∨ c = 9 ∨ c = 10 ∨ c = 11 ∨ c = 12 ∨ c = 13 ∨ c = 14 ∨ c = 15 := by omega
  rcases h3 with rfl | rfl | rfl | rfl | rfl | rfl | rfl | rfl
  · exact s_callSU hc (a := x0) (As := [.ref (vO (VX g) + 63)]) (rest := st) (n := 1) (ci := 8) (q := (RX7, TX7, 1)) hM (lw_SU q638 q1537 q457 q639 q78 q640) (by decide +kernel) rfl (Ob.dyn ha) rfl rfl hrest hR hf hd kk
  · exact s_callSU hc (a := x0) (As := [.ref (vO (VX g) + 63)]) (rest := st) (n := 1) (ci := 9) (q := (RX8, TX8, 1)) hM (lw_SU q638 q1537 q457 q639 q78 q640) (by decide +kernel) rfl (Ob.dyn ha) rfl rfl hrest hR hf hd kk
  · exact s_callSU hc (a := x0) (As := [.ref (vO (VX g) + 63)]) (rest := st) (n := 1) (ci := 10) (q := (RX9, TX9, 1)) hM (lw_SU q638 q1537 q457 q639 q78 q640) (by decide +kernel) rfl (Ob.dyn ha) rfl rfl hrest hR hf hd kk
  · exact s_callSU hc (a := x0) (As := [.ref (vO (VX g) + 63)]) (rest := st) (n := 1) (ci := 11) (q := (RX10, TX10, 1)) hM (lw_SU q638 q1537 q457 q639 q78 q640) (by decide +kernel) rfl (Ob.dyn ha) rfl rfl hrest hR hf hd kk
  · exact s_callSU hc (a := x0) (As := [.ref (vO (VX g) + 63)]) (rest := st) (n := 1) (ci := 12) (q := (RX11, TX11, 1)) hM (lw_SU q638 q1537 q457 q639 q78 q640) (by decide +kernel) rfl (Ob.dyn ha) rfl rfl hrest hR hf hd kk
  · exact s_callSU hc (a := x0) (As := [.ref (vO (VX g) + 63)]) (rest := st) (n := 1) (ci := 13) (q := (RX12, TX12, 1)) hM (lw_SU q638 q1537 q457 q639 q78 q640) (by decide +kernel) rfl (Ob.dyn ha) rfl rfl hrest hR hf hd kk
  · exact s_callSU hc (a := x0) (As := [.ref (vO (VX g) + 63)]) (rest := st) (n := 1) (ci := 14) (q := (RX13, TX13, 1)) hM (lw_SU q638 q1537 q457 q639 q78 q640) (by decide +kernel) rfl (Ob.dyn ha) rfl rfl hrest hR hf hd kk
  · exact s_callSU hc (a := x0) (As := [.ref (vO (VX g) + 63)]) (rest := st) (n := 1) (ci := 15) (q := (RX14, TX14, 1)) hM (lw_SU q638 q1537 q457 q639 q78 q640) (by decide +kernel) rfl (Ob.dyn ha) rfl rfl hrest hR hf hd kk
def fX14_likes (N : Nat) (σ : Mem) (x0 : Nat) : Option (Int32) :=
  (dI 8 16 σ x0 0).bind (fun v1 => 
  if v1 ≤ (gI σ 63 1) then
  (some (0 : Int32))
  else (gb (dC 8 16 σ x0).isSome ((fX13_likes N σ x0).bind (fun q5 => 
  some q5))))
set_option maxHeartbeats 4000000 in
theorem wfX14_likes {Θ : ThT Mem} {g : GeoX} {N : Nat}  {ρ : Int32} (σ : Mem) (x0 : Nat) (hc : Cx Θ (VX g) cX14_likes 2 RX14 (rk 3 0 0) (some .int) [] false (oI ρ) σ) : Sim Θ 2 ρ σ (fX14_likes N σ x0) (0, 0) 0 [(0, .ref (vO (VX g) + x0)), (1, .ref (vO (VX g) + 63))] [] := by
  have hz := hc.z
  unfold fX14_likes
  refine s_aload_n hz dX14_likes_0 rfl 1 rfl ?_
  refine rX_g_X14_18_63 hc dX14_likes_1 ?_
  refine s_aload_n hz dX14_likes_4 rfl 0 rfl ?_
  refine s_bind (fun v1 e2 => ?_)
  refine rX_d_X14_13 hc e2 dX14_likes_5 ?_
  refine s_icmp_ge (tgt := 19) hz dX14_likes_8 rfl (fun h3 => ?_) (fun h3 => ?_)
  · refine s_iconst (v := (0 : Int32)) hz dX14_likes_19 (by decide) ?_
    exact s_iret hc dX14_likes_20 (Nat.le_of_ble_eq_true rfl) (Nat.le_of_ble_eq_true rfl)
  · refine s_aload_n hz dX14_likes_11 rfl 0 rfl ?_
    refine s_aload_n hz dX14_likes_12 rfl 1 rfl ?_
    refine s_gb (fun h4 => ?_)
    refine s_bind (fun q5 e6 => ?_)
    refine kX_X14_23 hc (cfX13_likes e6) ⟨(Nat.le_of_ble_eq_true rfl), (Nat.le_of_ble_eq_true rfl)⟩ ⟨(Nat.le_of_ble_eq_true rfl), (Nat.le_of_ble_eq_true rfl)⟩ (Nat.le_of_ble_eq_true rfl) dX14_likes_13 h4 ?_
    refine s_goto (tgt := 20) hz dX14_likes_16 rfl ?_
    exact s_iret hc dX14_likes_20 (Nat.le_of_ble_eq_true rfl) (Nat.le_of_ble_eq_true rfl)
theorem cfX14_likes {g : GeoX} {N : Nat}  {σ : Mem} {x0 : Nat} {ρ : Int32} (hF : fX14_likes N σ x0 = some ρ) (l : Launch) : Ct (VX g) l yX14_likes cX14_likes 2 (some .int) (rk 3 0 0) [.ref (vO (VX g) + x0), .ref (vO (VX g) + 63)] σ (oI ρ) σ :=
  Ct.of (by decide) (Nat.le_of_ble_eq_true rfl) (fun Θ hc ls hl => wfX14_likes σ x0 hc hF ls hl)
def dX_likes (N : Nat) (σ : Mem) (x0 : Nat) : Option (Int32) := (dC 8 16 σ x0).bind (fun c => if c = 8 then fX7_likes N σ x0 else if c = 9 then fX8_likes N σ x0 else if c = 10 then fX9_likes N σ x0 else if c = 11 then fX10_likes N σ x0 else if c = 12 then fX11_likes N σ x0 else if c = 13 then fX12_likes N σ x0 else if c = 14 then fX13_likes N σ x0 else if c = 15 then fX14_likes N σ x0 else none)
theorem rX_d_X7_7 {γ : Type} {Θ : ThT Mem} {g : GeoX} {cc : ByteArray} {nL : Nat} {rm : Room} {ret : Option FieldType} {hs : List (Nat × Nat × Nat × Nat)} {ini : Bool} {O : Outcome} {σ' : Mem} {ρ : γ} {σ : Mem} {F : Option γ} {cs : Nat × Nat} {pc : Nat} {lv : List (Nat × Value)} {st : List Value} (hc : Cx Θ (VX g) cc nL RX7 rm ret hs ini O σ') {a : Nat} {v : Int32} (h : dI 8 16 σ a 0 = some v) (hd : decode cc pc = .ok (.getfield 7, 3)) (kk : Sim Θ nL ρ σ F cs (pc + 3) lv (.int v :: st)) : Sim Θ nL ρ σ F cs pc lv (.ref (vO (VX g) + a) :: st) := by
  obtain ⟨c, fs, ha, h1, h2, hv⟩ := dI_spec h
  have h3 : c = 8 ∨ c = 9 ∨ c = 10 ∨ c = 11 ∨ c = 12 ∨ c = 13 ∨ c = 14 ∨ c = 15 := by omega
  rcases h3 with rfl | rfl | rfl | rfl | rfl | rfl | rfl | rfl
  · exact s_dget hc (C := RX7) (T := TX7) (N := 1) ha in_X7 rfl 0 (Nat.le_of_ble_eq_true rfl) q383 (fun _ _ _ _ h => h) hv hd kk
  · exact s_dget hc (C := RX8) (T := TX8) (N := 1) ha in_X8 rfl 0 (Nat.le_of_ble_eq_true rfl) q383 (fun _ _ _ _ h => h) hv hd kk
  · exact s_dget hc (C := RX9) (T := TX9) (N := 1) ha in_X9 rfl 0 (Nat.le_of_ble_eq_true rfl) q383 (fun _ _ _ _ h => h) hv hd kk
  · exact s_dget hc (C := RX10) (T := TX10) (N := 1) ha in_X10 rfl 0 (Nat.le_of_ble_eq_true rfl) q383 (fun _ _ _ _ h => h) hv hd kk
  · exact s_dget hc (C := RX11) (T := TX11) (N := 1) ha in_X11 rfl 0 (Nat.le_of_ble_eq_true rfl) q383 (fun _ _ _ _ h => h) hv hd kk
  · exact s_dget hc (C := RX12) (T := TX12) (N := 1) ha in_X12 rfl 0 (Nat.le_of_ble_eq_true rfl) q383 (fun _ _ _ _ h => h) hv hd kk
  · exact s_dget hc (C := RX13) (T := TX13) (N := 1) ha in_X13 rfl 0 (Nat.le_of_ble_eq_true rfl) q383 (fun _ _ _ _ h => h) hv hd kk
  · exact s_dget hc (C := RX14) (T := TX14) (N := 1) ha in_X14 rfl 0 (Nat.le_of_ble_eq_true rfl) q383 (fun _ _ _ _ h => h) hv hd kk
theorem kX_X7_17 {γ : Type} {Θ : ThT Mem} {g : GeoX} {cc : ByteArray} {nL : Nat} {rm : Room} {ret : Option FieldType} {hs : List (Nat × Nat × Nat × Nat)} {ini : Bool} {O : Outcome} {σ' : Mem} {ρ : γ} {σ : Mem} {F : Option γ} {cs : Nat × Nat} {pc : Nat} {lv : List (Nat × Value)} {st : List Value} (hc : Cx Θ (VX g) cc nL RX7 rm ret hs ini O σ') {σ1 : Mem} {x0 : Nat} {x1 : Int32} {rmc : Room} (hM : ∀ l : Launch, Ct (VX g) l yX7_init cX7_init 2 none rmc [.ref (vO (VX g) + x0), .int x1] σ oV σ1) (hR : rmc.frames + 1 ≤ rm.frames ∧ 8 + (2 + 11) + rmc.locals ≤ rm.locals) (hf : cs.1 + rmc.cells ≤ rm.cells ∧ cs.2 + rmc.slots ≤ rm.slots) (hrest : (st.map fun v => v.category).sum ≤ 8) (hd : decode cc pc = .ok (.invokespecial 17, 3)) (kk : Sim Θ nL ρ σ1 F (cs.1 + rmc.cells, cs.2 + rmc.slots) (pc + 3) lv (st)) : Sim Θ nL ρ σ F cs pc lv (.int x1 :: .ref (vO (VX g) + x0) :: st) := s_callI hc (a := x0) (As := [.int x1]) (rest := st) (n := 1) hM q381 q72 q1073 q380 (by decide +kernel) rfl rfl hrest hR hf hd kk
def fX7_copy (N : Nat) (σ : Mem) (x0 : Nat) : Option (Option Nat × Mem) :=
  lt_ (nC σ (.inr (8, [.int 0]))) (fun σ1 => 
  (dI 8 16 σ1 x0 0).bind (fun v2 => 
  (fX7_init N σ1 (gN σ) v2).bind (fun q4 => 
  some (some (gN σ), q4.2))))
set_option maxHeartbeats 4000000 in
theorem wfX7_copy {Θ : ThT Mem} {g : GeoX} {N : Nat}  {ρ : Option Nat × Mem} (σ : Mem) (x0 : Nat) (hc : Cx Θ (VX g) cX7_copy 1 RX7 (rk 3 1 1) (some (.object "SlipWeeks$Cross")) [] false (oR (vO (VX g)) ρ.1) ρ.2) : Sim Θ 1 ρ σ (fX7_copy N σ x0) (0, 0) 0 [(0, .ref (vO (VX g) + x0))] [] := by
  have hz := hc.z
  unfold fX7_copy
  refine s_new hc (C := RX7) (T := TX7) (N := 1) (ci := 8) in_X7 tyX7_ok rfl q1072 q378 q72 (dfX_X7 _) ⟨(Nat.le_of_ble_eq_true rfl), (Nat.le_of_ble_eq_true rfl)⟩ dX7_copy_0 (fun σ1 => ?_)
  refine s_dup hz dX7_copy_3 rfl ?_
  refine s_aload_n hz dX7_copy_4 rfl 0 rfl ?_
  refine s_bind (fun v2 e3 => ?_)
  refine rX_d_X7_7 hc e3 dX7_copy_5 ?_
  refine s_bind (fun q4 e5 => ?_)
  refine kX_X7_17 hc (cfX7_init e5) ⟨(Nat.le_of_ble_eq_true rfl), (Nat.le_of_ble_eq_true rfl)⟩ ⟨(Nat.le_of_ble_eq_true rfl), (Nat.le_of_ble_eq_true rfl)⟩ (Nat.le_of_ble_eq_true rfl) dX7_copy_8 ?_
  exact s_aretM hc (Or.inl ⟨_, rfl⟩) dX7_copy_11 (Nat.le_of_ble_eq_true rfl) (Nat.le_of_ble_eq_true rfl)
theorem cfX7_copy {g : GeoX} {N : Nat}  {σ : Mem} {x0 : Nat} {ρ : Option Nat × Mem} (hF : fX7_copy N σ x0 = some ρ) (l : Launch) : Ct (VX g) l yX7_copy cX7_copy 1 (some (.object "SlipWeeks$Cross")) (rk 3 1 1) [.ref (vO (VX g) + x0)] σ (oR (vO (VX g)) ρ.1) ρ.2 :=
  Ct.of (by decide) (Nat.le_of_ble_eq_true rfl) (fun Θ hc ls hl => wfX7_copy σ x0 hc hF ls hl)
theorem rX_d_X8_17 {γ : Type} {Θ : ThT Mem} {g : GeoX} {cc : ByteArray} {nL : Nat} {rm : Room} {ret : Option FieldType} {hs : List (Nat × Nat × Nat × Nat)} {ini : Bool} {O : Outcome} {σ' : Mem} {ρ : γ} {σ : Mem} {F : Option γ} {cs : Nat × Nat} {pc : Nat} {lv : List (Nat × Value)} {st : List Value} (hc : Cx Θ (VX g) cc nL RX8 rm ret hs ini O σ') {a : Nat} {v : Int32} (h : dI 8 16 σ a 0 = some v) (hd : decode cc pc = .ok (.getfield 17, 3)) (kk : Sim Θ nL ρ σ F cs (pc + 3) lv (.int v :: st)) : Sim Θ nL ρ σ F cs pc lv (.ref (vO (VX g) + a) :: st) := by
  obtain ⟨c, fs, ha, h1, h2, hv⟩ := dI_spec h
  have h3 : c = 8 ∨ c = 9 ∨ c = 10 ∨ c = 11 ∨ c = 12 ∨ c = 13 ∨ c = 14 ∨ c = 15 := by omega
  rcases h3 with rfl | rfl | rfl | rfl | rfl | rfl | rfl | rfl
  · exact s_dget hc (C := RX7) (T := TX7) (N := 1) ha in_X7 rfl 0 (Nat.le_of_ble_eq_true rfl) q392 (fun s args hts x h => u_same (hts _ q393) x h) hv hd kk
  · exact s_dget hc (C := RX8) (T := TX8) (N := 1) ha in_X8 rfl 0 (Nat.le_of_ble_eq_true rfl) q392 (fun s args hts x h => u_same (hts _ q393) x h) hv hd kk
  · exact s_dget hc (C := RX9) (T := TX9) (N := 1) ha in_X9 rfl 0 (Nat.le_of_ble_eq_true rfl) q392 (fun s args hts x h => u_same (hts _ q393) x h) hv hd kk
  · exact s_dget hc (C := RX10) (T := TX10) (N := 1) ha in_X10 rfl 0 (Nat.le_of_ble_eq_true rfl) q392 (fun s args hts x h => u_same (hts _ q393) x h) hv hd kk
  · exact s_dget hc (C := RX11) (T := TX11) (N := 1) ha in_X11 rfl 0 (Nat.le_of_ble_eq_true rfl) q392 (fun s args hts x h => u_same (hts _ q393) x h) hv hd kk
  · exact s_dget hc (C := RX12) (T := TX12) (N := 1) ha in_X12 rfl 0 (Nat.le_of_ble_eq_true rfl) q392 (fun s args hts x h => u_same (hts _ q393) x h) hv hd kk
  · exact s_dget hc (C := RX13) (T := TX13) (N := 1) ha in_X13 rfl 0 (Nat.le_of_ble_eq_true rfl) q392 (fun s args hts x h => u_same (hts _ q393) x h) hv hd kk
  · exact s_dget hc (C := RX14) (T := TX14) (N := 1) ha in_X14 rfl 0 (Nat.le_of_ble_eq_true rfl) q392 (fun s args hts x h => u_same (hts _ q393) x h) hv hd kk
theorem kX_X8_21 {γ : Type} {Θ : ThT Mem} {g : GeoX} {cc : ByteArray} {nL : Nat} {rm : Room} {ret : Option FieldType} {hs : List (Nat × Nat × Nat × Nat)} {ini : Bool} {O : Outcome} {σ' : Mem} {ρ : γ} {σ : Mem} {F : Option γ} {cs : Nat × Nat} {pc : Nat} {lv : List (Nat × Value)} {st : List Value} (hc : Cx Θ (VX g) cc nL RX8 rm ret hs ini O σ') {σ1 : Mem} {x0 : Nat} {x1 : Int32} {rmc : Room} (hM : ∀ l : Launch, Ct (VX g) l yX8_init cX8_init 2 none rmc [.ref (vO (VX g) + x0), .int x1] σ oV σ1) (hR : rmc.frames + 1 ≤ rm.frames ∧ 8 + (2 + 11) + rmc.locals ≤ rm.locals) (hf : cs.1 + rmc.cells ≤ rm.cells ∧ cs.2 + rmc.slots ≤ rm.slots) (hrest : (st.map fun v => v.category).sum ≤ 8) (hd : decode cc pc = .ok (.invokespecial 21, 3)) (kk : Sim Θ nL ρ σ1 F (cs.1 + rmc.cells, cs.2 + rmc.slots) (pc + 3) lv (st)) : Sim Θ nL ρ σ F cs pc lv (.int x1 :: .ref (vO (VX g) + x0) :: st) := s_callI hc (a := x0) (As := [.int x1]) (rest := st) (n := 1) hM q406 q73 q1040 q405 (by decide +kernel) rfl rfl hrest hR hf hd kk
def fX8_copy (N : Nat) (σ : Mem) (x0 : Nat) : Option (Option Nat × Mem) :=
  lt_ (nC σ (.inr (9, [.int 0]))) (fun σ1 => 
  (dI 8 16 σ1 x0 0).bind (fun v2 => 
  (fX8_init N σ1 (gN σ) v2).bind (fun q4 => 
  some (some (gN σ), q4.2))))
set_option maxHeartbeats 4000000 in
theorem wfX8_copy {Θ : ThT Mem} {g : GeoX} {N : Nat}  {ρ : Option Nat × Mem} (σ : Mem) (x0 : Nat) (hc : Cx Θ (VX g) cX8_copy 1 RX8 (rk 4 1 1) (some (.object "SlipWeeks$Cross")) [] false (oR (vO (VX g)) ρ.1) ρ.2) : Sim Θ 1 ρ σ (fX8_copy N σ x0) (0, 0) 0 [(0, .ref (vO (VX g) + x0))] [] := by
  have hz := hc.z
  unfold fX8_copy
  refine s_new hc (C := RX8) (T := TX8) (N := 1) (ci := 9) in_X8 tyX8_ok rfl q1039 q403 q73 (dfX_X8 _) ⟨(Nat.le_of_ble_eq_true rfl), (Nat.le_of_ble_eq_true rfl)⟩ dX8_copy_0 (fun σ1 => ?_)
  refine s_dup hz dX8_copy_3 rfl ?_
  refine s_aload_n hz dX8_copy_4 rfl 0 rfl ?_
  refine s_bind (fun v2 e3 => ?_)
  refine rX_d_X8_17 hc e3 dX8_copy_5 ?_
  refine s_bind (fun q4 e5 => ?_)
  refine kX_X8_21 hc (cfX8_init e5) ⟨(Nat.le_of_ble_eq_true rfl), (Nat.le_of_ble_eq_true rfl)⟩ ⟨(Nat.le_of_ble_eq_true rfl), (Nat.le_of_ble_eq_true rfl)⟩ (Nat.le_of_ble_eq_true rfl) dX8_copy_8 ?_
  exact s_aretM hc (Or.inl ⟨_, rfl⟩) dX8_copy_11 (Nat.le_of_ble_eq_true rfl) (Nat.le_of_ble_eq_true rfl)
theorem cfX8_copy {g : GeoX} {N : Nat}  {σ : Mem} {x0 : Nat} {ρ : Option Nat × Mem} (hF : fX8_copy N σ x0 = some ρ) (l : Launch) : Ct (VX g) l yX8_copy cX8_copy 1 (some (.object "SlipWeeks$Cross")) (rk 4 1 1) [.ref (vO (VX g) + x0)] σ (oR (vO (VX g)) ρ.1) ρ.2 :=
  Ct.of (by decide) (Nat.le_of_ble_eq_true rfl) (fun Θ hc ls hl => wfX8_copy σ x0 hc hF ls hl)
theorem rX_d_X9_13 {γ : Type} {Θ : ThT Mem} {g : GeoX} {cc : ByteArray} {nL : Nat} {rm : Room} {ret : Option FieldType} {hs : List (Nat × Nat × Nat × Nat)} {ini : Bool} {O : Outcome} {σ' : Mem} {ρ : γ} {σ : Mem} {F : Option γ} {cs : Nat × Nat} {pc : Nat} {lv : List (Nat × Value)} {st : List Value} (hc : Cx Θ (VX g) cc nL RX9 rm ret hs ini O σ') {a : Nat} {v : Int32} (h : dI 8 16 σ a 0 = some v) (hd : decode cc pc = .ok (.getfield 13, 3)) (kk : Sim Θ nL ρ σ F cs (pc + 3) lv (.int v :: st)) : Sim Θ nL ρ σ F cs pc lv (.ref (vO (VX g) + a) :: st) := by
  obtain ⟨c, fs, ha, h1, h2, hv⟩ := dI_spec h
  have h3 : c = 8 ∨ c = 9 ∨ c = 10 ∨ c = 11 ∨ c = 12 ∨ c = 13 ∨ c = 14 ∨ c = 15 := by omega
  rcases h3 with rfl | rfl | rfl | rfl | rfl | rfl | rfl | rfl
  · exact s_dget hc (C := RX7) (T := TX7) (N := 1) ha in_X7 rfl 0 (Nat.le_of_ble_eq_true rfl) q386 (fun s args hts x h => u_same (hts _ q387) x h) hv hd kk
  · exact s_dget hc (C := RX8) (T := TX8) (N := 1) ha in_X8 rfl 0 (Nat.le_of_ble_eq_true rfl) q386 (fun s args hts x h => u_same (hts _ q387) x h) hv hd kk
  · exact s_dget hc (C := RX9) (T := TX9) (N := 1) ha in_X9 rfl 0 (Nat.le_of_ble_eq_true rfl) q386 (fun s args hts x h => u_same (hts _ q387) x h) hv hd kk
  · exact s_dget hc (C := RX10) (T := TX10) (N := 1) ha in_X10 rfl 0 (Nat.le_of_ble_eq_true rfl) q386 (fun s args hts x h => u_same (hts _ q387) x h) hv hd kk
  · exact s_dget hc (C := RX11) (T := TX11) (N := 1) ha in_X11 rfl 0 (Nat.le_of_ble_eq_true rfl) q386 (fun s args hts x h => u_same (hts _ q387) x h) hv hd kk
  · exact s_dget hc (C := RX12) (T := TX12) (N := 1) ha in_X12 rfl 0 (Nat.le_of_ble_eq_true rfl) q386 (fun s args hts x h => u_same (hts _ q387) x h) hv hd kk
  · exact s_dget hc (C := RX13) (T := TX13) (N := 1) ha in_X13 rfl 0 (Nat.le_of_ble_eq_true rfl) q386 (fun s args hts x h => u_same (hts _ q387) x h) hv hd kk
  · exact s_dget hc (C := RX14) (T := TX14) (N := 1) ha in_X14 rfl 0 (Nat.le_of_ble_eq_true rfl) q386 (fun s args hts x h => u_same (hts _ q387) x h) hv hd kk
theorem kX_X9_17 {γ : Type} {Θ : ThT Mem} {g : GeoX} {cc : ByteArray} {nL : Nat} {rm : Room} {ret : Option FieldType} {hs : List (Nat × Nat × Nat × Nat)} {ini : Bool} {O : Outcome} {σ' : Mem} {ρ : γ} {σ : Mem} {F : Option γ} {cs : Nat × Nat} {pc : Nat} {lv : List (Nat × Value)} {st : List Value} (hc : Cx Θ (VX g) cc nL RX9 rm ret hs ini O σ') {σ1 : Mem} {x0 : Nat} {x1 : Int32} {rmc : Room} (hM : ∀ l : Launch, Ct (VX g) l yX9_init cX9_init 2 none rmc [.ref (vO (VX g) + x0), .int x1] σ oV σ1) (hR : rmc.frames + 1 ≤ rm.frames ∧ 8 + (2 + 11) + rmc.locals ≤ rm.locals) (hf : cs.1 + rmc.cells ≤ rm.cells ∧ cs.2 + rmc.slots ≤ rm.slots) (hrest : (st.map fun v => v.category).sum ≤ 8) (hd : decode cc pc = .ok (.invokespecial 17, 3)) (kk : Sim Θ nL ρ σ1 F (cs.1 + rmc.cells, cs.2 + rmc.slots) (pc + 3) lv (st)) : Sim Θ nL ρ σ F cs pc lv (.int x1 :: .ref (vO (VX g) + x0) :: st) := s_callI hc (a := x0) (As := [.int x1]) (rest := st) (n := 1) hM q414 q74 q1050 q413 (by decide +kernel) rfl rfl hrest hR hf hd kk
def fX9_copy (N : Nat) (σ : Mem) (x0 : Nat) : Option (Option Nat × Mem) :=
  lt_ (nC σ (.inr (10, [.int 0]))) (fun σ1 => 
  (dI 8 16 σ1 x0 0).bind (fun v2 => 
  (fX9_init N σ1 (gN σ) v2).bind (fun q4 => 
  some (some (gN σ), q4.2))))
set_option maxHeartbeats 4000000 in
theorem wfX9_copy {Θ : ThT Mem} {g : GeoX} {N : Nat}  {ρ : Option Nat × Mem} (σ : Mem) (x0 : Nat) (hc : Cx Θ (VX g) cX9_copy 1 RX9 (rk 4 1 1) (some (.object "SlipWeeks$Cross")) [] false (oR (vO (VX g)) ρ.1) ρ.2) : Sim Θ 1 ρ σ (fX9_copy N σ x0) (0, 0) 0 [(0, .ref (vO (VX g) + x0))] [] := by
  have hz := hc.z
  unfold fX9_copy
  refine s_new hc (C := RX9) (T := TX9) (N := 1) (ci := 10) in_X9 tyX9_ok rfl q1049 q411 q74 (dfX_X9 _) ⟨(Nat.le_of_ble_eq_true rfl), (Nat.le_of_ble_eq_true rfl)⟩ dX9_copy_0 (fun σ1 => ?_)
  refine s_dup hz dX9_copy_3 rfl ?_
  refine s_aload_n hz dX9_copy_4 rfl 0 rfl ?_
  refine s_bind (fun v2 e3 => ?_)
  refine rX_d_X9_13 hc e3 dX9_copy_5 ?_
  refine s_bind (fun q4 e5 => ?_)
  refine kX_X9_17 hc (cfX9_init e5) ⟨(Nat.le_of_ble_eq_true rfl), (Nat.le_of_ble_eq_true rfl)⟩ ⟨(Nat.le_of_ble_eq_true rfl), (Nat.le_of_ble_eq_true rfl)⟩ (Nat.le_of_ble_eq_true rfl) dX9_copy_8 ?_
  exact s_aretM hc (Or.inl ⟨_, rfl⟩) dX9_copy_11 (Nat.le_of_ble_eq_true rfl) (Nat.le_of_ble_eq_true rfl)
theorem cfX9_copy {g : GeoX} {N : Nat}  {σ : Mem} {x0 : Nat} {ρ : Option Nat × Mem} (hF : fX9_copy N σ x0 = some ρ) (l : Launch) : Ct (VX g) l yX9_copy cX9_copy 1 (some (.object "SlipWeeks$Cross")) (rk 4 1 1) [.ref (vO (VX g) + x0)] σ (oR (vO (VX g)) ρ.1) ρ.2 :=
  Ct.of (by decide) (Nat.le_of_ble_eq_true rfl) (fun Θ hc ls hl => wfX9_copy σ x0 hc hF ls hl)
theorem rX_d_X10_17 {γ : Type} {Θ : ThT Mem} {g : GeoX} {cc : ByteArray} {nL : Nat} {rm : Room} {ret : Option FieldType} {hs : List (Nat × Nat × Nat × Nat)} {ini : Bool} {O : Outcome} {σ' : Mem} {ρ : γ} {σ : Mem} {F : Option γ} {cs : Nat × Nat} {pc : Nat} {lv : List (Nat × Value)} {st : List Value} (hc : Cx Θ (VX g) cc nL RX10 rm ret hs ini O σ') {a : Nat} {v : Int32} (h : dI 8 16 σ a 0 = some v) (hd : decode cc pc = .ok (.getfield 17, 3)) (kk : Sim Θ nL ρ σ F cs (pc + 3) lv (.int v :: st)) : Sim Θ nL ρ σ F cs pc lv (.ref (vO (VX g) + a) :: st) := by
  obtain ⟨c, fs, ha, h1, h2, hv⟩ := dI_spec h
  have h3 : c = 8 ∨ c = 9 ∨ c = 10 ∨ c = 11 ∨ c = 12 ∨ c = 13 ∨ c = 14 ∨ c = 15 := by omega
  rcases h3 with rfl | rfl | rfl | rfl | rfl | rfl | rfl | rfl
  · exact s_dget hc (C := RX7) (T := TX7) (N := 1) ha in_X7 rfl 0 (Nat.le_of_ble_eq_true rfl) q394 (fun s args hts x h => u_same (hts _ q395) x h) hv hd kk
  · exact s_dget hc (C := RX8) (T := TX8) (N := 1) ha in_X8 rfl 0 (Nat.le_of_ble_eq_true rfl) q394 (fun s args hts x h => u_same (hts _ q395) x h) hv hd kk
  · exact s_dget hc (C := RX9) (T := TX9) (N := 1) ha in_X9 rfl 0 (Nat.le_of_ble_eq_true rfl) q394 (fun s args hts x h => u_same (hts _ q395) x h) hv hd kk
  · exact s_dget hc (C := RX10) (T := TX10) (N := 1) ha in_X10 rfl 0 (Nat.le_of_ble_eq_true rfl) q394 (fun s args hts x h => u_same (hts _ q395) x h) hv hd kk
  · exact s_dget hc (C := RX11) (T := TX11) (N := 1) ha in_X11 rfl 0 (Nat.le_of_ble_eq_true rfl) q394 (fun s args hts x h => u_same (hts _ q395) x h) hv hd kk
  · exact s_dget hc (C := RX12) (T := TX12) (N := 1) ha in_X12 rfl 0 (Nat.le_of_ble_eq_true rfl) q394 (fun s args hts x h => u_same (hts _ q395) x h) hv hd kk
  · exact s_dget hc (C := RX13) (T := TX13) (N := 1) ha in_X13 rfl 0 (Nat.le_of_ble_eq_true rfl) q394 (fun s args hts x h => u_same (hts _ q395) x h) hv hd kk
  · exact s_dget hc (C := RX14) (T := TX14) (N := 1) ha in_X14 rfl 0 (Nat.le_of_ble_eq_true rfl) q394 (fun s args hts x h => u_same (hts _ q395) x h) hv hd kk
theorem kX_X10_21 {γ : Type} {Θ : ThT Mem} {g : GeoX} {cc : ByteArray} {nL : Nat} {rm : Room} {ret : Option FieldType} {hs : List (Nat × Nat × Nat × Nat)} {ini : Bool} {O : Outcome} {σ' : Mem} {ρ : γ} {σ : Mem} {F : Option γ} {cs : Nat × Nat} {pc : Nat} {lv : List (Nat × Value)} {st : List Value} (hc : Cx Θ (VX g) cc nL RX10 rm ret hs ini O σ') {σ1 : Mem} {x0 : Nat} {x1 : Int32} {rmc : Room} (hM : ∀ l : Launch, Ct (VX g) l yX10_init cX10_init 2 none rmc [.ref (vO (VX g) + x0), .int x1] σ oV σ1) (hR : rmc.frames + 1 ≤ rm.frames ∧ 8 + (2 + 11) + rmc.locals ≤ rm.locals) (hf : cs.1 + rmc.cells ≤ rm.cells ∧ cs.2 + rmc.slots ≤ rm.slots) (hrest : (st.map fun v => v.category).sum ≤ 8) (hd : decode cc pc = .ok (.invokespecial 21, 3)) (kk : Sim Θ nL ρ σ1 F (cs.1 + rmc.cells, cs.2 + rmc.slots) (pc + 3) lv (st)) : Sim Θ nL ρ σ F cs pc lv (.int x1 :: .ref (vO (VX g) + x0) :: st) := s_callI hc (a := x0) (As := [.int x1]) (rest := st) (n := 1) hM q422 q75 q1065 q421 (by decide +kernel) rfl rfl hrest hR hf hd kk
def fX10_copy (N : Nat) (σ : Mem) (x0 : Nat) : Option (Option Nat × Mem) :=
  lt_ (nC σ (.inr (11, [.int 0]))) (fun σ1 => 
  (dI 8 16 σ1 x0 0).bind (fun v2 => 
  (fX10_init N σ1 (gN σ) v2).bind (fun q4 => 
  some (some (gN σ), q4.2))))
set_option maxHeartbeats 4000000 in
theorem wfX10_copy {Θ : ThT Mem} {g : GeoX} {N : Nat}  {ρ : Option Nat × Mem} (σ : Mem) (x0 : Nat) (hc : Cx Θ (VX g) cX10_copy 1 RX10 (rk 4 1 1) (some (.object "SlipWeeks$Cross")) [] false (oR (vO (VX g)) ρ.1) ρ.2) : Sim Θ 1 ρ σ (fX10_copy N σ x0) (0, 0) 0 [(0, .ref (vO (VX g) + x0))] [] := by
  have hz := hc.z
  unfold fX10_copy
  refine s_new hc (C := RX10) (T := TX10) (N := 1) (ci := 11) in_X10 tyX10_ok rfl q1064 q419 q75 (dfX_X10 _) ⟨(Nat.le_of_ble_eq_true rfl), (Nat.le_of_ble_eq_true rfl)⟩ dX10_copy_0 (fun σ1 => ?_)
  refine s_dup hz dX10_copy_3 rfl ?_
  refine s_aload_n hz dX10_copy_4 rfl 0 rfl ?_
  refine s_bind (fun v2 e3 => ?_)
  refine rX_d_X10_17 hc e3 dX10_copy_5 ?_
  refine s_bind (fun q4 e5 => ?_)
  refine kX_X10_21 hc (cfX10_init e5) ⟨(Nat.le_of_ble_eq_true rfl), (Nat.le_of_ble_eq_true rfl)⟩ ⟨(Nat.le_of_ble_eq_true rfl), (Nat.le_of_ble_eq_true rfl)⟩ (Nat.le_of_ble_eq_true rfl) dX10_copy_8 ?_
  exact s_aretM hc (Or.inl ⟨_, rfl⟩) dX10_copy_11 (Nat.le_of_ble_eq_true rfl) (Nat.le_of_ble_eq_true rfl)
theorem cfX10_copy {g : GeoX} {N : Nat}  {σ : Mem} {x0 : Nat} {ρ : Option Nat × Mem} (hF : fX10_copy N σ x0 = some ρ) (l : Launch) : Ct (VX g) l yX10_copy cX10_copy 1 (some (.object "SlipWeeks$Cross")) (rk 4 1 1) [.ref (vO (VX g) + x0)] σ (oR (vO (VX g)) ρ.1) ρ.2 :=
  Ct.of (by decide) (Nat.le_of_ble_eq_true rfl) (fun Θ hc ls hl => wfX10_copy σ x0 hc hF ls hl)
theorem rX_d_X11_13 {γ : Type} {Θ : ThT Mem} {g : GeoX} {cc : ByteArray} {nL : Nat} {rm : Room} {ret : Option FieldType} {hs : List (Nat × Nat × Nat × Nat)} {ini : Bool} {O : Outcome} {σ' : Mem} {ρ : γ} {σ : Mem} {F : Option γ} {cs : Nat × Nat} {pc : Nat} {lv : List (Nat × Value)} {st : List Value} (hc : Cx Θ (VX g) cc nL RX11 rm ret hs ini O σ') {a : Nat} {v : Int32} (h : dI 8 16 σ a 0 = some v) (hd : decode cc pc = .ok (.getfield 13, 3)) (kk : Sim Θ nL ρ σ F cs (pc + 3) lv (.int v :: st)) : Sim Θ nL ρ σ F cs pc lv (.ref (vO (VX g) + a) :: st) := by
  obtain ⟨c, fs, ha, h1, h2, hv⟩ := dI_spec h
  have h3 : c = 8 ∨ c = 9 ∨ c = 10 ∨ c = 11 ∨ c = 12 ∨ c = 13 ∨ c = 14 ∨ c = 15 := by omega
  rcases h3 with rfl | rfl | rfl | rfl | rfl | rfl | rfl | rfl
  · exact s_dget hc (C := RX7) (T := TX7) (N := 1) ha in_X7 rfl 0 (Nat.le_of_ble_eq_true rfl) q388 (fun s args hts x h => u_same (hts _ q389) x h) hv hd kk
  · exact s_dget hc (C := RX8) (T := TX8) (N := 1) ha in_X8 rfl 0 (Nat.le_of_ble_eq_true rfl) q388 (fun s args hts x h => u_same (hts _ q389) x h) hv hd kk
  · exact s_dget hc (C := RX9) (T := TX9) (N := 1) ha in_X9 rfl 0 (Nat.le_of_ble_eq_true rfl) q388 (fun s args hts x h => u_same (hts _ q389) x h) hv hd kk
  · exact s_dget hc (C := RX10) (T := TX10) (N := 1) ha in_X10 rfl 0 (Nat.le_of_ble_eq_true rfl) q388 (fun s args hts x h => u_same (hts _ q389) x h) hv hd kk
  · exact s_dget hc (C := RX11) (T := TX11) (N := 1) ha in_X11 rfl 0 (Nat.le_of_ble_eq_true rfl) q388 (fun s args hts x h => u_same (hts _ q389) x h) hv hd kk
  · exact s_dget hc (C := RX12) (T := TX12) (N := 1) ha in_X12 rfl 0 (Nat.le_of_ble_eq_true rfl) q388 (fun s args hts x h => u_same (hts _ q389) x h) hv hd kk
  · exact s_dget hc (C := RX13) (T := TX13) (N := 1) ha in_X13 rfl 0 (Nat.le_of_ble_eq_true rfl) q388 (fun s args hts x h => u_same (hts _ q389) x h) hv hd kk
  · exact s_dget hc (C := RX14) (T := TX14) (N := 1) ha in_X14 rfl 0 (Nat.le_of_ble_eq_true rfl) q388 (fun s args hts x h => u_same (hts _ q389) x h) hv hd kk
theorem kX_X11_17 {γ : Type} {Θ : ThT Mem} {g : GeoX} {cc : ByteArray} {nL : Nat} {rm : Room} {ret : Option FieldType} {hs : List (Nat × Nat × Nat × Nat)} {ini : Bool} {O : Outcome} {σ' : Mem} {ρ : γ} {σ : Mem} {F : Option γ} {cs : Nat × Nat} {pc : Nat} {lv : List (Nat × Value)} {st : List Value} (hc : Cx Θ (VX g) cc nL RX11 rm ret hs ini O σ') {σ1 : Mem} {x0 : Nat} {x1 : Int32} {rmc : Room} (hM : ∀ l : Launch, Ct (VX g) l yX11_init cX11_init 2 none rmc [.ref (vO (VX g) + x0), .int x1] σ oV σ1) (hR : rmc.frames + 1 ≤ rm.frames ∧ 8 + (2 + 11) + rmc.locals ≤ rm.locals) (hf : cs.1 + rmc.cells ≤ rm.cells ∧ cs.2 + rmc.slots ≤ rm.slots) (hrest : (st.map fun v => v.category).sum ≤ 8) (hd : decode cc pc = .ok (.invokespecial 17, 3)) (kk : Sim Θ nL ρ σ1 F (cs.1 + rmc.cells, cs.2 + rmc.slots) (pc + 3) lv (st)) : Sim Θ nL ρ σ F cs pc lv (.int x1 :: .ref (vO (VX g) + x0) :: st) := s_callI hc (a := x0) (As := [.int x1]) (rest := st) (n := 1) hM q430 q76 q1055 q429 (by decide +kernel) rfl rfl hrest hR hf hd kk
def fX11_copy (N : Nat) (σ : Mem) (x0 : Nat) : Option (Option Nat × Mem) :=
  lt_ (nC σ (.inr (12, [.int 0]))) (fun σ1 => 
  (dI 8 16 σ1 x0 0).bind (fun v2 => 
  (fX11_init N σ1 (gN σ) v2).bind (fun q4 => 
  some (some (gN σ), q4.2))))
set_option maxHeartbeats 4000000 in
theorem wfX11_copy {Θ : ThT Mem} {g : GeoX} {N : Nat}  {ρ : Option Nat × Mem} (σ : Mem) (x0 : Nat) (hc : Cx Θ (VX g) cX11_copy 1 RX11 (rk 4 1 1) (some (.object "SlipWeeks$Cross")) [] false (oR (vO (VX g)) ρ.1) ρ.2) : Sim Θ 1 ρ σ (fX11_copy N σ x0) (0, 0) 0 [(0, .ref (vO (VX g) + x0))] [] := by
  have hz := hc.z
  unfold fX11_copy
  refine s_new hc (C := RX11) (T := TX11) (N := 1) (ci := 12) in_X11 tyX11_ok rfl q1054 q427 q76 (dfX_X11 _) ⟨(Nat.le_of_ble_eq_true rfl), (Nat.le_of_ble_eq_true rfl)⟩ dX11_copy_0 (fun σ1 => ?_)
  refine s_dup hz dX11_copy_3 rfl ?_
  refine s_aload_n hz dX11_copy_4 rfl 0 rfl ?_
  refine s_bind (fun v2 e3 => ?_)
  refine rX_d_X11_13 hc e3 dX11_copy_5 ?_
  refine s_bind (fun q4 e5 => ?_)
  refine kX_X11_17 hc (cfX11_init e5) ⟨(Nat.le_of_ble_eq_true rfl), (Nat.le_of_ble_eq_true rfl)⟩ ⟨(Nat.le_of_ble_eq_true rfl), (Nat.le_of_ble_eq_true rfl)⟩ (Nat.le_of_ble_eq_true rfl) dX11_copy_8 ?_
  exact s_aretM hc (Or.inl ⟨_, rfl⟩) dX11_copy_11 (Nat.le_of_ble_eq_true rfl) (Nat.le_of_ble_eq_true rfl)
theorem cfX11_copy {g : GeoX} {N : Nat}  {σ : Mem} {x0 : Nat} {ρ : Option Nat × Mem} (hF : fX11_copy N σ x0 = some ρ) (l : Launch) : Ct (VX g) l yX11_copy cX11_copy 1 (some (.object "SlipWeeks$Cross")) (rk 4 1 1) [.ref (vO (VX g) + x0)] σ (oR (vO (VX g)) ρ.1) ρ.2 :=
  Ct.of (by decide) (Nat.le_of_ble_eq_true rfl) (fun Θ hc ls hl => wfX11_copy σ x0 hc hF ls hl)
theorem rX_d_X12_13 {γ : Type} {Θ : ThT Mem} {g : GeoX} {cc : ByteArray} {nL : Nat} {rm : Room} {ret : Option FieldType} {hs : List (Nat × Nat × Nat × Nat)} {ini : Bool} {O : Outcome} {σ' : Mem} {ρ : γ} {σ : Mem} {F : Option γ} {cs : Nat × Nat} {pc : Nat} {lv : List (Nat × Value)} {st : List Value} (hc : Cx Θ (VX g) cc nL RX12 rm ret hs ini O σ') {a : Nat} {v : Int32} (h : dI 8 16 σ a 0 = some v) (hd : decode cc pc = .ok (.getfield 13, 3)) (kk : Sim Θ nL ρ σ F cs (pc + 3) lv (.int v :: st)) : Sim Θ nL ρ σ F cs pc lv (.ref (vO (VX g) + a) :: st) := by
  obtain ⟨c, fs, ha, h1, h2, hv⟩ := dI_spec h
  have h3 : c = 8 ∨ c = 9 ∨ c = 10 ∨ c = 11 ∨ c = 12 ∨ c = 13 ∨ c = 14 ∨ c = 15 := by omega
  rcases h3 with rfl | rfl | rfl | rfl | rfl | rfl | rfl | rfl
  · exact s_dget hc (C := RX7) (T := TX7) (N := 1) ha in_X7 rfl 0 (Nat.le_of_ble_eq_true rfl) q390 (fun s args hts x h => u_same (hts _ q391) x h) hv hd kk
  · exact s_dget hc (C := RX8) (T := TX8) (N := 1) ha in_X8 rfl 0 (Nat.le_of_ble_eq_true rfl) q390 (fun s args hts x h => u_same (hts _ q391) x h) hv hd kk
  · exact s_dget hc (C := RX9) (T := TX9) (N := 1) ha in_X9 rfl 0 (Nat.le_of_ble_eq_true rfl) q390 (fun s args hts x h => u_same (hts _ q391) x h) hv hd kk
  · exact s_dget hc (C := RX10) (T := TX10) (N := 1) ha in_X10 rfl 0 (Nat.le_of_ble_eq_true rfl) q390 (fun s args hts x h => u_same (hts _ q391) x h) hv hd kk
  · exact s_dget hc (C := RX11) (T := TX11) (N := 1) ha in_X11 rfl 0 (Nat.le_of_ble_eq_true rfl) q390 (fun s args hts x h => u_same (hts _ q391) x h) hv hd kk
  · exact s_dget hc (C := RX12) (T := TX12) (N := 1) ha in_X12 rfl 0 (Nat.le_of_ble_eq_true rfl) q390 (fun s args hts x h => u_same (hts _ q391) x h) hv hd kk
  · exact s_dget hc (C := RX13) (T := TX13) (N := 1) ha in_X13 rfl 0 (Nat.le_of_ble_eq_true rfl) q390 (fun s args hts x h => u_same (hts _ q391) x h) hv hd kk
  · exact s_dget hc (C := RX14) (T := TX14) (N := 1) ha in_X14 rfl 0 (Nat.le_of_ble_eq_true rfl) q390 (fun s args hts x h => u_same (hts _ q391) x h) hv hd kk
theorem kX_X12_17 {γ : Type} {Θ : ThT Mem} {g : GeoX} {cc : ByteArray} {nL : Nat} {rm : Room} {ret : Option FieldType} {hs : List (Nat × Nat × Nat × Nat)} {ini : Bool} {O : Outcome} {σ' : Mem} {ρ : γ} {σ : Mem} {F : Option γ} {cs : Nat × Nat} {pc : Nat} {lv : List (Nat × Value)} {st : List Value} (hc : Cx Θ (VX g) cc nL RX12 rm ret hs ini O σ') {σ1 : Mem} {x0 : Nat} {x1 : Int32} {rmc : Room} (hM : ∀ l : Launch, Ct (VX g) l yX12_init cX12_init 2 none rmc [.ref (vO (VX g) + x0), .int x1] σ oV σ1) (hR : rmc.frames + 1 ≤ rm.frames ∧ 8 + (2 + 11) + rmc.locals ≤ rm.locals) (hf : cs.1 + rmc.cells ≤ rm.cells ∧ cs.2 + rmc.slots ≤ rm.slots) (hrest : (st.map fun v => v.category).sum ≤ 8) (hd : decode cc pc = .ok (.invokespecial 17, 3)) (kk : Sim Θ nL ρ σ1 F (cs.1 + rmc.cells, cs.2 + rmc.slots) (pc + 3) lv (st)) : Sim Θ nL ρ σ F cs pc lv (.int x1 :: .ref (vO (VX g) + x0) :: st) := s_callI hc (a := x0) (As := [.int x1]) (rest := st) (n := 1) hM q438 q77 q1060 q437 (by decide +kernel) rfl rfl hrest hR hf hd kk
def fX12_copy (N : Nat) (σ : Mem) (x0 : Nat) : Option (Option Nat × Mem) :=
  lt_ (nC σ (.inr (13, [.int 0]))) (fun σ1 => 
  (dI 8 16 σ1 x0 0).bind (fun v2 => 
  (fX12_init N σ1 (gN σ) v2).bind (fun q4 => 
  some (some (gN σ), q4.2))))
set_option maxHeartbeats 4000000 in
theorem wfX12_copy {Θ : ThT Mem} {g : GeoX} {N : Nat}  {ρ : Option Nat × Mem} (σ : Mem) (x0 : Nat) (hc : Cx Θ (VX g) cX12_copy 1 RX12 (rk 5 1 1) (some (.object "SlipWeeks$Cross")) [] false (oR (vO (VX g)) ρ.1) ρ.2) : Sim Θ 1 ρ σ (fX12_copy N σ x0) (0, 0) 0 [(0, .ref (vO (VX g) + x0))] [] := by
  have hz := hc.z
  unfold fX12_copy
  refine s_new hc (C := RX12) (T := TX12) (N := 1) (ci := 13) in_X12 tyX12_ok rfl q1059 q435 q77 (dfX_X12 _) ⟨(Nat.le_of_ble_eq_true rfl), (Nat.le_of_ble_eq_true rfl)⟩ dX12_copy_0 (fun σ1 => ?_)
  refine s_dup hz dX12_copy_3 rfl ?_
  refine s_aload_n hz dX12_copy_4 rfl 0 rfl ?_
  refine s_bind (fun v2 e3 => ?_)
  refine rX_d_X12_13 hc e3 dX12_copy_5 ?_
  refine s_bind (fun q4 e5 => ?_)
  refine kX_X12_17 hc (cfX12_init e5) ⟨(Nat.le_of_ble_eq_true rfl), (Nat.le_of_ble_eq_true rfl)⟩ ⟨(Nat.le_of_ble_eq_true rfl), (Nat.le_of_ble_eq_true rfl)⟩ (Nat.le_of_ble_eq_true rfl) dX12_copy_8 ?_
  exact s_aretM hc (Or.inl ⟨_, rfl⟩) dX12_copy_11 (Nat.le_of_ble_eq_true rfl) (Nat.le_of_ble_eq_true rfl)
theorem cfX12_copy {g : GeoX} {N : Nat}  {σ : Mem} {x0 : Nat} {ρ : Option Nat × Mem} (hF : fX12_copy N σ x0 = some ρ) (l : Launch) : Ct (VX g) l yX12_copy cX12_copy 1 (some (.object "SlipWeeks$Cross")) (rk 5 1 1) [.ref (vO (VX g) + x0)] σ (oR (vO (VX g)) ρ.1) ρ.2 :=
  Ct.of (by decide) (Nat.le_of_ble_eq_true rfl) (fun Θ hc ls hl => wfX12_copy σ x0 hc hF ls hl)
theorem rX_d_X13_17 {γ : Type} {Θ : ThT Mem} {g : GeoX} {cc : ByteArray} {nL : Nat} {rm : Room} {ret : Option FieldType} {hs : List (Nat × Nat × Nat × Nat)} {ini : Bool} {O : Outcome} {σ' : Mem} {ρ : γ} {σ : Mem} {F : Option γ} {cs : Nat × Nat} {pc : Nat} {lv : List (Nat × Value)} {st : List Value} (hc : Cx Θ (VX g) cc nL RX13 rm ret hs ini O σ') {a : Nat} {v : Int32} (h : dI 8 16 σ a 0 = some v) (hd : decode cc pc = .ok (.getfield 17, 3)) (kk : Sim Θ nL ρ σ F cs (pc + 3) lv (.int v :: st)) : Sim Θ nL ρ σ F cs pc lv (.ref (vO (VX g) + a) :: st) := by
  obtain ⟨c, fs, ha, h1, h2, hv⟩ := dI_spec h
  have h3 : c = 8 ∨ c = 9 ∨ c = 10 ∨ c = 11 ∨ c = 12 ∨ c = 13 ∨ c = 14 ∨ c = 15 := by omega
  rcases h3 with rfl | rfl | rfl | rfl | rfl | rfl | rfl | rfl
  · exact s_dget hc (C := RX7) (T := TX7) (N := 1) ha in_X7 rfl 0 (Nat.le_of_ble_eq_true rfl) q396 (fun s args hts x h => u_same (hts _ q397) x h) hv hd kk
  · exact s_dget hc (C := RX8) (T := TX8) (N := 1) ha in_X8 rfl 0 (Nat.le_of_ble_eq_true rfl) q396 (fun s args hts x h => u_same (hts _ q397) x h) hv hd kk
  · exact s_dget hc (C := RX9) (T := TX9) (N := 1) ha in_X9 rfl 0 (Nat.le_of_ble_eq_true rfl) q396 (fun s args hts x h => u_same (hts _ q397) x h) hv hd kk
  · exact s_dget hc (C := RX10) (T := TX10) (N := 1) ha in_X10 rfl 0 (Nat.le_of_ble_eq_true rfl) q396 (fun s args hts x h => u_same (hts _ q397) x h) hv hd kk
  · exact s_dget hc (C := RX11) (T := TX11) (N := 1) ha in_X11 rfl 0 (Nat.le_of_ble_eq_true rfl) q396 (fun s args hts x h => u_same (hts _ q397) x h) hv hd kk
  · exact s_dget hc (C := RX12) (T := TX12) (N := 1) ha in_X12 rfl 0 (Nat.le_of_ble_eq_true rfl) q396 (fun s args hts x h => u_same (hts _ q397) x h) hv hd kk
  · exact s_dget hc (C := RX13) (T := TX13) (N := 1) ha in_X13 rfl 0 (Nat.le_of_ble_eq_true rfl) q396 (fun s args hts x h => u_same (hts _ q397) x h) hv hd kk
  · exact s_dget hc (C := RX14) (T := TX14) (N := 1) ha in_X14 rfl 0 (Nat.le_of_ble_eq_true rfl) q396 (fun s args hts x h => u_same (hts _ q397) x h) hv hd kk
theorem kX_X13_21 {γ : Type} {Θ : ThT Mem} {g : GeoX} {cc : ByteArray} {nL : Nat} {rm : Room} {ret : Option FieldType} {hs : List (Nat × Nat × Nat × Nat)} {ini : Bool} {O : Outcome} {σ' : Mem} {ρ : γ} {σ : Mem} {F : Option γ} {cs : Nat × Nat} {pc : Nat} {lv : List (Nat × Value)} {st : List Value} (hc : Cx Θ (VX g) cc nL RX13 rm ret hs ini O σ') {σ1 : Mem} {x0 : Nat} {x1 : Int32} {rmc : Room} (hM : ∀ l : Launch, Ct (VX g) l yX13_init cX13_init 2 none rmc [.ref (vO (VX g) + x0), .int x1] σ oV σ1) (hR : rmc.frames + 1 ≤ rm.frames ∧ 8 + (2 + 11) + rmc.locals ≤ rm.locals) (hf : cs.1 + rmc.cells ≤ rm.cells ∧ cs.2 + rmc.slots ≤ rm.slots) (hrest : (st.map fun v => v.category).sum ≤ 8) (hd : decode cc pc = .ok (.invokespecial 21, 3)) (kk : Sim Θ nL ρ σ1 F (cs.1 + rmc.cells, cs.2 + rmc.slots) (pc + 3) lv (st)) : Sim Θ nL ρ σ F cs pc lv (.int x1 :: .ref (vO (VX g) + x0) :: st) := s_callI hc (a := x0) (As := [.int x1]) (rest := st) (n := 1) hM q446 q78 q1070 q445 (by decide +kernel) rfl rfl hrest hR hf hd kk
def fX13_copy (N : Nat) (σ : Mem) (x0 : Nat) : Option (Option Nat × Mem) :=
  lt_ (nC σ (.inr (14, [.int 0]))) (fun σ1 => 
  (dI 8 16 σ1 x0 0).bind (fun v2 => 
  (fX13_init N σ1 (gN σ) v2).bind (fun q4 => 
  some (some (gN σ), q4.2))))
set_option maxHeartbeats 4000000 in
theorem wfX13_copy {Θ : ThT Mem} {g : GeoX} {N : Nat}  {ρ : Option Nat × Mem} (σ : Mem) (x0 : Nat) (hc : Cx Θ (VX g) cX13_copy 1 RX13 (rk 5 1 1) (some (.object "SlipWeeks$Cross")) [] false (oR (vO (VX g)) ρ.1) ρ.2) : Sim Θ 1 ρ σ (fX13_copy N σ x0) (0, 0) 0 [(0, .ref (vO (VX g) + x0))] [] := by
  have hz := hc.z
  unfold fX13_copy
  refine s_new hc (C := RX13) (T := TX13) (N := 1) (ci := 14) in_X13 tyX13_ok rfl q1069 q443 q78 (dfX_X13 _) ⟨(Nat.le_of_ble_eq_true rfl), (Nat.le_of_ble_eq_true rfl)⟩ dX13_copy_0 (fun σ1 => ?_)
  refine s_dup hz dX13_copy_3 rfl ?_
  refine s_aload_n hz dX13_copy_4 rfl 0 rfl ?_
  refine s_bind (fun v2 e3 => ?_)
  refine rX_d_X13_17 hc e3 dX13_copy_5 ?_
  refine s_bind (fun q4 e5 => ?_)
  refine kX_X13_21 hc (cfX13_init e5) ⟨(Nat.le_of_ble_eq_true rfl), (Nat.le_of_ble_eq_true rfl)⟩ ⟨(Nat.le_of_ble_eq_true rfl), (Nat.le_of_ble_eq_true rfl)⟩ (Nat.le_of_ble_eq_true rfl) dX13_copy_8 ?_
  exact s_aretM hc (Or.inl ⟨_, rfl⟩) dX13_copy_11 (Nat.le_of_ble_eq_true rfl) (Nat.le_of_ble_eq_true rfl)
theorem cfX13_copy {g : GeoX} {N : Nat}  {σ : Mem} {x0 : Nat} {ρ : Option Nat × Mem} (hF : fX13_copy N σ x0 = some ρ) (l : Launch) : Ct (VX g) l yX13_copy cX13_copy 1 (some (.object "SlipWeeks$Cross")) (rk 5 1 1) [.ref (vO (VX g) + x0)] σ (oR (vO (VX g)) ρ.1) ρ.2 :=
  Ct.of (by decide) (Nat.le_of_ble_eq_true rfl) (fun Θ hc ls hl => wfX13_copy σ x0 hc hF ls hl)
theorem kX_X14_17 {γ : Type} {Θ : ThT Mem} {g : GeoX} {cc : ByteArray} {nL : Nat} {rm : Room} {ret : Option FieldType} {hs : List (Nat × Nat × Nat × Nat)} {ini : Bool} {O : Outcome} {σ' : Mem} {ρ : γ} {σ : Mem} {F : Option γ} {cs : Nat × Nat} {pc : Nat} {lv : List (Nat × Value)} {st : List Value} (hc : Cx Θ (VX g) cc nL RX14 rm ret hs ini O σ') {σ1 : Mem} {x0 : Nat} {x1 : Int32} {rmc : Room} (hM : ∀ l : Launch, Ct (VX g) l yX14_init cX14_init 2 none rmc [.ref (vO (VX g) + x0), .int x1] σ oV σ1) (hR : rmc.frames + 1 ≤ rm.frames ∧ 8 + (2 + 11) + rmc.locals ≤ rm.locals) (hf : cs.1 + rmc.cells ≤ rm.cells ∧ cs.2 + rmc.slots ≤ rm.slots) (hrest : (st.map fun v => v.category).sum ≤ 8) (hd : decode cc pc = .ok (.invokespecial 17, 3)) (kk : Sim Θ nL ρ σ1 F (cs.1 + rmc.cells, cs.2 + rmc.slots) (pc + 3) lv (st)) : Sim Θ nL ρ σ F cs pc lv (.int x1 :: .ref (vO (VX g) + x0) :: st) := s_callI hc (a := x0) (As := [.int x1]) (rest := st) (n := 1) hM q454 q79 q1045 q453 (by decide +kernel) rfl rfl hrest hR hf hd kk
def fX14_copy (N : Nat) (σ : Mem) (x0 : Nat) : Option (Option Nat × Mem) :=
  lt_ (nC σ (.inr (15, [.int 0]))) (fun σ1 => 
  (dI 8 16 σ1 x0 0).bind (fun v2 => 
  (fX14_init N σ1 (gN σ) v2).bind (fun q4 => 
  some (some (gN σ), q4.2))))
set_option maxHeartbeats 4000000 in
theorem wfX14_copy {Θ : ThT Mem} {g : GeoX} {N : Nat}  {ρ : Option Nat × Mem} (σ : Mem) (x0 : Nat) (hc : Cx Θ (VX g) cX14_copy 1 RX14 (rk 6 1 1) (some (.object "SlipWeeks$Cross")) [] false (oR (vO (VX g)) ρ.1) ρ.2) : Sim Θ 1 ρ σ (fX14_copy N σ x0) (0, 0) 0 [(0, .ref (vO (VX g) + x0))] [] := by
  have hz := hc.z
  unfold fX14_copy
  refine s_new hc (C := RX14) (T := TX14) (N := 1) (ci := 15) in_X14 tyX14_ok rfl q1044 q451 q79 (dfX_X14 _) ⟨(Nat.le_of_ble_eq_true rfl), (Nat.le_of_ble_eq_true rfl)⟩ dX14_copy_0 (fun σ1 => ?_)
  refine s_dup hz dX14_copy_3 rfl ?_
  refine s_aload_n hz dX14_copy_4 rfl 0 rfl ?_
  refine s_bind (fun v2 e3 => ?_)
  refine rX_d_X14_13 hc e3 dX14_copy_5 ?_
  refine s_bind (fun q4 e5 => ?_)
  refine kX_X14_17 hc (cfX14_init e5) ⟨(Nat.le_of_ble_eq_true rfl), (Nat.le_of_ble_eq_true rfl)⟩ ⟨(Nat.le_of_ble_eq_true rfl), (Nat.le_of_ble_eq_true rfl)⟩ (Nat.le_of_ble_eq_true rfl) dX14_copy_8 ?_
  exact s_aretM hc (Or.inl ⟨_, rfl⟩) dX14_copy_11 (Nat.le_of_ble_eq_true rfl) (Nat.le_of_ble_eq_true rfl)
theorem cfX14_copy {g : GeoX} {N : Nat}  {σ : Mem} {x0 : Nat} {ρ : Option Nat × Mem} (hF : fX14_copy N σ x0 = some ρ) (l : Launch) : Ct (VX g) l yX14_copy cX14_copy 1 (some (.object "SlipWeeks$Cross")) (rk 6 1 1) [.ref (vO (VX g) + x0)] σ (oR (vO (VX g)) ρ.1) ρ.2 :=
  Ct.of (by decide) (Nat.le_of_ble_eq_true rfl) (fun Θ hc ls hl => wfX14_copy σ x0 hc hF ls hl)
def dX_copy (N : Nat) (σ : Mem) (x0 : Nat) : Option (Option Nat × Mem) := (dC 8 16 σ x0).bind (fun c => if c = 8 then fX7_copy N σ x0 else if c = 9 then fX8_copy N σ x0 else if c = 10 then fX9_copy N σ x0 else if c = 11 then fX10_copy N σ x0 else if c = 12 then fX11_copy N σ x0 else if c = 13 then fX12_copy N σ x0 else if c = 14 then fX13_copy N σ x0 else if c = 15 then fX14_copy N σ x0 else none)
theorem rX_g_X1_23_1 {γ : Type} {Θ : ThT Mem} {g : GeoX} {cc : ByteArray} {nL : Nat} {rm : Room} {ret : Option FieldType} {hs : List (Nat × Nat × Nat × Nat)} {ini : Bool} {O : Outcome} {σ' : Mem} {ρ : γ} {σ : Mem} {F : Option γ} {cs : Nat × Nat} {pc : Nat} {lv : List (Nat × Value)} {st : List Value} (hc : Cx Θ (VX g) cc nL RX1 rm ret hs ini O σ') (hd : decode cc pc = .ok (.getfield 23, 3)) (kk : Sim Θ nL ρ σ F cs (pc + 3) lv (.ref (vO (VX g) + 3) :: st)) : Sim Θ nL ρ σ F cs pc lv (.ref (vO (VX g) + 1) :: st) := s_get hc (C := RX1) (T := TX1) (N := 10) (ci := 1) (k := 1) in_X1 (Nat.le_of_ble_eq_true rfl) rfl rfl 5 (Nat.le_of_ble_eq_true rfl) q132 (fun _ _ _ _ h => h) rfl hd kk
theorem rX_aa_3 {own : String} {γ : Type} {Θ : ThT Mem} {g : GeoX} {cc : ByteArray} {nL : Nat} {rm : Room} {ret : Option FieldType} {hs : List (Nat × Nat × Nat × Nat)} {ini : Bool} {O : Outcome} {σ' : Mem} {ρ : γ} {σ : Mem} {F : Option γ} {cs : Nat × Nat} {pc : Nat} {lv : List (Nat × Value)} {st : List Value} (hc : Cx Θ (VX g) cc nL own rm ret hs ini O σ') {i : Int32} {j : Nat} (hin : inb i 12 = true) (hj : ix i = j) (hd : decode cc pc = .ok (.aaload, 1)) (kk : Sim Θ nL ρ σ F cs (pc + 1) lv (.ref (vO (VX g) + (4 + j)) :: st)) : Sim Θ nL ρ σ F cs pc lv (.int i :: .ref (vO (VX g) + 3) :: st) := by
  subst hj
  exact s_aald hc (k := 3) (t := 5) (n := 12) (b := 4) (Nat.le_of_ble_eq_true rfl) rfl rfl rfl hin hd kk
theorem rX_gv_X1_73_4 {γ : Type} {Θ : ThT Mem} {g : GeoX} {cc : ByteArray} {nL : Nat} {rm : Room} {ret : Option FieldType} {hs : List (Nat × Nat × Nat × Nat)} {ini : Bool} {O : Outcome} {σ' : Mem} {ρ : γ} {σ : Mem} {F : Option γ} {cs : Nat × Nat} {pc : Nat} {lv : List (Nat × Value)} {st : List Value} (hc : Cx Θ (VX g) cc nL RX1 rm ret hs ini O σ') {j : Nat} (hj : j < 12) (hd : decode cc pc = .ok (.getfield 73, 3)) (kk : Sim Θ nL ρ σ F cs (pc + 3) lv (va_rf ((gR σ (4 + j) 0).map (vO (VX g) + ·)) :: st)) : Sim Θ nL ρ σ F cs pc lv (.ref (vO (VX g) + (4 + j)) :: st) := s_get hc (C := RX2) (T := TX2) (N := 1) (ci := 2) (k := 4 + j) in_X2 (YXk_4 g j hj) (YX_4 g.1 _ _ _ j hj) rfl 0 (Nat.le_of_ble_eq_true rfl) q112 (fun _ _ _ _ h => h) rfl hd kk
theorem rX_co_X1_68 {γ : Type} {Θ : ThT Mem} {g : GeoX} {cc : ByteArray} {nL : Nat} {rm : Room} {ret : Option FieldType} {hs : List (Nat × Nat × Nat × Nat)} {ini : Bool} {O : Outcome} {σ' : Mem} {ρ : γ} {σ : Mem} {F : Option γ} {cs : Nat × Nat} {pc : Nat} {lv : List (Nat × Value)} {st : List Value} (hc : Cx Θ (VX g) cc nL RX1 rm ret hs ini O σ') {a c : Nat} (h : dC 8 16 σ a = some c) (hd : decode cc pc = .ok (.checkcast 68, 3)) (kk : Sim Θ nL ρ σ F cs (pc + 3) lv (.ref (vO (VX g) + a) :: st)) : Sim Θ nL ρ σ F cs pc lv (.ref (vO (VX g) + a) :: st) := by
  obtain ⟨fs, ha, h1, h2⟩ := dC_spec h
  have h3 : c = 8 ∨ c = 9 ∨ c = 10 ∨ c = 11 ∨ c = 12 ∨ c = 13 ∨ c = 14 ∨ c = 15 := by omega
  rcases h3 with rfl | rfl | rfl | rfl | rfl | rfl | rfl | rfl
  · exact s_ocastS hc (q := (RX7, TX7, 1)) rfl (Ob.dyn ha) q470 hd kk
  · exact s_ocast hc (q := (RX8, TX8, 1)) rfl (Ob.dyn ha) (fun U hU => hU.1 _ (List.mem_of_getElem? (i := 37) rfl)) q470 hd kk
  · exact s_ocast hc (q := (RX9, TX9, 1)) rfl (Ob.dyn ha) (fun U hU => hU.1 _ (List.mem_of_getElem? (i := 38) rfl)) q470 hd kk
  · exact s_ocast hc (q := (RX10, TX10, 1)) rfl (Ob.dyn ha) (fun U hU => hU.1 _ (List.mem_of_getElem? (i := 6) rfl)) q470 hd kk
  · exact s_ocast hc (q := (RX11, TX11, 1)) rfl (Ob.dyn ha) (fun U hU => hU.1 _ (List.mem_of_getElem? (i := 7) rfl)) q470 hd kk
  · exact s_ocast hc (q := (RX12, TX12, 1)) rfl (Ob.dyn ha) (fun U hU => hU.1 _ (List.mem_of_getElem? (i := 9) rfl)) q470 hd kk
  · exact s_ocast hc (q := (RX13, TX13, 1)) rfl (Ob.dyn ha) (fun U hU => hU.1 _ (List.mem_of_getElem? (i := 10) rfl)) q470 hd kk
  · exact s_ocast hc (q := (RX14, TX14, 1)) rfl (Ob.dyn ha) (fun U hU => hU.1 _ (List.mem_of_getElem? (i := 11) rfl)) q470 hd kk
def fX1_group_1 (N : Nat) (σ : Mem) (x1 : Int32) : Option (Option Nat) :=
  gb (inb x1 12) (
  mO (gR σ (4 + ix x1) 0)
  (some (none)) (fun a2 => 
  (dC 8 16 σ a2).bind (fun c3 => 
  some (some a2))))
set_option maxHeartbeats 4000000 in
theorem wfX1_group_1 {Θ : ThT Mem} {g : GeoX} {N : Nat}  {ρ : Option Nat} (σ : Mem) (x1 : Int32) (hc : Cx Θ (VX g) cX1_group 2 RX1 (rk 1 0 0) (some (.object "SlipWeeks$Cross")) [] false (oR (vO (VX g)) ρ) σ) : Sim Θ 2 ρ σ (fX1_group_1 N σ x1) (0, 0) 0 [(0, .ref (vO (VX g) + 1)), (1, .int x1)] [] := by
  have hz := hc.z
  unfold fX1_group_1
  refine s_aload_n hz dX1_group_0 rfl 0 rfl ?_
  refine rX_g_X1_23_1 hc dX1_group_1 ?_
  refine s_iload_n hz dX1_group_4 rfl 1 rfl ?_
  refine s_gb (fun h1 => ?_)
  refine rX_aa_3 hc h1 rfl dX1_group_5 ?_
  refine rX_gv_X1_73_4 hc (inb_lt h1) dX1_group_6 ?_
  refine s_opt (fun _ => ?_) (fun a2 _ => ?_)
  · refine s_castN hz dX1_group_9 ?_
    exact s_aretN hc (Or.inl ⟨_, rfl⟩) dX1_group_12 (Nat.le_of_ble_eq_true rfl) (Nat.le_of_ble_eq_true rfl)
  · refine s_bind (fun c3 e4 => ?_)
    refine rX_co_X1_68 hc e4 dX1_group_9 ?_
    exact s_aret hc (Or.inl ⟨_, rfl⟩) dX1_group_12 (Nat.le_of_ble_eq_true rfl) (Nat.le_of_ble_eq_true rfl)
theorem cfX1_group_1 {g : GeoX} {N : Nat}  {σ : Mem} {x1 : Int32} {ρ : Option Nat} (hF : fX1_group_1 N σ x1 = some ρ) (l : Launch) : Ct (VX g) l yX1_group cX1_group 2 (some (.object "SlipWeeks$Cross")) (rk 1 0 0) [.ref (vO (VX g) + 1), .int x1] σ (oR (vO (VX g)) ρ) σ :=
  Ct.of (by decide) (Nat.le_of_ble_eq_true rfl) (fun Θ hc ls hl => wfX1_group_1 σ x1 hc hF ls hl)
theorem rX_g_X1_23_28 {γ : Type} {Θ : ThT Mem} {g : GeoX} {cc : ByteArray} {nL : Nat} {rm : Room} {ret : Option FieldType} {hs : List (Nat × Nat × Nat × Nat)} {ini : Bool} {O : Outcome} {σ' : Mem} {ρ : γ} {σ : Mem} {F : Option γ} {cs : Nat × Nat} {pc : Nat} {lv : List (Nat × Value)} {st : List Value} (hc : Cx Θ (VX g) cc nL RX1 rm ret hs ini O σ') (hd : decode cc pc = .ok (.getfield 23, 3)) (kk : Sim Θ nL ρ σ F cs (pc + 3) lv (.ref (vO (VX g) + 30) :: st)) : Sim Θ nL ρ σ F cs pc lv (.ref (vO (VX g) + 28) :: st) := s_get hc (C := RX1) (T := TX1) (N := 10) (ci := 1) (k := 28) in_X1 (Nat.le_of_ble_eq_true rfl) rfl rfl 5 (Nat.le_of_ble_eq_true rfl) q132 (fun _ _ _ _ h => h) rfl hd kk
theorem rX_aa_30 {own : String} {γ : Type} {Θ : ThT Mem} {g : GeoX} {cc : ByteArray} {nL : Nat} {rm : Room} {ret : Option FieldType} {hs : List (Nat × Nat × Nat × Nat)} {ini : Bool} {O : Outcome} {σ' : Mem} {ρ : γ} {σ : Mem} {F : Option γ} {cs : Nat × Nat} {pc : Nat} {lv : List (Nat × Value)} {st : List Value} (hc : Cx Θ (VX g) cc nL own rm ret hs ini O σ') {i : Int32} {j : Nat} (hin : inb i 12 = true) (hj : ix i = j) (hd : decode cc pc = .ok (.aaload, 1)) (kk : Sim Θ nL ρ σ F cs (pc + 1) lv (.ref (vO (VX g) + (31 + j)) :: st)) : Sim Θ nL ρ σ F cs pc lv (.int i :: .ref (vO (VX g) + 30) :: st) := by
  subst hj
  exact s_aald hc (k := 30) (t := 5) (n := 12) (b := 31) (Nat.le_of_ble_eq_true rfl) rfl rfl rfl hin hd kk
theorem rX_gv_X1_73_31 {γ : Type} {Θ : ThT Mem} {g : GeoX} {cc : ByteArray} {nL : Nat} {rm : Room} {ret : Option FieldType} {hs : List (Nat × Nat × Nat × Nat)} {ini : Bool} {O : Outcome} {σ' : Mem} {ρ : γ} {σ : Mem} {F : Option γ} {cs : Nat × Nat} {pc : Nat} {lv : List (Nat × Value)} {st : List Value} (hc : Cx Θ (VX g) cc nL RX1 rm ret hs ini O σ') {j : Nat} (hj : j < 12) (hd : decode cc pc = .ok (.getfield 73, 3)) (kk : Sim Θ nL ρ σ F cs (pc + 3) lv (va_rf ((gR σ (31 + j) 0).map (vO (VX g) + ·)) :: st)) : Sim Θ nL ρ σ F cs pc lv (.ref (vO (VX g) + (31 + j)) :: st) := s_get hc (C := RX2) (T := TX2) (N := 1) (ci := 2) (k := 31 + j) in_X2 (YXk_31 g j hj) (YX_31 g.1 _ _ _ j hj) rfl 0 (Nat.le_of_ble_eq_true rfl) q112 (fun _ _ _ _ h => h) rfl hd kk
def fX1_group_28 (N : Nat) (σ : Mem) (x1 : Int32) : Option (Option Nat) :=
  gb (inb x1 12) (
  mO (gR σ (31 + ix x1) 0)
  (some (none)) (fun a2 => 
  (dC 8 16 σ a2).bind (fun c3 => 
  some (some a2))))
set_option maxHeartbeats 4000000 in
theorem wfX1_group_28 {Θ : ThT Mem} {g : GeoX} {N : Nat}  {ρ : Option Nat} (σ : Mem) (x1 : Int32) (hc : Cx Θ (VX g) cX1_group 2 RX1 (rk 1 0 0) (some (.object "SlipWeeks$Cross")) [] false (oR (vO (VX g)) ρ) σ) : Sim Θ 2 ρ σ (fX1_group_28 N σ x1) (0, 0) 0 [(0, .ref (vO (VX g) + 28)), (1, .int x1)] [] := by
  have hz := hc.z
  unfold fX1_group_28
  refine s_aload_n hz dX1_group_0 rfl 0 rfl ?_
  refine rX_g_X1_23_28 hc dX1_group_1 ?_
  refine s_iload_n hz dX1_group_4 rfl 1 rfl ?_
  refine s_gb (fun h1 => ?_)
  refine rX_aa_30 hc h1 rfl dX1_group_5 ?_
  refine rX_gv_X1_73_31 hc (inb_lt h1) dX1_group_6 ?_
  refine s_opt (fun _ => ?_) (fun a2 _ => ?_)
  · refine s_castN hz dX1_group_9 ?_
    exact s_aretN hc (Or.inl ⟨_, rfl⟩) dX1_group_12 (Nat.le_of_ble_eq_true rfl) (Nat.le_of_ble_eq_true rfl)
  · refine s_bind (fun c3 e4 => ?_)
    refine rX_co_X1_68 hc e4 dX1_group_9 ?_
    exact s_aret hc (Or.inl ⟨_, rfl⟩) dX1_group_12 (Nat.le_of_ble_eq_true rfl) (Nat.le_of_ble_eq_true rfl)
theorem cfX1_group_28 {g : GeoX} {N : Nat}  {σ : Mem} {x1 : Int32} {ρ : Option Nat} (hF : fX1_group_28 N σ x1 = some ρ) (l : Launch) : Ct (VX g) l yX1_group cX1_group 2 (some (.object "SlipWeeks$Cross")) (rk 1 0 0) [.ref (vO (VX g) + 28), .int x1] σ (oR (vO (VX g)) ρ) σ :=
  Ct.of (by decide) (Nat.le_of_ble_eq_true rfl) (fun Θ hc ls hl => wfX1_group_28 σ x1 hc hF ls hl)
theorem rX_g_X1_54_1 {γ : Type} {Θ : ThT Mem} {g : GeoX} {cc : ByteArray} {nL : Nat} {rm : Room} {ret : Option FieldType} {hs : List (Nat × Nat × Nat × Nat)} {ini : Bool} {O : Outcome} {σ' : Mem} {ρ : γ} {σ : Mem} {F : Option γ} {cs : Nat × Nat} {pc : Nat} {lv : List (Nat × Value)} {st : List Value} (hc : Cx Θ (VX g) cc nL RX1 rm ret hs ini O σ') (hd : decode cc pc = .ok (.getfield 54, 3)) (kk : Sim Θ nL ρ σ F cs (pc + 3) lv (.int (gI σ 1 1) :: st)) : Sim Θ nL ρ σ F cs pc lv (.ref (vO (VX g) + 1) :: st) := s_get hc (C := RX1) (T := TX1) (N := 10) (ci := 1) (k := 1) in_X1 (Nat.le_of_ble_eq_true rfl) rfl rfl 1 (Nat.le_of_ble_eq_true rfl) q124 (fun _ _ _ _ h => h) rfl hd kk
theorem rX_g_X1_42_1 {γ : Type} {Θ : ThT Mem} {g : GeoX} {cc : ByteArray} {nL : Nat} {rm : Room} {ret : Option FieldType} {hs : List (Nat × Nat × Nat × Nat)} {ini : Bool} {O : Outcome} {σ' : Mem} {ρ : γ} {σ : Mem} {F : Option γ} {cs : Nat × Nat} {pc : Nat} {lv : List (Nat × Value)} {st : List Value} (hc : Cx Θ (VX g) cc nL RX1 rm ret hs ini O σ') (hd : decode cc pc = .ok (.getfield 42, 3)) (kk : Sim Θ nL ρ σ F cs (pc + 3) lv (.ref (vO (VX g) + 19) :: st)) : Sim Θ nL ρ σ F cs pc lv (.ref (vO (VX g) + 1) :: st) := s_get hc (C := RX1) (T := TX1) (N := 10) (ci := 1) (k := 1) in_X1 (Nat.le_of_ble_eq_true rfl) rfl rfl 9 (Nat.le_of_ble_eq_true rfl) q140 (fun _ _ _ _ h => h) rfl hd kk
theorem rX_aa_19 {own : String} {γ : Type} {Θ : ThT Mem} {g : GeoX} {cc : ByteArray} {nL : Nat} {rm : Room} {ret : Option FieldType} {hs : List (Nat × Nat × Nat × Nat)} {ini : Bool} {O : Outcome} {σ' : Mem} {ρ : γ} {σ : Mem} {F : Option γ} {cs : Nat × Nat} {pc : Nat} {lv : List (Nat × Value)} {st : List Value} (hc : Cx Θ (VX g) cc nL own rm ret hs ini O σ') {i : Int32} {j : Nat} (hin : inb i 8 = true) (hj : ix i = j) (hd : decode cc pc = .ok (.aaload, 1)) (kk : Sim Θ nL ρ σ F cs (pc + 1) lv (.ref (vO (VX g) + (20 + j)) :: st)) : Sim Θ nL ρ σ F cs pc lv (.int i :: .ref (vO (VX g) + 19) :: st) := by
  subst hj
  exact s_aald hc (k := 19) (t := 6) (n := 8) (b := 20) (Nat.le_of_ble_eq_true rfl) rfl rfl rfl hin hd kk
theorem rX_ld_20 {own : String} {γ : Type} {Θ : ThT Mem} {g : GeoX} {cc : ByteArray} {nL : Nat} {rm : Room} {ret : Option FieldType} {hs : List (Nat × Nat × Nat × Nat)} {ini : Bool} {O : Outcome} {σ' : Mem} {ρ : γ} {σ : Mem} {F : Option γ} {cs : Nat × Nat} {pc : Nat} {lv : List (Nat × Value)} {st : List Value} (hc : Cx Θ (VX g) cc nL own rm ret hs ini O σ') {i : Int32} {j : Nat} (hin : inb i 40 = true) (hj : ix i = j) (hd : decode cc pc = .ok (.iaload, 1)) (kk : Sim Θ nL ρ σ F cs (pc + 1) lv (.int (gI σ 20 j) :: st)) : Sim Θ nL ρ σ F cs pc lv (.int i :: .ref (vO (VX g) + 20) :: st) := s_iald hc (k := 20) (t := 0) (n := 40) (Nat.le_of_ble_eq_true rfl) rfl rfl hin hj hd kk
def fX1_latest_1 (N : Nat) (σ : Mem)  : Option (Int32) :=
  if (gI σ 1 1) = (0 : Int32) then
  (some (0 : Int32))
  else (gb (inb ((gI σ 1 1) - (1 : Int32)) 40) (
  some (gI σ 20 (ix ((gI σ 1 1) - (1 : Int32))))))
set_option maxHeartbeats 4000000 in
theorem wfX1_latest_1 {Θ : ThT Mem} {g : GeoX} {N : Nat}  {ρ : Int32} (σ : Mem)  (hc : Cx Θ (VX g) cX1_latest 1 RX1 (rk 1 0 0) (some .int) [] false (oI ρ) σ) : Sim Θ 1 ρ σ (fX1_latest_1 N σ ) (0, 0) 0 [(0, .ref (vO (VX g) + 1))] [] := by
  have hz := hc.z
  unfold fX1_latest_1
  refine s_aload_n hz dX1_latest_0 rfl 0 rfl ?_
  refine rX_g_X1_54_1 hc dX1_latest_1 ?_
  refine s_if_ne (tgt := 11) hz dX1_latest_4 rfl (fun h1 => ?_) (fun h1 => ?_)
  · refine s_aload_n hz dX1_latest_11 rfl 0 rfl ?_
    refine rX_g_X1_42_1 hc dX1_latest_12 ?_
    refine s_iconst (v := (0 : Int32)) hz dX1_latest_15 (by decide) ?_
    refine rX_aa_19 hc (j := 0) (by decide) (by decide) dX1_latest_16 ?_
    refine s_aload_n hz dX1_latest_17 rfl 0 rfl ?_
    refine rX_g_X1_54_1 hc dX1_latest_18 ?_
    refine s_iconst (v := (1 : Int32)) hz dX1_latest_21 (by decide) ?_
    refine s_isub hz dX1_latest_22 ?_
    refine s_gb (fun h2 => ?_)
    refine rX_ld_20 hc h2 rfl dX1_latest_23 ?_
    exact s_iret hc dX1_latest_24 (Nat.le_of_ble_eq_true rfl) (Nat.le_of_ble_eq_true rfl)
  · refine s_iconst (v := (0 : Int32)) hz dX1_latest_7 (by decide) ?_
    refine s_goto (tgt := 24) hz dX1_latest_8 rfl ?_
    exact s_iret hc dX1_latest_24 (Nat.le_of_ble_eq_true rfl) (Nat.le_of_ble_eq_true rfl)
theorem cfX1_latest_1 {g : GeoX} {N : Nat}  {σ : Mem}  {ρ : Int32} (hF : fX1_latest_1 N σ  = some ρ) (l : Launch) : Ct (VX g) l yX1_latest cX1_latest 1 (some .int) (rk 1 0 0) [.ref (vO (VX g) + 1)] σ (oI ρ) σ :=
  Ct.of (by decide) (Nat.le_of_ble_eq_true rfl) (fun Θ hc ls hl => wfX1_latest_1 σ  hc hF ls hl)
theorem rX_g_X0_42_0 {γ : Type} {Θ : ThT Mem} {g : GeoX} {cc : ByteArray} {nL : Nat} {rm : Room} {ret : Option FieldType} {hs : List (Nat × Nat × Nat × Nat)} {ini : Bool} {O : Outcome} {σ' : Mem} {ρ : γ} {σ : Mem} {F : Option γ} {cs : Nat × Nat} {pc : Nat} {lv : List (Nat × Value)} {st : List Value} (hc : Cx Θ (VX g) cc nL RX0 rm ret hs ini O σ') (hd : decode cc pc = .ok (.getfield 42, 3)) (kk : Sim Θ nL ρ σ F cs (pc + 3) lv (.ref (vO (VX g) + 1) :: st)) : Sim Θ nL ρ σ F cs pc lv (.ref (vO (VX g) + 0) :: st) := s_get hc (C := RX0) (T := TX0) (N := 19) (ci := 0) (k := 0) in_X0 (Nat.le_of_ble_eq_true rfl) rfl rfl 0 (Nat.le_of_ble_eq_true rfl) q210 (fun _ _ _ _ h => h) rfl hd kk
theorem rX_g_X0_131_1 {γ : Type} {Θ : ThT Mem} {g : GeoX} {cc : ByteArray} {nL : Nat} {rm : Room} {ret : Option FieldType} {hs : List (Nat × Nat × Nat × Nat)} {ini : Bool} {O : Outcome} {σ' : Mem} {ρ : γ} {σ : Mem} {F : Option γ} {cs : Nat × Nat} {pc : Nat} {lv : List (Nat × Value)} {st : List Value} (hc : Cx Θ (VX g) cc nL RX0 rm ret hs ini O σ') (hd : decode cc pc = .ok (.getfield 131, 3)) (kk : Sim Θ nL ρ σ F cs (pc + 3) lv (.int (gI σ 1 0) :: st)) : Sim Θ nL ρ σ F cs pc lv (.ref (vO (VX g) + 1) :: st) := s_get hc (C := RX1) (T := TX1) (N := 10) (ci := 1) (k := 1) in_X1 (Nat.le_of_ble_eq_true rfl) rfl rfl 0 (Nat.le_of_ble_eq_true rfl) q123 (fun _ _ _ _ h => h) rfl hd kk
theorem kX_X0_134_1 {γ : Type} {Θ : ThT Mem} {g : GeoX} {cc : ByteArray} {nL : Nat} {rm : Room} {ret : Option FieldType} {hs : List (Nat × Nat × Nat × Nat)} {ini : Bool} {O : Outcome} {σ' : Mem} {ρ : γ} {σ : Mem} {F : Option γ} {cs : Nat × Nat} {pc : Nat} {lv : List (Nat × Value)} {st : List Value} (hc : Cx Θ (VX g) cc nL RX0 rm ret hs ini O σ') {σ1 : Mem} {x1 : Int32} {r : Option Nat} {rmc : Room} (hM : ∀ l : Launch, Ct (VX g) l yX1_group cX1_group 2 (some (.object "SlipWeeks$Cross")) rmc [.ref (vO (VX g) + 1), .int x1] σ (oR (vO (VX g)) r) σ1) (hR : rmc.frames + 1 ≤ rm.frames ∧ 8 + (2 + 11) + rmc.locals ≤ rm.locals) (hf : cs.1 + rmc.cells ≤ rm.cells ∧ cs.2 + rmc.slots ≤ rm.slots) (hrest : (st.map fun v => v.category).sum ≤ 8) (hd : decode cc pc = .ok (.invokevirtual 134, 3)) (kk : Sim Θ nL ρ σ1 F (cs.1 + rmc.cells, cs.2 + rmc.slots) (pc + 3) lv (va_rf (r.map (vO (VX g) + ·)) :: st)) : Sim Θ nL ρ σ F cs pc lv (.int x1 :: .ref (vO (VX g) + 1) :: st) := s_callVo hc (a := 1) (As := [.int x1]) (rest := st) (n := 1) (ci := 1) (q := (RX1, TX1, 10)) hM (lw_V q466 q467 q468 q63 q469) (by decide +kernel) rfl (Ob.fix (Nat.le_of_ble_eq_true rfl) rfl) rfl rfl hrest hR hf hd kk
def fX0_peopleAt (N : Nat) (σ : Mem) (x1 : Int32) : Option ((Option Nat ⊕ Nat) × Mem) :=
  (fX0_in N σ ((x1).toInt64) (0 : Int64) ((((gI σ 1 0) - (1 : Int32))).toInt64)).bind (fun q1 => 
  (fX0_need N σ q1 (0 : Int32)).bind (fun q6 => cT2 q6 (fun v3 σ5 => 
  (fX1_group_1 N σ5 x1).bind (fun q9 => 
  mO q9
  (some (.inl (none), σ5)) (fun a11 => 
  some (.inl (some a11), σ5)))) (fun b4 σ5 => 
  some (.inr b4, σ5))))
set_option maxHeartbeats 4000000 in
theorem wfX0_peopleAt {Θ : ThT Mem} {g : GeoX} {N : Nat}  {ρ : (Option Nat ⊕ Nat) × Mem} (σ : Mem) (x1 : Int32) (hc : Cx Θ (VX g) cX0_peopleAt 2 RX0 (rk 5 1 7) (some (.object "SlipWeeks$Cross")) [] false (oT (oR (vO (VX g))) ρ.1 (vO (VX g))) ρ.2) : Sim Θ 2 ρ σ (fX0_peopleAt N σ x1) (0, 0) 0 [(0, .ref (vO (VX g) + 0)), (1, .int x1)] [] := by
  have hz := hc.z
  unfold fX0_peopleAt
  refine s_iload_n hz dX0_peopleAt_0 rfl 1 rfl ?_
  refine s_i2l hz dX0_peopleAt_1 ?_
  refine s_lconst (v := (0 : Int64)) hz dX0_peopleAt_2 (by decide) ?_
  refine s_aload_n hz dX0_peopleAt_3 rfl 0 rfl ?_
  refine rX_g_X0_42_0 hc dX0_peopleAt_4 ?_
  refine rX_g_X0_131_1 hc dX0_peopleAt_7 ?_
  refine s_iconst (v := (1 : Int32)) hz dX0_peopleAt_10 (by decide) ?_
  refine s_isub hz dX0_peopleAt_11 ?_
  refine s_i2l hz dX0_peopleAt_12 ?_
  refine s_bind (fun q1 e2 => ?_)
  refine kX_X0_125 hc (cfX0_in e2) ⟨(Nat.le_of_ble_eq_true rfl), (Nat.le_of_ble_eq_true rfl)⟩ ⟨(Nat.le_of_ble_eq_true rfl), (Nat.le_of_ble_eq_true rfl)⟩ (Nat.le_of_ble_eq_true rfl) dX0_peopleAt_13 ?_
  refine s_iconst (v := (0 : Int32)) hz dX0_peopleAt_16 (by decide) ?_
  refine s_bind (fun q6 e7 => ?_)
  rcases q6 with ⟨v3 | b4, σ5⟩
  · refine kX_X0_119 hc (cfX0_need e7) ⟨(Nat.le_of_ble_eq_true rfl), (Nat.le_of_ble_eq_true rfl)⟩ ⟨(Nat.le_of_ble_eq_true rfl), (Nat.le_of_ble_eq_true rfl)⟩ (Nat.le_of_ble_eq_true rfl) dX0_peopleAt_17 (s_c2 ?_)
    refine s_aload_n hz dX0_peopleAt_20 rfl 0 rfl ?_
    refine rX_g_X0_42_0 hc dX0_peopleAt_21 ?_
    refine s_iload_n hz dX0_peopleAt_24 rfl 1 rfl ?_
    refine s_bind (fun q9 e10 => ?_)
    refine kX_X0_134_1 hc (cfX1_group_1 e10) ⟨(Nat.le_of_ble_eq_true rfl), (Nat.le_of_ble_eq_true rfl)⟩ ⟨(Nat.le_of_ble_eq_true rfl), (Nat.le_of_ble_eq_true rfl)⟩ (Nat.le_of_ble_eq_true rfl) dX0_peopleAt_25 ?_
    refine s_opt (fun _ => ?_) (fun a11 _ => ?_)
    · exact s_aretNT hc (Or.inl ⟨_, rfl⟩) dX0_peopleAt_28 (Nat.le_of_ble_eq_true rfl) (Nat.le_of_ble_eq_true rfl)
    · exact s_aretT hc (Or.inl ⟨_, rfl⟩) dX0_peopleAt_28 (Nat.le_of_ble_eq_true rfl) (Nat.le_of_ble_eq_true rfl)
  · exact kX_X0_119_t hc (cfX0_need e7) ⟨(Nat.le_of_ble_eq_true rfl), (Nat.le_of_ble_eq_true rfl)⟩ ⟨(Nat.le_of_ble_eq_true rfl), (Nat.le_of_ble_eq_true rfl)⟩ (Nat.le_of_ble_eq_true rfl) dX0_peopleAt_17 rfl
theorem cfX0_peopleAt {g : GeoX} {N : Nat}  {σ : Mem} {x1 : Int32} {ρ : (Option Nat ⊕ Nat) × Mem} (hF : fX0_peopleAt N σ x1 = some ρ) (l : Launch) : Ct (VX g) l yX0_peopleAt cX0_peopleAt 2 (some (.object "SlipWeeks$Cross")) (rk 5 1 7) [.ref (vO (VX g) + 0), .int x1] σ (oT (oR (vO (VX g))) ρ.1 (vO (VX g))) ρ.2 :=
  Ct.of (by decide) (Nat.le_of_ble_eq_true rfl) (fun Θ hc ls hl => wfX0_peopleAt σ x1 hc hF ls hl)
