set_option maxRecDepth 100000
theorem rX_wi_X16_7 {γ : Type} {Θ : ThT Mem} {g : GeoX} {cc : ByteArray} {nL : Nat} {rm : Room} {ret : Option FieldType} {hs : List (Nat × Nat × Nat × Nat)} {ini : Bool} {O : Outcome} {σ' : Mem} {ρ : γ} {σ : Mem} {F : Option γ} {cs : Nat × Nat} {pc : Nat} {lv : List (Nat × Value)} {st : List Value} (hc : Cx Θ (VX g) cc nL RX16 rm ret hs ini O σ') {a : Nat} {x : Int32} {σ1 : Mem} (hi1 : ini = true) (h : wV 16 18 σ a 0 (.int x) = some σ1) (hd : decode cc pc = .ok (.putfield 7, 3)) (kk : Sim Θ nL ρ σ1 F cs (pc + 3) lv st) : Sim Θ nL ρ σ F cs pc lv (.int x :: .ref (vO (VX g) + a) :: st) := by
  obtain ⟨c, fs, ha, h1, h2, hlen, rfl⟩ := wV_spec h
  have h3 : c = 16 ∨ c = 17 := by omega
  rcases h3 with rfl | rfl
  · exact s_dput hc (C := RX16) (T := TX16) (N := 1) (v := (.int x)) ha in_X16 tyX16_ok nmX16 rfl 0 (Nat.le_of_ble_eq_true rfl) q746 (fun _ _ _ _ h => h) (ty := .int) (by decide +kernel) rfl rfl hlen (Or.inr ⟨rfl, hi1, rfl⟩) hd kk
  · exact s_dput hc (C := RX17) (T := TX17) (N := 1) (v := (.int x)) ha in_X17 tyX17_ok nmX17 rfl 0 (Nat.le_of_ble_eq_true rfl) q746 (fun _ _ _ _ h => h) (ty := .int) (by decide +kernel) rfl rfl hlen (Or.inr ⟨rfl, hi1, rfl⟩) hd kk
def fX16_init (N : Nat) (σ : Mem) (x0 : Nat) (x1 : Int32) : Option (Unit × Mem) :=
  (wV 16 18 σ x0 0 (.int x1)).bind (fun σ1 => 
  some ((), σ1))
set_option maxHeartbeats 4000000 in
theorem wfX16_init {Θ : ThT Mem} {g : GeoX} {N : Nat}  {ρ : Unit × Mem} (σ : Mem) (x0 : Nat) (x1 : Int32) (hc : Cx Θ (VX g) cX16_init 2 RX16 (rk 2 0 0) none [] true (oV) ρ.2) : Sim Θ 2 ρ σ (fX16_init N σ x0 x1) (0, 0) 0 [(0, .ref (vO (VX g) + x0)), (1, .int x1)] [] := by
  have hz := hc.z
  unfold fX16_init
  refine s_aload_n hz dX16_init_0 rfl 0 rfl ?_
  refine s_objInit hc q745 q94 q95 (Nat.le_of_ble_eq_true rfl) (Nat.le_of_ble_eq_true rfl) dX16_init_1 ?_
  refine s_aload_n hz dX16_init_4 rfl 0 rfl ?_
  refine s_iload_n hz dX16_init_5 rfl 1 rfl ?_
  refine s_bind (fun σ1 e2 => ?_)
  refine rX_wi_X16_7 hc rfl e2 dX16_init_6 ?_
  exact s_vretM hc dX16_init_9 (Nat.le_of_ble_eq_true rfl) (Nat.le_of_ble_eq_true rfl)
theorem cfX16_init {g : GeoX} {N : Nat}  {σ : Mem} {x0 : Nat} {x1 : Int32} {ρ : Unit × Mem} (hF : fX16_init N σ x0 x1 = some ρ) (l : Launch) : Ct (VX g) l yX16_init cX16_init 2 none (rk 2 0 0) [.ref (vO (VX g) + x0), .int x1] σ (oV) ρ.2 :=
  Ct.ofFI true (plainFor_of_name (by decide)) (fun h => rfl) (Nat.le_of_ble_eq_true rfl) (fun Θ hc ls hl => wfX16_init σ x0 x1 hc hF ls hl)
theorem kX_X17_1 {γ : Type} {Θ : ThT Mem} {g : GeoX} {cc : ByteArray} {nL : Nat} {rm : Room} {ret : Option FieldType} {hs : List (Nat × Nat × Nat × Nat)} {ini : Bool} {O : Outcome} {σ' : Mem} {ρ : γ} {σ : Mem} {F : Option γ} {cs : Nat × Nat} {pc : Nat} {lv : List (Nat × Value)} {st : List Value} (hc : Cx Θ (VX g) cc nL RX17 rm ret hs ini O σ') {σ1 : Mem} {x0 : Nat} {x1 : Int32} {rmc : Room} (hM : ∀ l : Launch, Ct (VX g) l yX16_init cX16_init 2 none rmc [.ref (vO (VX g) + x0), .int x1] σ oV σ1) (hR : rmc.frames + 1 ≤ rm.frames ∧ 8 + (2 + 11) + rmc.locals ≤ rm.locals) (hf : cs.1 + rmc.cells ≤ rm.cells ∧ cs.2 + rmc.slots ≤ rm.slots) (hrest : (st.map fun v => v.category).sum ≤ 8) (hd : decode cc pc = .ok (.invokespecial 1, 3)) (kk : Sim Θ nL ρ σ1 F (cs.1 + rmc.cells, cs.2 + rmc.slots) (pc + 3) lv (st)) : Sim Θ nL ρ σ F cs pc lv (.int x1 :: .ref (vO (VX g) + x0) :: st) := s_callI hc (a := x0) (As := [.int x1]) (rest := st) (n := 1) hM q744 q82 q758 q743 (by decide +kernel) rfl rfl hrest hR hf hd kk
def fX17_init (N : Nat) (σ : Mem) (x0 : Nat) (x1 : Int32) : Option (Unit × Mem) :=
  (fX16_init N σ x0 x1).bind (fun q1 => 
  some ((), q1.2))
set_option maxHeartbeats 4000000 in
theorem wfX17_init {Θ : ThT Mem} {g : GeoX} {N : Nat}  {ρ : Unit × Mem} (σ : Mem) (x0 : Nat) (x1 : Int32) (hc : Cx Θ (VX g) cX17_init 2 RX17 (rk 3 0 0) none [] true (oV) ρ.2) : Sim Θ 2 ρ σ (fX17_init N σ x0 x1) (0, 0) 0 [(0, .ref (vO (VX g) + x0)), (1, .int x1)] [] := by
  have hz := hc.z
  unfold fX17_init
  refine s_aload_n hz dX17_init_0 rfl 0 rfl ?_
  refine s_iload_n hz dX17_init_1 rfl 1 rfl ?_
  refine s_bind (fun q1 e2 => ?_)
  refine kX_X17_1 hc (cfX16_init e2) ⟨(Nat.le_of_ble_eq_true rfl), (Nat.le_of_ble_eq_true rfl)⟩ ⟨(Nat.le_of_ble_eq_true rfl), (Nat.le_of_ble_eq_true rfl)⟩ (Nat.le_of_ble_eq_true rfl) dX17_init_2 ?_
  exact s_vretM hc dX17_init_5 (Nat.le_of_ble_eq_true rfl) (Nat.le_of_ble_eq_true rfl)
theorem cfX17_init {g : GeoX} {N : Nat}  {σ : Mem} {x0 : Nat} {x1 : Int32} {ρ : Unit × Mem} (hF : fX17_init N σ x0 x1 = some ρ) (l : Launch) : Ct (VX g) l yX17_init cX17_init 2 none (rk 3 0 0) [.ref (vO (VX g) + x0), .int x1] σ (oV) ρ.2 :=
  Ct.ofFI true (plainFor_of_name (by decide)) (fun h => rfl) (Nat.le_of_ble_eq_true rfl) (fun Θ hc ls hl => wfX17_init σ x0 x1 hc hF ls hl)
theorem rX_wi_X19_7 {γ : Type} {Θ : ThT Mem} {g : GeoX} {cc : ByteArray} {nL : Nat} {rm : Room} {ret : Option FieldType} {hs : List (Nat × Nat × Nat × Nat)} {ini : Bool} {O : Outcome} {σ' : Mem} {ρ : γ} {σ : Mem} {F : Option γ} {cs : Nat × Nat} {pc : Nat} {lv : List (Nat × Value)} {st : List Value} (hc : Cx Θ (VX g) cc nL RX19 rm ret hs ini O σ') {a : Nat} {x : Int32} {σ1 : Mem} (hi1 : ini = true) (h : wV 18 20 σ a 0 (.int x) = some σ1) (hd : decode cc pc = .ok (.putfield 7, 3)) (kk : Sim Θ nL ρ σ1 F cs (pc + 3) lv st) : Sim Θ nL ρ σ F cs pc lv (.int x :: .ref (vO (VX g) + a) :: st) := by
  obtain ⟨c, fs, ha, h1, h2, hlen, rfl⟩ := wV_spec h
  have h3 : c = 18 ∨ c = 19 := by omega
  rcases h3 with rfl | rfl
  · exact s_dput hc (C := RX19) (T := TX19) (N := 3) (v := (.int x)) ha in_X19 tyX19_ok nmX19 rfl 0 (Nat.le_of_ble_eq_true rfl) q797 (fun _ _ _ _ h => h) (ty := .int) (by decide +kernel) rfl rfl hlen (Or.inr ⟨rfl, hi1, rfl⟩) hd kk
  · exact s_dput hc (C := RX20) (T := TX20) (N := 4) (v := (.int x)) ha in_X20 tyX20_ok nmX20 rfl 0 (Nat.le_of_ble_eq_true rfl) q797 (fun _ _ _ _ h => h) (ty := .int) (by decide +kernel) rfl rfl hlen (Or.inr ⟨rfl, hi1, rfl⟩) hd kk
theorem rX_wr_X19_13 {γ : Type} {Θ : ThT Mem} {g : GeoX} {cc : ByteArray} {nL : Nat} {rm : Room} {ret : Option FieldType} {hs : List (Nat × Nat × Nat × Nat)} {ini : Bool} {O : Outcome} {σ' : Mem} {ρ : γ} {σ : Mem} {F : Option γ} {cs : Nat × Nat} {pc : Nat} {lv : List (Nat × Value)} {st : List Value} (hc : Cx Θ (VX g) cc nL RX19 rm ret hs ini O σ') {a : Nat} {x : Nat} {σ1 : Mem} (hi1 : ini = true) (h : wV 18 20 σ a 1 (.ref x) = some σ1) (hd : decode cc pc = .ok (.putfield 13, 3)) (kk : Sim Θ nL ρ σ1 F cs (pc + 3) lv st) : Sim Θ nL ρ σ F cs pc lv (.ref (vO (VX g) + x) :: .ref (vO (VX g) + a) :: st) := by
  obtain ⟨c, fs, ha, h1, h2, hlen, rfl⟩ := wV_spec h
  have h3 : c = 18 ∨ c = 19 := by omega
  rcases h3 with rfl | rfl
  · exact s_dput hc (C := RX19) (T := TX19) (N := 3) (v := (.ref x)) ha in_X19 tyX19_ok nmX19 rfl 1 (Nat.le_of_ble_eq_true rfl) q798 (fun _ _ _ _ h => h) (ty := .object "SlipWeeks$Part") (by decide +kernel) rfl rfl hlen (Or.inr ⟨rfl, hi1, rfl⟩) hd kk
  · exact s_dput hc (C := RX20) (T := TX20) (N := 4) (v := (.ref x)) ha in_X20 tyX20_ok nmX20 rfl 1 (Nat.le_of_ble_eq_true rfl) q798 (fun _ _ _ _ h => h) (ty := .object "SlipWeeks$Part") (by decide +kernel) rfl rfl hlen (Or.inr ⟨rfl, hi1, rfl⟩) hd kk
theorem rX_wr_X19_17 {γ : Type} {Θ : ThT Mem} {g : GeoX} {cc : ByteArray} {nL : Nat} {rm : Room} {ret : Option FieldType} {hs : List (Nat × Nat × Nat × Nat)} {ini : Bool} {O : Outcome} {σ' : Mem} {ρ : γ} {σ : Mem} {F : Option γ} {cs : Nat × Nat} {pc : Nat} {lv : List (Nat × Value)} {st : List Value} (hc : Cx Θ (VX g) cc nL RX19 rm ret hs ini O σ') {a : Nat} {x : Nat} {σ1 : Mem} (hi1 : ini = true) (h : wV 18 20 σ a 2 (.ref x) = some σ1) (hd : decode cc pc = .ok (.putfield 17, 3)) (kk : Sim Θ nL ρ σ1 F cs (pc + 3) lv st) : Sim Θ nL ρ σ F cs pc lv (.ref (vO (VX g) + x) :: .ref (vO (VX g) + a) :: st) := by
  obtain ⟨c, fs, ha, h1, h2, hlen, rfl⟩ := wV_spec h
  have h3 : c = 18 ∨ c = 19 := by omega
  rcases h3 with rfl | rfl
  · exact s_dput hc (C := RX19) (T := TX19) (N := 3) (v := (.ref x)) ha in_X19 tyX19_ok nmX19 rfl 2 (Nat.le_of_ble_eq_true rfl) q801 (fun _ _ _ _ h => h) (ty := .object "SlipWeeks$Part") (by decide +kernel) rfl rfl hlen (Or.inr ⟨rfl, hi1, rfl⟩) hd kk
  · exact s_dput hc (C := RX20) (T := TX20) (N := 4) (v := (.ref x)) ha in_X20 tyX20_ok nmX20 rfl 2 (Nat.le_of_ble_eq_true rfl) q801 (fun _ _ _ _ h => h) (ty := .object "SlipWeeks$Part") (by decide +kernel) rfl rfl hlen (Or.inr ⟨rfl, hi1, rfl⟩) hd kk
def fX19_init (N : Nat) (σ : Mem) (x0 : Nat) (x1 : Int32) (x2 : Nat) (x3 : Nat) : Option (Unit × Mem) :=
  (wV 18 20 σ x0 0 (.int x1)).bind (fun σ1 => 
  (wV 18 20 σ1 x0 1 (.ref x2)).bind (fun σ3 => 
  (wV 18 20 σ3 x0 2 (.ref x3)).bind (fun σ5 => 
  some ((), σ5))))
set_option maxHeartbeats 4000000 in
theorem wfX19_init {Θ : ThT Mem} {g : GeoX} {N : Nat}  {ρ : Unit × Mem} (σ : Mem) (x0 : Nat) (x1 : Int32) (x2 : Nat) (x3 : Nat) (hc : Cx Θ (VX g) cX19_init 4 RX19 (rk 2 0 0) none [] true (oV) ρ.2) : Sim Θ 4 ρ σ (fX19_init N σ x0 x1 x2 x3) (0, 0) 0 [(0, .ref (vO (VX g) + x0)), (1, .int x1), (2, .ref (vO (VX g) + x2)), (3, .ref (vO (VX g) + x3))] [] := by
  have hz := hc.z
  unfold fX19_init
  refine s_aload_n hz dX19_init_0 rfl 0 rfl ?_
  refine s_objInit hc q795 q94 q95 (Nat.le_of_ble_eq_true rfl) (Nat.le_of_ble_eq_true rfl) dX19_init_1 ?_
  refine s_aload_n hz dX19_init_4 rfl 0 rfl ?_
  refine s_iload_n hz dX19_init_5 rfl 1 rfl ?_
  refine s_bind (fun σ1 e2 => ?_)
  refine rX_wi_X19_7 hc rfl e2 dX19_init_6 ?_
  refine s_aload_n hz dX19_init_9 rfl 0 rfl ?_
  refine s_aload_n hz dX19_init_10 rfl 2 rfl ?_
  refine s_bind (fun σ3 e4 => ?_)
  refine rX_wr_X19_13 hc rfl e4 dX19_init_11 ?_
  refine s_aload_n hz dX19_init_14 rfl 0 rfl ?_
  refine s_aload_n hz dX19_init_15 rfl 3 rfl ?_
  refine s_bind (fun σ5 e6 => ?_)
  refine rX_wr_X19_17 hc rfl e6 dX19_init_16 ?_
  exact s_vretM hc dX19_init_19 (Nat.le_of_ble_eq_true rfl) (Nat.le_of_ble_eq_true rfl)
theorem cfX19_init {g : GeoX} {N : Nat}  {σ : Mem} {x0 : Nat} {x1 : Int32} {x2 : Nat} {x3 : Nat} {ρ : Unit × Mem} (hF : fX19_init N σ x0 x1 x2 x3 = some ρ) (l : Launch) : Ct (VX g) l yX19_init cX19_init 4 none (rk 2 0 0) [.ref (vO (VX g) + x0), .int x1, .ref (vO (VX g) + x2), .ref (vO (VX g) + x3)] σ (oV) ρ.2 :=
  Ct.ofFI true (plainFor_of_name (by decide)) (fun h => rfl) (Nat.le_of_ble_eq_true rfl) (fun Θ hc ls hl => wfX19_init σ x0 x1 x2 x3 hc hF ls hl)
theorem kX_X20_1 {γ : Type} {Θ : ThT Mem} {g : GeoX} {cc : ByteArray} {nL : Nat} {rm : Room} {ret : Option FieldType} {hs : List (Nat × Nat × Nat × Nat)} {ini : Bool} {O : Outcome} {σ' : Mem} {ρ : γ} {σ : Mem} {F : Option γ} {cs : Nat × Nat} {pc : Nat} {lv : List (Nat × Value)} {st : List Value} (hc : Cx Θ (VX g) cc nL RX20 rm ret hs ini O σ') {σ1 : Mem} {x0 : Nat} {x1 : Int32} {x2 : Nat} {x3 : Nat} {rmc : Room} (hM : ∀ l : Launch, Ct (VX g) l yX19_init cX19_init 4 none rmc [.ref (vO (VX g) + x0), .int x1, .ref (vO (VX g) + x2), .ref (vO (VX g) + x3)] σ oV σ1) (hR : rmc.frames + 1 ≤ rm.frames ∧ 8 + (4 + 11) + rmc.locals ≤ rm.locals) (hf : cs.1 + rmc.cells ≤ rm.cells ∧ cs.2 + rmc.slots ≤ rm.slots) (hrest : (st.map fun v => v.category).sum ≤ 8) (hd : decode cc pc = .ok (.invokespecial 1, 3)) (kk : Sim Θ nL ρ σ1 F (cs.1 + rmc.cells, cs.2 + rmc.slots) (pc + 3) lv (st)) : Sim Θ nL ρ σ F cs pc lv (.ref (vO (VX g) + x3) :: .ref (vO (VX g) + x2) :: .int x1 :: .ref (vO (VX g) + x0) :: st) := s_callI hc (a := x0) (As := [.int x1, .ref (vO (VX g) + x2), .ref (vO (VX g) + x3)]) (rest := st) (n := 3) hM q794 q85 q792 q793 (by decide +kernel) rfl rfl hrest hR hf hd kk
theorem rX_wr_X20_7 {γ : Type} {Θ : ThT Mem} {g : GeoX} {cc : ByteArray} {nL : Nat} {rm : Room} {ret : Option FieldType} {hs : List (Nat × Nat × Nat × Nat)} {ini : Bool} {O : Outcome} {σ' : Mem} {ρ : γ} {σ : Mem} {F : Option γ} {cs : Nat × Nat} {pc : Nat} {lv : List (Nat × Value)} {st : List Value} (hc : Cx Θ (VX g) cc nL RX20 rm ret hs ini O σ') {a : Nat} {x : Nat} {σ1 : Mem} (hi1 : ini = true) (h : wV 19 20 σ a 3 (.ref x) = some σ1) (hd : decode cc pc = .ok (.putfield 7, 3)) (kk : Sim Θ nL ρ σ1 F cs (pc + 3) lv st) : Sim Θ nL ρ σ F cs pc lv (.ref (vO (VX g) + x) :: .ref (vO (VX g) + a) :: st) := by
  obtain ⟨c, fs, ha, h1, h2, hlen, rfl⟩ := wV_spec h
  have h3 : c = 19 := by omega
  rcases h3 with rfl
  · exact s_dput hc (C := RX20) (T := TX20) (N := 4) (v := (.ref x)) ha in_X20 tyX20_ok nmX20 rfl 3 (Nat.le_of_ble_eq_true rfl) q796 (fun _ _ _ _ h => h) (ty := .object "SlipWeeks$Part") (by decide +kernel) rfl rfl hlen (Or.inr ⟨rfl, hi1, rfl⟩) hd kk
def fX20_init (N : Nat) (σ : Mem) (x0 : Nat) (x1 : Nat) (x2 : Nat) (x3 : Nat) : Option (Unit × Mem) :=
  (fX19_init N σ x0 (63 : Int32) x2 x3).bind (fun q1 => 
  (wV 19 20 q1.2 x0 3 (.ref x1)).bind (fun σ3 => 
  some ((), σ3)))
set_option maxHeartbeats 4000000 in
theorem wfX20_init {Θ : ThT Mem} {g : GeoX} {N : Nat}  {ρ : Unit × Mem} (σ : Mem) (x0 : Nat) (x1 : Nat) (x2 : Nat) (x3 : Nat) (hc : Cx Θ (VX g) cX20_init 4 RX20 (rk 3 0 0) none [] true (oV) ρ.2) : Sim Θ 4 ρ σ (fX20_init N σ x0 x1 x2 x3) (0, 0) 0 [(0, .ref (vO (VX g) + x0)), (1, .ref (vO (VX g) + x1)), (2, .ref (vO (VX g) + x2)), (3, .ref (vO (VX g) + x3))] [] := by
  have hz := hc.z
  unfold fX20_init
  refine s_aload_n hz dX20_init_0 rfl 0 rfl ?_
  refine s_bipush (v := (63 : Int32)) hz dX20_init_1 (by decide) ?_
  refine s_aload_n hz dX20_init_3 rfl 2 rfl ?_
  refine s_aload_n hz dX20_init_4 rfl 3 rfl ?_
  refine s_bind (fun q1 e2 => ?_)
  refine kX_X20_1 hc (cfX19_init e2) ⟨(Nat.le_of_ble_eq_true rfl), (Nat.le_of_ble_eq_true rfl)⟩ ⟨(Nat.le_of_ble_eq_true rfl), (Nat.le_of_ble_eq_true rfl)⟩ (Nat.le_of_ble_eq_true rfl) dX20_init_5 ?_
  refine s_aload_n hz dX20_init_8 rfl 0 rfl ?_
  refine s_aload_n hz dX20_init_9 rfl 1 rfl ?_
  refine s_bind (fun σ3 e4 => ?_)
  refine rX_wr_X20_7 hc rfl e4 dX20_init_10 ?_
  exact s_vretM hc dX20_init_13 (Nat.le_of_ble_eq_true rfl) (Nat.le_of_ble_eq_true rfl)
theorem cfX20_init {g : GeoX} {N : Nat}  {σ : Mem} {x0 : Nat} {x1 : Nat} {x2 : Nat} {x3 : Nat} {ρ : Unit × Mem} (hF : fX20_init N σ x0 x1 x2 x3 = some ρ) (l : Launch) : Ct (VX g) l yX20_init cX20_init 4 none (rk 3 0 0) [.ref (vO (VX g) + x0), .ref (vO (VX g) + x1), .ref (vO (VX g) + x2), .ref (vO (VX g) + x3)] σ (oV) ρ.2 :=
  Ct.ofFI true (plainFor_of_name (by decide)) (fun h => rfl) (Nat.le_of_ble_eq_true rfl) (fun Θ hc ls hl => wfX20_init σ x0 x1 x2 x3 hc hF ls hl)
theorem rX_wi_X18_7 {γ : Type} {Θ : ThT Mem} {g : GeoX} {cc : ByteArray} {nL : Nat} {rm : Room} {ret : Option FieldType} {hs : List (Nat × Nat × Nat × Nat)} {ini : Bool} {O : Outcome} {σ' : Mem} {ρ : γ} {σ : Mem} {F : Option γ} {cs : Nat × Nat} {pc : Nat} {lv : List (Nat × Value)} {st : List Value} (hc : Cx Θ (VX g) cc nL RX18 rm ret hs ini O σ') {a : Nat} {x : Int32} {σ1 : Mem} (hi1 : ini = true) (h : wV 6 7 σ a 6 (.int x) = some σ1) (hd : decode cc pc = .ok (.putfield 7, 3)) (kk : Sim Θ nL ρ σ1 F cs (pc + 3) lv st) : Sim Θ nL ρ σ F cs pc lv (.int x :: .ref (vO (VX g) + a) :: st) := by
  obtain ⟨c, fs, ha, h1, h2, hlen, rfl⟩ := wV_spec h
  have h3 : c = 6 := by omega
  rcases h3 with rfl
  · exact s_dput hc (C := RX18) (T := TX18) (N := 7) (v := (.int x)) ha in_X18 tyX18_ok nmX18 rfl 6 (Nat.le_of_ble_eq_true rfl) q777 (fun _ _ _ _ h => h) (ty := .int) (by decide +kernel) rfl rfl hlen (Or.inr ⟨rfl, hi1, rfl⟩) hd kk
def fX18_init (N : Nat) (σ : Mem) (x0 : Nat) (x1 : Int32) : Option (Unit × Mem) :=
  gb (thrOK σ x0) (
  (wV 6 7 σ x0 6 (.int x1)).bind (fun σ2 => 
  some ((), σ2)))
set_option maxHeartbeats 4000000 in
theorem wfX18_init {Θ : ThT Mem} {g : GeoX} {N : Nat}  {ρ : Unit × Mem} (σ : Mem) (x0 : Nat) (x1 : Int32) (hc : Cx Θ (VX g) cX18_init 2 RX18 (rk 3 0 0) none [] true (oV) ρ.2) : Sim Θ 2 ρ σ (fX18_init N σ x0 x1) (0, 0) 0 [(0, .ref (vO (VX g) + x0)), (1, .int x1)] [] := by
  have hz := hc.z
  unfold fX18_init
  refine s_aload_n hz dX18_init_0 rfl 0 rfl ?_
  refine s_null hz dX18_init_1 ?_
  refine s_null hz dX18_init_2 ?_
  refine s_iconst (v := (0 : Int32)) hz dX18_init_3 (by decide) ?_
  refine s_iconst (v := (0 : Int32)) hz dX18_init_4 (by decide) ?_
  refine s_gb (fun h1 => ?_)
  refine kX_thr_X18_1 (rm := rk 3 0 0) hc h1 ⟨(Nat.le_of_ble_eq_true rfl), (Nat.le_of_ble_eq_true rfl)⟩ (Nat.le_of_ble_eq_true rfl) dX18_init_5 ?_
  refine s_aload_n hz dX18_init_8 rfl 0 rfl ?_
  refine s_iload_n hz dX18_init_9 rfl 1 rfl ?_
  refine s_bind (fun σ2 e3 => ?_)
  refine rX_wi_X18_7 hc rfl e3 dX18_init_10 ?_
  exact s_vretM hc dX18_init_13 (Nat.le_of_ble_eq_true rfl) (Nat.le_of_ble_eq_true rfl)
theorem cfX18_init {g : GeoX} {N : Nat}  {σ : Mem} {x0 : Nat} {x1 : Int32} {ρ : Unit × Mem} (hF : fX18_init N σ x0 x1 = some ρ) (l : Launch) : Ct (VX g) l yX18_init cX18_init 2 none (rk 3 0 0) [.ref (vO (VX g) + x0), .int x1] σ (oV) ρ.2 :=
  Ct.ofFI true (plainFor_of_name (by decide)) (fun h => rfl) (Nat.le_of_ble_eq_true rfl) (fun Θ hc ls hl => wfX18_init σ x0 x1 hc hF ls hl)
theorem rX_wr_X15_7 {γ : Type} {Θ : ThT Mem} {g : GeoX} {cc : ByteArray} {nL : Nat} {rm : Room} {ret : Option FieldType} {hs : List (Nat × Nat × Nat × Nat)} {ini : Bool} {O : Outcome} {σ' : Mem} {ρ : γ} {σ : Mem} {F : Option γ} {cs : Nat × Nat} {pc : Nat} {lv : List (Nat × Value)} {st : List Value} (hc : Cx Θ (VX g) cc nL RX15 rm ret hs ini O σ') {a : Nat} {x : Nat} {σ1 : Mem} (hi1 : ini = true) (h : wV 7 8 σ a 0 (.ref x) = some σ1) (hd : decode cc pc = .ok (.putfield 7, 3)) (kk : Sim Θ nL ρ σ1 F cs (pc + 3) lv st) : Sim Θ nL ρ σ F cs pc lv (.ref (vO (VX g) + x) :: .ref (vO (VX g) + a) :: st) := by
  obtain ⟨c, fs, ha, h1, h2, hlen, rfl⟩ := wV_spec h
  have h3 : c = 7 := by omega
  rcases h3 with rfl
  · exact s_dput hc (C := RX15) (T := TX15) (N := 4) (v := (.ref x)) ha in_X15 tyX15_ok nmX15 rfl 0 (Nat.le_of_ble_eq_true rfl) q700 (fun _ _ _ _ h => h) (ty := .array .byte) (by decide +kernel) rfl rfl hlen (Or.inr ⟨rfl, hi1, rfl⟩) hd kk
theorem rX_wi_X15_13 {γ : Type} {Θ : ThT Mem} {g : GeoX} {cc : ByteArray} {nL : Nat} {rm : Room} {ret : Option FieldType} {hs : List (Nat × Nat × Nat × Nat)} {ini : Bool} {O : Outcome} {σ' : Mem} {ρ : γ} {σ : Mem} {F : Option γ} {cs : Nat × Nat} {pc : Nat} {lv : List (Nat × Value)} {st : List Value} (hc : Cx Θ (VX g) cc nL RX15 rm ret hs ini O σ') {a : Nat} {x : Int32} {σ1 : Mem} (hi1 : ini = true) (h : wV 7 8 σ a 1 (.int x) = some σ1) (hd : decode cc pc = .ok (.putfield 13, 3)) (kk : Sim Θ nL ρ σ1 F cs (pc + 3) lv st) : Sim Θ nL ρ σ F cs pc lv (.int x :: .ref (vO (VX g) + a) :: st) := by
  obtain ⟨c, fs, ha, h1, h2, hlen, rfl⟩ := wV_spec h
  have h3 : c = 7 := by omega
  rcases h3 with rfl
  · exact s_dput hc (C := RX15) (T := TX15) (N := 4) (v := (.int x)) ha in_X15 tyX15_ok nmX15 rfl 1 (Nat.le_of_ble_eq_true rfl) q701 (fun _ _ _ _ h => h) (ty := .int) (by decide +kernel) rfl rfl hlen (Or.inr ⟨rfl, hi1, rfl⟩) hd kk
def fX15_init (N : Nat) (σ : Mem) (x0 : Nat) (x2 : Int32) : Option (Unit × Mem) :=
  (wV 7 8 σ x0 0 (.ref 55)).bind (fun σ1 => 
  (wV 7 8 σ1 x0 1 (.int x2)).bind (fun σ3 => 
  some ((), σ3)))
set_option maxHeartbeats 4000000 in
theorem wfX15_init {Θ : ThT Mem} {g : GeoX} {N : Nat}  {ρ : Unit × Mem} (σ : Mem) (x0 : Nat) (x2 : Int32) (hc : Cx Θ (VX g) cX15_init 3 RX15 (rk 2 0 0) none [] true (oV) ρ.2) : Sim Θ 3 ρ σ (fX15_init N σ x0 x2) (0, 0) 0 [(0, .ref (vO (VX g) + x0)), (1, .ref (vO (VX g) + 55)), (2, .int x2)] [] := by
  have hz := hc.z
  unfold fX15_init
  refine s_aload_n hz dX15_init_0 rfl 0 rfl ?_
  refine s_objInit hc q699 q94 q95 (Nat.le_of_ble_eq_true rfl) (Nat.le_of_ble_eq_true rfl) dX15_init_1 ?_
  refine s_aload_n hz dX15_init_4 rfl 0 rfl ?_
  refine s_aload_n hz dX15_init_5 rfl 1 rfl ?_
  refine s_bind (fun σ1 e2 => ?_)
  refine rX_wr_X15_7 hc rfl e2 dX15_init_6 ?_
  refine s_aload_n hz dX15_init_9 rfl 0 rfl ?_
  refine s_iload_n hz dX15_init_10 rfl 2 rfl ?_
  refine s_bind (fun σ3 e4 => ?_)
  refine rX_wi_X15_13 hc rfl e4 dX15_init_11 ?_
  exact s_vretM hc dX15_init_14 (Nat.le_of_ble_eq_true rfl) (Nat.le_of_ble_eq_true rfl)
theorem cfX15_init {g : GeoX} {N : Nat}  {σ : Mem} {x0 : Nat} {x2 : Int32} {ρ : Unit × Mem} (hF : fX15_init N σ x0 x2 = some ρ) (l : Launch) : Ct (VX g) l yX15_init cX15_init 3 none (rk 2 0 0) [.ref (vO (VX g) + x0), .ref (vO (VX g) + 55), .int x2] σ (oV) ρ.2 :=
  Ct.ofFI true (plainFor_of_name (by decide)) (fun h => rfl) (Nat.le_of_ble_eq_true rfl) (fun Θ hc ls hl => wfX15_init σ x0 x2 hc hF ls hl)
def fX15_nameOf (N : Nat) (σ : Mem) (x0 : Int32) : Option (Int32) :=
  if x0 = (99 : Int32) then
  (some (4 : Int32))
  else (if x0 = (100 : Int32) then
  (some (5 : Int32))
  else (if x0 = (101 : Int32) then
  (some (3 : Int32))
  else (if x0 = (103 : Int32) then
  (some (2 : Int32))
  else (if x0 = (108 : Int32) then
  (some (1 : Int32))
  else (if x0 = (115 : Int32) then
  (some (0 : Int32))
  else (if x0 = (119 : Int32) then
  (some (6 : Int32))
  else (some (-1 : Int32))))))))
set_option maxHeartbeats 4000000 in
theorem wfX15_nameOf {Θ : ThT Mem} {g : GeoX} {N : Nat}  {ρ : Int32} (σ : Mem) (x0 : Int32) (hc : Cx Θ (VX g) cX15_nameOf 1 RX15 (rk 1 0 0) (some .int) [] false (oI ρ) σ) : Sim Θ 1 ρ σ (fX15_nameOf N σ x0) (0, 0) 0 [(0, .int x0)] [] := by
  have hz := hc.z
  unfold fX15_nameOf
  refine s_iload_n hz dX15_nameOf_0 rfl 0 rfl ?_
  refine s_ite (fun h1 => ?_) (fun h1 => ?_)
  · refine s_tblIn (off := 107) (tgt := 108) (k := (99 : Int32)) hz dX15_nameOf_1 h1 (by decide) (by decide) rfl rfl ?_
    refine s_iconst (v := (4 : Int32)) hz dX15_nameOf_108 (by decide) ?_
    exact s_iret hc dX15_nameOf_109 (Nat.le_of_ble_eq_true rfl) (Nat.le_of_ble_eq_true rfl)
  refine s_ite (fun h2 => ?_) (fun h2 => ?_)
  · refine s_tblIn (off := 109) (tgt := 110) (k := (100 : Int32)) hz dX15_nameOf_1 h2 (by decide) (by decide) rfl rfl ?_
    refine s_iconst (v := (5 : Int32)) hz dX15_nameOf_110 (by decide) ?_
    exact s_iret hc dX15_nameOf_111 (Nat.le_of_ble_eq_true rfl) (Nat.le_of_ble_eq_true rfl)
  refine s_ite (fun h3 => ?_) (fun h3 => ?_)
  · refine s_tblIn (off := 105) (tgt := 106) (k := (101 : Int32)) hz dX15_nameOf_1 h3 (by decide) (by decide) rfl rfl ?_
    refine s_iconst (v := (3 : Int32)) hz dX15_nameOf_106 (by decide) ?_
    exact s_iret hc dX15_nameOf_107 (Nat.le_of_ble_eq_true rfl) (Nat.le_of_ble_eq_true rfl)
  refine s_ite (fun h4 => ?_) (fun h4 => ?_)
  · refine s_tblIn (off := 103) (tgt := 104) (k := (103 : Int32)) hz dX15_nameOf_1 h4 (by decide) (by decide) rfl rfl ?_
    refine s_iconst (v := (2 : Int32)) hz dX15_nameOf_104 (by decide) ?_
    exact s_iret hc dX15_nameOf_105 (Nat.le_of_ble_eq_true rfl) (Nat.le_of_ble_eq_true rfl)
  refine s_ite (fun h5 => ?_) (fun h5 => ?_)
  · refine s_tblIn (off := 101) (tgt := 102) (k := (108 : Int32)) hz dX15_nameOf_1 h5 (by decide) (by decide) rfl rfl ?_
    refine s_iconst (v := (1 : Int32)) hz dX15_nameOf_102 (by decide) ?_
    exact s_iret hc dX15_nameOf_103 (Nat.le_of_ble_eq_true rfl) (Nat.le_of_ble_eq_true rfl)
  refine s_ite (fun h6 => ?_) (fun h6 => ?_)
  · refine s_tblIn (off := 99) (tgt := 100) (k := (115 : Int32)) hz dX15_nameOf_1 h6 (by decide) (by decide) rfl rfl ?_
    refine s_iconst (v := (0 : Int32)) hz dX15_nameOf_100 (by decide) ?_
    exact s_iret hc dX15_nameOf_101 (Nat.le_of_ble_eq_true rfl) (Nat.le_of_ble_eq_true rfl)
  refine s_ite (fun h7 => ?_) (fun h7 => ?_)
  · refine s_tblIn (off := 111) (tgt := 112) (k := (119 : Int32)) hz dX15_nameOf_1 h7 (by decide) (by decide) rfl rfl ?_
    refine s_bipush (v := (6 : Int32)) hz dX15_nameOf_112 (by decide) ?_
    exact s_iret hc dX15_nameOf_114 (Nat.le_of_ble_eq_true rfl) (Nat.le_of_ble_eq_true rfl)
  refine s_tblD (tgt := 115) (us := [99, 100, 101, 103, 108, 115, 119]) hz dX15_nameOf_1 (by decide) (by have a0 : (x0).toInt ≠ 99 := lc_ne h1; have a1 : (x0).toInt ≠ 100 := lc_ne h2; have a2 : (x0).toInt ≠ 101 := lc_ne h3; have a3 : (x0).toInt ≠ 103 := lc_ne h4; have a4 : (x0).toInt ≠ 108 := lc_ne h5; have a5 : (x0).toInt ≠ 115 := lc_ne h6; have a6 : (x0).toInt ≠ 119 := lc_ne h7; intro u hu; simp only [List.mem_cons, List.not_mem_nil, or_false] at hu; omega) rfl ?_
  refine s_iconst (v := (-1 : Int32)) hz dX15_nameOf_115 (by decide) ?_
  exact s_iret hc dX15_nameOf_116 (Nat.le_of_ble_eq_true rfl) (Nat.le_of_ble_eq_true rfl)
theorem cfX15_nameOf {g : GeoX} {N : Nat}  {σ : Mem} {x0 : Int32} {ρ : Int32} (hF : fX15_nameOf N σ x0 = some ρ) (l : Launch) : Ct (VX g) l yX15_nameOf cX15_nameOf 1 (some .int) (rk 1 0 0) [.int x0] σ (oI ρ) σ :=
  Ct.of (by decide) (Nat.le_of_ble_eq_true rfl) (fun Θ hc ls hl => wfX15_nameOf σ x0 hc hF ls hl)
theorem rX_d_X15_17 {γ : Type} {Θ : ThT Mem} {g : GeoX} {cc : ByteArray} {nL : Nat} {rm : Room} {ret : Option FieldType} {hs : List (Nat × Nat × Nat × Nat)} {ini : Bool} {O : Outcome} {σ' : Mem} {ρ : γ} {σ : Mem} {F : Option γ} {cs : Nat × Nat} {pc : Nat} {lv : List (Nat × Value)} {st : List Value} (hc : Cx Θ (VX g) cc nL RX15 rm ret hs ini O σ') {a : Nat} {v : Int32} (h : dI 7 8 σ a 2 = some v) (hd : decode cc pc = .ok (.getfield 17, 3)) (kk : Sim Θ nL ρ σ F cs (pc + 3) lv (.int v :: st)) : Sim Θ nL ρ σ F cs pc lv (.ref (vO (VX g) + a) :: st) := by
  obtain ⟨c, fs, ha, h1, h2, hv⟩ := dI_spec h
  have h3 : c = 7 := by omega
  rcases h3 with rfl
  · exact s_dget hc (C := RX15) (T := TX15) (N := 4) ha in_X15 rfl 2 (Nat.le_of_ble_eq_true rfl) q702 (fun _ _ _ _ h => h) hv hd kk
theorem rX_d_X15_13 {γ : Type} {Θ : ThT Mem} {g : GeoX} {cc : ByteArray} {nL : Nat} {rm : Room} {ret : Option FieldType} {hs : List (Nat × Nat × Nat × Nat)} {ini : Bool} {O : Outcome} {σ' : Mem} {ρ : γ} {σ : Mem} {F : Option γ} {cs : Nat × Nat} {pc : Nat} {lv : List (Nat × Value)} {st : List Value} (hc : Cx Θ (VX g) cc nL RX15 rm ret hs ini O σ') {a : Nat} {v : Int32} (h : dI 7 8 σ a 1 = some v) (hd : decode cc pc = .ok (.getfield 13, 3)) (kk : Sim Θ nL ρ σ F cs (pc + 3) lv (.int v :: st)) : Sim Θ nL ρ σ F cs pc lv (.ref (vO (VX g) + a) :: st) := by
  obtain ⟨c, fs, ha, h1, h2, hv⟩ := dI_spec h
  have h3 : c = 7 := by omega
  rcases h3 with rfl
  · exact s_dget hc (C := RX15) (T := TX15) (N := 4) ha in_X15 rfl 1 (Nat.le_of_ble_eq_true rfl) q701 (fun _ _ _ _ h => h) hv hd kk
theorem rX_d_X15_7 {γ : Type} {Θ : ThT Mem} {g : GeoX} {cc : ByteArray} {nL : Nat} {rm : Room} {ret : Option FieldType} {hs : List (Nat × Nat × Nat × Nat)} {ini : Bool} {O : Outcome} {σ' : Mem} {ρ : γ} {σ : Mem} {F : Option γ} {cs : Nat × Nat} {pc : Nat} {lv : List (Nat × Value)} {st : List Value} (hc : Cx Θ (VX g) cc nL RX15 rm ret hs ini O σ') {a : Nat} {v : Option Nat} (h : dR 7 8 σ a 0 = some v) (hd : decode cc pc = .ok (.getfield 7, 3)) (kk : Sim Θ nL ρ σ F cs (pc + 3) lv (va_rf (v.map (vO (VX g) + ·)) :: st)) : Sim Θ nL ρ σ F cs pc lv (.ref (vO (VX g) + a) :: st) := by
  have kk : Sim Θ nL ρ σ F cs (pc + 3) lv (rv (vO (VX g)) (va_rf v) :: st) := by
    cases v with
    | none => exact kk
    | some r => exact kk
  obtain ⟨c, fs, ha, h1, h2, hv⟩ := dR_spec h
  have h3 : c = 7 := by omega
  rcases h3 with rfl
  · exact s_dget hc (C := RX15) (T := TX15) (N := 4) ha in_X15 rfl 0 (Nat.le_of_ble_eq_true rfl) q700 (fun _ _ _ _ h => h) hv hd kk
theorem rX_ld_55 {own : String} {γ : Type} {Θ : ThT Mem} {g : GeoX} {cc : ByteArray} {nL : Nat} {rm : Room} {ret : Option FieldType} {hs : List (Nat × Nat × Nat × Nat)} {ini : Bool} {O : Outcome} {σ' : Mem} {ρ : γ} {σ : Mem} {F : Option γ} {cs : Nat × Nat} {pc : Nat} {lv : List (Nat × Value)} {st : List Value} (hc : Cx Θ (VX g) cc nL own rm ret hs ini O σ') {i : Int32} {j : Nat} (hin : inb i 60 = true) (hj : ix i = j) (hd : decode cc pc = .ok (.baload, 1)) (kk : Sim Θ nL ρ σ F cs (pc + 1) lv (.int (gI σ 55 j) :: st)) : Sim Θ nL ρ σ F cs pc lv (.int i :: .ref (vO (VX g) + 55) :: st) := s_bald hc (k := 55) (t := 3) (n := 60) (Nat.le_of_ble_eq_true rfl) rfl rfl hin hj hd kk
def fX15_here (N : Nat) (σ : Mem) (x0 : Nat) : Option (Int32) :=
  (dI 7 8 σ x0 2).bind (fun v1 => 
  (dI 7 8 σ x0 1).bind (fun v3 => 
  if v3 ≤ v1 then
  (some (-1 : Int32))
  else (gb (decide (dR 7 8 σ x0 0 = some (some 55))) (
  (dI 7 8 σ x0 2).bind (fun v9 => 
  gb (inb v9 60) (
  if (gI σ 55 (ix v9)) ≤ (0 : Int32) then
  (some (-1 : Int32))
  else (gb (decide (dR 7 8 σ x0 0 = some (some 55))) (
  (dI 7 8 σ x0 2).bind (fun v16 => 
  gb (inb v16 60) (
  some (gI σ 55 (ix v16))))))))))))
set_option maxHeartbeats 4000000 in
theorem wfX15_here {Θ : ThT Mem} {g : GeoX} {N : Nat}  {ρ : Int32} (σ : Mem) (x0 : Nat) (hc : Cx Θ (VX g) cX15_here 1 RX15 (rk 1 0 0) (some .int) [] false (oI ρ) σ) : Sim Θ 1 ρ σ (fX15_here N σ x0) (0, 0) 0 [(0, .ref (vO (VX g) + x0))] [] := by
  have hz := hc.z
  unfold fX15_here
  refine s_aload_n hz dX15_here_0 rfl 0 rfl ?_
  refine s_bind (fun v1 e2 => ?_)
  refine rX_d_X15_17 hc e2 dX15_here_1 ?_
  refine s_aload_n hz dX15_here_4 rfl 0 rfl ?_
  refine s_bind (fun v3 e4 => ?_)
  refine rX_d_X15_13 hc e4 dX15_here_5 ?_
  refine s_icmp_ge (tgt := 35) hz dX15_here_8 rfl (fun h5 => ?_) (fun h5 => ?_)
  · refine s_iconst (v := (-1 : Int32)) hz dX15_here_35 (by decide) ?_
    exact s_iret hc dX15_here_36 (Nat.le_of_ble_eq_true rfl) (Nat.le_of_ble_eq_true rfl)
  · refine s_aload_n hz dX15_here_11 rfl 0 rfl ?_
    refine s_gb (fun h8 => ?_)
    refine rX_d_X15_7 hc (of_decide_eq_true h8) dX15_here_12 ?_
    refine s_aload_n hz dX15_here_15 rfl 0 rfl ?_
    refine s_bind (fun v9 e10 => ?_)
    refine rX_d_X15_17 hc e10 dX15_here_16 ?_
    refine s_gb (fun h11 => ?_)
    refine rX_ld_55 hc h11 rfl dX15_here_19 ?_
    refine s_if_le (tgt := 35) hz dX15_here_20 rfl (fun h12 => ?_) (fun h12 => ?_)
    · refine s_iconst (v := (-1 : Int32)) hz dX15_here_35 (by decide) ?_
      exact s_iret hc dX15_here_36 (Nat.le_of_ble_eq_true rfl) (Nat.le_of_ble_eq_true rfl)
    · refine s_aload_n hz dX15_here_23 rfl 0 rfl ?_
      refine s_gb (fun h15 => ?_)
      refine rX_d_X15_7 hc (of_decide_eq_true h15) dX15_here_24 ?_
      refine s_aload_n hz dX15_here_27 rfl 0 rfl ?_
      refine s_bind (fun v16 e17 => ?_)
      refine rX_d_X15_17 hc e17 dX15_here_28 ?_
      refine s_gb (fun h18 => ?_)
      refine rX_ld_55 hc h18 rfl dX15_here_31 ?_
      refine s_goto (tgt := 36) hz dX15_here_32 rfl ?_
      exact s_iret hc dX15_here_36 (Nat.le_of_ble_eq_true rfl) (Nat.le_of_ble_eq_true rfl)
theorem cfX15_here {g : GeoX} {N : Nat}  {σ : Mem} {x0 : Nat} {ρ : Int32} (hF : fX15_here N σ x0 = some ρ) (l : Launch) : Ct (VX g) l yX15_here cX15_here 1 (some .int) (rk 1 0 0) [.ref (vO (VX g) + x0)] σ (oI ρ) σ :=
  Ct.of (by decide) (Nat.le_of_ble_eq_true rfl) (fun Θ hc ls hl => wfX15_here σ x0 hc hF ls hl)
theorem kX_X15_20 {γ : Type} {Θ : ThT Mem} {g : GeoX} {cc : ByteArray} {nL : Nat} {rm : Room} {ret : Option FieldType} {hs : List (Nat × Nat × Nat × Nat)} {ini : Bool} {O : Outcome} {σ' : Mem} {ρ : γ} {σ : Mem} {F : Option γ} {cs : Nat × Nat} {pc : Nat} {lv : List (Nat × Value)} {st : List Value} (hc : Cx Θ (VX g) cc nL RX15 rm ret hs ini O σ') {σ1 : Mem} {x0 : Nat} {r : Int32} (hob : Ob (VX g) σ x0 7) {rmc : Room} (hM : ∀ l : Launch, Ct (VX g) l yX15_here cX15_here 1 (some .int) rmc [.ref (vO (VX g) + x0)] σ (oI r) σ1) (hR : rmc.frames + 1 ≤ rm.frames ∧ 8 + (1 + 11) + rmc.locals ≤ rm.locals) (hf : cs.1 + rmc.cells ≤ rm.cells ∧ cs.2 + rmc.slots ≤ rm.slots) (hrest : (st.map fun v => v.category).sum ≤ 8) (hd : decode cc pc = .ok (.invokevirtual 20, 3)) (kk : Sim Θ nL ρ σ1 F (cs.1 + rmc.cells, cs.2 + rmc.slots) (pc + 3) lv (.int r :: st)) : Sim Θ nL ρ σ F cs pc lv (.ref (vO (VX g) + x0) :: st) := s_callVo hc (a := x0) (As := []) (rest := st) (n := 0) (ci := 7) (q := (RX15, TX15, 4)) hM (lw_V q729 q731 qs11 q81 q732) (by decide +kernel) rfl hob rfl rfl hrest hR hf hd kk
theorem rX_wi_X15_17 {γ : Type} {Θ : ThT Mem} {g : GeoX} {cc : ByteArray} {nL : Nat} {rm : Room} {ret : Option FieldType} {hs : List (Nat × Nat × Nat × Nat)} {ini : Bool} {O : Outcome} {σ' : Mem} {ρ : γ} {σ : Mem} {F : Option γ} {cs : Nat × Nat} {pc : Nat} {lv : List (Nat × Value)} {st : List Value} (hc : Cx Θ (VX g) cc nL RX15 rm ret hs ini O σ') {a : Nat} {x : Int32} {σ1 : Mem} (h : wV 7 8 σ a 2 (.int x) = some σ1) (hd : decode cc pc = .ok (.putfield 17, 3)) (kk : Sim Θ nL ρ σ1 F cs (pc + 3) lv st) : Sim Θ nL ρ σ F cs pc lv (.int x :: .ref (vO (VX g) + a) :: st) := by
  obtain ⟨c, fs, ha, h1, h2, hlen, rfl⟩ := wV_spec h
  have h3 : c = 7 := by omega
  rcases h3 with rfl
  · exact s_dput hc (C := RX15) (T := TX15) (N := 4) (v := (.int x)) ha in_X15 tyX15_ok nmX15 rfl 2 (Nat.le_of_ble_eq_true rfl) q702 (fun _ _ _ _ h => h) (ty := .int) (by decide +kernel) rfl rfl hlen (Or.inl rfl) hd kk
def fX15_takes (N : Nat) (σ : Mem) (x0 : Nat) (x1 : Int32) : Option (Int32 × Mem) :=
  gb (isC σ x0 7) ((fX15_here N σ x0).bind (fun q2 => 
  lt_ (if q2 = x1 then (1 : Int32) else (0 : Int32)) (fun v4 => 
  if v4 = (0 : Int32) then
  (gb (zb v4) (some (v4, σ)))
  else ((dI 7 8 σ x0 2).bind (fun v7 => 
  (wV 7 8 σ x0 2 (.int (v7 + (1 : Int32)))).bind (fun σ9 => 
  gb (zb v4) (some (v4, σ9))))))))
set_option maxHeartbeats 4000000 in
theorem wfX15_takes {Θ : ThT Mem} {g : GeoX} {N : Nat}  {ρ : Int32 × Mem} (σ : Mem) (x0 : Nat) (x1 : Int32) (hc : Cx Θ (VX g) cX15_takes 3 RX15 (rk 2 0 0) (some .boolean) [] false (oI ρ.1) ρ.2) : Sim Θ 3 ρ σ (fX15_takes N σ x0 x1) (0, 0) 0 [(0, .ref (vO (VX g) + x0)), (1, .int x1)] [] := by
  have hz := hc.z
  unfold fX15_takes
  refine s_aload_n hz dX15_takes_0 rfl 0 rfl ?_
  refine s_gb (fun h1 => ?_)
  refine s_bind (fun q2 e3 => ?_)
  refine kX_X15_20 hc (isC_ob h1) (cfX15_here e3) ⟨(Nat.le_of_ble_eq_true rfl), (Nat.le_of_ble_eq_true rfl)⟩ ⟨(Nat.le_of_ble_eq_true rfl), (Nat.le_of_ble_eq_true rfl)⟩ (Nat.le_of_ble_eq_true rfl) dX15_takes_1 ?_
  refine s_iload_n hz dX15_takes_4 rfl 1 rfl ?_
  refine s_dia (J := 13) (v := .int (if q2 = x1 then (1 : Int32) else (0 : Int32))) (st := []) (fun _ hj12 => ?_) ?_
  · refine s_icmp_ne_ (tgt := 12) hz dX15_takes_5 rfl (fun h13 => ?_) (fun h13 => ?_)
    · refine s_iconst (v := (0 : Int32)) hz dX15_takes_12 (by decide) ?_
      rw [if_neg h13] at hj12
      exact hj12
    · refine s_iconst (v := (1 : Int32)) hz dX15_takes_8 (by decide) ?_
      refine s_goto (tgt := 13) hz dX15_takes_9 rfl ?_
      rw [if_pos h13] at hj12
      exact hj12
  refine s_nmI (fun v4 => ?_)
  refine s_istore_n (lv' := [(2, .int v4), (0, .ref (vO (VX g) + x0)), (1, .int x1)]) hz dX15_takes_13 rfl (Nat.le_of_ble_eq_true rfl) rfl ?_
  refine s_iload_n hz dX15_takes_14 rfl 0 rfl ?_
  refine s_if_eq (tgt := 28) hz dX15_takes_15 rfl (fun h5 => ?_) (fun h5 => ?_)
  · refine s_iload_n hz dX15_takes_28 rfl 0 rfl ?_
    refine s_gb (fun h6 => ?_)
    exact s_zretM hc (zb_spec h6) dX15_takes_29 (Nat.le_of_ble_eq_true rfl) (Nat.le_of_ble_eq_true rfl)
  · refine s_aload_n hz dX15_takes_18 rfl 1 rfl ?_
    refine s_dup hz dX15_takes_19 rfl ?_
    refine s_bind (fun v7 e8 => ?_)
    refine rX_d_X15_17 hc e8 dX15_takes_20 ?_
    refine s_iconst (v := (1 : Int32)) hz dX15_takes_23 (by decide) ?_
    refine s_iadd hz dX15_takes_24 ?_
    refine s_bind (fun σ9 e10 => ?_)
    refine rX_wi_X15_17 hc e10 dX15_takes_25 ?_
    refine s_iload_n hz dX15_takes_28 rfl 0 rfl ?_
    refine s_gb (fun h11 => ?_)
    exact s_zretM hc (zb_spec h11) dX15_takes_29 (Nat.le_of_ble_eq_true rfl) (Nat.le_of_ble_eq_true rfl)
theorem cfX15_takes {g : GeoX} {N : Nat}  {σ : Mem} {x0 : Nat} {x1 : Int32} {ρ : Int32 × Mem} (hF : fX15_takes N σ x0 x1 = some ρ) (l : Launch) : Ct (VX g) l yX15_takes cX15_takes 3 (some .boolean) (rk 2 0 0) [.ref (vO (VX g) + x0), .int x1] σ (oI ρ.1) ρ.2 :=
  Ct.of (by decide) (Nat.le_of_ble_eq_true rfl) (fun Θ hc ls hl => wfX15_takes σ x0 x1 hc hF ls hl)
theorem dfX_X18 (o : Nat) : ∀ j, j < 7 → defaultValue (tyX18 j) = vp_V (([.null, .null, .null, .null, .null, .int 0, .int 0] : List Value).map (rv o)) j := by
  intro j hj
  match j, hj with
  | 0, _ => rfl
  | 1, _ => rfl
  | 2, _ => rfl
  | 3, _ => rfl
  | 4, _ => rfl
  | 5, _ => rfl
  | 6, _ => rfl
  | j + 7, hj => exact absurd hj (by omega)
theorem kX_X15_26 {γ : Type} {Θ : ThT Mem} {g : GeoX} {cc : ByteArray} {nL : Nat} {rm : Room} {ret : Option FieldType} {hs : List (Nat × Nat × Nat × Nat)} {ini : Bool} {O : Outcome} {σ' : Mem} {ρ : γ} {σ : Mem} {F : Option γ} {cs : Nat × Nat} {pc : Nat} {lv : List (Nat × Value)} {st : List Value} (hc : Cx Θ (VX g) cc nL RX15 rm ret hs ini O σ') {σ1 : Mem} {x0 : Nat} {x1 : Int32} {rmc : Room} (hM : ∀ l : Launch, Ct (VX g) l yX18_init cX18_init 2 none rmc [.ref (vO (VX g) + x0), .int x1] σ oV σ1) (hR : rmc.frames + 1 ≤ rm.frames ∧ 8 + (2 + 11) + rmc.locals ≤ rm.locals) (hf : cs.1 + rmc.cells ≤ rm.cells ∧ cs.2 + rmc.slots ≤ rm.slots) (hrest : (st.map fun v => v.category).sum ≤ 8) (hd : decode cc pc = .ok (.invokespecial 26, 3)) (kk : Sim Θ nL ρ σ1 F (cs.1 + rmc.cells, cs.2 + rmc.slots) (pc + 3) lv (st)) : Sim Θ nL ρ σ F cs pc lv (.int x1 :: .ref (vO (VX g) + x0) :: st) := s_callI hc (a := x0) (As := [.int x1]) (rest := st) (n := 1) hM q775 q84 q773 q774 (by decide +kernel) rfl rfl hrest hR hf hd kk
def fX15_must (N : Nat) (σ : Mem) (x0 : Nat) (x1 : Int32) : Option ((Unit ⊕ Nat) × Mem) :=
  if x1 = (0 : Int32) then
  (lt_ (nC σ (.inr (6, [.null, .null, .null, .null, .null, .int 0, .int 0]))) (fun σ2 => 
  (dI 7 8 σ2 x0 2).bind (fun v3 => 
  (fX18_init N σ2 (gN σ) v3).bind (fun q5 => 
  some (.inr (gN σ), q5.2)))))
  else (some (.inl (), σ))
set_option maxHeartbeats 4000000 in
theorem wfX15_must {Θ : ThT Mem} {g : GeoX} {N : Nat}  {ρ : (Unit ⊕ Nat) × Mem} (σ : Mem) (x0 : Nat) (x1 : Int32) (hc : Cx Θ (VX g) cX15_must 2 RX15 (rk 4 1 7) none [] false (oT (fun _ => oV) ρ.1 (vO (VX g))) ρ.2) : Sim Θ 2 ρ σ (fX15_must N σ x0 x1) (0, 0) 0 [(0, .ref (vO (VX g) + x0)), (1, .int x1)] [] := by
  have hz := hc.z
  unfold fX15_must
  refine s_iload_n hz dX15_must_0 rfl 1 rfl ?_
  refine s_if_ne (tgt := 16) hz dX15_must_1 rfl (fun h1 => ?_) (fun h1 => ?_)
  · exact s_vretT hc dX15_must_16 (Nat.le_of_ble_eq_true rfl) (Nat.le_of_ble_eq_true rfl)
  · refine s_new hc (C := RX18) (T := TX18) (N := 7) (ci := 6) in_X18 tyX18_ok rfl q764 q765 q84 (dfX_X18 _) ⟨(Nat.le_of_ble_eq_true rfl), (Nat.le_of_ble_eq_true rfl)⟩ dX15_must_4 (fun σ2 => ?_)
    refine s_dup hz dX15_must_7 rfl ?_
    refine s_aload_n hz dX15_must_8 rfl 0 rfl ?_
    refine s_bind (fun v3 e4 => ?_)
    refine rX_d_X15_17 hc e4 dX15_must_9 ?_
    refine s_bind (fun q5 e6 => ?_)
    refine kX_X15_26 hc (cfX18_init e6) ⟨(Nat.le_of_ble_eq_true rfl), (Nat.le_of_ble_eq_true rfl)⟩ ⟨(Nat.le_of_ble_eq_true rfl), (Nat.le_of_ble_eq_true rfl)⟩ (Nat.le_of_ble_eq_true rfl) dX15_must_12 ?_
    exact s_athrowt hc dX15_must_15 (Nat.le_of_ble_eq_true rfl) (Nat.le_of_ble_eq_true rfl) rfl
theorem cfX15_must {g : GeoX} {N : Nat}  {σ : Mem} {x0 : Nat} {x1 : Int32} {ρ : (Unit ⊕ Nat) × Mem} (hF : fX15_must N σ x0 x1 = some ρ) (l : Launch) : Ct (VX g) l yX15_must cX15_must 2 none (rk 4 1 7) [.ref (vO (VX g) + x0), .int x1] σ (oT (fun _ => oV) ρ.1 (vO (VX g))) ρ.2 :=
  Ct.of (by decide) (Nat.le_of_ble_eq_true rfl) (fun Θ hc ls hl => wfX15_must σ x0 x1 hc hF ls hl)
theorem dfX_X16 (o : Nat) : ∀ j, j < 1 → defaultValue (tyX16 j) = vp_V (([.int 0] : List Value).map (rv o)) j := by
  intro j hj
  match j, hj with
  | 0, _ => rfl
  | j + 1, hj => exact absurd hj (by omega)
theorem kX_X15_82 {γ : Type} {Θ : ThT Mem} {g : GeoX} {cc : ByteArray} {nL : Nat} {rm : Room} {ret : Option FieldType} {hs : List (Nat × Nat × Nat × Nat)} {ini : Bool} {O : Outcome} {σ' : Mem} {ρ : γ} {σ : Mem} {F : Option γ} {cs : Nat × Nat} {pc : Nat} {lv : List (Nat × Value)} {st : List Value} (hc : Cx Θ (VX g) cc nL RX15 rm ret hs ini O σ') {σ1 : Mem} {x0 : Nat} {x1 : Int32} {rmc : Room} (hM : ∀ l : Launch, Ct (VX g) l yX16_init cX16_init 2 none rmc [.ref (vO (VX g) + x0), .int x1] σ oV σ1) (hR : rmc.frames + 1 ≤ rm.frames ∧ 8 + (2 + 11) + rmc.locals ≤ rm.locals) (hf : cs.1 + rmc.cells ≤ rm.cells ∧ cs.2 + rmc.slots ≤ rm.slots) (hrest : (st.map fun v => v.category).sum ≤ 8) (hd : decode cc pc = .ok (.invokespecial 82, 3)) (kk : Sim Θ nL ρ σ1 F (cs.1 + rmc.cells, cs.2 + rmc.slots) (pc + 3) lv (st)) : Sim Θ nL ρ σ F cs pc lv (.int x1 :: .ref (vO (VX g) + x0) :: st) := s_callI hc (a := x0) (As := [.int x1]) (rest := st) (n := 1) hM q744 q82 q742 q743 (by decide +kernel) rfl rfl hrest hR hf hd kk
theorem kX_X15_56 {γ : Type} {Θ : ThT Mem} {g : GeoX} {cc : ByteArray} {nL : Nat} {rm : Room} {ret : Option FieldType} {hs : List (Nat × Nat × Nat × Nat)} {ini : Bool} {O : Outcome} {σ' : Mem} {ρ : γ} {σ : Mem} {F : Option γ} {cs : Nat × Nat} {pc : Nat} {lv : List (Nat × Value)} {st : List Value} (hc : Cx Θ (VX g) cc nL RX15 rm ret hs ini O σ') {σ1 : Mem} {x0 : Int64} {x2 : Int64} {x4 : Int64} {r : Int32} {rmc : Room} (hM : ∀ l : Launch, Ct (VX g) l yX0_in cX0_in 6 (some .boolean) rmc [.long x0, .long x2, .long x4] σ (oI r) σ1) (hR : rmc.frames + 1 ≤ rm.frames ∧ 8 + (6 + 11) + rmc.locals ≤ rm.locals) (hf : cs.1 + rmc.cells ≤ rm.cells ∧ cs.2 + rmc.slots ≤ rm.slots) (hrest : (st.map fun v => v.category).sum ≤ 8) (hd : decode cc pc = .ok (.invokestatic 56, 3)) (kk : Sim Θ nL ρ σ1 F (cs.1 + rmc.cells, cs.2 + rmc.slots) (pc + 3) lv (.int r :: st)) : Sim Θ nL ρ σ F cs pc lv (.long x4 :: .long x2 :: .long x0 :: st) := s_callSN hc (As := [.long x0, .long x2, .long x4]) (rest := st) (n := 3) (host := "SlipWeeks") hM q280 q62 (fun U hU => hU.1 _ (List.mem_of_getElem? (i := 12) rfl)) q279 (by decide +kernel) rfl rfl hrest hR hf hd kk
def bX15_number_4 (N : Nat) (σ : Mem) (x0 : Nat) (r4 : (Mem × Int32 × Int32) → Option (Option Nat × Mem)) (y4 : Mem × Int32 × Int32) : Option (Option Nat × Mem) :=
  if (3 : Int32) ≤ y4.2.2 then
  (lt_ (nC y4.1 (.inr (16, [.int 0]))) (fun σ2 => 
  (fX16_init N σ2 (gN y4.1) y4.2.1).bind (fun q3 => 
  some (some (gN y4.1), q3.2))))
  else (gb (isC y4.1 x0 7) ((fX15_here N y4.1 x0).bind (fun q6 => 
  (fX0_in N y4.1 ((q6).toInt64) (48 : Int64) (57 : Int64)).bind (fun q8 => 
  if q8 = (0 : Int32) then
  (lt_ (nC y4.1 (.inr (16, [.int 0]))) (fun σ11 => 
  (fX16_init N σ11 (gN y4.1) y4.2.1).bind (fun q12 => 
  some (some (gN y4.1), q12.2))))
  else (gb (isC y4.1 x0 7) ((fX15_here N y4.1 x0).bind (fun q15 => 
  lt_ ((((10 : Int32) * y4.2.1) + q15) - (48 : Int32)) (fun v17 => 
  (dI 7 8 y4.1 x0 2).bind (fun v18 => 
  (wV 7 8 y4.1 x0 2 (.int (v18 + (1 : Int32)))).bind (fun σ20 => 
  r4 (σ20, v17, (y4.2.2 + (1 : Int32)))))))))))))
set_option maxHeartbeats 4000000 in
theorem wbX15_number_4 {Θ : ThT Mem} {g : GeoX} {N : Nat}  {ρ : Option Nat × Mem} (σ : Mem) (hc : Cx Θ (VX g) cX15_number 3 RX15 (rk 3 1 1) (some (.object "SlipWeeks$Part")) [] false (oR (vO (VX g)) ρ.1) ρ.2) (x0 : Nat) (r4 : (Mem × Int32 × Int32) → Option (Option Nat × Mem)) (hr4 : ∀ y : Mem × Int32 × Int32, Sim Θ 3 ρ (y.1) (r4 y) (0, 0) 4 [(0, .ref (vO (VX g) + x0)), (1, .int y.2.1), (2, .int y.2.2)] []) : ∀ y4 : Mem × Int32 × Int32, Sim Θ 3 ρ (y4.1) (bX15_number_4 N σ x0 r4 y4) (0, 0) 4 [(0, .ref (vO (VX g) + x0)), (1, .int y4.2.1), (2, .int y4.2.2)] [] := by
  intro y4
  have hz := hc.z
  have hr4c : ∀ (z0_ : Mem) (z1_ : Int32) (z2_ : Int32), Sim Θ 3 ρ (z0_) (r4 (z0_, z1_, z2_)) (0, 0) 4 [(0, .ref (vO (VX g) + x0)), (1, .int z1_), (2, .int z2_)] [] := fun z0_ z1_ z2_ => hr4 (z0_, z1_, z2_)
  unfold bX15_number_4
  refine s_iload_n hz dX15_number_4 rfl 2 rfl ?_
  refine s_iconst (v := (3 : Int32)) hz dX15_number_5 (by decide) ?_
  refine s_icmp_ge (tgt := 55) hz dX15_number_6 rfl (fun h1 => ?_) (fun h1 => ?_)
  · refine s_new hc (C := RX16) (T := TX16) (N := 1) (ci := 16) in_X16 tyX16_ok rfl q740 q741 q82 (dfX_X16 _) ⟨(Nat.le_of_ble_eq_true rfl), (Nat.le_of_ble_eq_true rfl)⟩ dX15_number_55 (fun σ2 => ?_)
    refine s_dup hz dX15_number_58 rfl ?_
    refine s_iload_n hz dX15_number_59 rfl 1 rfl ?_
    refine s_bind (fun q3 e4 => ?_)
    refine kX_X15_82 hc (cfX16_init e4) ⟨(Nat.le_of_ble_eq_true rfl), (Nat.le_of_ble_eq_true rfl)⟩ ⟨(Nat.le_of_ble_eq_true rfl), (Nat.le_of_ble_eq_true rfl)⟩ (Nat.le_of_ble_eq_true rfl) dX15_number_60 ?_
    exact s_aretM hc (Or.inl ⟨_, rfl⟩) dX15_number_63 (Nat.le_of_ble_eq_true rfl) (Nat.le_of_ble_eq_true rfl)
  · refine s_aload_n hz dX15_number_9 rfl 0 rfl ?_
    refine s_gb (fun h5 => ?_)
    refine s_bind (fun q6 e7 => ?_)
    refine kX_X15_20 hc (isC_ob h5) (cfX15_here e7) ⟨(Nat.le_of_ble_eq_true rfl), (Nat.le_of_ble_eq_true rfl)⟩ ⟨(Nat.le_of_ble_eq_true rfl), (Nat.le_of_ble_eq_true rfl)⟩ (Nat.le_of_ble_eq_true rfl) dX15_number_10 ?_
    refine s_i2l hz dX15_number_13 ?_
    refine s_ldc2 hz dX15_number_14 q733 ?_
    refine s_ldc2 hz dX15_number_17 q734 ?_
    refine s_bind (fun q8 e9 => ?_)
    refine kX_X15_56 hc (cfX0_in e9) ⟨(Nat.le_of_ble_eq_true rfl), (Nat.le_of_ble_eq_true rfl)⟩ ⟨(Nat.le_of_ble_eq_true rfl), (Nat.le_of_ble_eq_true rfl)⟩ (Nat.le_of_ble_eq_true rfl) dX15_number_20 ?_
    refine s_if_eq (tgt := 55) hz dX15_number_23 rfl (fun h10 => ?_) (fun h10 => ?_)
    · refine s_new hc (C := RX16) (T := TX16) (N := 1) (ci := 16) in_X16 tyX16_ok rfl q740 q741 q82 (dfX_X16 _) ⟨(Nat.le_of_ble_eq_true rfl), (Nat.le_of_ble_eq_true rfl)⟩ dX15_number_55 (fun σ11 => ?_)
      refine s_dup hz dX15_number_58 rfl ?_
      refine s_iload_n hz dX15_number_59 rfl 1 rfl ?_
      refine s_bind (fun q12 e13 => ?_)
      refine kX_X15_82 hc (cfX16_init e13) ⟨(Nat.le_of_ble_eq_true rfl), (Nat.le_of_ble_eq_true rfl)⟩ ⟨(Nat.le_of_ble_eq_true rfl), (Nat.le_of_ble_eq_true rfl)⟩ (Nat.le_of_ble_eq_true rfl) dX15_number_60 ?_
      exact s_aretM hc (Or.inl ⟨_, rfl⟩) dX15_number_63 (Nat.le_of_ble_eq_true rfl) (Nat.le_of_ble_eq_true rfl)
    · refine s_bipush (v := (10 : Int32)) hz dX15_number_26 (by decide) ?_
      refine s_iload_n hz dX15_number_28 rfl 1 rfl ?_
      refine s_imul hz dX15_number_29 ?_
      refine s_aload_n hz dX15_number_30 rfl 0 rfl ?_
      refine s_gb (fun h14 => ?_)
      refine s_bind (fun q15 e16 => ?_)
      refine kX_X15_20 hc (isC_ob h14) (cfX15_here e16) ⟨(Nat.le_of_ble_eq_true rfl), (Nat.le_of_ble_eq_true rfl)⟩ ⟨(Nat.le_of_ble_eq_true rfl), (Nat.le_of_ble_eq_true rfl)⟩ (Nat.le_of_ble_eq_true rfl) dX15_number_31 ?_
      refine s_iadd hz dX15_number_34 ?_
      refine s_bipush (v := (48 : Int32)) hz dX15_number_35 (by decide) ?_
      refine s_isub hz dX15_number_37 ?_
      refine s_nmI (fun v17 => ?_)
      refine s_istore_n (lv' := [(1, .int v17), (0, .ref (vO (VX g) + x0)), (2, .int y4.2.2)]) hz dX15_number_38 rfl (Nat.le_of_ble_eq_true rfl) rfl ?_
      refine s_aload_n hz dX15_number_39 rfl 1 rfl ?_
      refine s_dup hz dX15_number_40 rfl ?_
      refine s_bind (fun v18 e19 => ?_)
      refine rX_d_X15_17 hc e19 dX15_number_41 ?_
      refine s_iconst (v := (1 : Int32)) hz dX15_number_44 (by decide) ?_
      refine s_iadd hz dX15_number_45 ?_
      refine s_bind (fun σ20 e21 => ?_)
      refine rX_wi_X15_17 hc e21 dX15_number_46 ?_
      refine s_iinc (v := (1 : Int32)) (lv' := [(2, .int (y4.2.2 + (1 : Int32))), (1, .int v17), (0, .ref (vO (VX g) + x0))]) hz dX15_number_49 2 rfl (by decide) (Nat.le_of_ble_eq_true rfl) rfl ?_
      refine s_goto (tgt := 4) hz dX15_number_52 rfl ?_
      exact s_sub [2, 1, 0] rfl (hr4c σ20 v17 (y4.2.2 + (1 : Int32)))
def fX15_number (N : Nat) (σ : Mem) (x0 : Nat) : Option (Option Nat × Mem) :=
  lp (bX15_number_4 N σ x0) N (σ, (0 : Int32), (0 : Int32))
set_option maxHeartbeats 4000000 in
theorem wfX15_number {Θ : ThT Mem} {g : GeoX} {N : Nat}  {ρ : Option Nat × Mem} (σ : Mem) (x0 : Nat) (hc : Cx Θ (VX g) cX15_number 3 RX15 (rk 3 1 1) (some (.object "SlipWeeks$Part")) [] false (oR (vO (VX g)) ρ.1) ρ.2) : Sim Θ 3 ρ σ (fX15_number N σ x0) (0, 0) 0 [(0, .ref (vO (VX g) + x0))] [] := by
  have hz := hc.z
  unfold fX15_number
  refine s_iconst (v := (0 : Int32)) hz dX15_number_0 (by decide) ?_
  refine s_istore_n (lv' := [(1, .int (0 : Int32)), (0, .ref (vO (VX g) + x0))]) hz dX15_number_1 rfl (Nat.le_of_ble_eq_true rfl) rfl ?_
  refine s_iconst (v := (0 : Int32)) hz dX15_number_2 (by decide) ?_
  refine s_istore_n (lv' := [(2, .int (0 : Int32)), (1, .int (0 : Int32)), (0, .ref (vO (VX g) + x0))]) hz dX15_number_3 rfl (Nat.le_of_ble_eq_true rfl) rfl ?_
  exact s_sub [2, 1, 0] rfl (s_lp (sg := fun y : Mem × Int32 × Int32 => y.1) (lvs := fun y : Mem × Int32 × Int32 => [(0, .ref (vO (VX g) + x0)), (1, .int y.2.1), (2, .int y.2.2)]) (fun rec hrec => wbX15_number_4 σ hc x0  rec hrec) N (σ, (0 : Int32), (0 : Int32)))
theorem cfX15_number {g : GeoX} {N : Nat}  {σ : Mem} {x0 : Nat} {ρ : Option Nat × Mem} (hF : fX15_number N σ x0 = some ρ) (l : Launch) : Ct (VX g) l yX15_number cX15_number 3 (some (.object "SlipWeeks$Part")) (rk 3 1 1) [.ref (vO (VX g) + x0)] σ (oR (vO (VX g)) ρ.1) ρ.2 :=
  Ct.of (by decide) (Nat.le_of_ble_eq_true rfl) (fun Θ hc ls hl => wfX15_number σ x0 hc hF ls hl)
