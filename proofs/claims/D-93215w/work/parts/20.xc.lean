set_option maxRecDepth 100000
theorem rX_d_X16_7 {γ : Type} {Θ : ThT Mem} {g : GeoX} {cc : ByteArray} {nL : Nat} {rm : Room} {ret : Option FieldType} {hs : List (Nat × Nat × Nat × Nat)} {ini : Bool} {O : Outcome} {σ' : Mem} {ρ : γ} {σ : Mem} {F : Option γ} {cs : Nat × Nat} {pc : Nat} {lv : List (Nat × Value)} {st : List Value} (hc : Cx Θ (VX g) cc nL RX16 rm ret hs ini O σ') {a : Nat} {v : Int32} (h : dI 16 18 σ a 0 = some v) (hd : decode cc pc = .ok (.getfield 7, 3)) (kk : Sim Θ nL ρ σ F cs (pc + 3) lv (.int v :: st)) : Sim Θ nL ρ σ F cs pc lv (.ref (vO (VX g) + a) :: st) := by
  obtain ⟨c, fs, ha, h1, h2, hv⟩ := dI_spec h
  have h3 : c = 16 ∨ c = 17 := by omega
  rcases h3 with rfl | rfl
  · exact s_dget hc (C := RX16) (T := TX16) (N := 1) ha in_X16 rfl 0 (Nat.le_of_ble_eq_true rfl) q746 (fun _ _ _ _ h => h) hv hd kk
  · exact s_dget hc (C := RX17) (T := TX17) (N := 1) ha in_X17 rfl 0 (Nat.le_of_ble_eq_true rfl) q746 (fun _ _ _ _ h => h) hv hd kk
def fX16_worth (N : Nat) (σ : Mem) (x0 : Nat) : Option (Int32) :=
  (dI 16 18 σ x0 0).bind (fun v1 => 
  some v1)
set_option maxHeartbeats 4000000 in
theorem wfX16_worth {Θ : ThT Mem} {g : GeoX} {N : Nat}  {ρ : Int32} (σ : Mem) (x0 : Nat) (hc : Cx Θ (VX g) cX16_worth 2 RX16 (rk 1 0 0) (some .int) [] false (oI ρ) σ) : Sim Θ 2 ρ σ (fX16_worth N σ x0) (0, 0) 0 [(0, .ref (vO (VX g) + x0)), (1, .ref (vO (VX g) + 64))] [] := by
  have hz := hc.z
  unfold fX16_worth
  refine s_aload_n hz dX16_worth_0 rfl 0 rfl ?_
  refine s_bind (fun v1 e2 => ?_)
  refine rX_d_X16_7 hc e2 dX16_worth_1 ?_
  exact s_iret hc dX16_worth_4 (Nat.le_of_ble_eq_true rfl) (Nat.le_of_ble_eq_true rfl)
theorem cfX16_worth {g : GeoX} {N : Nat}  {σ : Mem} {x0 : Nat} {ρ : Int32} (hF : fX16_worth N σ x0 = some ρ) (l : Launch) : Ct (VX g) l yX16_worth cX16_worth 2 (some .int) (rk 1 0 0) [.ref (vO (VX g) + x0), .ref (vO (VX g) + 64)] σ (oI ρ) σ :=
  Ct.of (by decide) (Nat.le_of_ble_eq_true rfl) (fun Θ hc ls hl => wfX16_worth σ x0 hc hF ls hl)
theorem rX_g_X17_7_64 {γ : Type} {Θ : ThT Mem} {g : GeoX} {cc : ByteArray} {nL : Nat} {rm : Room} {ret : Option FieldType} {hs : List (Nat × Nat × Nat × Nat)} {ini : Bool} {O : Outcome} {σ' : Mem} {ρ : γ} {σ : Mem} {F : Option γ} {cs : Nat × Nat} {pc : Nat} {lv : List (Nat × Value)} {st : List Value} (hc : Cx Θ (VX g) cc nL RX17 rm ret hs ini O σ') (hd : decode cc pc = .ok (.getfield 7, 3)) (kk : Sim Θ nL ρ σ F cs (pc + 3) lv (.ref (vO (VX g) + 65) :: st)) : Sim Θ nL ρ σ F cs pc lv (.ref (vO (VX g) + 64) :: st) := s_get hc (C := RX4) (T := TX4) (N := 1) (ci := 4) (k := 64) in_X4 (Nat.le_of_ble_eq_true rfl) rfl rfl 0 (Nat.le_of_ble_eq_true rfl) q199 (fun _ _ _ _ h => h) rfl hd kk
theorem kX_X17_13 {γ : Type} {Θ : ThT Mem} {g : GeoX} {cc : ByteArray} {nL : Nat} {rm : Room} {ret : Option FieldType} {hs : List (Nat × Nat × Nat × Nat)} {ini : Bool} {O : Outcome} {σ' : Mem} {ρ : γ} {σ : Mem} {F : Option γ} {cs : Nat × Nat} {pc : Nat} {lv : List (Nat × Value)} {st : List Value} (hc : Cx Θ (VX g) cc nL RX17 rm ret hs ini O σ') {σ1 : Mem} {x0 : Nat} {r : Int32} {rmc : Room} (hM : ∀ l : Launch, Ct (VX g) l yX16_worth cX16_worth 2 (some .int) rmc [.ref (vO (VX g) + x0), .ref (vO (VX g) + 64)] σ (oI r) σ1) (hR : rmc.frames + 1 ≤ rm.frames ∧ 8 + (2 + 11) + rmc.locals ≤ rm.locals) (hf : cs.1 + rmc.cells ≤ rm.cells ∧ cs.2 + rmc.slots ≤ rm.slots) (hrest : (st.map fun v => v.category).sum ≤ 8) (hd : decode cc pc = .ok (.invokespecial 13, 3)) (hcl : (dC 16 18 σ x0).isSome = true) (kk : Sim Θ nL ρ σ1 F (cs.1 + rmc.cells, cs.2 + rmc.slots) (pc + 3) lv (.int r :: st)) : Sim Θ nL ρ σ F cs pc lv (.ref (vO (VX g) + 64) :: .ref (vO (VX g) + x0) :: st) := by
  obtain ⟨c, hcl⟩ := Option.isSome_iff_exists.mp hcl
  obtain ⟨fs, ha, h1, h2⟩ := dC_spec hcl
  have h3 : c = 16 ∨ c = 17 := by omega
  rcases h3 with rfl | rfl
  · exact s_callSU hc (a := x0) (As := [.ref (vO (VX g) + 64)]) (rest := st) (n := 1) (ci := 16) (q := (RX16, TX16, 1)) hM (lw_SU q595 q1536 q596 q597 q82 q598) (by decide +kernel) rfl (Ob.dyn ha) rfl rfl hrest hR hf hd kk
  · exact s_callSU hc (a := x0) (As := [.ref (vO (VX g) + 64)]) (rest := st) (n := 1) (ci := 17) (q := (RX17, TX17, 1)) hM (lw_SU q595 q1536 q596 q597 q82 q598) (by decide +kernel) rfl (Ob.dyn ha) rfl rfl hrest hR hf hd kk
theorem rX_ld_65 {own : String} {γ : Type} {Θ : ThT Mem} {g : GeoX} {cc : ByteArray} {nL : Nat} {rm : Room} {ret : Option FieldType} {hs : List (Nat × Nat × Nat × Nat)} {ini : Bool} {O : Outcome} {σ' : Mem} {ρ : γ} {σ : Mem} {F : Option γ} {cs : Nat × Nat} {pc : Nat} {lv : List (Nat × Value)} {st : List Value} (hc : Cx Θ (VX g) cc nL own rm ret hs ini O σ') {i : Int32} {j : Nat} (hin : inb i 7 = true) (hj : ix i = j) (hd : decode cc pc = .ok (.iaload, 1)) (kk : Sim Θ nL ρ σ F cs (pc + 1) lv (.int (gI σ 65 j) :: st)) : Sim Θ nL ρ σ F cs pc lv (.int i :: .ref (vO (VX g) + 65) :: st) := s_iald hc (k := 65) (t := 0) (n := 7) (Nat.le_of_ble_eq_true rfl) rfl rfl hin hj hd kk
def fX17_worth (N : Nat) (σ : Mem) (x0 : Nat) : Option (Int32) :=
  gb (dC 16 18 σ x0).isSome ((fX16_worth N σ x0).bind (fun q2 => 
  gb (inb q2 7) (
  some (gI σ 65 (ix q2)))))
set_option maxHeartbeats 4000000 in
theorem wfX17_worth {Θ : ThT Mem} {g : GeoX} {N : Nat}  {ρ : Int32} (σ : Mem) (x0 : Nat) (hc : Cx Θ (VX g) cX17_worth 2 RX17 (rk 2 0 0) (some .int) [] false (oI ρ) σ) : Sim Θ 2 ρ σ (fX17_worth N σ x0) (0, 0) 0 [(0, .ref (vO (VX g) + x0)), (1, .ref (vO (VX g) + 64))] [] := by
  have hz := hc.z
  unfold fX17_worth
  refine s_aload_n hz dX17_worth_0 rfl 1 rfl ?_
  refine rX_g_X17_7_64 hc dX17_worth_1 ?_
  refine s_aload_n hz dX17_worth_4 rfl 0 rfl ?_
  refine s_aload_n hz dX17_worth_5 rfl 1 rfl ?_
  refine s_gb (fun h1 => ?_)
  refine s_bind (fun q2 e3 => ?_)
  refine kX_X17_13 hc (cfX16_worth e3) ⟨(Nat.le_of_ble_eq_true rfl), (Nat.le_of_ble_eq_true rfl)⟩ ⟨(Nat.le_of_ble_eq_true rfl), (Nat.le_of_ble_eq_true rfl)⟩ (Nat.le_of_ble_eq_true rfl) dX17_worth_6 h1 ?_
  refine s_gb (fun h4 => ?_)
  refine rX_ld_65 hc h4 rfl dX17_worth_9 ?_
  exact s_iret hc dX17_worth_10 (Nat.le_of_ble_eq_true rfl) (Nat.le_of_ble_eq_true rfl)
theorem cfX17_worth {g : GeoX} {N : Nat}  {σ : Mem} {x0 : Nat} {ρ : Int32} (hF : fX17_worth N σ x0 = some ρ) (l : Launch) : Ct (VX g) l yX17_worth cX17_worth 2 (some .int) (rk 2 0 0) [.ref (vO (VX g) + x0), .ref (vO (VX g) + 64)] σ (oI ρ) σ :=
  Ct.of (by decide) (Nat.le_of_ble_eq_true rfl) (fun Θ hc ls hl => wfX17_worth σ x0 hc hF ls hl)
/-- a part's worth, by its class -/
def WC (g : GeoX) (r : Nat) (σ : Mem) (a : Nat) (v : Int32) : Prop := ∃ c, dC 16 20 σ a = some c ∧ (c = 16 → ∀ l : Launch, Ct (VX g) l yX16_worth cX16_worth 2 (some .int) ((rk 1 0 0)) [.ref (vO (VX g) + a), .ref (vO (VX g) + 64)] σ (oI v) σ) ∧ (c = 17 → ∀ l : Launch, Ct (VX g) l yX17_worth cX17_worth 2 (some .int) ((rk 2 0 0)) [.ref (vO (VX g) + a), .ref (vO (VX g) + 64)] σ (oI v) σ) ∧ (c = 18 → ∀ l : Launch, Ct (VX g) l yX19_worth cX19_worth 4 (some .int) (rk r 0 0) [.ref (vO (VX g) + a), .ref (vO (VX g) + 64)] σ (oI v) σ) ∧ (c = 19 → ∀ l : Launch, Ct (VX g) l yX20_worth cX20_worth 2 (some .int) (rk r 0 0) [.ref (vO (VX g) + a), .ref (vO (VX g) + 64)] σ (oI v) σ)
theorem rX_d_X19_13 {γ : Type} {Θ : ThT Mem} {g : GeoX} {cc : ByteArray} {nL : Nat} {rm : Room} {ret : Option FieldType} {hs : List (Nat × Nat × Nat × Nat)} {ini : Bool} {O : Outcome} {σ' : Mem} {ρ : γ} {σ : Mem} {F : Option γ} {cs : Nat × Nat} {pc : Nat} {lv : List (Nat × Value)} {st : List Value} (hc : Cx Θ (VX g) cc nL RX19 rm ret hs ini O σ') {a : Nat} {v : Option Nat} (h : dR 18 20 σ a 1 = some v) (hd : decode cc pc = .ok (.getfield 13, 3)) (kk : Sim Θ nL ρ σ F cs (pc + 3) lv (va_rf (v.map (vO (VX g) + ·)) :: st)) : Sim Θ nL ρ σ F cs pc lv (.ref (vO (VX g) + a) :: st) := by
  have kk : Sim Θ nL ρ σ F cs (pc + 3) lv (rv (vO (VX g)) (va_rf v) :: st) := by
    cases v with
    | none => exact kk
    | some r => exact kk
  obtain ⟨c, fs, ha, h1, h2, hv⟩ := dR_spec h
  have h3 : c = 18 ∨ c = 19 := by omega
  rcases h3 with rfl | rfl
  · exact s_dget hc (C := RX19) (T := TX19) (N := 3) ha in_X19 rfl 1 (Nat.le_of_ble_eq_true rfl) q798 (fun _ _ _ _ h => h) hv hd kk
  · exact s_dget hc (C := RX20) (T := TX20) (N := 4) ha in_X20 rfl 1 (Nat.le_of_ble_eq_true rfl) q798 (fun _ _ _ _ h => h) hv hd kk
set_option maxHeartbeats 4000000 in
theorem kX_X19_20 {γ : Type} {Θ : ThT Mem} {g : GeoX} {cc : ByteArray} {nL : Nat} {rm : Room} {ret : Option FieldType} {hs : List (Nat × Nat × Nat × Nat)} {ini : Bool} {O : Outcome} {σ' : Mem} {ρ : γ} {σ : Mem} {F : Option γ} {cs : Nat × Nat} {pc : Nat} {lv : List (Nat × Value)} {st : List Value} (hc : Cx Θ (VX g) cc nL RX19 rm ret hs ini O σ') {x0 r : Nat} {v : Int32} (h : WC g r σ x0 v) (hr : 2 ≤ r) (hR : r + 1 ≤ rm.frames ∧ 8 + (4 + 11) + 40 * r ≤ rm.locals) (hf : cs.1 + 0 ≤ rm.cells ∧ cs.2 + 0 ≤ rm.slots) (hrest : (st.map fun v => v.category).sum ≤ 8) (hd : decode cc pc = .ok (.invokeinterface 20 2, 5)) (kk : Sim Θ nL ρ σ F cs (pc + 5) lv (.int v :: st)) : Sim Θ nL ρ σ F cs pc lv (.ref (vO (VX g) + 64) :: .ref (vO (VX g) + x0) :: st) := by
  obtain ⟨c, hcl, w16, w17, w18, w19⟩ := h
  obtain ⟨fs, ha, h1, h2⟩ := dC_spec hcl
  have h3 : c = 16 ∨ c = 17 ∨ c = 18 ∨ c = 19 := by omega
  rcases h3 with rfl | rfl | rfl | rfl
  · exact s_callF hc (a := x0) (As := [.ref (vO (VX g) + 64)]) (rest := st) (n := 1) (ci := 16) (x := (⟨"SlipWeeks$Part", "worth", "(LSlipWeeks$Named;)I"⟩ : MethodName)) (q := (RX16, TX16, 1)) (w16 rfl) (lw_F q610 q600 q597 q82 q598) (fun U hU => ⟨hU.1 _ (List.mem_of_getElem? (i := 34) rfl), hU.1 _ (List.mem_of_getElem? (i := 33) rfl), hU.1 _ (List.mem_of_getElem? (i := 15) rfl), hU.1 _ (List.mem_of_getElem? (i := 14) rfl), hU.1 _ (List.mem_of_getElem? (i := 13) rfl)⟩) (by decide +kernel) rfl (Ob.dyn ha) rfl rfl hrest ⟨by have := hR.1; simp only [rk] at *; omega, by have := hR.2; simp only [rk] at *; omega⟩ hf hd kk
  · exact s_callF hc (a := x0) (As := [.ref (vO (VX g) + 64)]) (rest := st) (n := 1) (ci := 17) (x := (⟨"SlipWeeks$Part", "worth", "(LSlipWeeks$Named;)I"⟩ : MethodName)) (q := (RX17, TX17, 1)) (w17 rfl) (lw_F q610 q590 q592 q83 q594) (fun U hU => ⟨hU.1 _ (List.mem_of_getElem? (i := 34) rfl), hU.1 _ (List.mem_of_getElem? (i := 33) rfl), hU.1 _ (List.mem_of_getElem? (i := 19) rfl), hU.1 _ (List.mem_of_getElem? (i := 18) rfl), hU.1 _ (List.mem_of_getElem? (i := 17) rfl)⟩) (by decide +kernel) rfl (Ob.dyn ha) rfl rfl hrest ⟨by have := hR.1; simp only [rk] at *; omega, by have := hR.2; simp only [rk] at *; omega⟩ hf hd kk
  · exact s_callF hc (a := x0) (As := [.ref (vO (VX g) + 64)]) (rest := st) (n := 1) (ci := 18) (x := (⟨"SlipWeeks$Part", "worth", "(LSlipWeeks$Named;)I"⟩ : MethodName)) (q := (RX19, TX19, 3)) (w18 rfl) (lw_F q610 q604 q606 q85 q608) (fun U hU => ⟨hU.1 _ (List.mem_of_getElem? (i := 34) rfl), hU.1 _ (List.mem_of_getElem? (i := 33) rfl), hU.1 _ (List.mem_of_getElem? (i := 24) rfl), hU.1 _ (List.mem_of_getElem? (i := 23) rfl), hU.1 _ (List.mem_of_getElem? (i := 22) rfl)⟩) (by decide +kernel) rfl (Ob.dyn ha) rfl rfl hrest ⟨by have := hR.1; simp only [rk] at *; omega, by have := hR.2; simp only [rk] at *; omega⟩ hf hd kk
  · exact s_callF hc (a := x0) (As := [.ref (vO (VX g) + 64)]) (rest := st) (n := 1) (ci := 19) (x := (⟨"SlipWeeks$Part", "worth", "(LSlipWeeks$Named;)I"⟩ : MethodName)) (q := (RX20, TX20, 4)) (w19 rfl) (lw_F q610 q582 q584 q86 q586) (fun U hU => ⟨hU.1 _ (List.mem_of_getElem? (i := 34) rfl), hU.1 _ (List.mem_of_getElem? (i := 33) rfl), hU.1 _ (List.mem_of_getElem? (i := 29) rfl), hU.1 _ (List.mem_of_getElem? (i := 28) rfl), hU.1 _ (List.mem_of_getElem? (i := 26) rfl)⟩) (by decide +kernel) rfl (Ob.dyn ha) rfl rfl hrest ⟨by have := hR.1; simp only [rk] at *; omega, by have := hR.2; simp only [rk] at *; omega⟩ hf hd kk
theorem rX_d_X19_17 {γ : Type} {Θ : ThT Mem} {g : GeoX} {cc : ByteArray} {nL : Nat} {rm : Room} {ret : Option FieldType} {hs : List (Nat × Nat × Nat × Nat)} {ini : Bool} {O : Outcome} {σ' : Mem} {ρ : γ} {σ : Mem} {F : Option γ} {cs : Nat × Nat} {pc : Nat} {lv : List (Nat × Value)} {st : List Value} (hc : Cx Θ (VX g) cc nL RX19 rm ret hs ini O σ') {a : Nat} {v : Option Nat} (h : dR 18 20 σ a 2 = some v) (hd : decode cc pc = .ok (.getfield 17, 3)) (kk : Sim Θ nL ρ σ F cs (pc + 3) lv (va_rf (v.map (vO (VX g) + ·)) :: st)) : Sim Θ nL ρ σ F cs pc lv (.ref (vO (VX g) + a) :: st) := by
  have kk : Sim Θ nL ρ σ F cs (pc + 3) lv (rv (vO (VX g)) (va_rf v) :: st) := by
    cases v with
    | none => exact kk
    | some r => exact kk
  obtain ⟨c, fs, ha, h1, h2, hv⟩ := dR_spec h
  have h3 : c = 18 ∨ c = 19 := by omega
  rcases h3 with rfl | rfl
  · exact s_dget hc (C := RX19) (T := TX19) (N := 3) ha in_X19 rfl 2 (Nat.le_of_ble_eq_true rfl) q801 (fun _ _ _ _ h => h) hv hd kk
  · exact s_dget hc (C := RX20) (T := TX20) (N := 4) ha in_X20 rfl 2 (Nat.le_of_ble_eq_true rfl) q801 (fun _ _ _ _ h => h) hv hd kk
theorem rX_d_X19_7 {γ : Type} {Θ : ThT Mem} {g : GeoX} {cc : ByteArray} {nL : Nat} {rm : Room} {ret : Option FieldType} {hs : List (Nat × Nat × Nat × Nat)} {ini : Bool} {O : Outcome} {σ' : Mem} {ρ : γ} {σ : Mem} {F : Option γ} {cs : Nat × Nat} {pc : Nat} {lv : List (Nat × Value)} {st : List Value} (hc : Cx Θ (VX g) cc nL RX19 rm ret hs ini O σ') {a : Nat} {v : Int32} (h : dI 18 20 σ a 0 = some v) (hd : decode cc pc = .ok (.getfield 7, 3)) (kk : Sim Θ nL ρ σ F cs (pc + 3) lv (.int v :: st)) : Sim Θ nL ρ σ F cs pc lv (.ref (vO (VX g) + a) :: st) := by
  obtain ⟨c, fs, ha, h1, h2, hv⟩ := dI_spec h
  have h3 : c = 18 ∨ c = 19 := by omega
  rcases h3 with rfl | rfl
  · exact s_dget hc (C := RX19) (T := TX19) (N := 3) ha in_X19 rfl 0 (Nat.le_of_ble_eq_true rfl) q797 (fun _ _ _ _ h => h) hv hd kk
  · exact s_dget hc (C := RX20) (T := TX20) (N := 4) ha in_X20 rfl 0 (Nat.le_of_ble_eq_true rfl) q797 (fun _ _ _ _ h => h) hv hd kk
def fX19_worth (N : Nat) (rc : Mem → Nat → Option Int32) (σ : Mem) (x0 : Nat) : Option (Int32) :=
  (dR 18 20 σ x0 1).bind (fun v1 => 
  mO v1
  (none) (fun a3 => 
  (rc σ a3).bind (fun q4 => 
  (dR 18 20 σ x0 2).bind (fun v6 => 
  mO v6
  (none) (fun a8 => 
  (rc σ a8).bind (fun q9 => 
  (dI 18 20 σ x0 0).bind (fun v11 => 
  if v11 = (43 : Int32) then
  (some (q4 + q9))
  else ((dI 18 20 σ x0 0).bind (fun v14 => 
  some (if v14 = (45 : Int32) then (q4 - q9) else (q4 * q9)))))))))))
set_option maxHeartbeats 4000000 in
theorem wfX19_worth {Θ : ThT Mem} {g : GeoX} {N : Nat} {rc : Mem → Nat → Option Int32} {r : Nat} (hr : 2 ≤ r) (hrc : ∀ (σ : Mem) (a : Nat) (v : Int32), rc σ a = some v → WC g r σ a v) {ρ : Int32} (σ : Mem) (x0 : Nat) (hc : Cx Θ (VX g) cX19_worth 4 RX19 (rk (r + 1) 0 0) (some .int) [] false (oI ρ) σ) : Sim Θ 4 ρ σ (fX19_worth N rc σ x0) (0, 0) 0 [(0, .ref (vO (VX g) + x0)), (1, .ref (vO (VX g) + 64))] [] := by
  have hz := hc.z
  unfold fX19_worth
  refine s_aload_n hz dX19_worth_0 rfl 0 rfl ?_
  refine s_bind (fun v1 e2 => ?_)
  refine rX_d_X19_13 hc e2 dX19_worth_1 ?_
  refine s_opt (fun _ => ?_) (fun a3 _ => ?_)
  · refine s_aload_n hz dX19_worth_4 rfl 1 rfl ?_
    exact s_none
  · refine s_aload_n hz dX19_worth_4 rfl 1 rfl ?_
    refine s_bind (fun q4 e5 => ?_)
    refine kX_X19_20 hc (hrc _ _ _ e5) hr ⟨by simp only [rk]; omega, by simp only [rk]; omega⟩ ⟨(Nat.le_of_ble_eq_true rfl), (Nat.le_of_ble_eq_true rfl)⟩ (Nat.le_of_ble_eq_true rfl) dX19_worth_5 ?_
    refine s_istore_n (lv' := [(2, .int q4), (0, .ref (vO (VX g) + x0)), (1, .ref (vO (VX g) + 64))]) hz dX19_worth_10 rfl (Nat.le_of_ble_eq_true rfl) rfl ?_
    refine s_aload_n hz dX19_worth_11 rfl 1 rfl ?_
    refine s_bind (fun v6 e7 => ?_)
    refine rX_d_X19_17 hc e7 dX19_worth_12 ?_
    refine s_opt (fun _ => ?_) (fun a8 _ => ?_)
    · refine s_aload_n hz dX19_worth_15 rfl 2 rfl ?_
      exact s_none
    · refine s_aload_n hz dX19_worth_15 rfl 2 rfl ?_
      refine s_bind (fun q9 e10 => ?_)
      refine kX_X19_20 hc (hrc _ _ _ e10) hr ⟨by simp only [rk]; omega, by simp only [rk]; omega⟩ ⟨(Nat.le_of_ble_eq_true rfl), (Nat.le_of_ble_eq_true rfl)⟩ (Nat.le_of_ble_eq_true rfl) dX19_worth_16 ?_
      refine s_istore_n (lv' := [(3, .int q9), (2, .int q4), (0, .ref (vO (VX g) + x0)), (1, .ref (vO (VX g) + 64))]) hz dX19_worth_21 rfl (Nat.le_of_ble_eq_true rfl) rfl ?_
      refine s_aload_n hz dX19_worth_22 rfl 2 rfl ?_
      refine s_bind (fun v11 e12 => ?_)
      refine rX_d_X19_7 hc e12 dX19_worth_23 ?_
      refine s_bipush (v := (43 : Int32)) hz dX19_worth_26 (by decide) ?_
      refine s_icmp_ne (tgt := 37) hz dX19_worth_28 rfl (fun h13 => ?_) (fun h13 => ?_)
      · refine s_aload_n hz dX19_worth_37 rfl 2 rfl ?_
        refine s_bind (fun v14 e15 => ?_)
        refine rX_d_X19_7 hc e15 dX19_worth_38 ?_
        refine s_bipush (v := (45 : Int32)) hz dX19_worth_41 (by decide) ?_
        refine s_dia (J := 55) (v := .int (if v14 = (45 : Int32) then (q4 - q9) else (q4 * q9))) (st := []) (fun _ hj16 => ?_) ?_
        · refine s_icmp_ne_ (tgt := 52) hz dX19_worth_43 rfl (fun h17 => ?_) (fun h17 => ?_)
          · refine s_iload_n hz dX19_worth_52 rfl 1 rfl ?_
            refine s_iload_n hz dX19_worth_53 rfl 0 rfl ?_
            refine s_imul hz dX19_worth_54 ?_
            rw [if_neg h17] at hj16
            exact hj16
          · refine s_iload_n hz dX19_worth_46 rfl 1 rfl ?_
            refine s_iload_n hz dX19_worth_47 rfl 0 rfl ?_
            refine s_isub hz dX19_worth_48 ?_
            refine s_goto (tgt := 55) hz dX19_worth_49 rfl ?_
            rw [if_pos h17] at hj16
            exact hj16
        exact s_iret hc dX19_worth_55 (Nat.le_of_ble_eq_true rfl) (Nat.le_of_ble_eq_true rfl)
      · refine s_iload_n hz dX19_worth_31 rfl 1 rfl ?_
        refine s_iload_n hz dX19_worth_32 rfl 0 rfl ?_
        refine s_iadd hz dX19_worth_33 ?_
        refine s_goto (tgt := 55) hz dX19_worth_34 rfl ?_
        exact s_iret hc dX19_worth_55 (Nat.le_of_ble_eq_true rfl) (Nat.le_of_ble_eq_true rfl)
theorem cfX19_worth {g : GeoX} {N : Nat} {rc : Mem → Nat → Option Int32} {r : Nat} (hr : 2 ≤ r) (hrc : ∀ (σ : Mem) (a : Nat) (v : Int32), rc σ a = some v → WC g r σ a v) {σ : Mem} {x0 : Nat} {ρ : Int32} (hF : fX19_worth N rc σ x0 = some ρ) (l : Launch) : Ct (VX g) l yX19_worth cX19_worth 4 (some .int) (rk (r + 1) 0 0) [.ref (vO (VX g) + x0), .ref (vO (VX g) + 64)] σ (oI ρ) σ :=
  Ct.of (by decide) (Nat.le_of_ble_eq_true rfl) (fun Θ hc ls hl => wfX19_worth hr hrc σ x0 hc hF ls hl)
theorem rX_d_X20_7 {γ : Type} {Θ : ThT Mem} {g : GeoX} {cc : ByteArray} {nL : Nat} {rm : Room} {ret : Option FieldType} {hs : List (Nat × Nat × Nat × Nat)} {ini : Bool} {O : Outcome} {σ' : Mem} {ρ : γ} {σ : Mem} {F : Option γ} {cs : Nat × Nat} {pc : Nat} {lv : List (Nat × Value)} {st : List Value} (hc : Cx Θ (VX g) cc nL RX20 rm ret hs ini O σ') {a : Nat} {v : Option Nat} (h : dR 19 20 σ a 3 = some v) (hd : decode cc pc = .ok (.getfield 7, 3)) (kk : Sim Θ nL ρ σ F cs (pc + 3) lv (va_rf (v.map (vO (VX g) + ·)) :: st)) : Sim Θ nL ρ σ F cs pc lv (.ref (vO (VX g) + a) :: st) := by
  have kk : Sim Θ nL ρ σ F cs (pc + 3) lv (rv (vO (VX g)) (va_rf v) :: st) := by
    cases v with
    | none => exact kk
    | some r => exact kk
  obtain ⟨c, fs, ha, h1, h2, hv⟩ := dR_spec h
  have h3 : c = 19 := by omega
  rcases h3 with rfl
  · exact s_dget hc (C := RX20) (T := TX20) (N := 4) ha in_X20 rfl 3 (Nat.le_of_ble_eq_true rfl) q796 (fun _ _ _ _ h => h) hv hd kk
set_option maxHeartbeats 4000000 in
theorem kX_X20_13 {γ : Type} {Θ : ThT Mem} {g : GeoX} {cc : ByteArray} {nL : Nat} {rm : Room} {ret : Option FieldType} {hs : List (Nat × Nat × Nat × Nat)} {ini : Bool} {O : Outcome} {σ' : Mem} {ρ : γ} {σ : Mem} {F : Option γ} {cs : Nat × Nat} {pc : Nat} {lv : List (Nat × Value)} {st : List Value} (hc : Cx Θ (VX g) cc nL RX20 rm ret hs ini O σ') {x0 r : Nat} {v : Int32} (h : WC g r σ x0 v) (hr : 2 ≤ r) (hR : r + 1 ≤ rm.frames ∧ 8 + (4 + 11) + 40 * r ≤ rm.locals) (hf : cs.1 + 0 ≤ rm.cells ∧ cs.2 + 0 ≤ rm.slots) (hrest : (st.map fun v => v.category).sum ≤ 8) (hd : decode cc pc = .ok (.invokeinterface 13 2, 5)) (kk : Sim Θ nL ρ σ F cs (pc + 5) lv (.int v :: st)) : Sim Θ nL ρ σ F cs pc lv (.ref (vO (VX g) + 64) :: .ref (vO (VX g) + x0) :: st) := by
  obtain ⟨c, hcl, w16, w17, w18, w19⟩ := h
  obtain ⟨fs, ha, h1, h2⟩ := dC_spec hcl
  have h3 : c = 16 ∨ c = 17 ∨ c = 18 ∨ c = 19 := by omega
  rcases h3 with rfl | rfl | rfl | rfl
  · exact s_callF hc (a := x0) (As := [.ref (vO (VX g) + 64)]) (rest := st) (n := 1) (ci := 16) (x := (⟨"SlipWeeks$Part", "worth", "(LSlipWeeks$Named;)I"⟩ : MethodName)) (q := (RX16, TX16, 1)) (w16 rfl) (lw_F q588 q600 q597 q82 q598) (fun U hU => ⟨hU.1 _ (List.mem_of_getElem? (i := 34) rfl), hU.1 _ (List.mem_of_getElem? (i := 33) rfl), hU.1 _ (List.mem_of_getElem? (i := 15) rfl), hU.1 _ (List.mem_of_getElem? (i := 14) rfl), hU.1 _ (List.mem_of_getElem? (i := 13) rfl)⟩) (by decide +kernel) rfl (Ob.dyn ha) rfl rfl hrest ⟨by have := hR.1; simp only [rk] at *; omega, by have := hR.2; simp only [rk] at *; omega⟩ hf hd kk
  · exact s_callF hc (a := x0) (As := [.ref (vO (VX g) + 64)]) (rest := st) (n := 1) (ci := 17) (x := (⟨"SlipWeeks$Part", "worth", "(LSlipWeeks$Named;)I"⟩ : MethodName)) (q := (RX17, TX17, 1)) (w17 rfl) (lw_F q588 q590 q592 q83 q594) (fun U hU => ⟨hU.1 _ (List.mem_of_getElem? (i := 34) rfl), hU.1 _ (List.mem_of_getElem? (i := 33) rfl), hU.1 _ (List.mem_of_getElem? (i := 19) rfl), hU.1 _ (List.mem_of_getElem? (i := 18) rfl), hU.1 _ (List.mem_of_getElem? (i := 17) rfl)⟩) (by decide +kernel) rfl (Ob.dyn ha) rfl rfl hrest ⟨by have := hR.1; simp only [rk] at *; omega, by have := hR.2; simp only [rk] at *; omega⟩ hf hd kk
  · exact s_callF hc (a := x0) (As := [.ref (vO (VX g) + 64)]) (rest := st) (n := 1) (ci := 18) (x := (⟨"SlipWeeks$Part", "worth", "(LSlipWeeks$Named;)I"⟩ : MethodName)) (q := (RX19, TX19, 3)) (w18 rfl) (lw_F q588 q604 q606 q85 q608) (fun U hU => ⟨hU.1 _ (List.mem_of_getElem? (i := 34) rfl), hU.1 _ (List.mem_of_getElem? (i := 33) rfl), hU.1 _ (List.mem_of_getElem? (i := 24) rfl), hU.1 _ (List.mem_of_getElem? (i := 23) rfl), hU.1 _ (List.mem_of_getElem? (i := 22) rfl)⟩) (by decide +kernel) rfl (Ob.dyn ha) rfl rfl hrest ⟨by have := hR.1; simp only [rk] at *; omega, by have := hR.2; simp only [rk] at *; omega⟩ hf hd kk
  · exact s_callF hc (a := x0) (As := [.ref (vO (VX g) + 64)]) (rest := st) (n := 1) (ci := 19) (x := (⟨"SlipWeeks$Part", "worth", "(LSlipWeeks$Named;)I"⟩ : MethodName)) (q := (RX20, TX20, 4)) (w19 rfl) (lw_F q588 q582 q584 q86 q586) (fun U hU => ⟨hU.1 _ (List.mem_of_getElem? (i := 34) rfl), hU.1 _ (List.mem_of_getElem? (i := 33) rfl), hU.1 _ (List.mem_of_getElem? (i := 29) rfl), hU.1 _ (List.mem_of_getElem? (i := 28) rfl), hU.1 _ (List.mem_of_getElem? (i := 26) rfl)⟩) (by decide +kernel) rfl (Ob.dyn ha) rfl rfl hrest ⟨by have := hR.1; simp only [rk] at *; omega, by have := hR.2; simp only [rk] at *; omega⟩ hf hd kk
theorem rX_d_X20_22 {γ : Type} {Θ : ThT Mem} {g : GeoX} {cc : ByteArray} {nL : Nat} {rm : Room} {ret : Option FieldType} {hs : List (Nat × Nat × Nat × Nat)} {ini : Bool} {O : Outcome} {σ' : Mem} {ρ : γ} {σ : Mem} {F : Option γ} {cs : Nat × Nat} {pc : Nat} {lv : List (Nat × Value)} {st : List Value} (hc : Cx Θ (VX g) cc nL RX20 rm ret hs ini O σ') {a : Nat} {v : Option Nat} (h : dR 18 20 σ a 2 = some v) (hd : decode cc pc = .ok (.getfield 22, 3)) (kk : Sim Θ nL ρ σ F cs (pc + 3) lv (va_rf (v.map (vO (VX g) + ·)) :: st)) : Sim Θ nL ρ σ F cs pc lv (.ref (vO (VX g) + a) :: st) := by
  have kk : Sim Θ nL ρ σ F cs (pc + 3) lv (rv (vO (VX g)) (va_rf v) :: st) := by
    cases v with
    | none => exact kk
    | some r => exact kk
  obtain ⟨c, fs, ha, h1, h2, hv⟩ := dR_spec h
  have h3 : c = 18 ∨ c = 19 := by omega
  rcases h3 with rfl | rfl
  · exact s_dget hc (C := RX19) (T := TX19) (N := 3) ha in_X19 rfl 2 (Nat.le_of_ble_eq_true rfl) q802 (fun s args hts x h => u_same (hts _ q803) x h) hv hd kk
  · exact s_dget hc (C := RX20) (T := TX20) (N := 4) ha in_X20 rfl 2 (Nat.le_of_ble_eq_true rfl) q802 (fun s args hts x h => u_same (hts _ q803) x h) hv hd kk
theorem rX_d_X20_19 {γ : Type} {Θ : ThT Mem} {g : GeoX} {cc : ByteArray} {nL : Nat} {rm : Room} {ret : Option FieldType} {hs : List (Nat × Nat × Nat × Nat)} {ini : Bool} {O : Outcome} {σ' : Mem} {ρ : γ} {σ : Mem} {F : Option γ} {cs : Nat × Nat} {pc : Nat} {lv : List (Nat × Value)} {st : List Value} (hc : Cx Θ (VX g) cc nL RX20 rm ret hs ini O σ') {a : Nat} {v : Option Nat} (h : dR 18 20 σ a 1 = some v) (hd : decode cc pc = .ok (.getfield 19, 3)) (kk : Sim Θ nL ρ σ F cs (pc + 3) lv (va_rf (v.map (vO (VX g) + ·)) :: st)) : Sim Θ nL ρ σ F cs pc lv (.ref (vO (VX g) + a) :: st) := by
  have kk : Sim Θ nL ρ σ F cs (pc + 3) lv (rv (vO (VX g)) (va_rf v) :: st) := by
    cases v with
    | none => exact kk
    | some r => exact kk
  obtain ⟨c, fs, ha, h1, h2, hv⟩ := dR_spec h
  have h3 : c = 18 ∨ c = 19 := by omega
  rcases h3 with rfl | rfl
  · exact s_dget hc (C := RX19) (T := TX19) (N := 3) ha in_X19 rfl 1 (Nat.le_of_ble_eq_true rfl) q799 (fun s args hts x h => u_same (hts _ q800) x h) hv hd kk
  · exact s_dget hc (C := RX20) (T := TX20) (N := 4) ha in_X20 rfl 1 (Nat.le_of_ble_eq_true rfl) q799 (fun s args hts x h => u_same (hts _ q800) x h) hv hd kk
def fX20_worth (N : Nat) (rc : Mem → Nat → Option Int32) (σ : Mem) (x0 : Nat) : Option (Int32) :=
  (dR 19 20 σ x0 3).bind (fun v1 => 
  mO v1
  (none) (fun a3 => 
  (rc σ a3).bind (fun q4 => 
  if q4 ≤ (0 : Int32) then
  ((dR 18 20 σ x0 2).bind (fun v7 => 
  mO v7
  (none) (fun a9 => 
  (rc σ a9).bind (fun q10 => 
  some q10))))
  else ((dR 18 20 σ x0 1).bind (fun v12 => 
  mO v12
  (none) (fun a14 => 
  (rc σ a14).bind (fun q15 => 
  some q15)))))))
set_option maxHeartbeats 4000000 in
theorem wfX20_worth {Θ : ThT Mem} {g : GeoX} {N : Nat} {rc : Mem → Nat → Option Int32} {r : Nat} (hr : 2 ≤ r) (hrc : ∀ (σ : Mem) (a : Nat) (v : Int32), rc σ a = some v → WC g r σ a v) {ρ : Int32} (σ : Mem) (x0 : Nat) (hc : Cx Θ (VX g) cX20_worth 2 RX20 (rk (r + 1) 0 0) (some .int) [] false (oI ρ) σ) : Sim Θ 2 ρ σ (fX20_worth N rc σ x0) (0, 0) 0 [(0, .ref (vO (VX g) + x0)), (1, .ref (vO (VX g) + 64))] [] := by
  have hz := hc.z
  unfold fX20_worth
  refine s_aload_n hz dX20_worth_0 rfl 0 rfl ?_
  refine s_bind (fun v1 e2 => ?_)
  refine rX_d_X20_7 hc e2 dX20_worth_1 ?_
  refine s_opt (fun _ => ?_) (fun a3 _ => ?_)
  · refine s_aload_n hz dX20_worth_4 rfl 1 rfl ?_
    exact s_none
  · refine s_aload_n hz dX20_worth_4 rfl 1 rfl ?_
    refine s_bind (fun q4 e5 => ?_)
    refine kX_X20_13 hc (hrc _ _ _ e5) hr ⟨by simp only [rk]; omega, by simp only [rk]; omega⟩ ⟨(Nat.le_of_ble_eq_true rfl), (Nat.le_of_ble_eq_true rfl)⟩ (Nat.le_of_ble_eq_true rfl) dX20_worth_5 ?_
    refine s_if_le (tgt := 26) hz dX20_worth_10 rfl (fun h6 => ?_) (fun h6 => ?_)
    · refine s_aload_n hz dX20_worth_26 rfl 0 rfl ?_
      refine s_bind (fun v7 e8 => ?_)
      refine rX_d_X20_22 hc e8 dX20_worth_27 ?_
      refine s_opt (fun _ => ?_) (fun a9 _ => ?_)
      · refine s_aload_n hz dX20_worth_30 rfl 1 rfl ?_
        exact s_none
      · refine s_aload_n hz dX20_worth_30 rfl 1 rfl ?_
        refine s_bind (fun q10 e11 => ?_)
        refine kX_X20_13 hc (hrc _ _ _ e11) hr ⟨by simp only [rk]; omega, by simp only [rk]; omega⟩ ⟨(Nat.le_of_ble_eq_true rfl), (Nat.le_of_ble_eq_true rfl)⟩ (Nat.le_of_ble_eq_true rfl) dX20_worth_31 ?_
        exact s_iret hc dX20_worth_36 (Nat.le_of_ble_eq_true rfl) (Nat.le_of_ble_eq_true rfl)
    · refine s_aload_n hz dX20_worth_13 rfl 0 rfl ?_
      refine s_bind (fun v12 e13 => ?_)
      refine rX_d_X20_19 hc e13 dX20_worth_14 ?_
      refine s_opt (fun _ => ?_) (fun a14 _ => ?_)
      · refine s_aload_n hz dX20_worth_17 rfl 1 rfl ?_
        exact s_none
      · refine s_aload_n hz dX20_worth_17 rfl 1 rfl ?_
        refine s_bind (fun q15 e16 => ?_)
        refine kX_X20_13 hc (hrc _ _ _ e16) hr ⟨by simp only [rk]; omega, by simp only [rk]; omega⟩ ⟨(Nat.le_of_ble_eq_true rfl), (Nat.le_of_ble_eq_true rfl)⟩ (Nat.le_of_ble_eq_true rfl) dX20_worth_18 ?_
        refine s_goto (tgt := 36) hz dX20_worth_23 rfl ?_
        exact s_iret hc dX20_worth_36 (Nat.le_of_ble_eq_true rfl) (Nat.le_of_ble_eq_true rfl)
theorem cfX20_worth {g : GeoX} {N : Nat} {rc : Mem → Nat → Option Int32} {r : Nat} (hr : 2 ≤ r) (hrc : ∀ (σ : Mem) (a : Nat) (v : Int32), rc σ a = some v → WC g r σ a v) {σ : Mem} {x0 : Nat} {ρ : Int32} (hF : fX20_worth N rc σ x0 = some ρ) (l : Launch) : Ct (VX g) l yX20_worth cX20_worth 2 (some .int) (rk (r + 1) 0 0) [.ref (vO (VX g) + x0), .ref (vO (VX g) + 64)] σ (oI ρ) σ :=
  Ct.of (by decide) (Nat.le_of_ble_eq_true rfl) (fun Θ hc ls hl => wfX20_worth hr hrc σ x0 hc hF ls hl)
def recW (N : Nat) : Nat → Mem → Nat → Option Int32
  | 0 => fun _ _ => none
  | d + 1 => fun σ a => (dC 16 20 σ a).bind (fun c => if c = 16 then fX16_worth N σ a else if c = 17 then fX17_worth N σ a else if c = 18 then fX19_worth N (recW N d) σ a else if c = 19 then fX20_worth N (recW N d) σ a else none)
theorem recW_ct {g : GeoX} {N : Nat} : ∀ (d : Nat) (σ : Mem) (a : Nat) (v : Int32), recW N d σ a = some v → WC g (d + 2) σ a v := by
  intro d
  induction d with
  | zero => intro σ a v h; cases h
  | succ d ih =>
    intro σ a v h
    obtain ⟨c, hcl, h⟩ := Option.bind_eq_some_iff.mp h
    refine ⟨c, hcl, ?_, ?_, ?_, ?_⟩
    · intro hc; subst hc; exact cfX16_worth (N := N) h
    · intro hc; subst hc; exact cfX17_worth (N := N) h
    · intro hc; subst hc; exact cfX19_worth (N := N) (r := d + 2) (by omega) ih h
    · intro hc; subst hc; exact cfX20_worth (N := N) (r := d + 2) (by omega) ih h
set_option maxHeartbeats 4000000 in
theorem kX_X21_3 {γ : Type} {Θ : ThT Mem} {g : GeoX} {cc : ByteArray} {nL : Nat} {rm : Room} {ret : Option FieldType} {hs : List (Nat × Nat × Nat × Nat)} {ini : Bool} {O : Outcome} {σ' : Mem} {ρ : γ} {σ : Mem} {F : Option γ} {cs : Nat × Nat} {pc : Nat} {lv : List (Nat × Value)} {st : List Value} (hc : Cx Θ (VX g) cc nL RX21 rm ret hs ini O σ') {x0 r : Nat} {v : Int32} (h : WC g r σ x0 v) (hr : 2 ≤ r) (hR : r + 1 ≤ rm.frames ∧ 8 + (4 + 11) + 40 * r ≤ rm.locals) (hf : cs.1 + 0 ≤ rm.cells ∧ cs.2 + 0 ≤ rm.slots) (hrest : (st.map fun v => v.category).sum ≤ 8) (hd : decode cc pc = .ok (.invokeinterface 3 2, 5)) (kk : Sim Θ nL ρ σ F cs (pc + 5) lv (.int v :: st)) : Sim Θ nL ρ σ F cs pc lv (.ref (vO (VX g) + 64) :: .ref (vO (VX g) + x0) :: st) := by
  obtain ⟨c, hcl, w16, w17, w18, w19⟩ := h
  obtain ⟨fs, ha, h1, h2⟩ := dC_spec hcl
  have h3 : c = 16 ∨ c = 17 ∨ c = 18 ∨ c = 19 := by omega
  rcases h3 with rfl | rfl | rfl | rfl
  · exact s_callF hc (a := x0) (As := [.ref (vO (VX g) + 64)]) (rest := st) (n := 1) (ci := 16) (x := (⟨"SlipWeeks$Part", "worth", "(LSlipWeeks$Named;)I"⟩ : MethodName)) (q := (RX16, TX16, 1)) (w16 rfl) (lw_F q579 q600 q597 q82 q598) (fun U hU => ⟨hU.1 _ (List.mem_of_getElem? (i := 34) rfl), hU.1 _ (List.mem_of_getElem? (i := 33) rfl), hU.1 _ (List.mem_of_getElem? (i := 15) rfl), hU.1 _ (List.mem_of_getElem? (i := 14) rfl), hU.1 _ (List.mem_of_getElem? (i := 13) rfl)⟩) (by decide +kernel) rfl (Ob.dyn ha) rfl rfl hrest ⟨by have := hR.1; simp only [rk] at *; omega, by have := hR.2; simp only [rk] at *; omega⟩ hf hd kk
  · exact s_callF hc (a := x0) (As := [.ref (vO (VX g) + 64)]) (rest := st) (n := 1) (ci := 17) (x := (⟨"SlipWeeks$Part", "worth", "(LSlipWeeks$Named;)I"⟩ : MethodName)) (q := (RX17, TX17, 1)) (w17 rfl) (lw_F q579 q590 q592 q83 q594) (fun U hU => ⟨hU.1 _ (List.mem_of_getElem? (i := 34) rfl), hU.1 _ (List.mem_of_getElem? (i := 33) rfl), hU.1 _ (List.mem_of_getElem? (i := 19) rfl), hU.1 _ (List.mem_of_getElem? (i := 18) rfl), hU.1 _ (List.mem_of_getElem? (i := 17) rfl)⟩) (by decide +kernel) rfl (Ob.dyn ha) rfl rfl hrest ⟨by have := hR.1; simp only [rk] at *; omega, by have := hR.2; simp only [rk] at *; omega⟩ hf hd kk
  · exact s_callF hc (a := x0) (As := [.ref (vO (VX g) + 64)]) (rest := st) (n := 1) (ci := 18) (x := (⟨"SlipWeeks$Part", "worth", "(LSlipWeeks$Named;)I"⟩ : MethodName)) (q := (RX19, TX19, 3)) (w18 rfl) (lw_F q579 q604 q606 q85 q608) (fun U hU => ⟨hU.1 _ (List.mem_of_getElem? (i := 34) rfl), hU.1 _ (List.mem_of_getElem? (i := 33) rfl), hU.1 _ (List.mem_of_getElem? (i := 24) rfl), hU.1 _ (List.mem_of_getElem? (i := 23) rfl), hU.1 _ (List.mem_of_getElem? (i := 22) rfl)⟩) (by decide +kernel) rfl (Ob.dyn ha) rfl rfl hrest ⟨by have := hR.1; simp only [rk] at *; omega, by have := hR.2; simp only [rk] at *; omega⟩ hf hd kk
  · exact s_callF hc (a := x0) (As := [.ref (vO (VX g) + 64)]) (rest := st) (n := 1) (ci := 19) (x := (⟨"SlipWeeks$Part", "worth", "(LSlipWeeks$Named;)I"⟩ : MethodName)) (q := (RX20, TX20, 4)) (w19 rfl) (lw_F q579 q582 q584 q86 q586) (fun U hU => ⟨hU.1 _ (List.mem_of_getElem? (i := 34) rfl), hU.1 _ (List.mem_of_getElem? (i := 33) rfl), hU.1 _ (List.mem_of_getElem? (i := 29) rfl), hU.1 _ (List.mem_of_getElem? (i := 28) rfl), hU.1 _ (List.mem_of_getElem? (i := 26) rfl)⟩) (by decide +kernel) rfl (Ob.dyn ha) rfl rfl hrest ⟨by have := hR.1; simp only [rk] at *; omega, by have := hR.2; simp only [rk] at *; omega⟩ hf hd kk
theorem kX_X21_9 {γ : Type} {Θ : ThT Mem} {g : GeoX} {cc : ByteArray} {nL : Nat} {rm : Room} {ret : Option FieldType} {hs : List (Nat × Nat × Nat × Nat)} {ini : Bool} {O : Outcome} {σ' : Mem} {ρ : γ} {σ : Mem} {F : Option γ} {cs : Nat × Nat} {pc : Nat} {lv : List (Nat × Value)} {st : List Value} (hc : Cx Θ (VX g) cc nL RX21 rm ret hs ini O σ') {σ1 : Mem} {x0 : Int32} {x1 : Int32} {r : Int32} {rmc : Room} (hM : ∀ l : Launch, Ct (VX g) l yJ3_min cJ3_min 2 (some .int) rmc [.int x0, .int x1] σ (oI r) σ1) (hR : rmc.frames + 1 ≤ rm.frames ∧ 8 + (2 + 11) + rmc.locals ≤ rm.locals) (hf : cs.1 + rmc.cells ≤ rm.cells ∧ cs.2 + rmc.slots ≤ rm.slots) (hrest : (st.map fun v => v.category).sum ≤ 8) (hd : decode cc pc = .ok (.invokestatic 9, 3)) (kk : Sim Θ nL ρ σ1 F (cs.1 + rmc.cells, cs.2 + rmc.slots) (pc + 3) lv (.int r :: st)) : Sim Θ nL ρ σ F cs pc lv (.int x1 :: .int x0 :: st) := s_callS hc (As := [.int x0, .int x1]) (rest := st) (n := 2) hM (lw_S q611 q612 q80 q613) (by decide +kernel) rfl rfl hrest hR hf hd kk
theorem kX_X21_15 {γ : Type} {Θ : ThT Mem} {g : GeoX} {cc : ByteArray} {nL : Nat} {rm : Room} {ret : Option FieldType} {hs : List (Nat × Nat × Nat × Nat)} {ini : Bool} {O : Outcome} {σ' : Mem} {ρ : γ} {σ : Mem} {F : Option γ} {cs : Nat × Nat} {pc : Nat} {lv : List (Nat × Value)} {st : List Value} (hc : Cx Θ (VX g) cc nL RX21 rm ret hs ini O σ') {σ1 : Mem} {x0 : Int32} {x1 : Int32} {r : Int32} {rmc : Room} (hM : ∀ l : Launch, Ct (VX g) l yJ3_max cJ3_max 2 (some .int) rmc [.int x0, .int x1] σ (oI r) σ1) (hR : rmc.frames + 1 ≤ rm.frames ∧ 8 + (2 + 11) + rmc.locals ≤ rm.locals) (hf : cs.1 + rmc.cells ≤ rm.cells ∧ cs.2 + rmc.slots ≤ rm.slots) (hrest : (st.map fun v => v.category).sum ≤ 8) (hd : decode cc pc = .ok (.invokestatic 15, 3)) (kk : Sim Θ nL ρ σ1 F (cs.1 + rmc.cells, cs.2 + rmc.slots) (pc + 3) lv (.int r :: st)) : Sim Θ nL ρ σ F cs pc lv (.int x1 :: .int x0 :: st) := s_callS hc (As := [.int x0, .int x1]) (rest := st) (n := 2) hM (lw_S q614 q558 q80 q559) (by decide +kernel) rfl rfl hrest hR hf hd kk
def fX21_held (N : Nat) (σ : Mem) (x0 : Nat) : Option (Int32) :=
  (recW N 70 σ x0).bind (fun q1 => 
  (fJ3_min N σ (99 : Int32) q1).bind (fun q3 => 
  (fJ3_max N σ (0 : Int32) q3).bind (fun q5 => 
  some q5)))
set_option maxHeartbeats 4000000 in
theorem wfX21_held {Θ : ThT Mem} {g : GeoX} {N : Nat}  {ρ : Int32} (σ : Mem) (x0 : Nat) (hc : Cx Θ (VX g) cX21_held 2 RX21 (rk 74 0 0) (some .int) [] false (oI ρ) σ) : Sim Θ 2 ρ σ (fX21_held N σ x0) (0, 0) 0 [(0, .ref (vO (VX g) + x0)), (1, .ref (vO (VX g) + 64))] [] := by
  have hz := hc.z
  unfold fX21_held
  refine s_iconst (v := (0 : Int32)) hz dX21_held_0 (by decide) ?_
  refine s_bipush (v := (99 : Int32)) hz dX21_held_1 (by decide) ?_
  refine s_aload_n hz dX21_held_3 rfl 0 rfl ?_
  refine s_aload_n hz dX21_held_4 rfl 1 rfl ?_
  refine s_bind (fun q1 e2 => ?_)
  refine kX_X21_3 hc (recW_ct 70 _ _ _ e2) (by decide) ⟨(Nat.le_of_ble_eq_true rfl), (Nat.le_of_ble_eq_true rfl)⟩ ⟨(Nat.le_of_ble_eq_true rfl), (Nat.le_of_ble_eq_true rfl)⟩ (Nat.le_of_ble_eq_true rfl) dX21_held_5 ?_
  refine s_bind (fun q3 e4 => ?_)
  refine kX_X21_9 hc (cfJ3_min e4) ⟨(Nat.le_of_ble_eq_true rfl), (Nat.le_of_ble_eq_true rfl)⟩ ⟨(Nat.le_of_ble_eq_true rfl), (Nat.le_of_ble_eq_true rfl)⟩ (Nat.le_of_ble_eq_true rfl) dX21_held_10 ?_
  refine s_bind (fun q5 e6 => ?_)
  refine kX_X21_15 hc (cfJ3_max e6) ⟨(Nat.le_of_ble_eq_true rfl), (Nat.le_of_ble_eq_true rfl)⟩ ⟨(Nat.le_of_ble_eq_true rfl), (Nat.le_of_ble_eq_true rfl)⟩ (Nat.le_of_ble_eq_true rfl) dX21_held_13 ?_
  exact s_iret hc dX21_held_16 (Nat.le_of_ble_eq_true rfl) (Nat.le_of_ble_eq_true rfl)
theorem cfX21_held {g : GeoX} {N : Nat}  {σ : Mem} {x0 : Nat} {ρ : Int32} (hF : fX21_held N σ x0 = some ρ) : CtB (VX g) yX21_held cX21_held 2 (some .int) (rk 74 0 0) [.ref (vO (VX g) + x0), .ref (vO (VX g) + 64)] σ (oI ρ) σ :=
  fun Θ hc ls hl => wfX21_held σ x0 hc hF ls hl
theorem rX_g_X4_9_64 {γ : Type} {Θ : ThT Mem} {g : GeoX} {cc : ByteArray} {nL : Nat} {rm : Room} {ret : Option FieldType} {hs : List (Nat × Nat × Nat × Nat)} {ini : Bool} {O : Outcome} {σ' : Mem} {ρ : γ} {σ : Mem} {F : Option γ} {cs : Nat × Nat} {pc : Nat} {lv : List (Nat × Value)} {st : List Value} (hc : Cx Θ (VX g) cc nL RX4 rm ret hs ini O σ') (hd : decode cc pc = .ok (.getfield 9, 3)) (kk : Sim Θ nL ρ σ F cs (pc + 3) lv (.ref (vO (VX g) + 65) :: st)) : Sim Θ nL ρ σ F cs pc lv (.ref (vO (VX g) + 64) :: st) := s_get hc (C := RX4) (T := TX4) (N := 1) (ci := 4) (k := 64) in_X4 (Nat.le_of_ble_eq_true rfl) rfl rfl 0 (Nat.le_of_ble_eq_true rfl) q198 (fun _ _ _ _ h => h) rfl hd kk
theorem rX_st_65 {own : String} {γ : Type} {Θ : ThT Mem} {g : GeoX} {cc : ByteArray} {nL : Nat} {rm : Room} {ret : Option FieldType} {hs : List (Nat × Nat × Nat × Nat)} {ini : Bool} {O : Outcome} {σ' : Mem} {ρ : γ} {σ : Mem} {cs : Nat × Nat} {pc : Nat} {lv : List (Nat × Value)} {st : List Value} (hc : Cx Θ (VX g) cc nL own rm ret hs ini O σ') {K : Mem → Option γ} {i x : Int32} {j : Nat} (hin : inb i 7 = true) (hj : ix i = j) (hd : decode cc pc = .ok (.iastore, 1)) (kk : ∀ σ1 : Mem, Sim Θ nL ρ σ1 (K σ1) cs (pc + 1) lv st) : Sim Θ nL ρ σ (lt_ (pI σ 65 j x) K) cs pc lv (.int x :: .int i :: .ref (vO (VX g) + 65) :: st) := s_iast hc (k := 65) (t := 0) (n := 7) (Nat.le_of_ble_eq_true rfl) (fun _ => rfl) rfl hin hj hd kk
theorem kX_X4_25 {γ : Type} {Θ : ThT Mem} {g : GeoX} {cc : ByteArray} {nL : Nat} {rm : Room} {ret : Option FieldType} {hs : List (Nat × Nat × Nat × Nat)} {ini : Bool} {O : Outcome} {σ' : Mem} {ρ : γ} {σ : Mem} {F : Option γ} {cs : Nat × Nat} {pc : Nat} {lv : List (Nat × Value)} {st : List Value} (hc : Cx Θ (VX g) cc nL RX4 rm ret hs ini O σ') {σ1 : Mem} {x0 : Int32} {r : Int32} {rmc : Room} (hM : ∀ l : Launch, Ct (VX g) l yJ0_numberOfTrailingZeros cJ0_numberOfTrailingZeros 2 (some .int) rmc [.int x0] σ (oI r) σ1) (hR : rmc.frames + 1 ≤ rm.frames ∧ 8 + (2 + 11) + rmc.locals ≤ rm.locals) (hf : cs.1 + rmc.cells ≤ rm.cells ∧ cs.2 + rmc.slots ≤ rm.slots) (hrest : (st.map fun v => v.category).sum ≤ 8) (hd : decode cc pc = .ok (.invokestatic 25, 3)) (kk : Sim Θ nL ρ σ1 F (cs.1 + rmc.cells, cs.2 + rmc.slots) (pc + 3) lv (.int r :: st)) : Sim Θ nL ρ σ F cs pc lv (.int x0 :: st) := s_callS hc (As := [.int x0]) (rest := st) (n := 1) hM (lw_S q560 q561 q67 q562) (by decide +kernel) rfl rfl hrest hR hf hd kk
theorem kX_X4_31 {γ : Type} {Θ : ThT Mem} {g : GeoX} {cc : ByteArray} {nL : Nat} {rm : Room} {ret : Option FieldType} {hs : List (Nat × Nat × Nat × Nat)} {ini : Bool} {O : Outcome} {σ' : Mem} {ρ : γ} {σ : Mem} {F : Option γ} {cs : Nat × Nat} {pc : Nat} {lv : List (Nat × Value)} {st : List Value} (hc : Cx Θ (VX g) cc nL RX4 rm ret hs ini O σ') {σ1 : Mem} {x0 : Int32} {r : Int32} {rmc : Room} (hM : ∀ l : Launch, Ct (VX g) l yJ0_numberOfLeadingZeros cJ0_numberOfLeadingZeros 2 (some .int) rmc [.int x0] σ (oI r) σ1) (hR : rmc.frames + 1 ≤ rm.frames ∧ 8 + (2 + 11) + rmc.locals ≤ rm.locals) (hf : cs.1 + rmc.cells ≤ rm.cells ∧ cs.2 + rmc.slots ≤ rm.slots) (hrest : (st.map fun v => v.category).sum ≤ 8) (hd : decode cc pc = .ok (.invokestatic 31, 3)) (kk : Sim Θ nL ρ σ1 F (cs.1 + rmc.cells, cs.2 + rmc.slots) (pc + 3) lv (.int r :: st)) : Sim Θ nL ρ σ F cs pc lv (.int x0 :: st) := s_callS hc (As := [.int x0]) (rest := st) (n := 1) hM (lw_S q564 q565 q67 q566) (by decide +kernel) rfl rfl hrest hR hf hd kk
theorem kX_X4_34 {γ : Type} {Θ : ThT Mem} {g : GeoX} {cc : ByteArray} {nL : Nat} {rm : Room} {ret : Option FieldType} {hs : List (Nat × Nat × Nat × Nat)} {ini : Bool} {O : Outcome} {σ' : Mem} {ρ : γ} {σ : Mem} {F : Option γ} {cs : Nat × Nat} {pc : Nat} {lv : List (Nat × Value)} {st : List Value} (hc : Cx Θ (VX g) cc nL RX4 rm ret hs ini O σ') {σ1 : Mem} {x0 : Int32} {r : Int32} {rmc : Room} (hM : ∀ l : Launch, Ct (VX g) l yJ0_bitCount cJ0_bitCount 1 (some .int) rmc [.int x0] σ (oI r) σ1) (hR : rmc.frames + 1 ≤ rm.frames ∧ 8 + (1 + 11) + rmc.locals ≤ rm.locals) (hf : cs.1 + rmc.cells ≤ rm.cells ∧ cs.2 + rmc.slots ≤ rm.slots) (hrest : (st.map fun v => v.category).sum ≤ 8) (hd : decode cc pc = .ok (.invokestatic 34, 3)) (kk : Sim Θ nL ρ σ1 F (cs.1 + rmc.cells, cs.2 + rmc.slots) (pc + 3) lv (.int r :: st)) : Sim Θ nL ρ σ F cs pc lv (.int x0 :: st) := s_callS hc (As := [.int x0]) (rest := st) (n := 1) hM (lw_S q567 q205 q67 q206) (by decide +kernel) rfl rfl hrest hR hf hd kk
theorem kX_X4_15 {γ : Type} {Θ : ThT Mem} {g : GeoX} {cc : ByteArray} {nL : Nat} {rm : Room} {ret : Option FieldType} {hs : List (Nat × Nat × Nat × Nat)} {ini : Bool} {O : Outcome} {σ' : Mem} {ρ : γ} {σ : Mem} {F : Option γ} {cs : Nat × Nat} {pc : Nat} {lv : List (Nat × Value)} {st : List Value} (hc : Cx Θ (VX g) cc nL RX4 rm ret hs ini O σ') {σ1 : Mem} {x0 : Int32} {x1 : Int32} {r : Int32} {rmc : Room} (hM : ∀ l : Launch, Ct (VX g) l yX0_has cX0_has 2 (some .boolean) rmc [.int x0, .int x1] σ (oI r) σ1) (hR : rmc.frames + 1 ≤ rm.frames ∧ 8 + (2 + 11) + rmc.locals ≤ rm.locals) (hf : cs.1 + rmc.cells ≤ rm.cells ∧ cs.2 + rmc.slots ≤ rm.slots) (hrest : (st.map fun v => v.category).sum ≤ 8) (hd : decode cc pc = .ok (.invokestatic 15, 3)) (kk : Sim Θ nL ρ σ1 F (cs.1 + rmc.cells, cs.2 + rmc.slots) (pc + 3) lv (.int r :: st)) : Sim Θ nL ρ σ F cs pc lv (.int x1 :: .int x0 :: st) := s_callSN hc (As := [.int x0, .int x1]) (rest := st) (n := 2) (host := "SlipWeeks") hM q556 q62 (fun U hU => hU.1 _ (List.mem_of_getElem? (i := 35) rfl)) q555 (by decide +kernel) rfl rfl hrest hR hf hd kk
theorem kX_X4_19 {γ : Type} {Θ : ThT Mem} {g : GeoX} {cc : ByteArray} {nL : Nat} {rm : Room} {ret : Option FieldType} {hs : List (Nat × Nat × Nat × Nat)} {ini : Bool} {O : Outcome} {σ' : Mem} {ρ : γ} {σ : Mem} {F : Option γ} {cs : Nat × Nat} {pc : Nat} {lv : List (Nat × Value)} {st : List Value} (hc : Cx Θ (VX g) cc nL RX4 rm ret hs ini O σ') {σ1 : Mem} {x0 : Int32} {x1 : Int32} {r : Int32} {rmc : Room} (hM : ∀ l : Launch, Ct (VX g) l yJ3_max cJ3_max 2 (some .int) rmc [.int x0, .int x1] σ (oI r) σ1) (hR : rmc.frames + 1 ≤ rm.frames ∧ 8 + (2 + 11) + rmc.locals ≤ rm.locals) (hf : cs.1 + rmc.cells ≤ rm.cells ∧ cs.2 + rmc.slots ≤ rm.slots) (hrest : (st.map fun v => v.category).sum ≤ 8) (hd : decode cc pc = .ok (.invokestatic 19, 3)) (kk : Sim Θ nL ρ σ1 F (cs.1 + rmc.cells, cs.2 + rmc.slots) (pc + 3) lv (.int r :: st)) : Sim Θ nL ρ σ F cs pc lv (.int x1 :: .int x0 :: st) := s_callS hc (As := [.int x0, .int x1]) (rest := st) (n := 2) hM (lw_S q557 q558 q80 q559) (by decide +kernel) rfl rfl hrest hR hf hd kk
def bX4_finds_15 (N : Nat) (σ : Mem) (x1 : Int32) (x2 : Int32) (x3 : Int32) (r15 : (Int32 × Int32 × Int32 × Int32 × Int32) → Option (Unit × Mem)) (y15 : Int32 × Int32 × Int32 × Int32 × Int32) : Option (Unit × Mem) :=
  if (12 : Int32) ≤ y15.2.2.2.2 then
  (lt_ (pI σ 65 0 y15.1) (fun σ2 => 
  (fJ0_numberOfTrailingZeros N σ2 x1).bind (fun q3 => 
  lt_ (pI σ2 65 1 q3) (fun σ5 => 
  (fJ0_numberOfLeadingZeros N σ5 x1).bind (fun q6 => 
  lt_ (pI σ5 65 2 ((31 : Int32) - q6)) (fun σ8 => 
  lt_ (pI σ8 65 3 y15.2.1) (fun σ9 => 
  lt_ (pI σ9 65 4 y15.2.2.2.1) (fun σ10 => 
  (fJ0_bitCount N σ10 (x1 &&& x2)).bind (fun q11 => 
  lt_ (pI σ10 65 5 q11) (fun σ13 => 
  lt_ (pI σ13 65 6 x3) (fun σ14 => 
  some ((), σ14))))))))))))
  else ((fX0_has N σ x1 y15.2.2.2.2).bind (fun q15 => 
  lt_ (if q15 = (0 : Int32) then (0 : Int32) else (y15.2.2.1 + (1 : Int32))) (fun v17 => 
  (fJ3_max N σ y15.2.2.2.1 v17).bind (fun q18 => 
  (fX0_has N σ x1 y15.2.2.2.2).bind (fun q20 => 
  lt_ (y15.1 + (if q20 = (0 : Int32) then (0 : Int32) else y15.2.2.2.2)) (fun v22 => 
  (fX0_has N σ x1 y15.2.2.2.2).bind (fun q23 => 
  if q23 = (0 : Int32) then
  (lt_ (y15.2.1 + (0 : Int32)) (fun v26 => 
  r15 (v22, v26, v17, q18, (y15.2.2.2.2 + (1 : Int32)))))
  else (lt_ (y15.2.1 + (if (y15.2.2.2.2 - y15.2.2.2.2 / (2 : Int32) * (2 : Int32)) = (0 : Int32) then (1 : Int32) else (0 : Int32))) (fun v27 => 
  r15 (v22, v27, v17, q18, (y15.2.2.2.2 + (1 : Int32))))))))))))
set_option maxHeartbeats 4000000 in
theorem wbX4_finds_15 {Θ : ThT Mem} {g : GeoX} {N : Nat}  {ρ : Unit × Mem} (σ : Mem) (hc : Cx Θ (VX g) cX4_finds 9 RX4 (rk 2 0 0) none [] false (oV) ρ.2) (x1 : Int32) (x2 : Int32) (x3 : Int32) (r15 : (Int32 × Int32 × Int32 × Int32 × Int32) → Option (Unit × Mem)) (hr15 : ∀ y : Int32 × Int32 × Int32 × Int32 × Int32, Sim Θ 9 ρ (σ) (r15 y) (0, 0) 15 [(0, .ref (vO (VX g) + 64)), (1, .int x1), (2, .int x2), (3, .int x3), (4, .int y.1), (5, .int y.2.1), (6, .int y.2.2.1), (7, .int y.2.2.2.1), (8, .int y.2.2.2.2)] []) : ∀ y15 : Int32 × Int32 × Int32 × Int32 × Int32, Sim Θ 9 ρ (σ) (bX4_finds_15 N σ x1 x2 x3 r15 y15) (0, 0) 15 [(0, .ref (vO (VX g) + 64)), (1, .int x1), (2, .int x2), (3, .int x3), (4, .int y15.1), (5, .int y15.2.1), (6, .int y15.2.2.1), (7, .int y15.2.2.2.1), (8, .int y15.2.2.2.2)] [] := by
  intro y15
  have hz := hc.z
  have hr15c : ∀ (z0_ : Int32) (z1_ : Int32) (z2_ : Int32) (z3_ : Int32) (z4_ : Int32), Sim Θ 9 ρ (σ) (r15 (z0_, z1_, z2_, z3_, z4_)) (0, 0) 15 [(0, .ref (vO (VX g) + 64)), (1, .int x1), (2, .int x2), (3, .int x3), (4, .int z0_), (5, .int z1_), (6, .int z2_), (7, .int z3_), (8, .int z4_)] [] := fun z0_ z1_ z2_ z3_ z4_ => hr15 (z0_, z1_, z2_, z3_, z4_)
  unfold bX4_finds_15
  refine s_iload hz dX4_finds_15 8 rfl ?_
  refine s_bipush (v := (12 : Int32)) hz dX4_finds_17 (by decide) ?_
  refine s_icmp_ge (tgt := 102) hz dX4_finds_19 rfl (fun h1 => ?_) (fun h1 => ?_)
  · refine s_aload_n hz dX4_finds_102 rfl 0 rfl ?_
    refine rX_g_X4_9_64 hc dX4_finds_103 ?_
    refine s_iconst (v := (0 : Int32)) hz dX4_finds_106 (by decide) ?_
    refine s_iload hz dX4_finds_107 4 rfl ?_
    refine rX_st_65 hc (j := 0) (by decide) (by decide) dX4_finds_109 (fun σ2 => ?_)
    refine s_aload_n hz dX4_finds_110 rfl 0 rfl ?_
    refine rX_g_X4_9_64 hc dX4_finds_111 ?_
    refine s_iconst (v := (1 : Int32)) hz dX4_finds_114 (by decide) ?_
    refine s_iload_n hz dX4_finds_115 rfl 1 rfl ?_
    refine s_bind (fun q3 e4 => ?_)
    refine kX_X4_25 hc (cfJ0_numberOfTrailingZeros e4) ⟨(Nat.le_of_ble_eq_true rfl), (Nat.le_of_ble_eq_true rfl)⟩ ⟨(Nat.le_of_ble_eq_true rfl), (Nat.le_of_ble_eq_true rfl)⟩ (Nat.le_of_ble_eq_true rfl) dX4_finds_116 ?_
    refine rX_st_65 hc (j := 1) (by decide) (by decide) dX4_finds_119 (fun σ5 => ?_)
    refine s_aload_n hz dX4_finds_120 rfl 0 rfl ?_
    refine rX_g_X4_9_64 hc dX4_finds_121 ?_
    refine s_iconst (v := (2 : Int32)) hz dX4_finds_124 (by decide) ?_
    refine s_bipush (v := (31 : Int32)) hz dX4_finds_125 (by decide) ?_
    refine s_iload_n hz dX4_finds_127 rfl 1 rfl ?_
    refine s_bind (fun q6 e7 => ?_)
    refine kX_X4_31 hc (cfJ0_numberOfLeadingZeros e7) ⟨(Nat.le_of_ble_eq_true rfl), (Nat.le_of_ble_eq_true rfl)⟩ ⟨(Nat.le_of_ble_eq_true rfl), (Nat.le_of_ble_eq_true rfl)⟩ (Nat.le_of_ble_eq_true rfl) dX4_finds_128 ?_
    refine s_isub hz dX4_finds_131 ?_
    refine rX_st_65 hc (j := 2) (by decide) (by decide) dX4_finds_132 (fun σ8 => ?_)
    refine s_aload_n hz dX4_finds_133 rfl 0 rfl ?_
    refine rX_g_X4_9_64 hc dX4_finds_134 ?_
    refine s_iconst (v := (3 : Int32)) hz dX4_finds_137 (by decide) ?_
    refine s_iload hz dX4_finds_138 5 rfl ?_
    refine rX_st_65 hc (j := 3) (by decide) (by decide) dX4_finds_140 (fun σ9 => ?_)
    refine s_aload_n hz dX4_finds_141 rfl 0 rfl ?_
    refine rX_g_X4_9_64 hc dX4_finds_142 ?_
    refine s_iconst (v := (4 : Int32)) hz dX4_finds_145 (by decide) ?_
    refine s_iload hz dX4_finds_146 7 rfl ?_
    refine rX_st_65 hc (j := 4) (by decide) (by decide) dX4_finds_148 (fun σ10 => ?_)
    refine s_aload_n hz dX4_finds_149 rfl 0 rfl ?_
    refine rX_g_X4_9_64 hc dX4_finds_150 ?_
    refine s_iconst (v := (5 : Int32)) hz dX4_finds_153 (by decide) ?_
    refine s_iload_n hz dX4_finds_154 rfl 1 rfl ?_
    refine s_iload_n hz dX4_finds_155 rfl 2 rfl ?_
    refine s_iand hz dX4_finds_156 ?_
    refine s_bind (fun q11 e12 => ?_)
    refine kX_X4_34 hc (cfJ0_bitCount e12) ⟨(Nat.le_of_ble_eq_true rfl), (Nat.le_of_ble_eq_true rfl)⟩ ⟨(Nat.le_of_ble_eq_true rfl), (Nat.le_of_ble_eq_true rfl)⟩ (Nat.le_of_ble_eq_true rfl) dX4_finds_157 ?_
    refine rX_st_65 hc (j := 5) (by decide) (by decide) dX4_finds_160 (fun σ13 => ?_)
    refine s_aload_n hz dX4_finds_161 rfl 0 rfl ?_
    refine rX_g_X4_9_64 hc dX4_finds_162 ?_
    refine s_bipush (v := (6 : Int32)) hz dX4_finds_165 (by decide) ?_
    refine s_iload_n hz dX4_finds_167 rfl 3 rfl ?_
    refine rX_st_65 hc (j := 6) (by decide) (by decide) dX4_finds_168 (fun σ14 => ?_)
    exact s_vretM hc dX4_finds_169 (Nat.le_of_ble_eq_true rfl) (Nat.le_of_ble_eq_true rfl)
  · refine s_iload_n hz dX4_finds_22 rfl 1 rfl ?_
    refine s_iload hz dX4_finds_23 8 rfl ?_
    refine s_bind (fun q15 e16 => ?_)
    refine kX_X4_15 hc (cfX0_has e16) ⟨(Nat.le_of_ble_eq_true rfl), (Nat.le_of_ble_eq_true rfl)⟩ ⟨(Nat.le_of_ble_eq_true rfl), (Nat.le_of_ble_eq_true rfl)⟩ (Nat.le_of_ble_eq_true rfl) dX4_finds_25 ?_
    refine s_dia (J := 39) (v := .int (if q15 = (0 : Int32) then (0 : Int32) else (y15.2.2.1 + (1 : Int32)))) (st := []) (fun _ hj32 => ?_) ?_
    · refine s_if_eq_ (tgt := 38) hz dX4_finds_28 rfl (fun h33 => ?_) (fun h33 => ?_)
      · refine s_iconst (v := (0 : Int32)) hz dX4_finds_38 (by decide) ?_
        rw [if_pos h33] at hj32
        exact hj32
      · refine s_iload hz dX4_finds_31 6 rfl ?_
        refine s_iconst (v := (1 : Int32)) hz dX4_finds_33 (by decide) ?_
        refine s_iadd hz dX4_finds_34 ?_
        refine s_goto (tgt := 39) hz dX4_finds_35 rfl ?_
        rw [if_neg h33] at hj32
        exact hj32
    refine s_nmI (fun v17 => ?_)
    refine s_istore (lv' := [(6, .int v17), (0, .ref (vO (VX g) + 64)), (1, .int x1), (2, .int x2), (3, .int x3), (4, .int y15.1), (5, .int y15.2.1), (7, .int y15.2.2.2.1), (8, .int y15.2.2.2.2)]) hz dX4_finds_39 (Nat.le_of_ble_eq_true rfl) rfl ?_
    refine s_iload hz dX4_finds_41 7 rfl ?_
    refine s_iload hz dX4_finds_43 0 rfl ?_
    refine s_bind (fun q18 e19 => ?_)
    refine kX_X4_19 hc (cfJ3_max e19) ⟨(Nat.le_of_ble_eq_true rfl), (Nat.le_of_ble_eq_true rfl)⟩ ⟨(Nat.le_of_ble_eq_true rfl), (Nat.le_of_ble_eq_true rfl)⟩ (Nat.le_of_ble_eq_true rfl) dX4_finds_45 ?_
    refine s_istore (lv' := [(7, .int q18), (6, .int v17), (0, .ref (vO (VX g) + 64)), (1, .int x1), (2, .int x2), (3, .int x3), (4, .int y15.1), (5, .int y15.2.1), (8, .int y15.2.2.2.2)]) hz dX4_finds_48 (Nat.le_of_ble_eq_true rfl) rfl ?_
    refine s_iload hz dX4_finds_50 6 rfl ?_
    refine s_iload_n hz dX4_finds_52 rfl 3 rfl ?_
    refine s_iload hz dX4_finds_53 8 rfl ?_
    refine s_bind (fun q20 e21 => ?_)
    refine kX_X4_15 hc (cfX0_has e21) ⟨(Nat.le_of_ble_eq_true rfl), (Nat.le_of_ble_eq_true rfl)⟩ ⟨(Nat.le_of_ble_eq_true rfl), (Nat.le_of_ble_eq_true rfl)⟩ (Nat.le_of_ble_eq_true rfl) dX4_finds_55 ?_
    refine s_dia (J := 67) (v := .int (if q20 = (0 : Int32) then (0 : Int32) else y15.2.2.2.2)) (st := [.int y15.1]) (fun _ hj30 => ?_) ?_
    · refine s_if_eq_ (tgt := 66) hz dX4_finds_58 rfl (fun h31 => ?_) (fun h31 => ?_)
      · refine s_iconst (v := (0 : Int32)) hz dX4_finds_66 (by decide) ?_
        rw [if_pos h31] at hj30
        exact hj30
      · refine s_iload hz dX4_finds_61 8 rfl ?_
        refine s_goto (tgt := 67) hz dX4_finds_63 rfl ?_
        rw [if_neg h31] at hj30
        exact hj30
    refine s_iadd hz dX4_finds_67 ?_
    refine s_nmI (fun v22 => ?_)
    refine s_istore (lv' := [(4, .int v22), (7, .int q18), (6, .int v17), (0, .ref (vO (VX g) + 64)), (1, .int x1), (2, .int x2), (3, .int x3), (5, .int y15.2.1), (8, .int y15.2.2.2.2)]) hz dX4_finds_68 (Nat.le_of_ble_eq_true rfl) rfl ?_
    refine s_iload hz dX4_finds_70 7 rfl ?_
    refine s_iload_n hz dX4_finds_72 rfl 4 rfl ?_
    refine s_iload hz dX4_finds_73 8 rfl ?_
    refine s_bind (fun q23 e24 => ?_)
    refine kX_X4_15 hc (cfX0_has e24) ⟨(Nat.le_of_ble_eq_true rfl), (Nat.le_of_ble_eq_true rfl)⟩ ⟨(Nat.le_of_ble_eq_true rfl), (Nat.le_of_ble_eq_true rfl)⟩ (Nat.le_of_ble_eq_true rfl) dX4_finds_75 ?_
    refine s_if_eq (tgt := 92) hz dX4_finds_78 rfl (fun h25 => ?_) (fun h25 => ?_)
    · refine s_iconst (v := (0 : Int32)) hz dX4_finds_92 (by decide) ?_
      refine s_iadd hz dX4_finds_93 ?_
      refine s_nmI (fun v26 => ?_)
      refine s_istore (lv' := [(5, .int v26), (4, .int v22), (7, .int q18), (6, .int v17), (0, .ref (vO (VX g) + 64)), (1, .int x1), (2, .int x2), (3, .int x3), (8, .int y15.2.2.2.2)]) hz dX4_finds_94 (Nat.le_of_ble_eq_true rfl) rfl ?_
      refine s_iinc (v := (1 : Int32)) (lv' := [(8, .int (y15.2.2.2.2 + (1 : Int32))), (5, .int v26), (4, .int v22), (7, .int q18), (6, .int v17), (0, .ref (vO (VX g) + 64)), (1, .int x1), (2, .int x2), (3, .int x3)]) hz dX4_finds_96 8 rfl (by decide) (Nat.le_of_ble_eq_true rfl) rfl ?_
      refine s_goto (tgt := 15) hz dX4_finds_99 rfl ?_
      exact s_sub [5, 6, 7, 8, 2, 1, 4, 3, 0] rfl (hr15c v22 v26 v17 q18 (y15.2.2.2.2 + (1 : Int32)))
    · refine s_iload hz dX4_finds_81 8 rfl ?_
      refine s_iconst (v := (2 : Int32)) hz dX4_finds_83 (by decide) ?_
      refine s_irem hz dX4_finds_84 (by decide) ?_
      refine s_dia (J := 93) (v := .int (if (y15.2.2.2.2 - y15.2.2.2.2 / (2 : Int32) * (2 : Int32)) = (0 : Int32) then (1 : Int32) else (0 : Int32))) (st := [.int y15.2.1]) (fun _ hj28 => ?_) ?_
      · refine s_if_ne_ (tgt := 92) hz dX4_finds_85 rfl (fun h29 => ?_) (fun h29 => ?_)
        · refine s_iconst (v := (0 : Int32)) hz dX4_finds_92 (by decide) ?_
          rw [if_neg h29] at hj28
          exact hj28
        · refine s_iconst (v := (1 : Int32)) hz dX4_finds_88 (by decide) ?_
          refine s_goto (tgt := 93) hz dX4_finds_89 rfl ?_
          rw [if_pos h29] at hj28
          exact hj28
      refine s_iadd hz dX4_finds_93 ?_
      refine s_nmI (fun v27 => ?_)
      refine s_istore (lv' := [(5, .int v27), (4, .int v22), (7, .int q18), (6, .int v17), (0, .ref (vO (VX g) + 64)), (1, .int x1), (2, .int x2), (3, .int x3), (8, .int y15.2.2.2.2)]) hz dX4_finds_94 (Nat.le_of_ble_eq_true rfl) rfl ?_
      refine s_iinc (v := (1 : Int32)) (lv' := [(8, .int (y15.2.2.2.2 + (1 : Int32))), (5, .int v27), (4, .int v22), (7, .int q18), (6, .int v17), (0, .ref (vO (VX g) + 64)), (1, .int x1), (2, .int x2), (3, .int x3)]) hz dX4_finds_96 8 rfl (by decide) (Nat.le_of_ble_eq_true rfl) rfl ?_
      refine s_goto (tgt := 15) hz dX4_finds_99 rfl ?_
      exact s_sub [5, 6, 7, 8, 2, 1, 4, 3, 0] rfl (hr15c v22 v27 v17 q18 (y15.2.2.2.2 + (1 : Int32)))
def fX4_finds (N : Nat) (σ : Mem) (x1 : Int32) (x2 : Int32) (x3 : Int32) : Option (Unit × Mem) :=
  lp (bX4_finds_15 N σ x1 x2 x3) N ((0 : Int32), (0 : Int32), (0 : Int32), (0 : Int32), (0 : Int32))
set_option maxHeartbeats 4000000 in
theorem wfX4_finds {Θ : ThT Mem} {g : GeoX} {N : Nat}  {ρ : Unit × Mem} (σ : Mem) (x1 : Int32) (x2 : Int32) (x3 : Int32) (hc : Cx Θ (VX g) cX4_finds 9 RX4 (rk 2 0 0) none [] false (oV) ρ.2) : Sim Θ 9 ρ σ (fX4_finds N σ x1 x2 x3) (0, 0) 0 [(0, .ref (vO (VX g) + 64)), (1, .int x1), (2, .int x2), (3, .int x3)] [] := by
  have hz := hc.z
  unfold fX4_finds
  refine s_iconst (v := (0 : Int32)) hz dX4_finds_0 (by decide) ?_
  refine s_istore (lv' := [(4, .int (0 : Int32)), (0, .ref (vO (VX g) + 64)), (1, .int x1), (2, .int x2), (3, .int x3)]) hz dX4_finds_1 (Nat.le_of_ble_eq_true rfl) rfl ?_
  refine s_iconst (v := (0 : Int32)) hz dX4_finds_3 (by decide) ?_
  refine s_istore (lv' := [(5, .int (0 : Int32)), (4, .int (0 : Int32)), (0, .ref (vO (VX g) + 64)), (1, .int x1), (2, .int x2), (3, .int x3)]) hz dX4_finds_4 (Nat.le_of_ble_eq_true rfl) rfl ?_
  refine s_iconst (v := (0 : Int32)) hz dX4_finds_6 (by decide) ?_
  refine s_istore (lv' := [(6, .int (0 : Int32)), (5, .int (0 : Int32)), (4, .int (0 : Int32)), (0, .ref (vO (VX g) + 64)), (1, .int x1), (2, .int x2), (3, .int x3)]) hz dX4_finds_7 (Nat.le_of_ble_eq_true rfl) rfl ?_
  refine s_iconst (v := (0 : Int32)) hz dX4_finds_9 (by decide) ?_
  refine s_istore (lv' := [(7, .int (0 : Int32)), (6, .int (0 : Int32)), (5, .int (0 : Int32)), (4, .int (0 : Int32)), (0, .ref (vO (VX g) + 64)), (1, .int x1), (2, .int x2), (3, .int x3)]) hz dX4_finds_10 (Nat.le_of_ble_eq_true rfl) rfl ?_
  refine s_iconst (v := (0 : Int32)) hz dX4_finds_12 (by decide) ?_
  refine s_istore (lv' := [(8, .int (0 : Int32)), (7, .int (0 : Int32)), (6, .int (0 : Int32)), (5, .int (0 : Int32)), (4, .int (0 : Int32)), (0, .ref (vO (VX g) + 64)), (1, .int x1), (2, .int x2), (3, .int x3)]) hz dX4_finds_13 (Nat.le_of_ble_eq_true rfl) rfl ?_
  exact s_sub [5, 6, 7, 8, 4, 3, 2, 1, 0] rfl (s_lp (sg := fun y : Int32 × Int32 × Int32 × Int32 × Int32 => σ) (lvs := fun y : Int32 × Int32 × Int32 × Int32 × Int32 => [(0, .ref (vO (VX g) + 64)), (1, .int x1), (2, .int x2), (3, .int x3), (4, .int y.1), (5, .int y.2.1), (6, .int y.2.2.1), (7, .int y.2.2.2.1), (8, .int y.2.2.2.2)]) (fun rec hrec => wbX4_finds_15 σ hc x1 x2 x3  rec hrec) N ((0 : Int32), (0 : Int32), (0 : Int32), (0 : Int32), (0 : Int32)))
theorem cfX4_finds {g : GeoX} {N : Nat}  {σ : Mem} {x1 : Int32} {x2 : Int32} {x3 : Int32} {ρ : Unit × Mem} (hF : fX4_finds N σ x1 x2 x3 = some ρ) (l : Launch) : Ct (VX g) l yX4_finds cX4_finds 9 none (rk 2 0 0) [.ref (vO (VX g) + 64), .int x1, .int x2, .int x3] σ (oV) ρ.2 :=
  Ct.of (by decide) (Nat.le_of_ble_eq_true rfl) (fun Θ hc ls hl => wfX4_finds σ x1 x2 x3 hc hF ls hl)
theorem rX_g_X0_80_0 {γ : Type} {Θ : ThT Mem} {g : GeoX} {cc : ByteArray} {nL : Nat} {rm : Room} {ret : Option FieldType} {hs : List (Nat × Nat × Nat × Nat)} {ini : Bool} {O : Outcome} {σ' : Mem} {ρ : γ} {σ : Mem} {F : Option γ} {cs : Nat × Nat} {pc : Nat} {lv : List (Nat × Value)} {st : List Value} (hc : Cx Θ (VX g) cc nL RX0 rm ret hs ini O σ') (hd : decode cc pc = .ok (.getfield 80, 3)) (kk : Sim Θ nL ρ σ F cs (pc + 3) lv (.ref (vO (VX g) + 64) :: st)) : Sim Θ nL ρ σ F cs pc lv (.ref (vO (VX g) + 0) :: st) := s_get hc (C := RX0) (T := TX0) (N := 19) (ci := 0) (k := 0) in_X0 (Nat.le_of_ble_eq_true rfl) rfl rfl 9 (Nat.le_of_ble_eq_true rfl) q219 (fun _ _ _ _ h => h) rfl hd kk
theorem rX_g_X0_67_0 {γ : Type} {Θ : ThT Mem} {g : GeoX} {cc : ByteArray} {nL : Nat} {rm : Room} {ret : Option FieldType} {hs : List (Nat × Nat × Nat × Nat)} {ini : Bool} {O : Outcome} {σ' : Mem} {ρ : γ} {σ : Mem} {F : Option γ} {cs : Nat × Nat} {pc : Nat} {lv : List (Nat × Value)} {st : List Value} (hc : Cx Θ (VX g) cc nL RX0 rm ret hs ini O σ') (hd : decode cc pc = .ok (.getfield 67, 3)) (kk : Sim Θ nL ρ σ F cs (pc + 3) lv (.ref (vO (VX g) + 62) :: st)) : Sim Θ nL ρ σ F cs pc lv (.ref (vO (VX g) + 0) :: st) := s_get hc (C := RX0) (T := TX0) (N := 19) (ci := 0) (k := 0) in_X0 (Nat.le_of_ble_eq_true rfl) rfl rfl 7 (Nat.le_of_ble_eq_true rfl) q217 (fun _ _ _ _ h => h) rfl hd kk
theorem rX_ld_62 {own : String} {γ : Type} {Θ : ThT Mem} {g : GeoX} {cc : ByteArray} {nL : Nat} {rm : Room} {ret : Option FieldType} {hs : List (Nat × Nat × Nat × Nat)} {ini : Bool} {O : Outcome} {σ' : Mem} {ρ : γ} {σ : Mem} {F : Option γ} {cs : Nat × Nat} {pc : Nat} {lv : List (Nat × Value)} {st : List Value} (hc : Cx Θ (VX g) cc nL own rm ret hs ini O σ') {i : Int32} {j : Nat} (hin : inb i 495 = true) (hj : ix i = j) (hd : decode cc pc = .ok (.iaload, 1)) (kk : Sim Θ nL ρ σ F cs (pc + 1) lv (.int (gI σ 62 j) :: st)) : Sim Θ nL ρ σ F cs pc lv (.int i :: .ref (vO (VX g) + 62) :: st) := s_iald hc (k := 62) (t := 0) (n := 495) (Nat.le_of_ble_eq_true rfl) rfl rfl hin hj hd kk
theorem kX_X0_182_1 {γ : Type} {Θ : ThT Mem} {g : GeoX} {cc : ByteArray} {nL : Nat} {rm : Room} {ret : Option FieldType} {hs : List (Nat × Nat × Nat × Nat)} {ini : Bool} {O : Outcome} {σ' : Mem} {ρ : γ} {σ : Mem} {F : Option γ} {cs : Nat × Nat} {pc : Nat} {lv : List (Nat × Value)} {st : List Value} (hc : Cx Θ (VX g) cc nL RX0 rm ret hs ini O σ') {σ1 : Mem}  {r : Int32} {rmc : Room} (hM : ∀ l : Launch, Ct (VX g) l yX1_latest cX1_latest 1 (some .int) rmc [.ref (vO (VX g) + 1)] σ (oI r) σ1) (hR : rmc.frames + 1 ≤ rm.frames ∧ 8 + (1 + 11) + rmc.locals ≤ rm.locals) (hf : cs.1 + rmc.cells ≤ rm.cells ∧ cs.2 + rmc.slots ≤ rm.slots) (hrest : (st.map fun v => v.category).sum ≤ 8) (hd : decode cc pc = .ok (.invokevirtual 182, 3)) (kk : Sim Θ nL ρ σ1 F (cs.1 + rmc.cells, cs.2 + rmc.slots) (pc + 3) lv (.int r :: st)) : Sim Θ nL ρ σ F cs pc lv (.ref (vO (VX g) + 1) :: st) := s_callVo hc (a := 1) (As := []) (rest := st) (n := 0) (ci := 1) (q := (RX1, TX1, 10)) hM (lw_V q546 q547 q548 q63 q549) (by decide +kernel) rfl (Ob.fix (Nat.le_of_ble_eq_true rfl) rfl) rfl rfl hrest hR hf hd kk
theorem rX_g_X0_185_1 {γ : Type} {Θ : ThT Mem} {g : GeoX} {cc : ByteArray} {nL : Nat} {rm : Room} {ret : Option FieldType} {hs : List (Nat × Nat × Nat × Nat)} {ini : Bool} {O : Outcome} {σ' : Mem} {ρ : γ} {σ : Mem} {F : Option γ} {cs : Nat × Nat} {pc : Nat} {lv : List (Nat × Value)} {st : List Value} (hc : Cx Θ (VX g) cc nL RX0 rm ret hs ini O σ') (hd : decode cc pc = .ok (.getfield 185, 3)) (kk : Sim Θ nL ρ σ F cs (pc + 3) lv (.int (gI σ 1 1) :: st)) : Sim Θ nL ρ σ F cs pc lv (.ref (vO (VX g) + 1) :: st) := s_get hc (C := RX1) (T := TX1) (N := 10) (ci := 1) (k := 1) in_X1 (Nat.le_of_ble_eq_true rfl) rfl rfl 1 (Nat.le_of_ble_eq_true rfl) q125 (fun _ _ _ _ h => h) rfl hd kk
theorem kX_X0_188 {γ : Type} {Θ : ThT Mem} {g : GeoX} {cc : ByteArray} {nL : Nat} {rm : Room} {ret : Option FieldType} {hs : List (Nat × Nat × Nat × Nat)} {ini : Bool} {O : Outcome} {σ' : Mem} {ρ : γ} {σ : Mem} {F : Option γ} {cs : Nat × Nat} {pc : Nat} {lv : List (Nat × Value)} {st : List Value} (hc : Cx Θ (VX g) cc nL RX0 rm ret hs ini O σ') {σ1 : Mem} {x1 : Int32} {x2 : Int32} {x3 : Int32} {rmc : Room} (hM : ∀ l : Launch, Ct (VX g) l yX4_finds cX4_finds 9 none rmc [.ref (vO (VX g) + 64), .int x1, .int x2, .int x3] σ oV σ1) (hR : rmc.frames + 1 ≤ rm.frames ∧ 8 + (9 + 11) + rmc.locals ≤ rm.locals) (hf : cs.1 + rmc.cells ≤ rm.cells ∧ cs.2 + rmc.slots ≤ rm.slots) (hrest : (st.map fun v => v.category).sum ≤ 8) (hd : decode cc pc = .ok (.invokevirtual 188, 3)) (kk : Sim Θ nL ρ σ1 F (cs.1 + rmc.cells, cs.2 + rmc.slots) (pc + 3) lv (st)) : Sim Θ nL ρ σ F cs pc lv (.int x3 :: .int x2 :: .int x1 :: .ref (vO (VX g) + 64) :: st) := s_callVo hc (a := 64) (As := [.int x1, .int x2, .int x3]) (rest := st) (n := 3) (ci := 4) (q := (RX4, TX4, 1)) hM (lw_V q550 q551 q552 q66 q553) (by decide +kernel) rfl (Ob.fix (Nat.le_of_ble_eq_true rfl) rfl) rfl rfl hrest hR hf hd kk
theorem rX_g_X0_84_0 {γ : Type} {Θ : ThT Mem} {g : GeoX} {cc : ByteArray} {nL : Nat} {rm : Room} {ret : Option FieldType} {hs : List (Nat × Nat × Nat × Nat)} {ini : Bool} {O : Outcome} {σ' : Mem} {ρ : γ} {σ : Mem} {F : Option γ} {cs : Nat × Nat} {pc : Nat} {lv : List (Nat × Value)} {st : List Value} (hc : Cx Θ (VX g) cc nL RX0 rm ret hs ini O σ') (hd : decode cc pc = .ok (.getfield 84, 3)) (kk : Sim Θ nL ρ σ F cs (pc + 3) lv (.ref (vO (VX g) + 66) :: st)) : Sim Θ nL ρ σ F cs pc lv (.ref (vO (VX g) + 0) :: st) := s_get hc (C := RX0) (T := TX0) (N := 19) (ci := 0) (k := 0) in_X0 (Nat.le_of_ble_eq_true rfl) rfl rfl 12 (Nat.le_of_ble_eq_true rfl) q222 (fun _ _ _ _ h => h) rfl hd kk
theorem rX_g_X0_191_1 {γ : Type} {Θ : ThT Mem} {g : GeoX} {cc : ByteArray} {nL : Nat} {rm : Room} {ret : Option FieldType} {hs : List (Nat × Nat × Nat × Nat)} {ini : Bool} {O : Outcome} {σ' : Mem} {ρ : γ} {σ : Mem} {F : Option γ} {cs : Nat × Nat} {pc : Nat} {lv : List (Nat × Value)} {st : List Value} (hc : Cx Θ (VX g) cc nL RX0 rm ret hs ini O σ') (hd : decode cc pc = .ok (.getfield 191, 3)) (kk : Sim Θ nL ρ σ F cs (pc + 3) lv (.ref (vO (VX g) + 16) :: st)) : Sim Θ nL ρ σ F cs pc lv (.ref (vO (VX g) + 1) :: st) := s_get hc (C := RX1) (T := TX1) (N := 10) (ci := 1) (k := 1) in_X1 (Nat.le_of_ble_eq_true rfl) rfl rfl 6 (Nat.le_of_ble_eq_true rfl) q135 (fun _ _ _ _ h => h) rfl hd kk
theorem rX_gs_X0_162_16 {γ : Type} {Θ : ThT Mem} {g : GeoX} {cc : ByteArray} {nL : Nat} {rm : Room} {ret : Option FieldType} {hs : List (Nat × Nat × Nat × Nat)} {ini : Bool} {O : Outcome} {σ' : Mem} {ρ : γ} {σ : Mem} {F : Option γ} {cs : Nat × Nat} {pc : Nat} {lv : List (Nat × Value)} {st : List Value} (hc : Cx Θ (VX g) cc nL RX0 rm ret hs ini O σ') (hd : decode cc pc = .ok (.getfield 162, 3)) (kk : Sim Θ nL ρ σ F cs (pc + 3) lv (va_rf ((gR σ 16 0).map (vO (VX g) + ·)) :: st)) : Sim Θ nL ρ σ F cs pc lv (.ref (vO (VX g) + 16) :: st) := s_get hc (C := RX2) (T := TX2) (N := 1) (ci := 2) (k := 16) in_X2 (Nat.le_of_ble_eq_true rfl) rfl rfl 0 (Nat.le_of_ble_eq_true rfl) q113 (fun _ _ _ _ h => h) rfl hd kk
theorem rX_st_66 {own : String} {γ : Type} {Θ : ThT Mem} {g : GeoX} {cc : ByteArray} {nL : Nat} {rm : Room} {ret : Option FieldType} {hs : List (Nat × Nat × Nat × Nat)} {ini : Bool} {O : Outcome} {σ' : Mem} {ρ : γ} {σ : Mem} {cs : Nat × Nat} {pc : Nat} {lv : List (Nat × Value)} {st : List Value} (hc : Cx Θ (VX g) cc nL own rm ret hs ini O σ') {K : Mem → Option γ} {i x : Int32} {j : Nat} (hin : inb i 495 = true) (hj : ix i = j) (hd : decode cc pc = .ok (.iastore, 1)) (kk : ∀ σ1 : Mem, Sim Θ nL ρ σ1 (K σ1) cs (pc + 1) lv st) : Sim Θ nL ρ σ (lt_ (pI σ 66 j x) K) cs pc lv (.int x :: .int i :: .ref (vO (VX g) + 66) :: st) := s_iast hc (k := 66) (t := 0) (n := 495) (Nat.le_of_ble_eq_true rfl) (fun _ => rfl) rfl hin hj hd kk
theorem rX_co_X0_195 {γ : Type} {Θ : ThT Mem} {g : GeoX} {cc : ByteArray} {nL : Nat} {rm : Room} {ret : Option FieldType} {hs : List (Nat × Nat × Nat × Nat)} {ini : Bool} {O : Outcome} {σ' : Mem} {ρ : γ} {σ : Mem} {F : Option γ} {cs : Nat × Nat} {pc : Nat} {lv : List (Nat × Value)} {st : List Value} (hc : Cx Θ (VX g) cc nL RX0 rm ret hs ini O σ') {a c : Nat} (h : dC 16 20 σ a = some c) (hd : decode cc pc = .ok (.checkcast 195, 3)) (kk : Sim Θ nL ρ σ F cs (pc + 3) lv (.ref (vO (VX g) + a) :: st)) : Sim Θ nL ρ σ F cs pc lv (.ref (vO (VX g) + a) :: st) := by
  obtain ⟨fs, ha, h1, h2⟩ := dC_spec h
  have h3 : c = 16 ∨ c = 17 ∨ c = 18 ∨ c = 19 := by omega
  rcases h3 with rfl | rfl | rfl | rfl
  · exact s_ocast hc (q := (RX16, TX16, 1)) rfl (Ob.dyn ha) (fun U hU => hU.1 _ (List.mem_of_getElem? (i := 13) rfl)) q568 hd kk
  · exact s_ocast hc (q := (RX17, TX17, 1)) rfl (Ob.dyn ha) (fun U hU => hU.1 _ (List.mem_of_getElem? (i := 17) rfl)) q568 hd kk
  · exact s_ocast hc (q := (RX19, TX19, 3)) rfl (Ob.dyn ha) (fun U hU => hU.1 _ (List.mem_of_getElem? (i := 22) rfl)) q568 hd kk
  · exact s_ocast hc (q := (RX20, TX20, 4)) rfl (Ob.dyn ha) (fun U hU => hU.1 _ (List.mem_of_getElem? (i := 26) rfl)) q568 hd kk
set_option maxHeartbeats 4000000 in
theorem kX_X0_197 {γ : Type} {Θ : ThT Mem} {g : GeoX} {cc : ByteArray} {nL : Nat} {rm : Room} {ret : Option FieldType} {hs : List (Nat × Nat × Nat × Nat)} {ini : Bool} {O : Outcome} {σ' : Mem} {ρ : γ} {σ : Mem} {F : Option γ} {cs : Nat × Nat} {pc : Nat} {lv : List (Nat × Value)} {st : List Value} (hc : Cx Θ (VX g) cc nL RX0 rm ret hs ini O σ') {x0 : Nat} {v : Int32} {σ1 : Mem} {rmc : Room} (hM : CtB (VX g) yX21_held cX21_held 2 (some .int) rmc [.ref (vO (VX g) + x0), .ref (vO (VX g) + 64)] σ (oI v) σ1) (hcl : (dC 16 20 σ x0).isSome = true) (hR : rmc.frames + 1 ≤ rm.frames ∧ 8 + (2 + 11) + rmc.locals ≤ rm.locals) (hf : cs.1 + rmc.cells ≤ rm.cells ∧ cs.2 + rmc.slots ≤ rm.slots) (hrest : (st.map fun v => v.category).sum ≤ 8) (hd : decode cc pc = .ok (.invokeinterface 197 2, 5)) (kk : Sim Θ nL ρ σ1 F (cs.1 + rmc.cells, cs.2 + rmc.slots) (pc + 5) lv (.int v :: st)) : Sim Θ nL ρ σ F cs pc lv (.ref (vO (VX g) + 64) :: .ref (vO (VX g) + x0) :: st) := by
  obtain ⟨c, hcl⟩ := Option.isSome_iff_exists.mp hcl
  obtain ⟨fs, ha, h1, h2⟩ := dC_spec hcl
  have h3 : c = 16 ∨ c = 17 ∨ c = 18 ∨ c = 19 := by omega
  rcases h3 with rfl | rfl | rfl | rfl
  · exact s_callFD hc (a := x0) (As := [.ref (vO (VX g) + 64)]) (rest := st) (n := 1) (ci := 16) (x := (⟨"SlipWeeks$Part", "held", "(LSlipWeeks$Named;)I"⟩ : MethodName)) (q := (RX16, TX16, 1)) hM (by decide) (Nat.le_of_ble_eq_true rfl) q570 q575 q577 (fun U hU => ⟨hU.2.2.2.2 _ (List.mem_of_getElem? (i := 0) rfl), hU.1 _ (List.mem_of_getElem? (i := 31) rfl), hU.1 _ (List.mem_of_getElem? (i := 30) rfl), hU.1 _ (List.mem_of_getElem? (i := 32) rfl), hU.1 _ (List.mem_of_getElem? (i := 16) rfl), hU.1 _ (List.mem_of_getElem? (i := 13) rfl)⟩) (by decide +kernel) rfl (Ob.dyn ha) rfl rfl hrest hR hf hd kk
  · exact s_callFD hc (a := x0) (As := [.ref (vO (VX g) + 64)]) (rest := st) (n := 1) (ci := 17) (x := (⟨"SlipWeeks$Part", "held", "(LSlipWeeks$Named;)I"⟩ : MethodName)) (q := (RX17, TX17, 1)) hM (by decide) (Nat.le_of_ble_eq_true rfl) q570 q575 q577 (fun U hU => ⟨hU.2.2.2.2 _ (List.mem_of_getElem? (i := 1) rfl), hU.1 _ (List.mem_of_getElem? (i := 31) rfl), hU.1 _ (List.mem_of_getElem? (i := 30) rfl), hU.1 _ (List.mem_of_getElem? (i := 32) rfl), hU.1 _ (List.mem_of_getElem? (i := 20) rfl), hU.1 _ (List.mem_of_getElem? (i := 17) rfl)⟩) (by decide +kernel) rfl (Ob.dyn ha) rfl rfl hrest hR hf hd kk
  · exact s_callFD hc (a := x0) (As := [.ref (vO (VX g) + 64)]) (rest := st) (n := 1) (ci := 18) (x := (⟨"SlipWeeks$Part", "held", "(LSlipWeeks$Named;)I"⟩ : MethodName)) (q := (RX19, TX19, 3)) hM (by decide) (Nat.le_of_ble_eq_true rfl) q570 q575 q577 (fun U hU => ⟨hU.2.2.2.2 _ (List.mem_of_getElem? (i := 2) rfl), hU.1 _ (List.mem_of_getElem? (i := 31) rfl), hU.1 _ (List.mem_of_getElem? (i := 30) rfl), hU.1 _ (List.mem_of_getElem? (i := 32) rfl), hU.1 _ (List.mem_of_getElem? (i := 25) rfl), hU.1 _ (List.mem_of_getElem? (i := 22) rfl)⟩) (by decide +kernel) rfl (Ob.dyn ha) rfl rfl hrest hR hf hd kk
  · exact s_callFD hc (a := x0) (As := [.ref (vO (VX g) + 64)]) (rest := st) (n := 1) (ci := 19) (x := (⟨"SlipWeeks$Part", "held", "(LSlipWeeks$Named;)I"⟩ : MethodName)) (q := (RX20, TX20, 4)) hM (by decide) (Nat.le_of_ble_eq_true rfl) q570 q575 q577 (fun U hU => ⟨hU.2.2.2.2 _ (List.mem_of_getElem? (i := 3) rfl), hU.1 _ (List.mem_of_getElem? (i := 31) rfl), hU.1 _ (List.mem_of_getElem? (i := 30) rfl), hU.1 _ (List.mem_of_getElem? (i := 32) rfl), hU.1 _ (List.mem_of_getElem? (i := 27) rfl), hU.1 _ (List.mem_of_getElem? (i := 26) rfl)⟩) (by decide +kernel) rfl (Ob.dyn ha) rfl rfl hrest hR hf hd kk
def bX0_findSays_2 (N : Nat) (σ : Mem)  (r2 : (Mem × Int32) → Option (Unit × Mem)) (y2 : Mem × Int32) : Option (Unit × Mem) :=
  if (495 : Int32) ≤ y2.2 then
  (some ((), y2.1))
  else (gb (inb y2.2 495) (
  (fX1_latest_1 N y2.1).bind (fun q3 => 
  (fX4_finds N y2.1 (gI y2.1 62 (ix y2.2)) q3 (gI y2.1 1 1)).bind (fun q5 => 
  mO (gR q5.2 16 0)
  (gb (inb y2.2 495) (
  lt_ (pI q5.2 66 (ix y2.2) (1 : Int32)) (fun σ8 => 
  r2 (σ8, (y2.2 + (1 : Int32)))))) (fun a7 => 
  mO (gR q5.2 16 0)
  (none) (fun a10 => 
  (dC 16 20 q5.2 a10).bind (fun c11 => 
  gb (dC 16 20 q5.2 a10).isSome ((fX21_held N q5.2 a10).bind (fun q13 => 
  gb (inb y2.2 495) (
  lt_ (pI q5.2 66 (ix y2.2) q13) (fun σ16 => 
  r2 (σ16, (y2.2 + (1 : Int32))))))))))))))
set_option maxHeartbeats 4000000 in
theorem wbX0_findSays_2 {Θ : ThT Mem} {g : GeoX} {N : Nat}  {ρ : Unit × Mem} (σ : Mem) (hc : Cx Θ (VX g) cX0_findSays 2 RX0 (rk 75 0 0) none [] false (oV) ρ.2)  (r2 : (Mem × Int32) → Option (Unit × Mem)) (hr2 : ∀ y : Mem × Int32, Sim Θ 2 ρ (y.1) (r2 y) (0, 0) 2 [(0, .ref (vO (VX g) + 0)), (1, .int y.2)] []) : ∀ y2 : Mem × Int32, Sim Θ 2 ρ (y2.1) (bX0_findSays_2 N σ  r2 y2) (0, 0) 2 [(0, .ref (vO (VX g) + 0)), (1, .int y2.2)] [] := by
  intro y2
  have hz := hc.z
  have hr2c : ∀ (z0_ : Mem) (z1_ : Int32), Sim Θ 2 ρ (z0_) (r2 (z0_, z1_)) (0, 0) 2 [(0, .ref (vO (VX g) + 0)), (1, .int z1_)] [] := fun z0_ z1_ => hr2 (z0_, z1_)
  unfold bX0_findSays_2
  refine s_iload_n hz dX0_findSays_2 rfl 1 rfl ?_
  refine s_sipush (v := (495 : Int32)) hz dX0_findSays_3 (by decide) ?_
  refine s_icmp_ge (tgt := 87) hz dX0_findSays_6 rfl (fun h1 => ?_) (fun h1 => ?_)
  · exact s_vretM hc dX0_findSays_87 (Nat.le_of_ble_eq_true rfl) (Nat.le_of_ble_eq_true rfl)
  · refine s_aload_n hz dX0_findSays_9 rfl 0 rfl ?_
    refine rX_g_X0_80_0 hc dX0_findSays_10 ?_
    refine s_aload_n hz dX0_findSays_13 rfl 0 rfl ?_
    refine rX_g_X0_67_0 hc dX0_findSays_14 ?_
    refine s_iload_n hz dX0_findSays_17 rfl 1 rfl ?_
    refine s_gb (fun h2 => ?_)
    refine rX_ld_62 hc h2 rfl dX0_findSays_18 ?_
    refine s_aload_n hz dX0_findSays_19 rfl 0 rfl ?_
    refine rX_g_X0_42_0 hc dX0_findSays_20 ?_
    refine s_bind (fun q3 e4 => ?_)
    refine kX_X0_182_1 hc (cfX1_latest_1 e4) ⟨(Nat.le_of_ble_eq_true rfl), (Nat.le_of_ble_eq_true rfl)⟩ ⟨(Nat.le_of_ble_eq_true rfl), (Nat.le_of_ble_eq_true rfl)⟩ (Nat.le_of_ble_eq_true rfl) dX0_findSays_23 ?_
    refine s_aload_n hz dX0_findSays_26 rfl 0 rfl ?_
    refine rX_g_X0_42_0 hc dX0_findSays_27 ?_
    refine rX_g_X0_185_1 hc dX0_findSays_30 ?_
    refine s_bind (fun q5 e6 => ?_)
    refine kX_X0_188 hc (cfX4_finds e6) ⟨(Nat.le_of_ble_eq_true rfl), (Nat.le_of_ble_eq_true rfl)⟩ ⟨(Nat.le_of_ble_eq_true rfl), (Nat.le_of_ble_eq_true rfl)⟩ (Nat.le_of_ble_eq_true rfl) dX0_findSays_33 ?_
    refine s_aload_n hz dX0_findSays_36 rfl 0 rfl ?_
    refine rX_g_X0_84_0 hc dX0_findSays_37 ?_
    refine s_iload_n hz dX0_findSays_40 rfl 1 rfl ?_
    refine s_aload_n hz dX0_findSays_41 rfl 0 rfl ?_
    refine rX_g_X0_42_0 hc dX0_findSays_42 ?_
    refine rX_g_X0_191_1 hc dX0_findSays_45 ?_
    refine rX_gs_X0_162_16 hc dX0_findSays_48 ?_
    refine s_opt (fun _ => ?_) (fun a7 _ => ?_)
    · refine s_ifnonnullN hz dX0_findSays_51 ?_
      refine s_iconst (v := (1 : Int32)) hz dX0_findSays_54 (by decide) ?_
      refine s_goto (tgt := 80) hz dX0_findSays_55 rfl ?_
      refine s_gb (fun h9 => ?_)
      refine rX_st_66 hc h9 rfl dX0_findSays_80 (fun σ8 => ?_)
      refine s_iinc (v := (1 : Int32)) (lv' := [(1, .int (y2.2 + (1 : Int32))), (0, .ref (vO (VX g) + 0))]) hz dX0_findSays_81 1 rfl (by decide) (Nat.le_of_ble_eq_true rfl) rfl ?_
      refine s_goto (tgt := 2) hz dX0_findSays_84 rfl ?_
      exact s_sub [1, 0] rfl (hr2c σ8 (y2.2 + (1 : Int32)))
    · refine s_ifnonnull (tgt := 58) hz dX0_findSays_51 rfl ?_
      refine s_aload_n hz dX0_findSays_58 rfl 0 rfl ?_
      refine rX_g_X0_42_0 hc dX0_findSays_59 ?_
      refine rX_g_X0_191_1 hc dX0_findSays_62 ?_
      refine rX_gs_X0_162_16 hc dX0_findSays_65 ?_
      refine s_opt (fun _ => ?_) (fun a10 _ => ?_)
      · refine s_castN hz dX0_findSays_68 ?_
        refine s_aload_n hz dX0_findSays_71 rfl 0 rfl ?_
        refine rX_g_X0_80_0 hc dX0_findSays_72 ?_
        exact s_none
      · refine s_bind (fun c11 e12 => ?_)
        refine rX_co_X0_195 hc e12 dX0_findSays_68 ?_
        refine s_aload_n hz dX0_findSays_71 rfl 0 rfl ?_
        refine rX_g_X0_80_0 hc dX0_findSays_72 ?_
        refine s_gb (fun h15 => ?_)
        refine s_bind (fun q13 e14 => ?_)
        refine kX_X0_197 hc (cfX21_held e14) h15 ⟨(Nat.le_of_ble_eq_true rfl), (Nat.le_of_ble_eq_true rfl)⟩ ⟨(Nat.le_of_ble_eq_true rfl), (Nat.le_of_ble_eq_true rfl)⟩ (Nat.le_of_ble_eq_true rfl) dX0_findSays_75 ?_
        refine s_gb (fun h17 => ?_)
        refine rX_st_66 hc h17 rfl dX0_findSays_80 (fun σ16 => ?_)
        refine s_iinc (v := (1 : Int32)) (lv' := [(1, .int (y2.2 + (1 : Int32))), (0, .ref (vO (VX g) + 0))]) hz dX0_findSays_81 1 rfl (by decide) (Nat.le_of_ble_eq_true rfl) rfl ?_
        refine s_goto (tgt := 2) hz dX0_findSays_84 rfl ?_
        exact s_sub [1, 0] rfl (hr2c σ16 (y2.2 + (1 : Int32)))
def fX0_findSays (N : Nat) (σ : Mem)  : Option (Unit × Mem) :=
  lp (bX0_findSays_2 N σ) N (σ, (0 : Int32))
set_option maxHeartbeats 4000000 in
theorem wfX0_findSays {Θ : ThT Mem} {g : GeoX} {N : Nat}  {ρ : Unit × Mem} (σ : Mem)  (hc : Cx Θ (VX g) cX0_findSays 2 RX0 (rk 75 0 0) none [] false (oV) ρ.2) : Sim Θ 2 ρ σ (fX0_findSays N σ ) (0, 0) 0 [(0, .ref (vO (VX g) + 0))] [] := by
  have hz := hc.z
  unfold fX0_findSays
  refine s_iconst (v := (0 : Int32)) hz dX0_findSays_0 (by decide) ?_
  refine s_istore_n (lv' := [(1, .int (0 : Int32)), (0, .ref (vO (VX g) + 0))]) hz dX0_findSays_1 rfl (Nat.le_of_ble_eq_true rfl) rfl ?_
  exact s_sub [1, 0] rfl (s_lp (sg := fun y : Mem × Int32 => y.1) (lvs := fun y : Mem × Int32 => [(0, .ref (vO (VX g) + 0)), (1, .int y.2)]) (fun rec hrec => wbX0_findSays_2 σ hc   rec hrec) N (σ, (0 : Int32)))
theorem cfX0_findSays {g : GeoX} {N : Nat}  {σ : Mem}  {ρ : Unit × Mem} (hF : fX0_findSays N σ  = some ρ) (l : Launch) : Ct (VX g) l yX0_findSays cX0_findSays 2 none (rk 75 0 0) [.ref (vO (VX g) + 0)] σ (oV) ρ.2 :=
  Ct.of (by decide) (Nat.le_of_ble_eq_true rfl) (fun Θ hc ls hl => wfX0_findSays σ  hc hF ls hl)
theorem rX_g_X0_73_0 {γ : Type} {Θ : ThT Mem} {g : GeoX} {cc : ByteArray} {nL : Nat} {rm : Room} {ret : Option FieldType} {hs : List (Nat × Nat × Nat × Nat)} {ini : Bool} {O : Outcome} {σ' : Mem} {ρ : γ} {σ : Mem} {F : Option γ} {cs : Nat × Nat} {pc : Nat} {lv : List (Nat × Value)} {st : List Value} (hc : Cx Θ (VX g) cc nL RX0 rm ret hs ini O σ') (hd : decode cc pc = .ok (.getfield 73, 3)) (kk : Sim Θ nL ρ σ F cs (pc + 3) lv (.ref (vO (VX g) + 63) :: st)) : Sim Θ nL ρ σ F cs pc lv (.ref (vO (VX g) + 0) :: st) := s_get hc (C := RX0) (T := TX0) (N := 19) (ci := 0) (k := 0) in_X0 (Nat.le_of_ble_eq_true rfl) rfl rfl 8 (Nat.le_of_ble_eq_true rfl) q218 (fun _ _ _ _ h => h) rfl hd kk
theorem rX_p_X0_200_63 {γ : Type} {Θ : ThT Mem} {g : GeoX} {cc : ByteArray} {nL : Nat} {rm : Room} {ret : Option FieldType} {hs : List (Nat × Nat × Nat × Nat)} {ini : Bool} {O : Outcome} {σ' : Mem} {ρ : γ} {σ : Mem} {cs : Nat × Nat} {pc : Nat} {lv : List (Nat × Value)} {st : List Value} (hc : Cx Θ (VX g) cc nL RX0 rm ret hs ini O σ') {K : Mem → Option γ} {x : Int32} (hd : decode cc pc = .ok (.putfield 200, 3)) (kk : ∀ σ1 : Mem, Sim Θ nL ρ σ1 (K σ1) cs (pc + 3) lv st) : Sim Θ nL ρ σ (lt_ (pI σ 63 0 x) K) cs pc lv (.int x :: .ref (vO (VX g) + 63) :: st) := s_put hc (C := RX3) (T := TX3) (N := 4) (ci := 3) (k := 63) (σ1 := pI σ 63 0 x) in_X3 tyX3_ok nmX3 (Nat.le_of_ble_eq_true rfl) rfl rfl 0 (Nat.le_of_ble_eq_true rfl) q175 (fun _ _ _ _ h => h) rfl (ty := .int) (by decide +kernel) rfl rfl (Nat.le_of_ble_eq_true rfl) rfl (pI_ne σ 63 0 x) rfl hd (kk _)
theorem rX_p_X0_203_63 {γ : Type} {Θ : ThT Mem} {g : GeoX} {cc : ByteArray} {nL : Nat} {rm : Room} {ret : Option FieldType} {hs : List (Nat × Nat × Nat × Nat)} {ini : Bool} {O : Outcome} {σ' : Mem} {ρ : γ} {σ : Mem} {cs : Nat × Nat} {pc : Nat} {lv : List (Nat × Value)} {st : List Value} (hc : Cx Θ (VX g) cc nL RX0 rm ret hs ini O σ') {K : Mem → Option γ} {x : Int32} (hd : decode cc pc = .ok (.putfield 203, 3)) (kk : ∀ σ1 : Mem, Sim Θ nL ρ σ1 (K σ1) cs (pc + 3) lv st) : Sim Θ nL ρ σ (lt_ (pI σ 63 1 x) K) cs pc lv (.int x :: .ref (vO (VX g) + 63) :: st) := s_put hc (C := RX3) (T := TX3) (N := 4) (ci := 3) (k := 63) (σ1 := pI σ 63 1 x) in_X3 tyX3_ok nmX3 (Nat.le_of_ble_eq_true rfl) rfl rfl 1 (Nat.le_of_ble_eq_true rfl) q177 (fun _ _ _ _ h => h) rfl (ty := .int) (by decide +kernel) rfl rfl (Nat.le_of_ble_eq_true rfl) rfl (pI_ne σ 63 1 x) rfl hd (kk _)
theorem rX_p_X0_206_63 {γ : Type} {Θ : ThT Mem} {g : GeoX} {cc : ByteArray} {nL : Nat} {rm : Room} {ret : Option FieldType} {hs : List (Nat × Nat × Nat × Nat)} {ini : Bool} {O : Outcome} {σ' : Mem} {ρ : γ} {σ : Mem} {cs : Nat × Nat} {pc : Nat} {lv : List (Nat × Value)} {st : List Value} (hc : Cx Θ (VX g) cc nL RX0 rm ret hs ini O σ') {K : Mem → Option γ} {x : Int32} (hd : decode cc pc = .ok (.putfield 206, 3)) (kk : ∀ σ1 : Mem, Sim Θ nL ρ σ1 (K σ1) cs (pc + 3) lv st) : Sim Θ nL ρ σ (lt_ (pI σ 63 2 x) K) cs pc lv (.int x :: .ref (vO (VX g) + 63) :: st) := s_put hc (C := RX3) (T := TX3) (N := 4) (ci := 3) (k := 63) (σ1 := pI σ 63 2 x) in_X3 tyX3_ok nmX3 (Nat.le_of_ble_eq_true rfl) rfl rfl 2 (Nat.le_of_ble_eq_true rfl) q179 (fun _ _ _ _ h => h) rfl (ty := .int) (by decide +kernel) rfl rfl (Nat.le_of_ble_eq_true rfl) rfl (pI_ne σ 63 2 x) rfl hd (kk _)
theorem rX_ld_66 {own : String} {γ : Type} {Θ : ThT Mem} {g : GeoX} {cc : ByteArray} {nL : Nat} {rm : Room} {ret : Option FieldType} {hs : List (Nat × Nat × Nat × Nat)} {ini : Bool} {O : Outcome} {σ' : Mem} {ρ : γ} {σ : Mem} {F : Option γ} {cs : Nat × Nat} {pc : Nat} {lv : List (Nat × Value)} {st : List Value} (hc : Cx Θ (VX g) cc nL own rm ret hs ini O σ') {i : Int32} {j : Nat} (hin : inb i 495 = true) (hj : ix i = j) (hd : decode cc pc = .ok (.iaload, 1)) (kk : Sim Θ nL ρ σ F cs (pc + 1) lv (.int (gI σ 66 j) :: st)) : Sim Θ nL ρ σ F cs pc lv (.int i :: .ref (vO (VX g) + 66) :: st) := s_iald hc (k := 66) (t := 0) (n := 495) (Nat.le_of_ble_eq_true rfl) rfl rfl hin hj hd kk
theorem rX_p_X0_208_63 {γ : Type} {Θ : ThT Mem} {g : GeoX} {cc : ByteArray} {nL : Nat} {rm : Room} {ret : Option FieldType} {hs : List (Nat × Nat × Nat × Nat)} {ini : Bool} {O : Outcome} {σ' : Mem} {ρ : γ} {σ : Mem} {cs : Nat × Nat} {pc : Nat} {lv : List (Nat × Value)} {st : List Value} (hc : Cx Θ (VX g) cc nL RX0 rm ret hs ini O σ') {K : Mem → Option γ} {x : Int32} (hd : decode cc pc = .ok (.putfield 208, 3)) (kk : ∀ σ1 : Mem, Sim Θ nL ρ σ1 (K σ1) cs (pc + 3) lv st) : Sim Θ nL ρ σ (lt_ (pI σ 63 3 x) K) cs pc lv (.int x :: .ref (vO (VX g) + 63) :: st) := s_put hc (C := RX3) (T := TX3) (N := 4) (ci := 3) (k := 63) (σ1 := pI σ 63 3 x) in_X3 tyX3_ok nmX3 (Nat.le_of_ble_eq_true rfl) rfl rfl 3 (Nat.le_of_ble_eq_true rfl) q181 (fun _ _ _ _ h => h) rfl (ty := .int) (by decide +kernel) rfl rfl (Nat.le_of_ble_eq_true rfl) rfl (pI_ne σ 63 3 x) rfl hd (kk _)
set_option maxHeartbeats 4000000 in
theorem kX_X0_210 {γ : Type} {Θ : ThT Mem} {g : GeoX} {cc : ByteArray} {nL : Nat} {rm : Room} {ret : Option FieldType} {hs : List (Nat × Nat × Nat × Nat)} {ini : Bool} {O : Outcome} {σ' : Mem} {ρ : γ} {σ : Mem} {F : Option γ} {cs : Nat × Nat} {pc : Nat} {lv : List (Nat × Value)} {st : List Value} (hc : Cx Θ (VX g) cc nL RX0 rm ret hs ini O σ') {N : Nat} {x0 : Nat} {r : Int32} (h : dX_likes N σ x0 = some r) (hR : 3 + 1 ≤ rm.frames ∧ 8 + (5 + 11) + 40 * 3 ≤ rm.locals) (hf : cs.1 + 0 ≤ rm.cells ∧ cs.2 + 0 ≤ rm.slots) (hrest : (st.map fun v => v.category).sum ≤ 8) (hd : decode cc pc = .ok (.invokevirtual 210, 3)) (kk : Sim Θ nL ρ σ F (cs.1 + 0, cs.2 + 0) (pc + 3) lv (.int r :: st)) : Sim Θ nL ρ σ F cs pc lv (.ref (vO (VX g) + 63) :: .ref (vO (VX g) + x0) :: st) := by
  unfold dX_likes at h
  obtain ⟨c, hcl, h⟩ := Option.bind_eq_some_iff.mp h
  obtain ⟨fs, ha, h1, h2⟩ := dC_spec hcl
  have h3 : c = 8 ∨ c = 9 ∨ c = 10 ∨ c = 11 ∨ c = 12 ∨ c = 13 ∨ c = 14 ∨ c = 15 := by omega
  rcases h3 with rfl | rfl | rfl | rfl | rfl | rfl | rfl | rfl
  · have h : fX7_likes N σ x0 = some r := h
    exact s_callVo hc (a := x0) (As := [.ref (vO (VX g) + 63)]) (rest := st) (n := 1) (ci := 8) (q := (RX7, TX7, 1)) (cfX7_likes h) (lw_V q626 q627 q628 q72 q661) (by decide +kernel) rfl (Ob.dyn ha) rfl rfl hrest ⟨by have := hR.1; simp only [rk] at *; omega, by have := hR.2; simp only [rk] at *; omega⟩ hf hd kk
  · have h : fX8_likes N σ x0 = some r := h
    exact s_callUo hc (a := x0) (As := [.ref (vO (VX g) + 63)]) (rest := st) (n := 1) (ci := 9) (owner := "SlipWeeks$Cross") (x := yX7_likes) (q := (RX8, TX8, 1)) (cfX8_likes h) (lw_O q626 q629 q627 q630 q631 q73 q632) q661 (by decide +kernel) rfl (Ob.dyn ha) rfl rfl hrest ⟨by have := hR.1; simp only [rk] at *; omega, by have := hR.2; simp only [rk] at *; omega⟩ hf hd kk
  · have h : fX9_likes N σ x0 = some r := h
    exact s_callUo hc (a := x0) (As := [.ref (vO (VX g) + 63)]) (rest := st) (n := 1) (ci := 10) (owner := "SlipWeeks$Cross") (x := yX7_likes) (q := (RX9, TX9, 1)) (cfX9_likes h) (lw_O q626 q629 q627 q645 q646 q74 q647) q661 (by decide +kernel) rfl (Ob.dyn ha) rfl rfl hrest ⟨by have := hR.1; simp only [rk] at *; omega, by have := hR.2; simp only [rk] at *; omega⟩ hf hd kk
  · have h : fX10_likes N σ x0 = some r := h
    exact s_callUo hc (a := x0) (As := [.ref (vO (VX g) + 63)]) (rest := st) (n := 1) (ci := 11) (owner := "SlipWeeks$Cross") (x := yX7_likes) (q := (RX10, TX10, 1)) (cfX10_likes h) (lw_O q626 q629 q627 q659 q642 q75 q643) q661 (by decide +kernel) rfl (Ob.dyn ha) rfl rfl hrest ⟨by have := hR.1; simp only [rk] at *; omega, by have := hR.2; simp only [rk] at *; omega⟩ hf hd kk
  · have h : fX11_likes N σ x0 = some r := h
    exact s_callUo hc (a := x0) (As := [.ref (vO (VX g) + 63)]) (rest := st) (n := 1) (ci := 12) (owner := "SlipWeeks$Cross") (x := yX7_likes) (q := (RX11, TX11, 1)) (cfX11_likes h) (lw_O q626 q629 q627 q649 q650 q76 q651) q661 (by decide +kernel) rfl (Ob.dyn ha) rfl rfl hrest ⟨by have := hR.1; simp only [rk] at *; omega, by have := hR.2; simp only [rk] at *; omega⟩ hf hd kk
  · have h : fX12_likes N σ x0 = some r := h
    exact s_callUo hc (a := x0) (As := [.ref (vO (VX g) + 63)]) (rest := st) (n := 1) (ci := 13) (owner := "SlipWeeks$Cross") (x := yX7_likes) (q := (RX12, TX12, 1)) (cfX12_likes h) (lw_O q626 q629 q627 q654 q655 q77 q656) q661 (by decide +kernel) rfl (Ob.dyn ha) rfl rfl hrest ⟨by have := hR.1; simp only [rk] at *; omega, by have := hR.2; simp only [rk] at *; omega⟩ hf hd kk
  · have h : fX13_likes N σ x0 = some r := h
    exact s_callUo hc (a := x0) (As := [.ref (vO (VX g) + 63)]) (rest := st) (n := 1) (ci := 14) (owner := "SlipWeeks$Cross") (x := yX7_likes) (q := (RX13, TX13, 1)) (cfX13_likes h) (lw_O q626 q629 q627 q660 q639 q78 q640) q661 (by decide +kernel) rfl (Ob.dyn ha) rfl rfl hrest ⟨by have := hR.1; simp only [rk] at *; omega, by have := hR.2; simp only [rk] at *; omega⟩ hf hd kk
  · have h : fX14_likes N σ x0 = some r := h
    exact s_callUo hc (a := x0) (As := [.ref (vO (VX g) + 63)]) (rest := st) (n := 1) (ci := 15) (owner := "SlipWeeks$Cross") (x := yX7_likes) (q := (RX14, TX14, 1)) (cfX14_likes h) (lw_O q626 q629 q627 q635 q636 q79 q637) q661 (by decide +kernel) rfl (Ob.dyn ha) rfl rfl hrest ⟨by have := hR.1; simp only [rk] at *; omega, by have := hR.2; simp only [rk] at *; omega⟩ hf hd kk
def fX0_likesOf (N : Nat) (σ : Mem) (x1 : Nat) (x2 : Int32) : Option (Int32 × Mem) :=
  gb (inb x2 495) (
  lt_ (pI σ 63 0 (gI σ 62 (ix x2))) (fun σ2 => 
  lt_ (pI σ2 63 1 x2) (fun σ3 => 
  (fX1_latest_1 N σ3).bind (fun q4 => 
  lt_ (pI σ3 63 2 q4) (fun σ6 => 
  gb (inb x2 495) (
  lt_ (pI σ6 63 3 (gI σ6 66 (ix x2))) (fun σ8 => 
  (dX_likes N σ8 x1).bind (fun q9 => 
  some (q9, σ8)))))))))
set_option maxHeartbeats 4000000 in
theorem wfX0_likesOf {Θ : ThT Mem} {g : GeoX} {N : Nat}  {ρ : Int32 × Mem} (σ : Mem) (x1 : Nat) (x2 : Int32) (hc : Cx Θ (VX g) cX0_likesOf 3 RX0 (rk 4 0 0) (some .int) [] false (oI ρ.1) ρ.2) : Sim Θ 3 ρ σ (fX0_likesOf N σ x1 x2) (0, 0) 0 [(0, .ref (vO (VX g) + 0)), (1, .ref (vO (VX g) + x1)), (2, .int x2)] [] := by
  have hz := hc.z
  unfold fX0_likesOf
  refine s_aload_n hz dX0_likesOf_0 rfl 0 rfl ?_
  refine rX_g_X0_73_0 hc dX0_likesOf_1 ?_
  refine s_aload_n hz dX0_likesOf_4 rfl 0 rfl ?_
  refine rX_g_X0_67_0 hc dX0_likesOf_5 ?_
  refine s_iload_n hz dX0_likesOf_8 rfl 2 rfl ?_
  refine s_gb (fun h1 => ?_)
  refine rX_ld_62 hc h1 rfl dX0_likesOf_9 ?_
  refine rX_p_X0_200_63 hc dX0_likesOf_10 (fun σ2 => ?_)
  refine s_aload_n hz dX0_likesOf_13 rfl 0 rfl ?_
  refine rX_g_X0_73_0 hc dX0_likesOf_14 ?_
  refine s_iload_n hz dX0_likesOf_17 rfl 2 rfl ?_
  refine rX_p_X0_203_63 hc dX0_likesOf_18 (fun σ3 => ?_)
  refine s_aload_n hz dX0_likesOf_21 rfl 0 rfl ?_
  refine rX_g_X0_73_0 hc dX0_likesOf_22 ?_
  refine s_aload_n hz dX0_likesOf_25 rfl 0 rfl ?_
  refine rX_g_X0_42_0 hc dX0_likesOf_26 ?_
  refine s_bind (fun q4 e5 => ?_)
  refine kX_X0_182_1 hc (cfX1_latest_1 e5) ⟨(Nat.le_of_ble_eq_true rfl), (Nat.le_of_ble_eq_true rfl)⟩ ⟨(Nat.le_of_ble_eq_true rfl), (Nat.le_of_ble_eq_true rfl)⟩ (Nat.le_of_ble_eq_true rfl) dX0_likesOf_29 ?_
  refine rX_p_X0_206_63 hc dX0_likesOf_32 (fun σ6 => ?_)
  refine s_aload_n hz dX0_likesOf_35 rfl 0 rfl ?_
  refine rX_g_X0_73_0 hc dX0_likesOf_36 ?_
  refine s_aload_n hz dX0_likesOf_39 rfl 0 rfl ?_
  refine rX_g_X0_84_0 hc dX0_likesOf_40 ?_
  refine s_iload_n hz dX0_likesOf_43 rfl 2 rfl ?_
  refine s_gb (fun h7 => ?_)
  refine rX_ld_66 hc h7 rfl dX0_likesOf_44 ?_
  refine rX_p_X0_208_63 hc dX0_likesOf_45 (fun σ8 => ?_)
  refine s_aload_n hz dX0_likesOf_48 rfl 1 rfl ?_
  refine s_aload_n hz dX0_likesOf_49 rfl 0 rfl ?_
  refine rX_g_X0_73_0 hc dX0_likesOf_50 ?_
  refine s_bind (fun q9 e10 => ?_)
  refine kX_X0_210 hc e10 ⟨(Nat.le_of_ble_eq_true rfl), (Nat.le_of_ble_eq_true rfl)⟩ ⟨(Nat.le_of_ble_eq_true rfl), (Nat.le_of_ble_eq_true rfl)⟩ (Nat.le_of_ble_eq_true rfl) dX0_likesOf_53 ?_
  exact s_iretM hc dX0_likesOf_56 (Nat.le_of_ble_eq_true rfl) (Nat.le_of_ble_eq_true rfl)
theorem cfX0_likesOf {g : GeoX} {N : Nat}  {σ : Mem} {x1 : Nat} {x2 : Int32} {ρ : Int32 × Mem} (hF : fX0_likesOf N σ x1 x2 = some ρ) (l : Launch) : Ct (VX g) l yX0_likesOf cX0_likesOf 3 (some .int) (rk 4 0 0) [.ref (vO (VX g) + 0), .ref (vO (VX g) + x1), .int x2] σ (oI ρ.1) ρ.2 :=
  Ct.of (by decide) (Nat.le_of_ble_eq_true rfl) (fun Θ hc ls hl => wfX0_likesOf σ x1 x2 hc hF ls hl)
theorem rX_g_X0_87_0 {γ : Type} {Θ : ThT Mem} {g : GeoX} {cc : ByteArray} {nL : Nat} {rm : Room} {ret : Option FieldType} {hs : List (Nat × Nat × Nat × Nat)} {ini : Bool} {O : Outcome} {σ' : Mem} {ρ : γ} {σ : Mem} {F : Option γ} {cs : Nat × Nat} {pc : Nat} {lv : List (Nat × Value)} {st : List Value} (hc : Cx Θ (VX g) cc nL RX0 rm ret hs ini O σ') (hd : decode cc pc = .ok (.getfield 87, 3)) (kk : Sim Θ nL ρ σ F cs (pc + 3) lv (.ref (vO (VX g) + 67) :: st)) : Sim Θ nL ρ σ F cs pc lv (.ref (vO (VX g) + 0) :: st) := s_get hc (C := RX0) (T := TX0) (N := 19) (ci := 0) (k := 0) in_X0 (Nat.le_of_ble_eq_true rfl) rfl rfl 13 (Nat.le_of_ble_eq_true rfl) q223 (fun _ _ _ _ h => h) rfl hd kk
theorem kX_X0_214 {γ : Type} {Θ : ThT Mem} {g : GeoX} {cc : ByteArray} {nL : Nat} {rm : Room} {ret : Option FieldType} {hs : List (Nat × Nat × Nat × Nat)} {ini : Bool} {O : Outcome} {σ' : Mem} {ρ : γ} {σ : Mem} {F : Option γ} {cs : Nat × Nat} {pc : Nat} {lv : List (Nat × Value)} {st : List Value} (hc : Cx Θ (VX g) cc nL RX0 rm ret hs ini O σ') {σ1 : Mem} {x1 : Nat} {x2 : Int32} {r : Int32} {rmc : Room} (hM : ∀ l : Launch, Ct (VX g) l yX0_likesOf cX0_likesOf 3 (some .int) rmc [.ref (vO (VX g) + 0), .ref (vO (VX g) + x1), .int x2] σ (oI r) σ1) (hR : rmc.frames + 1 ≤ rm.frames ∧ 8 + (3 + 11) + rmc.locals ≤ rm.locals) (hf : cs.1 + rmc.cells ≤ rm.cells ∧ cs.2 + rmc.slots ≤ rm.slots) (hrest : (st.map fun v => v.category).sum ≤ 8) (hd : decode cc pc = .ok (.invokevirtual 214, 3)) (kk : Sim Θ nL ρ σ1 F (cs.1 + rmc.cells, cs.2 + rmc.slots) (pc + 3) lv (.int r :: st)) : Sim Θ nL ρ σ F cs pc lv (.int x2 :: .ref (vO (VX g) + x1) :: .ref (vO (VX g) + 0) :: st) := s_callVo hc (a := 0) (As := [.ref (vO (VX g) + x1), .int x2]) (rest := st) (n := 2) (ci := 0) (q := (RX0, TX0, 19)) hM (lw_V q622 q624 qs7 q62 q625) (by decide +kernel) rfl (Ob.fix (Nat.le_of_ble_eq_true rfl) rfl) rfl rfl hrest hR hf hd kk
theorem rX_st_67 {own : String} {γ : Type} {Θ : ThT Mem} {g : GeoX} {cc : ByteArray} {nL : Nat} {rm : Room} {ret : Option FieldType} {hs : List (Nat × Nat × Nat × Nat)} {ini : Bool} {O : Outcome} {σ' : Mem} {ρ : γ} {σ : Mem} {cs : Nat × Nat} {pc : Nat} {lv : List (Nat × Value)} {st : List Value} (hc : Cx Θ (VX g) cc nL own rm ret hs ini O σ') {K : Mem → Option γ} {i x : Int32} {j : Nat} (hin : inb i 495 = true) (hj : ix i = j) (hd : decode cc pc = .ok (.iastore, 1)) (kk : ∀ σ1 : Mem, Sim Θ nL ρ σ1 (K σ1) cs (pc + 1) lv st) : Sim Θ nL ρ σ (lt_ (pI σ 67 j x) K) cs pc lv (.int x :: .int i :: .ref (vO (VX g) + 67) :: st) := s_iast hc (k := 67) (t := 0) (n := 495) (Nat.le_of_ble_eq_true rfl) (fun _ => rfl) rfl hin hj hd kk
theorem rX_ld_67 {own : String} {γ : Type} {Θ : ThT Mem} {g : GeoX} {cc : ByteArray} {nL : Nat} {rm : Room} {ret : Option FieldType} {hs : List (Nat × Nat × Nat × Nat)} {ini : Bool} {O : Outcome} {σ' : Mem} {ρ : γ} {σ : Mem} {F : Option γ} {cs : Nat × Nat} {pc : Nat} {lv : List (Nat × Value)} {st : List Value} (hc : Cx Θ (VX g) cc nL own rm ret hs ini O σ') {i : Int32} {j : Nat} (hin : inb i 495 = true) (hj : ix i = j) (hd : decode cc pc = .ok (.iaload, 1)) (kk : Sim Θ nL ρ σ F cs (pc + 1) lv (.int (gI σ 67 j) :: st)) : Sim Θ nL ρ σ F cs pc lv (.int i :: .ref (vO (VX g) + 67) :: st) := s_iald hc (k := 67) (t := 0) (n := 495) (Nat.le_of_ble_eq_true rfl) rfl rfl hin hj hd kk
def bX0_findLiked_4 (N : Nat) (σ : Mem) (x1 : Nat) (r4 : (Mem × Int32 × Int32) → Option (Int32 × Mem)) (y4 : Mem × Int32 × Int32) : Option (Int32 × Mem) :=
  if (495 : Int32) ≤ y4.2.2 then
  (some (y4.2.1, y4.1))
  else ((fX0_likesOf N y4.1 x1 y4.2.2).bind (fun q2 => 
  gb (inb y4.2.2 495) (
  lt_ (pI q2.2 67 (ix y4.2.2) q2.1) (fun σ4 => 
  gb (inb y4.2.2 495) (
  lt_ (y4.2.1 + (gI σ4 67 (ix y4.2.2))) (fun v7 => 
  r4 (σ4, v7, (y4.2.2 + (1 : Int32)))))))))
set_option maxHeartbeats 4000000 in
theorem wbX0_findLiked_4 {Θ : ThT Mem} {g : GeoX} {N : Nat}  {ρ : Int32 × Mem} (σ : Mem) (hc : Cx Θ (VX g) cX0_findLiked 4 RX0 (rk 5 0 0) (some .int) [] false (oI ρ.1) ρ.2) (x1 : Nat) (r4 : (Mem × Int32 × Int32) → Option (Int32 × Mem)) (hr4 : ∀ y : Mem × Int32 × Int32, Sim Θ 4 ρ (y.1) (r4 y) (0, 0) 4 [(0, .ref (vO (VX g) + 0)), (1, .ref (vO (VX g) + x1)), (2, .int y.2.1), (3, .int y.2.2)] []) : ∀ y4 : Mem × Int32 × Int32, Sim Θ 4 ρ (y4.1) (bX0_findLiked_4 N σ x1 r4 y4) (0, 0) 4 [(0, .ref (vO (VX g) + 0)), (1, .ref (vO (VX g) + x1)), (2, .int y4.2.1), (3, .int y4.2.2)] [] := by
  intro y4
  have hz := hc.z
  have hr4c : ∀ (z0_ : Mem) (z1_ : Int32) (z2_ : Int32), Sim Θ 4 ρ (z0_) (r4 (z0_, z1_, z2_)) (0, 0) 4 [(0, .ref (vO (VX g) + 0)), (1, .ref (vO (VX g) + x1)), (2, .int z1_), (3, .int z2_)] [] := fun z0_ z1_ z2_ => hr4 (z0_, z1_, z2_)
  unfold bX0_findLiked_4
  refine s_iload_n hz dX0_findLiked_4 rfl 3 rfl ?_
  refine s_sipush (v := (495 : Int32)) hz dX0_findLiked_5 (by decide) ?_
  refine s_icmp_ge (tgt := 38) hz dX0_findLiked_8 rfl (fun h1 => ?_) (fun h1 => ?_)
  · refine s_iload_n hz dX0_findLiked_38 rfl 2 rfl ?_
    exact s_iretM hc dX0_findLiked_39 (Nat.le_of_ble_eq_true rfl) (Nat.le_of_ble_eq_true rfl)
  · refine s_aload_n hz dX0_findLiked_11 rfl 0 rfl ?_
    refine rX_g_X0_87_0 hc dX0_findLiked_12 ?_
    refine s_iload_n hz dX0_findLiked_15 rfl 3 rfl ?_
    refine s_aload_n hz dX0_findLiked_16 rfl 0 rfl ?_
    refine s_aload_n hz dX0_findLiked_17 rfl 1 rfl ?_
    refine s_iload_n hz dX0_findLiked_18 rfl 3 rfl ?_
    refine s_bind (fun q2 e3 => ?_)
    refine kX_X0_214 hc (cfX0_likesOf e3) ⟨(Nat.le_of_ble_eq_true rfl), (Nat.le_of_ble_eq_true rfl)⟩ ⟨(Nat.le_of_ble_eq_true rfl), (Nat.le_of_ble_eq_true rfl)⟩ (Nat.le_of_ble_eq_true rfl) dX0_findLiked_19 ?_
    refine s_gb (fun h5 => ?_)
    refine rX_st_67 hc h5 rfl dX0_findLiked_22 (fun σ4 => ?_)
    refine s_iload_n hz dX0_findLiked_23 rfl 2 rfl ?_
    refine s_aload_n hz dX0_findLiked_24 rfl 0 rfl ?_
    refine rX_g_X0_87_0 hc dX0_findLiked_25 ?_
    refine s_iload_n hz dX0_findLiked_28 rfl 3 rfl ?_
    refine s_gb (fun h6 => ?_)
    refine rX_ld_67 hc h6 rfl dX0_findLiked_29 ?_
    refine s_iadd hz dX0_findLiked_30 ?_
    refine s_nmI (fun v7 => ?_)
    refine s_istore_n (lv' := [(2, .int v7), (0, .ref (vO (VX g) + 0)), (1, .ref (vO (VX g) + x1)), (3, .int y4.2.2)]) hz dX0_findLiked_31 rfl (Nat.le_of_ble_eq_true rfl) rfl ?_
    refine s_iinc (v := (1 : Int32)) (lv' := [(3, .int (y4.2.2 + (1 : Int32))), (2, .int v7), (0, .ref (vO (VX g) + 0)), (1, .ref (vO (VX g) + x1))]) hz dX0_findLiked_32 3 rfl (by decide) (Nat.le_of_ble_eq_true rfl) rfl ?_
    refine s_goto (tgt := 4) hz dX0_findLiked_35 rfl ?_
    exact s_sub [2, 3, 1, 0] rfl (hr4c σ4 v7 (y4.2.2 + (1 : Int32)))
def fX0_findLiked (N : Nat) (σ : Mem) (x1 : Nat) : Option (Int32 × Mem) :=
  lp (bX0_findLiked_4 N σ x1) N (σ, (0 : Int32), (0 : Int32))
set_option maxHeartbeats 4000000 in
theorem wfX0_findLiked {Θ : ThT Mem} {g : GeoX} {N : Nat}  {ρ : Int32 × Mem} (σ : Mem) (x1 : Nat) (hc : Cx Θ (VX g) cX0_findLiked 4 RX0 (rk 5 0 0) (some .int) [] false (oI ρ.1) ρ.2) : Sim Θ 4 ρ σ (fX0_findLiked N σ x1) (0, 0) 0 [(0, .ref (vO (VX g) + 0)), (1, .ref (vO (VX g) + x1))] [] := by
  have hz := hc.z
  unfold fX0_findLiked
  refine s_iconst (v := (0 : Int32)) hz dX0_findLiked_0 (by decide) ?_
  refine s_istore_n (lv' := [(2, .int (0 : Int32)), (0, .ref (vO (VX g) + 0)), (1, .ref (vO (VX g) + x1))]) hz dX0_findLiked_1 rfl (Nat.le_of_ble_eq_true rfl) rfl ?_
  refine s_iconst (v := (0 : Int32)) hz dX0_findLiked_2 (by decide) ?_
  refine s_istore_n (lv' := [(3, .int (0 : Int32)), (2, .int (0 : Int32)), (0, .ref (vO (VX g) + 0)), (1, .ref (vO (VX g) + x1))]) hz dX0_findLiked_3 rfl (Nat.le_of_ble_eq_true rfl) rfl ?_
  exact s_sub [2, 3, 1, 0] rfl (s_lp (sg := fun y : Mem × Int32 × Int32 => y.1) (lvs := fun y : Mem × Int32 × Int32 => [(0, .ref (vO (VX g) + 0)), (1, .ref (vO (VX g) + x1)), (2, .int y.2.1), (3, .int y.2.2)]) (fun rec hrec => wbX0_findLiked_4 σ hc x1  rec hrec) N (σ, (0 : Int32), (0 : Int32)))
theorem cfX0_findLiked {g : GeoX} {N : Nat}  {σ : Mem} {x1 : Nat} {ρ : Int32 × Mem} (hF : fX0_findLiked N σ x1 = some ρ) (l : Launch) : Ct (VX g) l yX0_findLiked cX0_findLiked 4 (some .int) (rk 5 0 0) [.ref (vO (VX g) + 0), .ref (vO (VX g) + x1)] σ (oI ρ.1) ρ.2 :=
  Ct.of (by decide) (Nat.le_of_ble_eq_true rfl) (fun Θ hc ls hl => wfX0_findLiked σ x1 hc hF ls hl)
theorem rX_d_X0_176 {γ : Type} {Θ : ThT Mem} {g : GeoX} {cc : ByteArray} {nL : Nat} {rm : Room} {ret : Option FieldType} {hs : List (Nat × Nat × Nat × Nat)} {ini : Bool} {O : Outcome} {σ' : Mem} {ρ : γ} {σ : Mem} {F : Option γ} {cs : Nat × Nat} {pc : Nat} {lv : List (Nat × Value)} {st : List Value} (hc : Cx Θ (VX g) cc nL RX0 rm ret hs ini O σ') {a : Nat} {v : Int32} (h : dI 8 16 σ a 0 = some v) (hd : decode cc pc = .ok (.getfield 176, 3)) (kk : Sim Θ nL ρ σ F cs (pc + 3) lv (.int v :: st)) : Sim Θ nL ρ σ F cs pc lv (.ref (vO (VX g) + a) :: st) := by
  obtain ⟨c, fs, ha, h1, h2, hv⟩ := dI_spec h
  have h3 : c = 8 ∨ c = 9 ∨ c = 10 ∨ c = 11 ∨ c = 12 ∨ c = 13 ∨ c = 14 ∨ c = 15 := by omega
  rcases h3 with rfl | rfl | rfl | rfl | rfl | rfl | rfl | rfl
  · exact s_dget hc (C := RX7) (T := TX7) (N := 1) ha in_X7 rfl 0 (Nat.le_of_ble_eq_true rfl) q398 (fun _ _ _ _ h => h) hv hd kk
  · exact s_dget hc (C := RX8) (T := TX8) (N := 1) ha in_X8 rfl 0 (Nat.le_of_ble_eq_true rfl) q398 (fun _ _ _ _ h => h) hv hd kk
  · exact s_dget hc (C := RX9) (T := TX9) (N := 1) ha in_X9 rfl 0 (Nat.le_of_ble_eq_true rfl) q398 (fun _ _ _ _ h => h) hv hd kk
  · exact s_dget hc (C := RX10) (T := TX10) (N := 1) ha in_X10 rfl 0 (Nat.le_of_ble_eq_true rfl) q398 (fun _ _ _ _ h => h) hv hd kk
  · exact s_dget hc (C := RX11) (T := TX11) (N := 1) ha in_X11 rfl 0 (Nat.le_of_ble_eq_true rfl) q398 (fun _ _ _ _ h => h) hv hd kk
  · exact s_dget hc (C := RX12) (T := TX12) (N := 1) ha in_X12 rfl 0 (Nat.le_of_ble_eq_true rfl) q398 (fun _ _ _ _ h => h) hv hd kk
  · exact s_dget hc (C := RX13) (T := TX13) (N := 1) ha in_X13 rfl 0 (Nat.le_of_ble_eq_true rfl) q398 (fun _ _ _ _ h => h) hv hd kk
  · exact s_dget hc (C := RX14) (T := TX14) (N := 1) ha in_X14 rfl 0 (Nat.le_of_ble_eq_true rfl) q398 (fun _ _ _ _ h => h) hv hd kk
def fX0_crossedBy (N : Nat) (σ : Mem) (x0 : Nat) (x1 : Int32) (x2 : Int32) : Option (Int32) :=
  if x2 = (0 : Int32) then
  (some (0 : Int32))
  else ((dI 8 16 σ x0 0).bind (fun v2 => 
  gb (nzL ((x2).toInt64)) (
  some ((((((v2).toInt64) * ((x1).toInt64)) / ((x2).toInt64))).toInt32))))
set_option maxHeartbeats 4000000 in
theorem wfX0_crossedBy {Θ : ThT Mem} {g : GeoX} {N : Nat}  {ρ : Int32} (σ : Mem) (x0 : Nat) (x1 : Int32) (x2 : Int32) (hc : Cx Θ (VX g) cX0_crossedBy 3 RX0 (rk 1 0 0) (some .int) [] false (oI ρ) σ) : Sim Θ 3 ρ σ (fX0_crossedBy N σ x0 x1 x2) (0, 0) 0 [(0, .ref (vO (VX g) + x0)), (1, .int x1), (2, .int x2)] [] := by
  have hz := hc.z
  unfold fX0_crossedBy
  refine s_iload_n hz dX0_crossedBy_0 rfl 2 rfl ?_
  refine s_if_ne (tgt := 8) hz dX0_crossedBy_1 rfl (fun h1 => ?_) (fun h1 => ?_)
  · refine s_aload_n hz dX0_crossedBy_8 rfl 0 rfl ?_
    refine s_bind (fun v2 e3 => ?_)
    refine rX_d_X0_176 hc e3 dX0_crossedBy_9 ?_
    refine s_i2l hz dX0_crossedBy_12 ?_
    refine s_iload_n hz dX0_crossedBy_13 rfl 1 rfl ?_
    refine s_i2l hz dX0_crossedBy_14 ?_
    refine s_lmul hz dX0_crossedBy_15 ?_
    refine s_iload_n hz dX0_crossedBy_16 rfl 2 rfl ?_
    refine s_i2l hz dX0_crossedBy_17 ?_
    refine s_gb (fun h4 => ?_)
    refine s_ldiv hz dX0_crossedBy_18 (nzL_ne h4) ?_
    refine s_l2i hz dX0_crossedBy_19 ?_
    exact s_iret hc dX0_crossedBy_20 (Nat.le_of_ble_eq_true rfl) (Nat.le_of_ble_eq_true rfl)
  · refine s_iconst (v := (0 : Int32)) hz dX0_crossedBy_4 (by decide) ?_
    refine s_goto (tgt := 20) hz dX0_crossedBy_5 rfl ?_
    exact s_iret hc dX0_crossedBy_20 (Nat.le_of_ble_eq_true rfl) (Nat.le_of_ble_eq_true rfl)
theorem cfX0_crossedBy {g : GeoX} {N : Nat}  {σ : Mem} {x0 : Nat} {x1 : Int32} {x2 : Int32} {ρ : Int32} (hF : fX0_crossedBy N σ x0 x1 x2 = some ρ) (l : Launch) : Ct (VX g) l yX0_crossedBy cX0_crossedBy 3 (some .int) (rk 1 0 0) [.ref (vO (VX g) + x0), .int x1, .int x2] σ (oI ρ) σ :=
  Ct.of (by decide) (Nat.le_of_ble_eq_true rfl) (fun Θ hc ls hl => wfX0_crossedBy σ x0 x1 x2 hc hF ls hl)
theorem rX_g_X0_166_0 {γ : Type} {Θ : ThT Mem} {g : GeoX} {cc : ByteArray} {nL : Nat} {rm : Room} {ret : Option FieldType} {hs : List (Nat × Nat × Nat × Nat)} {ini : Bool} {O : Outcome} {σ' : Mem} {ρ : γ} {σ : Mem} {F : Option γ} {cs : Nat × Nat} {pc : Nat} {lv : List (Nat × Value)} {st : List Value} (hc : Cx Θ (VX g) cc nL RX0 rm ret hs ini O σ') (hd : decode cc pc = .ok (.getfield 166, 3)) (kk : Sim Θ nL ρ σ F cs (pc + 3) lv (.int (gI σ 0 10) :: st)) : Sim Θ nL ρ σ F cs pc lv (.ref (vO (VX g) + 0) :: st) := s_get hc (C := RX0) (T := TX0) (N := 19) (ci := 0) (k := 0) in_X0 (Nat.le_of_ble_eq_true rfl) rfl rfl 10 (Nat.le_of_ble_eq_true rfl) q220 (fun _ _ _ _ h => h) rfl hd kk
theorem kX_X0_218 {γ : Type} {Θ : ThT Mem} {g : GeoX} {cc : ByteArray} {nL : Nat} {rm : Room} {ret : Option FieldType} {hs : List (Nat × Nat × Nat × Nat)} {ini : Bool} {O : Outcome} {σ' : Mem} {ρ : γ} {σ : Mem} {F : Option γ} {cs : Nat × Nat} {pc : Nat} {lv : List (Nat × Value)} {st : List Value} (hc : Cx Θ (VX g) cc nL RX0 rm ret hs ini O σ') {σ1 : Mem}  {rmc : Room} (hM : ∀ l : Launch, Ct (VX g) l yX0_findSays cX0_findSays 2 none rmc [.ref (vO (VX g) + 0)] σ oV σ1) (hR : rmc.frames + 1 ≤ rm.frames ∧ 8 + (2 + 11) + rmc.locals ≤ rm.locals) (hf : cs.1 + rmc.cells ≤ rm.cells ∧ cs.2 + rmc.slots ≤ rm.slots) (hrest : (st.map fun v => v.category).sum ≤ 8) (hd : decode cc pc = .ok (.invokevirtual 218, 3)) (kk : Sim Θ nL ρ σ1 F (cs.1 + rmc.cells, cs.2 + rmc.slots) (pc + 3) lv (st)) : Sim Θ nL ρ σ F cs pc lv (.ref (vO (VX g) + 0) :: st) := s_callVo hc (a := 0) (As := []) (rest := st) (n := 0) (ci := 0) (q := (RX0, TX0, 19)) hM (lw_V q542 q544 qs5 q62 q545) (by decide +kernel) rfl (Ob.fix (Nat.le_of_ble_eq_true rfl) rfl) rfl rfl hrest hR hf hd kk
theorem rX_g_X0_229_1 {γ : Type} {Θ : ThT Mem} {g : GeoX} {cc : ByteArray} {nL : Nat} {rm : Room} {ret : Option FieldType} {hs : List (Nat × Nat × Nat × Nat)} {ini : Bool} {O : Outcome} {σ' : Mem} {ρ : γ} {σ : Mem} {F : Option γ} {cs : Nat × Nat} {pc : Nat} {lv : List (Nat × Value)} {st : List Value} (hc : Cx Θ (VX g) cc nL RX0 rm ret hs ini O σ') (hd : decode cc pc = .ok (.getfield 229, 3)) (kk : Sim Θ nL ρ σ F cs (pc + 3) lv (.int (gI σ 1 2) :: st)) : Sim Θ nL ρ σ F cs pc lv (.ref (vO (VX g) + 1) :: st) := s_get hc (C := RX1) (T := TX1) (N := 10) (ci := 1) (k := 1) in_X1 (Nat.le_of_ble_eq_true rfl) rfl rfl 2 (Nat.le_of_ble_eq_true rfl) q127 (fun _ _ _ _ h => h) rfl hd kk
theorem rX_p_X0_238_0 {γ : Type} {Θ : ThT Mem} {g : GeoX} {cc : ByteArray} {nL : Nat} {rm : Room} {ret : Option FieldType} {hs : List (Nat × Nat × Nat × Nat)} {ini : Bool} {O : Outcome} {σ' : Mem} {ρ : γ} {σ : Mem} {cs : Nat × Nat} {pc : Nat} {lv : List (Nat × Value)} {st : List Value} (hc : Cx Θ (VX g) cc nL RX0 rm ret hs ini O σ') {K : Mem → Option γ} {x : Int64} (hd : decode cc pc = .ok (.putfield 238, 3)) (kk : ∀ σ1 : Mem, Sim Θ nL ρ σ1 (K σ1) cs (pc + 3) lv st) : Sim Θ nL ρ σ (lt_ (pL σ 0 15 x) K) cs pc lv (.long x :: .ref (vO (VX g) + 0) :: st) := s_put hc (C := RX0) (T := TX0) (N := 19) (ci := 0) (k := 0) (σ1 := pL σ 0 15 x) in_X0 tyX0_ok nmX0 (Nat.le_of_ble_eq_true rfl) rfl rfl 15 (Nat.le_of_ble_eq_true rfl) q225 (fun _ _ _ _ h => h) rfl (ty := .long) (by decide +kernel) rfl rfl (Nat.le_of_ble_eq_true rfl) rfl (pL_ne σ 0 15 x) rfl hd (kk _)
theorem rX_p_X0_166_0 {γ : Type} {Θ : ThT Mem} {g : GeoX} {cc : ByteArray} {nL : Nat} {rm : Room} {ret : Option FieldType} {hs : List (Nat × Nat × Nat × Nat)} {ini : Bool} {O : Outcome} {σ' : Mem} {ρ : γ} {σ : Mem} {cs : Nat × Nat} {pc : Nat} {lv : List (Nat × Value)} {st : List Value} (hc : Cx Θ (VX g) cc nL RX0 rm ret hs ini O σ') {K : Mem → Option γ} {x : Int32} (hn : narrow .boolean (.int x) = .int x) (hfit : fits .boolean (.int x) = true) (hd : decode cc pc = .ok (.putfield 166, 3)) (kk : ∀ σ1 : Mem, Sim Θ nL ρ σ1 (K σ1) cs (pc + 3) lv st) : Sim Θ nL ρ σ (lt_ (pI σ 0 10 x) K) cs pc lv (.int x :: .ref (vO (VX g) + 0) :: st) := s_put hc (C := RX0) (T := TX0) (N := 19) (ci := 0) (k := 0) (σ1 := pI σ 0 10 x) in_X0 tyX0_ok nmX0 (Nat.le_of_ble_eq_true rfl) rfl rfl 10 (Nat.le_of_ble_eq_true rfl) q220 (fun _ _ _ _ h => h) rfl (ty := .boolean) (by decide +kernel) hn hfit (Nat.le_of_ble_eq_true rfl) rfl (pI_ne σ 0 10 x) rfl hd (kk _)
theorem rX_p_X0_242_0 {γ : Type} {Θ : ThT Mem} {g : GeoX} {cc : ByteArray} {nL : Nat} {rm : Room} {ret : Option FieldType} {hs : List (Nat × Nat × Nat × Nat)} {ini : Bool} {O : Outcome} {σ' : Mem} {ρ : γ} {σ : Mem} {cs : Nat × Nat} {pc : Nat} {lv : List (Nat × Value)} {st : List Value} (hc : Cx Θ (VX g) cc nL RX0 rm ret hs ini O σ') {K : Mem → Option γ} {x : Int32} (hn : narrow .boolean (.int x) = .int x) (hfit : fits .boolean (.int x) = true) (hd : decode cc pc = .ok (.putfield 242, 3)) (kk : ∀ σ1 : Mem, Sim Θ nL ρ σ1 (K σ1) cs (pc + 3) lv st) : Sim Θ nL ρ σ (lt_ (pI σ 0 11 x) K) cs pc lv (.int x :: .ref (vO (VX g) + 0) :: st) := s_put hc (C := RX0) (T := TX0) (N := 19) (ci := 0) (k := 0) (σ1 := pI σ 0 11 x) in_X0 tyX0_ok nmX0 (Nat.le_of_ble_eq_true rfl) rfl rfl 11 (Nat.le_of_ble_eq_true rfl) q221 (fun _ _ _ _ h => h) rfl (ty := .boolean) (by decide +kernel) hn hfit (Nat.le_of_ble_eq_true rfl) rfl (pI_ne σ 0 11 x) rfl hd (kk _)
theorem rX_g_X0_238_0 {γ : Type} {Θ : ThT Mem} {g : GeoX} {cc : ByteArray} {nL : Nat} {rm : Room} {ret : Option FieldType} {hs : List (Nat × Nat × Nat × Nat)} {ini : Bool} {O : Outcome} {σ' : Mem} {ρ : γ} {σ : Mem} {F : Option γ} {cs : Nat × Nat} {pc : Nat} {lv : List (Nat × Value)} {st : List Value} (hc : Cx Θ (VX g) cc nL RX0 rm ret hs ini O σ') (hd : decode cc pc = .ok (.getfield 238, 3)) (kk : Sim Θ nL ρ σ F cs (pc + 3) lv (.long (gL σ 0 15) :: st)) : Sim Θ nL ρ σ F cs pc lv (.ref (vO (VX g) + 0) :: st) := s_get hc (C := RX0) (T := TX0) (N := 19) (ci := 0) (k := 0) in_X0 (Nat.le_of_ble_eq_true rfl) rfl rfl 15 (Nat.le_of_ble_eq_true rfl) q225 (fun _ _ _ _ h => h) rfl hd kk
theorem rX_g_X0_90_0 {γ : Type} {Θ : ThT Mem} {g : GeoX} {cc : ByteArray} {nL : Nat} {rm : Room} {ret : Option FieldType} {hs : List (Nat × Nat × Nat × Nat)} {ini : Bool} {O : Outcome} {σ' : Mem} {ρ : γ} {σ : Mem} {F : Option γ} {cs : Nat × Nat} {pc : Nat} {lv : List (Nat × Value)} {st : List Value} (hc : Cx Θ (VX g) cc nL RX0 rm ret hs ini O σ') (hd : decode cc pc = .ok (.getfield 90, 3)) (kk : Sim Θ nL ρ σ F cs (pc + 3) lv (.ref (vO (VX g) + 68) :: st)) : Sim Θ nL ρ σ F cs pc lv (.ref (vO (VX g) + 0) :: st) := s_get hc (C := RX0) (T := TX0) (N := 19) (ci := 0) (k := 0) in_X0 (Nat.le_of_ble_eq_true rfl) rfl rfl 14 (Nat.le_of_ble_eq_true rfl) q224 (fun _ _ _ _ h => h) rfl hd kk
theorem rX_ld_68 {own : String} {γ : Type} {Θ : ThT Mem} {g : GeoX} {cc : ByteArray} {nL : Nat} {rm : Room} {ret : Option FieldType} {hs : List (Nat × Nat × Nat × Nat)} {ini : Bool} {O : Outcome} {σ' : Mem} {ρ : γ} {σ : Mem} {F : Option γ} {cs : Nat × Nat} {pc : Nat} {lv : List (Nat × Value)} {st : List Value} (hc : Cx Θ (VX g) cc nL own rm ret hs ini O σ') {i : Int32} {j : Nat} (hin : inb i 495 = true) (hj : ix i = j) (hd : decode cc pc = .ok (.iaload, 1)) (kk : Sim Θ nL ρ σ F cs (pc + 1) lv (.int (gI σ 68 j) :: st)) : Sim Θ nL ρ σ F cs pc lv (.int i :: .ref (vO (VX g) + 68) :: st) := s_iald hc (k := 68) (t := 0) (n := 495) (Nat.le_of_ble_eq_true rfl) rfl rfl hin hj hd kk
theorem rX_g_X0_232_1 {γ : Type} {Θ : ThT Mem} {g : GeoX} {cc : ByteArray} {nL : Nat} {rm : Room} {ret : Option FieldType} {hs : List (Nat × Nat × Nat × Nat)} {ini : Bool} {O : Outcome} {σ' : Mem} {ρ : γ} {σ : Mem} {F : Option γ} {cs : Nat × Nat} {pc : Nat} {lv : List (Nat × Value)} {st : List Value} (hc : Cx Θ (VX g) cc nL RX0 rm ret hs ini O σ') (hd : decode cc pc = .ok (.getfield 232, 3)) (kk : Sim Θ nL ρ σ F cs (pc + 3) lv (.ref (vO (VX g) + 17) :: st)) : Sim Θ nL ρ σ F cs pc lv (.ref (vO (VX g) + 1) :: st) := s_get hc (C := RX1) (T := TX1) (N := 10) (ci := 1) (k := 1) in_X1 (Nat.le_of_ble_eq_true rfl) rfl rfl 7 (Nat.le_of_ble_eq_true rfl) q137 (fun _ _ _ _ h => h) rfl hd kk
theorem rX_ld_17 {own : String} {γ : Type} {Θ : ThT Mem} {g : GeoX} {cc : ByteArray} {nL : Nat} {rm : Room} {ret : Option FieldType} {hs : List (Nat × Nat × Nat × Nat)} {ini : Bool} {O : Outcome} {σ' : Mem} {ρ : γ} {σ : Mem} {F : Option γ} {cs : Nat × Nat} {pc : Nat} {lv : List (Nat × Value)} {st : List Value} (hc : Cx Θ (VX g) cc nL own rm ret hs ini O σ') {i : Int32} {j : Nat} (hin : inb i 40 = true) (hj : ix i = j) (hd : decode cc pc = .ok (.iaload, 1)) (kk : Sim Θ nL ρ σ F cs (pc + 1) lv (.int (gI σ 17 j) :: st)) : Sim Θ nL ρ σ F cs pc lv (.int i :: .ref (vO (VX g) + 17) :: st) := s_iald hc (k := 17) (t := 0) (n := 40) (Nat.le_of_ble_eq_true rfl) rfl rfl hin hj hd kk
theorem rX_g_X0_235_1 {γ : Type} {Θ : ThT Mem} {g : GeoX} {cc : ByteArray} {nL : Nat} {rm : Room} {ret : Option FieldType} {hs : List (Nat × Nat × Nat × Nat)} {ini : Bool} {O : Outcome} {σ' : Mem} {ρ : γ} {σ : Mem} {F : Option γ} {cs : Nat × Nat} {pc : Nat} {lv : List (Nat × Value)} {st : List Value} (hc : Cx Θ (VX g) cc nL RX0 rm ret hs ini O σ') (hd : decode cc pc = .ok (.getfield 235, 3)) (kk : Sim Θ nL ρ σ F cs (pc + 3) lv (.ref (vO (VX g) + 18) :: st)) : Sim Θ nL ρ σ F cs pc lv (.ref (vO (VX g) + 1) :: st) := s_get hc (C := RX1) (T := TX1) (N := 10) (ci := 1) (k := 1) in_X1 (Nat.le_of_ble_eq_true rfl) rfl rfl 8 (Nat.le_of_ble_eq_true rfl) q139 (fun _ _ _ _ h => h) rfl hd kk
theorem rX_ld_18 {own : String} {γ : Type} {Θ : ThT Mem} {g : GeoX} {cc : ByteArray} {nL : Nat} {rm : Room} {ret : Option FieldType} {hs : List (Nat × Nat × Nat × Nat)} {ini : Bool} {O : Outcome} {σ' : Mem} {ρ : γ} {σ : Mem} {F : Option γ} {cs : Nat × Nat} {pc : Nat} {lv : List (Nat × Value)} {st : List Value} (hc : Cx Θ (VX g) cc nL own rm ret hs ini O σ') {i : Int32} {j : Nat} (hin : inb i 40 = true) (hj : ix i = j) (hd : decode cc pc = .ok (.iaload, 1)) (kk : Sim Θ nL ρ σ F cs (pc + 1) lv (.int (gI σ 18 j) :: st)) : Sim Θ nL ρ σ F cs pc lv (.int i :: .ref (vO (VX g) + 18) :: st) := s_iald hc (k := 18) (t := 0) (n := 40) (Nat.le_of_ble_eq_true rfl) rfl rfl hin hj hd kk
theorem rX_st_68 {own : String} {γ : Type} {Θ : ThT Mem} {g : GeoX} {cc : ByteArray} {nL : Nat} {rm : Room} {ret : Option FieldType} {hs : List (Nat × Nat × Nat × Nat)} {ini : Bool} {O : Outcome} {σ' : Mem} {ρ : γ} {σ : Mem} {cs : Nat × Nat} {pc : Nat} {lv : List (Nat × Value)} {st : List Value} (hc : Cx Θ (VX g) cc nL own rm ret hs ini O σ') {K : Mem → Option γ} {i x : Int32} {j : Nat} (hin : inb i 495 = true) (hj : ix i = j) (hd : decode cc pc = .ok (.iastore, 1)) (kk : ∀ σ1 : Mem, Sim Θ nL ρ σ1 (K σ1) cs (pc + 1) lv st) : Sim Θ nL ρ σ (lt_ (pI σ 68 j x) K) cs pc lv (.int x :: .int i :: .ref (vO (VX g) + 68) :: st) := s_iast hc (k := 68) (t := 0) (n := 495) (Nat.le_of_ble_eq_true rfl) (fun _ => rfl) rfl hin hj hd kk
theorem kX_X0_221 {γ : Type} {Θ : ThT Mem} {g : GeoX} {cc : ByteArray} {nL : Nat} {rm : Room} {ret : Option FieldType} {hs : List (Nat × Nat × Nat × Nat)} {ini : Bool} {O : Outcome} {σ' : Mem} {ρ : γ} {σ : Mem} {F : Option γ} {cs : Nat × Nat} {pc : Nat} {lv : List (Nat × Value)} {st : List Value} (hc : Cx Θ (VX g) cc nL RX0 rm ret hs ini O σ') {σ1 : Mem} {x1 : Nat} {r : Int32} {rmc : Room} (hM : ∀ l : Launch, Ct (VX g) l yX0_findLiked cX0_findLiked 4 (some .int) rmc [.ref (vO (VX g) + 0), .ref (vO (VX g) + x1)] σ (oI r) σ1) (hR : rmc.frames + 1 ≤ rm.frames ∧ 8 + (4 + 11) + rmc.locals ≤ rm.locals) (hf : cs.1 + rmc.cells ≤ rm.cells ∧ cs.2 + rmc.slots ≤ rm.slots) (hrest : (st.map fun v => v.category).sum ≤ 8) (hd : decode cc pc = .ok (.invokevirtual 221, 3)) (kk : Sim Θ nL ρ σ1 F (cs.1 + rmc.cells, cs.2 + rmc.slots) (pc + 3) lv (.int r :: st)) : Sim Θ nL ρ σ F cs pc lv (.ref (vO (VX g) + x1) :: .ref (vO (VX g) + 0) :: st) := s_callVo hc (a := 0) (As := [.ref (vO (VX g) + x1)]) (rest := st) (n := 1) (ci := 0) (q := (RX0, TX0, 19)) hM (lw_V q618 q620 qs6 q62 q621) (by decide +kernel) rfl (Ob.fix (Nat.le_of_ble_eq_true rfl) rfl) rfl rfl hrest hR hf hd kk
theorem kX_X0_225 {γ : Type} {Θ : ThT Mem} {g : GeoX} {cc : ByteArray} {nL : Nat} {rm : Room} {ret : Option FieldType} {hs : List (Nat × Nat × Nat × Nat)} {ini : Bool} {O : Outcome} {σ' : Mem} {ρ : γ} {σ : Mem} {F : Option γ} {cs : Nat × Nat} {pc : Nat} {lv : List (Nat × Value)} {st : List Value} (hc : Cx Θ (VX g) cc nL RX0 rm ret hs ini O σ') {σ1 : Mem} {x0 : Nat} {x1 : Int32} {x2 : Int32} {r : Int32} {rmc : Room} (hM : ∀ l : Launch, Ct (VX g) l yX0_crossedBy cX0_crossedBy 3 (some .int) rmc [.ref (vO (VX g) + x0), .int x1, .int x2] σ (oI r) σ1) (hR : rmc.frames + 1 ≤ rm.frames ∧ 8 + (3 + 11) + rmc.locals ≤ rm.locals) (hf : cs.1 + rmc.cells ≤ rm.cells ∧ cs.2 + rmc.slots ≤ rm.slots) (hrest : (st.map fun v => v.category).sum ≤ 8) (hd : decode cc pc = .ok (.invokestatic 225, 3)) (kk : Sim Θ nL ρ σ1 F (cs.1 + rmc.cells, cs.2 + rmc.slots) (pc + 3) lv (.int r :: st)) : Sim Θ nL ρ σ F cs pc lv (.int x2 :: .int x1 :: .ref (vO (VX g) + x0) :: st) := s_callS hc (As := [.ref (vO (VX g) + x0), .int x1, .int x2]) (rest := st) (n := 3) hM (lw_S q662 q663 q62 q664) (by decide +kernel) rfl rfl hrest hR hf hd kk
def bX0_findCrossed_159 (N : Nat) (σ : Mem)  (r159 : (Mem × Int32) → Option (Unit × Mem)) (y159 : Mem × Int32) : Option (Unit × Mem) :=
  if (495 : Int32) ≤ y159.2 then
  (lt_ (pI y159.1 0 10 (1 : Int32)) (fun σ9 => 
  lt_ (pI σ9 0 11 (0 : Int32)) (fun σ10 => 
  some ((), σ10))))
  else (gb (inb y159.2 495) (
  lt_ (pL y159.1 0 15 ((gL y159.1 0 15) + (((gI y159.1 68 (ix y159.2))).toInt64))) (fun σ12 => 
  r159 (σ12, (y159.2 + (1 : Int32))))))
set_option maxHeartbeats 4000000 in
theorem wbX0_findCrossed_159 {Θ : ThT Mem} {g : GeoX} {N : Nat}  {ρ : Unit × Mem} (σ : Mem) (hc : Cx Θ (VX g) cX0_findCrossed 5 RX0 (rk 76 0 0) none [] false (oV) ρ.2)  (r159 : (Mem × Int32) → Option (Unit × Mem)) (hr159 : ∀ y : Mem × Int32, Sim Θ 5 ρ (y.1) (r159 y) (0, 0) 159 [(0, .ref (vO (VX g) + 0)), (1, .int y.2)] []) : ∀ y159 : Mem × Int32, Sim Θ 5 ρ (y159.1) (bX0_findCrossed_159 N σ  r159 y159) (0, 0) 159 [(0, .ref (vO (VX g) + 0)), (1, .int y159.2)] [] := by
  intro y159
  have hz := hc.z
  have hr159c : ∀ (z0_ : Mem) (z1_ : Int32), Sim Θ 5 ρ (z0_) (r159 (z0_, z1_)) (0, 0) 159 [(0, .ref (vO (VX g) + 0)), (1, .int z1_)] [] := fun z0_ z1_ => hr159 (z0_, z1_)
  unfold bX0_findCrossed_159
  refine s_iload_n hz dX0_findCrossed_159 rfl 1 rfl ?_
  refine s_sipush (v := (495 : Int32)) hz dX0_findCrossed_160 (by decide) ?_
  refine s_icmp_ge (tgt := 188) hz dX0_findCrossed_163 rfl (fun h8 => ?_) (fun h8 => ?_)
  · refine s_aload_n hz dX0_findCrossed_188 rfl 0 rfl ?_
    refine s_iconst (v := (1 : Int32)) hz dX0_findCrossed_189 (by decide) ?_
    refine rX_p_X0_166_0 hc rfl rfl dX0_findCrossed_190 (fun σ9 => ?_)
    refine s_aload_n hz dX0_findCrossed_193 rfl 0 rfl ?_
    refine s_iconst (v := (0 : Int32)) hz dX0_findCrossed_194 (by decide) ?_
    refine rX_p_X0_242_0 hc rfl rfl dX0_findCrossed_195 (fun σ10 => ?_)
    exact s_vretM hc dX0_findCrossed_198 (Nat.le_of_ble_eq_true rfl) (Nat.le_of_ble_eq_true rfl)
  · refine s_aload_n hz dX0_findCrossed_166 rfl 0 rfl ?_
    refine s_dup hz dX0_findCrossed_167 rfl ?_
    refine rX_g_X0_238_0 hc dX0_findCrossed_168 ?_
    refine s_aload_n hz dX0_findCrossed_171 rfl 0 rfl ?_
    refine rX_g_X0_90_0 hc dX0_findCrossed_172 ?_
    refine s_iload_n hz dX0_findCrossed_175 rfl 1 rfl ?_
    refine s_gb (fun h11 => ?_)
    refine rX_ld_68 hc h11 rfl dX0_findCrossed_176 ?_
    refine s_i2l hz dX0_findCrossed_177 ?_
    refine s_ladd hz dX0_findCrossed_178 ?_
    refine rX_p_X0_238_0 hc dX0_findCrossed_179 (fun σ12 => ?_)
    refine s_iinc (v := (1 : Int32)) (lv' := [(1, .int (y159.2 + (1 : Int32))), (0, .ref (vO (VX g) + 0))]) hz dX0_findCrossed_182 1 rfl (by decide) (Nat.le_of_ble_eq_true rfl) rfl ?_
    refine s_goto (tgt := 159) hz dX0_findCrossed_185 rfl ?_
    exact s_sub [1, 0] rfl (hr159c σ12 (y159.2 + (1 : Int32)))
def bX0_findCrossed_109 (N : Nat) (σ : Mem)  (r109 : (Mem × Int32) → Option (Unit × Mem)) (y109 : Mem × Int32) : Option (Unit × Mem) :=
  if (gI y109.1 1 2) ≤ y109.2 then
  (lt_ (pL y109.1 0 15 (0 : Int64)) (fun σ7 => 
  lp (bX0_findCrossed_159 N σ7) N (σ7, (0 : Int32))))
  else (gb (inb y109.2 40) (
  gb (inb (gI y109.1 17 (ix y109.2)) 495) (
  gb (inb y109.2 40) (
  gb (inb (gI y109.1 17 (ix y109.2)) 495) (
  lt_ (pI y109.1 68 (ix (gI y109.1 17 (ix y109.2))) ((gI y109.1 68 (ix (gI y109.1 17 (ix y109.2)))) + (gI y109.1 18 (ix y109.2)))) (fun σ16 => 
  r109 (σ16, (y109.2 + (1 : Int32)))))))))
set_option maxHeartbeats 4000000 in
theorem wbX0_findCrossed_109 {Θ : ThT Mem} {g : GeoX} {N : Nat}  {ρ : Unit × Mem} (σ : Mem) (hc : Cx Θ (VX g) cX0_findCrossed 5 RX0 (rk 76 0 0) none [] false (oV) ρ.2)  (r109 : (Mem × Int32) → Option (Unit × Mem)) (hr109 : ∀ y : Mem × Int32, Sim Θ 5 ρ (y.1) (r109 y) (0, 0) 109 [(0, .ref (vO (VX g) + 0)), (1, .int y.2)] []) : ∀ y109 : Mem × Int32, Sim Θ 5 ρ (y109.1) (bX0_findCrossed_109 N σ  r109 y109) (0, 0) 109 [(0, .ref (vO (VX g) + 0)), (1, .int y109.2)] [] := by
  intro y109
  have hz := hc.z
  have hr109c : ∀ (z0_ : Mem) (z1_ : Int32), Sim Θ 5 ρ (z0_) (r109 (z0_, z1_)) (0, 0) 109 [(0, .ref (vO (VX g) + 0)), (1, .int z1_)] [] := fun z0_ z1_ => hr109 (z0_, z1_)
  unfold bX0_findCrossed_109
  refine s_iload_n hz dX0_findCrossed_109 rfl 1 rfl ?_
  refine s_aload_n hz dX0_findCrossed_110 rfl 0 rfl ?_
  refine rX_g_X0_42_0 hc dX0_findCrossed_111 ?_
  refine rX_g_X0_229_1 hc dX0_findCrossed_114 ?_
  refine s_icmp_ge (tgt := 152) hz dX0_findCrossed_117 rfl (fun h6 => ?_) (fun h6 => ?_)
  · refine s_aload_n hz dX0_findCrossed_152 rfl 0 rfl ?_
    refine s_lconst (v := (0 : Int64)) hz dX0_findCrossed_153 (by decide) ?_
    refine rX_p_X0_238_0 hc dX0_findCrossed_154 (fun σ7 => ?_)
    refine s_iconst (v := (0 : Int32)) hz dX0_findCrossed_157 (by decide) ?_
    refine s_istore_n (lv' := [(1, .int (0 : Int32)), (0, .ref (vO (VX g) + 0))]) hz dX0_findCrossed_158 rfl (Nat.le_of_ble_eq_true rfl) rfl ?_
    exact s_sub [1, 0] rfl (s_lp (sg := fun y : Mem × Int32 => y.1) (lvs := fun y : Mem × Int32 => [(0, .ref (vO (VX g) + 0)), (1, .int y.2)]) (fun rec hrec => wbX0_findCrossed_159 σ7 hc   rec hrec) N (σ7, (0 : Int32)))
  · refine s_aload_n hz dX0_findCrossed_120 rfl 0 rfl ?_
    refine rX_g_X0_90_0 hc dX0_findCrossed_121 ?_
    refine s_aload_n hz dX0_findCrossed_124 rfl 0 rfl ?_
    refine rX_g_X0_42_0 hc dX0_findCrossed_125 ?_
    refine rX_g_X0_232_1 hc dX0_findCrossed_128 ?_
    refine s_iload_n hz dX0_findCrossed_131 rfl 1 rfl ?_
    refine s_gb (fun h13 => ?_)
    refine rX_ld_17 hc h13 rfl dX0_findCrossed_132 ?_
    refine s_dup2 hz dX0_findCrossed_133 rfl rfl ?_
    refine s_gb (fun h14 => ?_)
    refine rX_ld_68 hc h14 rfl dX0_findCrossed_134 ?_
    refine s_aload_n hz dX0_findCrossed_135 rfl 0 rfl ?_
    refine rX_g_X0_42_0 hc dX0_findCrossed_136 ?_
    refine rX_g_X0_235_1 hc dX0_findCrossed_139 ?_
    refine s_iload_n hz dX0_findCrossed_142 rfl 1 rfl ?_
    refine s_gb (fun h15 => ?_)
    refine rX_ld_18 hc h15 rfl dX0_findCrossed_143 ?_
    refine s_iadd hz dX0_findCrossed_144 ?_
    refine s_gb (fun h17 => ?_)
    refine rX_st_68 hc h17 rfl dX0_findCrossed_145 (fun σ16 => ?_)
    refine s_iinc (v := (1 : Int32)) (lv' := [(1, .int (y109.2 + (1 : Int32))), (0, .ref (vO (VX g) + 0))]) hz dX0_findCrossed_146 1 rfl (by decide) (Nat.le_of_ble_eq_true rfl) rfl ?_
    refine s_goto (tgt := 109) hz dX0_findCrossed_149 rfl ?_
    exact s_sub [1, 0] rfl (hr109c σ16 (y109.2 + (1 : Int32)))
def bX0_findCrossed_65 (N : Nat) (σ : Mem) (x1 : Int32) (x2 : Nat) (x3 : Int32) (r36 : (Mem × Int32) → Option (Unit × Mem)) (r65 : (Mem × Int32) → Option (Unit × Mem)) (y65 : Mem × Int32) : Option (Unit × Mem) :=
  if (495 : Int32) ≤ y65.2 then
  (r36 (y65.1, (x1 + (1 : Int32))))
  else (gb (inb y65.2 495) (
  gb (inb y65.2 495) (
  (fX0_crossedBy N y65.1 x2 (gI y65.1 67 (ix y65.2)) x3).bind (fun q26 => 
  gb (inb y65.2 495) (
  lt_ (pI y65.1 68 (ix y65.2) ((gI y65.1 68 (ix y65.2)) + q26)) (fun σ28 => 
  r65 (σ28, (y65.2 + (1 : Int32)))))))))
set_option maxHeartbeats 4000000 in
theorem wbX0_findCrossed_65 {Θ : ThT Mem} {g : GeoX} {N : Nat}  {ρ : Unit × Mem} (σ : Mem) (hc : Cx Θ (VX g) cX0_findCrossed 5 RX0 (rk 76 0 0) none [] false (oV) ρ.2) (x1 : Int32) (x2 : Nat) (x3 : Int32) (r36 : (Mem × Int32) → Option (Unit × Mem)) (hr36 : ∀ y : Mem × Int32, Sim Θ 5 ρ (y.1) (r36 y) (0, 0) 36 [(0, .ref (vO (VX g) + 0)), (1, .int y.2)] []) (r65 : (Mem × Int32) → Option (Unit × Mem)) (hr65 : ∀ y : Mem × Int32, Sim Θ 5 ρ (y.1) (r65 y) (0, 0) 65 [(0, .ref (vO (VX g) + 0)), (1, .int x1), (2, .ref (vO (VX g) + x2)), (3, .int x3), (4, .int y.2)] []) : ∀ y65 : Mem × Int32, Sim Θ 5 ρ (y65.1) (bX0_findCrossed_65 N σ x1 x2 x3 r36 r65 y65) (0, 0) 65 [(0, .ref (vO (VX g) + 0)), (1, .int x1), (2, .ref (vO (VX g) + x2)), (3, .int x3), (4, .int y65.2)] [] := by
  intro y65
  have hz := hc.z
  have hr36c : ∀ (z0_ : Mem) (z1_ : Int32), Sim Θ 5 ρ (z0_) (r36 (z0_, z1_)) (0, 0) 36 [(0, .ref (vO (VX g) + 0)), (1, .int z1_)] [] := fun z0_ z1_ => hr36 (z0_, z1_)
  have hr65c : ∀ (z0_ : Mem) (z1_ : Int32), Sim Θ 5 ρ (z0_) (r65 (z0_, z1_)) (0, 0) 65 [(0, .ref (vO (VX g) + 0)), (1, .int x1), (2, .ref (vO (VX g) + x2)), (3, .int x3), (4, .int z1_)] [] := fun z0_ z1_ => hr65 (z0_, z1_)
  unfold bX0_findCrossed_65
  refine s_iload hz dX0_findCrossed_65 4 rfl ?_
  refine s_sipush (v := (495 : Int32)) hz dX0_findCrossed_67 (by decide) ?_
  refine s_icmp_ge (tgt := 101) hz dX0_findCrossed_70 rfl (fun h23 => ?_) (fun h23 => ?_)
  · refine s_iinc (v := (1 : Int32)) (lv' := [(1, .int (x1 + (1 : Int32))), (0, .ref (vO (VX g) + 0)), (2, .ref (vO (VX g) + x2)), (3, .int x3), (4, .int y65.2)]) hz dX0_findCrossed_101 1 rfl (by decide) (Nat.le_of_ble_eq_true rfl) rfl ?_
    refine s_goto (tgt := 36) hz dX0_findCrossed_104 rfl ?_
    exact s_sub [1, 0] rfl (hr36c y65.1 (x1 + (1 : Int32)))
  · refine s_aload_n hz dX0_findCrossed_73 rfl 0 rfl ?_
    refine rX_g_X0_90_0 hc dX0_findCrossed_74 ?_
    refine s_iload hz dX0_findCrossed_77 4 rfl ?_
    refine s_dup2 hz dX0_findCrossed_79 rfl rfl ?_
    refine s_gb (fun h24 => ?_)
    refine rX_ld_68 hc h24 rfl dX0_findCrossed_80 ?_
    refine s_aload_n hz dX0_findCrossed_81 rfl 2 rfl ?_
    refine s_aload_n hz dX0_findCrossed_82 rfl 0 rfl ?_
    refine rX_g_X0_87_0 hc dX0_findCrossed_83 ?_
    refine s_iload hz dX0_findCrossed_86 4 rfl ?_
    refine s_gb (fun h25 => ?_)
    refine rX_ld_67 hc h25 rfl dX0_findCrossed_88 ?_
    refine s_iload_n hz dX0_findCrossed_89 rfl 3 rfl ?_
    refine s_bind (fun q26 e27 => ?_)
    refine kX_X0_225 hc (cfX0_crossedBy e27) ⟨(Nat.le_of_ble_eq_true rfl), (Nat.le_of_ble_eq_true rfl)⟩ ⟨(Nat.le_of_ble_eq_true rfl), (Nat.le_of_ble_eq_true rfl)⟩ (Nat.le_of_ble_eq_true rfl) dX0_findCrossed_90 ?_
    refine s_iadd hz dX0_findCrossed_93 ?_
    refine s_gb (fun h29 => ?_)
    refine rX_st_68 hc h29 rfl dX0_findCrossed_94 (fun σ28 => ?_)
    refine s_iinc (v := (1 : Int32)) (lv' := [(4, .int (y65.2 + (1 : Int32))), (0, .ref (vO (VX g) + 0)), (1, .int x1), (2, .ref (vO (VX g) + x2)), (3, .int x3)]) hz dX0_findCrossed_95 4 rfl (by decide) (Nat.le_of_ble_eq_true rfl) rfl ?_
    refine s_goto (tgt := 65) hz dX0_findCrossed_98 rfl ?_
    exact s_sub [1, 2, 3, 4, 0] rfl (hr65c σ28 (y65.2 + (1 : Int32)))
def bX0_findCrossed_36 (N : Nat) (σ : Mem)  (r36 : (Mem × Int32) → Option (Unit × Mem)) (y36 : Mem × Int32) : Option (Unit × Mem) :=
  if (gI y36.1 1 0) ≤ y36.2 then
  (lp (bX0_findCrossed_109 N y36.1) N (y36.1, (0 : Int32)))
  else ((fX1_group_1 N y36.1 y36.2).bind (fun q18 => 
  mO q18
  (none) (fun a20 => 
  (fX0_findLiked N y36.1 a20).bind (fun q21 => 
  lp (bX0_findCrossed_65 N q21.2 y36.2 a20 q21.1 r36) N (q21.2, (0 : Int32))))))
set_option maxHeartbeats 4000000 in
theorem wbX0_findCrossed_36 {Θ : ThT Mem} {g : GeoX} {N : Nat}  {ρ : Unit × Mem} (σ : Mem) (hc : Cx Θ (VX g) cX0_findCrossed 5 RX0 (rk 76 0 0) none [] false (oV) ρ.2)  (r36 : (Mem × Int32) → Option (Unit × Mem)) (hr36 : ∀ y : Mem × Int32, Sim Θ 5 ρ (y.1) (r36 y) (0, 0) 36 [(0, .ref (vO (VX g) + 0)), (1, .int y.2)] []) : ∀ y36 : Mem × Int32, Sim Θ 5 ρ (y36.1) (bX0_findCrossed_36 N σ  r36 y36) (0, 0) 36 [(0, .ref (vO (VX g) + 0)), (1, .int y36.2)] [] := by
  intro y36
  have hz := hc.z
  have hr36c : ∀ (z0_ : Mem) (z1_ : Int32), Sim Θ 5 ρ (z0_) (r36 (z0_, z1_)) (0, 0) 36 [(0, .ref (vO (VX g) + 0)), (1, .int z1_)] [] := fun z0_ z1_ => hr36 (z0_, z1_)
  unfold bX0_findCrossed_36
  refine s_iload_n hz dX0_findCrossed_36 rfl 1 rfl ?_
  refine s_aload_n hz dX0_findCrossed_37 rfl 0 rfl ?_
  refine rX_g_X0_42_0 hc dX0_findCrossed_38 ?_
  refine rX_g_X0_131_1 hc dX0_findCrossed_41 ?_
  refine s_icmp_ge (tgt := 107) hz dX0_findCrossed_44 rfl (fun h5 => ?_) (fun h5 => ?_)
  · refine s_iconst (v := (0 : Int32)) hz dX0_findCrossed_107 (by decide) ?_
    refine s_istore_n (lv' := [(1, .int (0 : Int32)), (0, .ref (vO (VX g) + 0))]) hz dX0_findCrossed_108 rfl (Nat.le_of_ble_eq_true rfl) rfl ?_
    exact s_sub [1, 0] rfl (s_lp (sg := fun y : Mem × Int32 => y.1) (lvs := fun y : Mem × Int32 => [(0, .ref (vO (VX g) + 0)), (1, .int y.2)]) (fun rec hrec => wbX0_findCrossed_109 y36.1 hc   rec hrec) N (y36.1, (0 : Int32)))
  · refine s_aload_n hz dX0_findCrossed_47 rfl 0 rfl ?_
    refine rX_g_X0_42_0 hc dX0_findCrossed_48 ?_
    refine s_iload_n hz dX0_findCrossed_51 rfl 1 rfl ?_
    refine s_bind (fun q18 e19 => ?_)
    refine kX_X0_134_1 hc (cfX1_group_1 e19) ⟨(Nat.le_of_ble_eq_true rfl), (Nat.le_of_ble_eq_true rfl)⟩ ⟨(Nat.le_of_ble_eq_true rfl), (Nat.le_of_ble_eq_true rfl)⟩ (Nat.le_of_ble_eq_true rfl) dX0_findCrossed_52 ?_
    refine s_opt (fun _ => ?_) (fun a20 _ => ?_)
    · refine s_astore_nN (lv' := [(2, .null), (0, .ref (vO (VX g) + 0)), (1, .int y36.2)]) hz dX0_findCrossed_55 rfl (Nat.le_of_ble_eq_true rfl) rfl ?_
      refine s_aload_n hz dX0_findCrossed_56 rfl 1 rfl ?_
      refine s_aload_nN hz dX0_findCrossed_57 rfl 0 rfl ?_
      exact s_none
    · refine s_astore_n (lv' := [(2, .ref (vO (VX g) + a20)), (0, .ref (vO (VX g) + 0)), (1, .int y36.2)]) hz dX0_findCrossed_55 rfl (Nat.le_of_ble_eq_true rfl) rfl ?_
      refine s_aload_n hz dX0_findCrossed_56 rfl 1 rfl ?_
      refine s_aload_n hz dX0_findCrossed_57 rfl 0 rfl ?_
      refine s_bind (fun q21 e22 => ?_)
      refine kX_X0_221 hc (cfX0_findLiked e22) ⟨(Nat.le_of_ble_eq_true rfl), (Nat.le_of_ble_eq_true rfl)⟩ ⟨(Nat.le_of_ble_eq_true rfl), (Nat.le_of_ble_eq_true rfl)⟩ (Nat.le_of_ble_eq_true rfl) dX0_findCrossed_58 ?_
      refine s_istore_n (lv' := [(3, .int q21.1), (2, .ref (vO (VX g) + a20)), (0, .ref (vO (VX g) + 0)), (1, .int y36.2)]) hz dX0_findCrossed_61 rfl (Nat.le_of_ble_eq_true rfl) rfl ?_
      refine s_iconst (v := (0 : Int32)) hz dX0_findCrossed_62 (by decide) ?_
      refine s_istore (lv' := [(4, .int (0 : Int32)), (3, .int q21.1), (2, .ref (vO (VX g) + a20)), (0, .ref (vO (VX g) + 0)), (1, .int y36.2)]) hz dX0_findCrossed_63 (Nat.le_of_ble_eq_true rfl) rfl ?_
      exact s_sub [3, 4, 2, 1, 0] rfl (s_lp (sg := fun y : Mem × Int32 => y.1) (lvs := fun y : Mem × Int32 => [(0, .ref (vO (VX g) + 0)), (1, .int y36.2), (2, .ref (vO (VX g) + a20)), (3, .int q21.1), (4, .int y.2)]) (fun rec hrec => wbX0_findCrossed_65 q21.2 hc y36.2 a20 q21.1 (r36) hr36 rec hrec) N (q21.2, (0 : Int32)))
def bX0_findCrossed_14 (N : Nat) (σ : Mem)  (r14 : (Mem × Int32) → Option (Unit × Mem)) (y14 : Mem × Int32) : Option (Unit × Mem) :=
  if (495 : Int32) ≤ y14.2 then
  (lp (bX0_findCrossed_36 N y14.1) N (y14.1, (0 : Int32)))
  else (gb (inb y14.2 495) (
  lt_ (pI y14.1 68 (ix y14.2) (0 : Int32)) (fun σ30 => 
  r14 (σ30, (y14.2 + (1 : Int32))))))
set_option maxHeartbeats 4000000 in
theorem wbX0_findCrossed_14 {Θ : ThT Mem} {g : GeoX} {N : Nat}  {ρ : Unit × Mem} (σ : Mem) (hc : Cx Θ (VX g) cX0_findCrossed 5 RX0 (rk 76 0 0) none [] false (oV) ρ.2)  (r14 : (Mem × Int32) → Option (Unit × Mem)) (hr14 : ∀ y : Mem × Int32, Sim Θ 5 ρ (y.1) (r14 y) (0, 0) 14 [(0, .ref (vO (VX g) + 0)), (1, .int y.2)] []) : ∀ y14 : Mem × Int32, Sim Θ 5 ρ (y14.1) (bX0_findCrossed_14 N σ  r14 y14) (0, 0) 14 [(0, .ref (vO (VX g) + 0)), (1, .int y14.2)] [] := by
  intro y14
  have hz := hc.z
  have hr14c : ∀ (z0_ : Mem) (z1_ : Int32), Sim Θ 5 ρ (z0_) (r14 (z0_, z1_)) (0, 0) 14 [(0, .ref (vO (VX g) + 0)), (1, .int z1_)] [] := fun z0_ z1_ => hr14 (z0_, z1_)
  unfold bX0_findCrossed_14
  refine s_iload_n hz dX0_findCrossed_14 rfl 1 rfl ?_
  refine s_sipush (v := (495 : Int32)) hz dX0_findCrossed_15 (by decide) ?_
  refine s_icmp_ge (tgt := 34) hz dX0_findCrossed_18 rfl (fun h4 => ?_) (fun h4 => ?_)
  · refine s_iconst (v := (0 : Int32)) hz dX0_findCrossed_34 (by decide) ?_
    refine s_istore_n (lv' := [(1, .int (0 : Int32)), (0, .ref (vO (VX g) + 0))]) hz dX0_findCrossed_35 rfl (Nat.le_of_ble_eq_true rfl) rfl ?_
    exact s_sub [1, 0] rfl (s_lp (sg := fun y : Mem × Int32 => y.1) (lvs := fun y : Mem × Int32 => [(0, .ref (vO (VX g) + 0)), (1, .int y.2)]) (fun rec hrec => wbX0_findCrossed_36 y14.1 hc   rec hrec) N (y14.1, (0 : Int32)))
  · refine s_aload_n hz dX0_findCrossed_21 rfl 0 rfl ?_
    refine rX_g_X0_90_0 hc dX0_findCrossed_22 ?_
    refine s_iload_n hz dX0_findCrossed_25 rfl 1 rfl ?_
    refine s_iconst (v := (0 : Int32)) hz dX0_findCrossed_26 (by decide) ?_
    refine s_gb (fun h31 => ?_)
    refine rX_st_68 hc h31 rfl dX0_findCrossed_27 (fun σ30 => ?_)
    refine s_iinc (v := (1 : Int32)) (lv' := [(1, .int (y14.2 + (1 : Int32))), (0, .ref (vO (VX g) + 0))]) hz dX0_findCrossed_28 1 rfl (by decide) (Nat.le_of_ble_eq_true rfl) rfl ?_
    refine s_goto (tgt := 14) hz dX0_findCrossed_31 rfl ?_
    exact s_sub [1, 0] rfl (hr14c σ30 (y14.2 + (1 : Int32)))
def fX0_findCrossed (N : Nat) (σ : Mem)  : Option (Unit × Mem) :=
  if (gI σ 0 10) = (0 : Int32) then
  ((fX0_findSays N σ).bind (fun q2 => 
  lp (bX0_findCrossed_14 N q2.2) N (q2.2, (0 : Int32))))
  else (some ((), σ))
set_option maxHeartbeats 4000000 in
theorem wfX0_findCrossed {Θ : ThT Mem} {g : GeoX} {N : Nat}  {ρ : Unit × Mem} (σ : Mem)  (hc : Cx Θ (VX g) cX0_findCrossed 5 RX0 (rk 76 0 0) none [] false (oV) ρ.2) : Sim Θ 5 ρ σ (fX0_findCrossed N σ ) (0, 0) 0 [(0, .ref (vO (VX g) + 0))] [] := by
  have hz := hc.z
  unfold fX0_findCrossed
  refine s_aload_n hz dX0_findCrossed_0 rfl 0 rfl ?_
  refine rX_g_X0_166_0 hc dX0_findCrossed_1 ?_
  refine s_if_eq (tgt := 8) hz dX0_findCrossed_4 rfl (fun h1 => ?_) (fun h1 => ?_)
  · refine s_aload_n hz dX0_findCrossed_8 rfl 0 rfl ?_
    refine s_bind (fun q2 e3 => ?_)
    refine kX_X0_218 hc (cfX0_findSays e3) ⟨(Nat.le_of_ble_eq_true rfl), (Nat.le_of_ble_eq_true rfl)⟩ ⟨(Nat.le_of_ble_eq_true rfl), (Nat.le_of_ble_eq_true rfl)⟩ (Nat.le_of_ble_eq_true rfl) dX0_findCrossed_9 ?_
    refine s_iconst (v := (0 : Int32)) hz dX0_findCrossed_12 (by decide) ?_
    refine s_istore_n (lv' := [(1, .int (0 : Int32)), (0, .ref (vO (VX g) + 0))]) hz dX0_findCrossed_13 rfl (Nat.le_of_ble_eq_true rfl) rfl ?_
    exact s_sub [1, 0] rfl (s_lp (sg := fun y : Mem × Int32 => y.1) (lvs := fun y : Mem × Int32 => [(0, .ref (vO (VX g) + 0)), (1, .int y.2)]) (fun rec hrec => wbX0_findCrossed_14 q2.2 hc   rec hrec) N (q2.2, (0 : Int32)))
  · exact s_vretM hc dX0_findCrossed_7 (Nat.le_of_ble_eq_true rfl) (Nat.le_of_ble_eq_true rfl)
theorem cfX0_findCrossed {g : GeoX} {N : Nat}  {σ : Mem}  {ρ : Unit × Mem} (hF : fX0_findCrossed N σ  = some ρ) (l : Launch) : Ct (VX g) l yX0_findCrossed cX0_findCrossed 5 none (rk 76 0 0) [.ref (vO (VX g) + 0)] σ (oV) ρ.2 :=
  Ct.of (by decide) (Nat.le_of_ble_eq_true rfl) (fun Θ hc ls hl => wfX0_findCrossed σ  hc hF ls hl)
theorem kX_X0_245 {γ : Type} {Θ : ThT Mem} {g : GeoX} {cc : ByteArray} {nL : Nat} {rm : Room} {ret : Option FieldType} {hs : List (Nat × Nat × Nat × Nat)} {ini : Bool} {O : Outcome} {σ' : Mem} {ρ : γ} {σ : Mem} {F : Option γ} {cs : Nat × Nat} {pc : Nat} {lv : List (Nat × Value)} {st : List Value} (hc : Cx Θ (VX g) cc nL RX0 rm ret hs ini O σ') {σ1 : Mem} {x0 : Int32} {x1 : Int32} {r : Int32} {rmc : Room} (hM : ∀ l : Launch, Ct (VX g) l yX0_rank cX0_rank 2 (some .int) rmc [.int x0, .int x1] σ (oI r) σ1) (hR : rmc.frames + 1 ≤ rm.frames ∧ 8 + (2 + 11) + rmc.locals ≤ rm.locals) (hf : cs.1 + rmc.cells ≤ rm.cells ∧ cs.2 + rmc.slots ≤ rm.slots) (hrest : (st.map fun v => v.category).sum ≤ 8) (hd : decode cc pc = .ok (.invokestatic 245, 3)) (kk : Sim Θ nL ρ σ1 F (cs.1 + rmc.cells, cs.2 + rmc.slots) (pc + 3) lv (.int r :: st)) : Sim Θ nL ρ σ F cs pc lv (.int x1 :: .int x0 :: st) := s_callS hc (As := [.int x0, .int x1]) (rest := st) (n := 2) hM (lw_S q860 q861 q62 q862) (by decide +kernel) rfl rfl hrest hR hf hd kk
def bX0_winnersOf_5 (N : Nat) (σ : Mem) (x1 : Int32) (x2 : Int32) (r5 : (Int32 × Int32) → Option (Int32)) (y5 : Int32 × Int32) : Option (Int32) :=
  if (495 : Int32) ≤ y5.2 then
  (some y5.1)
  else (gb (inb y5.2 495) (
  (fX0_rank N σ (gI σ 62 (ix y5.2)) x2).bind (fun q3 => 
  if q3 = x1 then
  (gb (inb y5.2 495) (
  lt_ (y5.1 + (gI σ 68 (ix y5.2))) (fun v7 => 
  r5 (v7, (y5.2 + (1 : Int32))))))
  else (r5 (y5.1, (y5.2 + (1 : Int32)))))))
set_option maxHeartbeats 4000000 in
theorem wbX0_winnersOf_5 {Θ : ThT Mem} {g : GeoX} {N : Nat}  {ρ : Int32} (σ : Mem) (hc : Cx Θ (VX g) cX0_winnersOf 5 RX0 (rk 3 0 0) (some .int) [] false (oI ρ) σ) (x1 : Int32) (x2 : Int32) (r5 : (Int32 × Int32) → Option (Int32)) (hr5 : ∀ y : Int32 × Int32, Sim Θ 5 ρ (σ) (r5 y) (0, 0) 5 [(0, .ref (vO (VX g) + 0)), (1, .int x1), (2, .int x2), (3, .int y.1), (4, .int y.2)] []) : ∀ y5 : Int32 × Int32, Sim Θ 5 ρ (σ) (bX0_winnersOf_5 N σ x1 x2 r5 y5) (0, 0) 5 [(0, .ref (vO (VX g) + 0)), (1, .int x1), (2, .int x2), (3, .int y5.1), (4, .int y5.2)] [] := by
  intro y5
  have hz := hc.z
  have hr5c : ∀ (z0_ : Int32) (z1_ : Int32), Sim Θ 5 ρ (σ) (r5 (z0_, z1_)) (0, 0) 5 [(0, .ref (vO (VX g) + 0)), (1, .int x1), (2, .int x2), (3, .int z0_), (4, .int z1_)] [] := fun z0_ z1_ => hr5 (z0_, z1_)
  unfold bX0_winnersOf_5
  refine s_iload hz dX0_winnersOf_5 4 rfl ?_
  refine s_sipush (v := (495 : Int32)) hz dX0_winnersOf_7 (by decide) ?_
  refine s_icmp_ge (tgt := 44) hz dX0_winnersOf_10 rfl (fun h1 => ?_) (fun h1 => ?_)
  · refine s_iload_n hz dX0_winnersOf_44 rfl 3 rfl ?_
    exact s_iret hc dX0_winnersOf_45 (Nat.le_of_ble_eq_true rfl) (Nat.le_of_ble_eq_true rfl)
  · refine s_aload_n hz dX0_winnersOf_13 rfl 0 rfl ?_
    refine rX_g_X0_67_0 hc dX0_winnersOf_14 ?_
    refine s_iload hz dX0_winnersOf_17 4 rfl ?_
    refine s_gb (fun h2 => ?_)
    refine rX_ld_62 hc h2 rfl dX0_winnersOf_19 ?_
    refine s_iload_n hz dX0_winnersOf_20 rfl 2 rfl ?_
    refine s_bind (fun q3 e4 => ?_)
    refine kX_X0_245 hc (cfX0_rank e4) ⟨(Nat.le_of_ble_eq_true rfl), (Nat.le_of_ble_eq_true rfl)⟩ ⟨(Nat.le_of_ble_eq_true rfl), (Nat.le_of_ble_eq_true rfl)⟩ (Nat.le_of_ble_eq_true rfl) dX0_winnersOf_21 ?_
    refine s_iload_n hz dX0_winnersOf_24 rfl 1 rfl ?_
    refine s_icmp_ne (tgt := 38) hz dX0_winnersOf_25 rfl (fun h5 => ?_) (fun h5 => ?_)
    · refine s_iinc (v := (1 : Int32)) (lv' := [(4, .int (y5.2 + (1 : Int32))), (0, .ref (vO (VX g) + 0)), (1, .int x1), (2, .int x2), (3, .int y5.1)]) hz dX0_winnersOf_38 4 rfl (by decide) (Nat.le_of_ble_eq_true rfl) rfl ?_
      refine s_goto (tgt := 5) hz dX0_winnersOf_41 rfl ?_
      exact s_sub [1, 2, 3, 4, 0] rfl (hr5c y5.1 (y5.2 + (1 : Int32)))
    · refine s_iload_n hz dX0_winnersOf_28 rfl 3 rfl ?_
      refine s_aload_n hz dX0_winnersOf_29 rfl 0 rfl ?_
      refine rX_g_X0_90_0 hc dX0_winnersOf_30 ?_
      refine s_iload hz dX0_winnersOf_33 4 rfl ?_
      refine s_gb (fun h6 => ?_)
      refine rX_ld_68 hc h6 rfl dX0_winnersOf_35 ?_
      refine s_iadd hz dX0_winnersOf_36 ?_
      refine s_nmI (fun v7 => ?_)
      refine s_istore_n (lv' := [(3, .int v7), (0, .ref (vO (VX g) + 0)), (1, .int x1), (2, .int x2), (4, .int y5.2)]) hz dX0_winnersOf_37 rfl (Nat.le_of_ble_eq_true rfl) rfl ?_
      refine s_iinc (v := (1 : Int32)) (lv' := [(4, .int (y5.2 + (1 : Int32))), (3, .int v7), (0, .ref (vO (VX g) + 0)), (1, .int x1), (2, .int x2)]) hz dX0_winnersOf_38 4 rfl (by decide) (Nat.le_of_ble_eq_true rfl) rfl ?_
      refine s_goto (tgt := 5) hz dX0_winnersOf_41 rfl ?_
      exact s_sub [2, 3, 4, 1, 0] rfl (hr5c v7 (y5.2 + (1 : Int32)))
def fX0_winnersOf (N : Nat) (σ : Mem) (x1 : Int32) (x2 : Int32) : Option (Int32) :=
  lp (bX0_winnersOf_5 N σ x1 x2) N ((0 : Int32), (0 : Int32))
set_option maxHeartbeats 4000000 in
theorem wfX0_winnersOf {Θ : ThT Mem} {g : GeoX} {N : Nat}  {ρ : Int32} (σ : Mem) (x1 : Int32) (x2 : Int32) (hc : Cx Θ (VX g) cX0_winnersOf 5 RX0 (rk 3 0 0) (some .int) [] false (oI ρ) σ) : Sim Θ 5 ρ σ (fX0_winnersOf N σ x1 x2) (0, 0) 0 [(0, .ref (vO (VX g) + 0)), (1, .int x1), (2, .int x2)] [] := by
  have hz := hc.z
  unfold fX0_winnersOf
  refine s_iconst (v := (0 : Int32)) hz dX0_winnersOf_0 (by decide) ?_
  refine s_istore_n (lv' := [(3, .int (0 : Int32)), (0, .ref (vO (VX g) + 0)), (1, .int x1), (2, .int x2)]) hz dX0_winnersOf_1 rfl (Nat.le_of_ble_eq_true rfl) rfl ?_
  refine s_iconst (v := (0 : Int32)) hz dX0_winnersOf_2 (by decide) ?_
  refine s_istore (lv' := [(4, .int (0 : Int32)), (3, .int (0 : Int32)), (0, .ref (vO (VX g) + 0)), (1, .int x1), (2, .int x2)]) hz dX0_winnersOf_3 (Nat.le_of_ble_eq_true rfl) rfl ?_
  exact s_sub [2, 3, 4, 1, 0] rfl (s_lp (sg := fun y : Int32 × Int32 => σ) (lvs := fun y : Int32 × Int32 => [(0, .ref (vO (VX g) + 0)), (1, .int x1), (2, .int x2), (3, .int y.1), (4, .int y.2)]) (fun rec hrec => wbX0_winnersOf_5 σ hc x1 x2  rec hrec) N ((0 : Int32), (0 : Int32)))
theorem cfX0_winnersOf {g : GeoX} {N : Nat}  {σ : Mem} {x1 : Int32} {x2 : Int32} {ρ : Int32} (hF : fX0_winnersOf N σ x1 x2 = some ρ) (l : Launch) : Ct (VX g) l yX0_winnersOf cX0_winnersOf 5 (some .int) (rk 3 0 0) [.ref (vO (VX g) + 0), .int x1, .int x2] σ (oI ρ) σ :=
  Ct.of (by decide) (Nat.le_of_ble_eq_true rfl) (fun Θ hc ls hl => wfX0_winnersOf σ x1 x2 hc hF ls hl)
theorem kX_X0_249 {γ : Type} {Θ : ThT Mem} {g : GeoX} {cc : ByteArray} {nL : Nat} {rm : Room} {ret : Option FieldType} {hs : List (Nat × Nat × Nat × Nat)} {ini : Bool} {O : Outcome} {σ' : Mem} {ρ : γ} {σ : Mem} {F : Option γ} {cs : Nat × Nat} {pc : Nat} {lv : List (Nat × Value)} {st : List Value} (hc : Cx Θ (VX g) cc nL RX0 rm ret hs ini O σ') {σ1 : Mem}  {rmc : Room} (hM : ∀ l : Launch, Ct (VX g) l yX0_findCrossed cX0_findCrossed 5 none rmc [.ref (vO (VX g) + 0)] σ oV σ1) (hR : rmc.frames + 1 ≤ rm.frames ∧ 8 + (5 + 11) + rmc.locals ≤ rm.locals) (hf : cs.1 + rmc.cells ≤ rm.cells ∧ cs.2 + rmc.slots ≤ rm.slots) (hrest : (st.map fun v => v.category).sum ≤ 8) (hd : decode cc pc = .ok (.invokevirtual 249, 3)) (kk : Sim Θ nL ρ σ1 F (cs.1 + rmc.cells, cs.2 + rmc.slots) (pc + 3) lv (st)) : Sim Θ nL ρ σ F cs pc lv (.ref (vO (VX g) + 0) :: st) := s_callVo hc (a := 0) (As := []) (rest := st) (n := 0) (ci := 0) (q := (RX0, TX0, 19)) hM (lw_V q538 q540 qs4 q62 q541) (by decide +kernel) rfl (Ob.fix (Nat.le_of_ble_eq_true rfl) rfl) rfl rfl hrest hR hf hd kk
theorem rX_g_X0_242_0 {γ : Type} {Θ : ThT Mem} {g : GeoX} {cc : ByteArray} {nL : Nat} {rm : Room} {ret : Option FieldType} {hs : List (Nat × Nat × Nat × Nat)} {ini : Bool} {O : Outcome} {σ' : Mem} {ρ : γ} {σ : Mem} {F : Option γ} {cs : Nat × Nat} {pc : Nat} {lv : List (Nat × Value)} {st : List Value} (hc : Cx Θ (VX g) cc nL RX0 rm ret hs ini O σ') (hd : decode cc pc = .ok (.getfield 242, 3)) (kk : Sim Θ nL ρ σ F cs (pc + 3) lv (.int (gI σ 0 11) :: st)) : Sim Θ nL ρ σ F cs pc lv (.ref (vO (VX g) + 0) :: st) := s_get hc (C := RX0) (T := TX0) (N := 19) (ci := 0) (k := 0) in_X0 (Nat.le_of_ble_eq_true rfl) rfl rfl 11 (Nat.le_of_ble_eq_true rfl) q221 (fun _ _ _ _ h => h) rfl hd kk
theorem rX_g_X0_95_0 {γ : Type} {Θ : ThT Mem} {g : GeoX} {cc : ByteArray} {nL : Nat} {rm : Room} {ret : Option FieldType} {hs : List (Nat × Nat × Nat × Nat)} {ini : Bool} {O : Outcome} {σ' : Mem} {ρ : γ} {σ : Mem} {F : Option γ} {cs : Nat × Nat} {pc : Nat} {lv : List (Nat × Value)} {st : List Value} (hc : Cx Θ (VX g) cc nL RX0 rm ret hs ini O σ') (hd : decode cc pc = .ok (.getfield 95, 3)) (kk : Sim Θ nL ρ σ F cs (pc + 3) lv (.ref (vO (VX g) + 69) :: st)) : Sim Θ nL ρ σ F cs pc lv (.ref (vO (VX g) + 0) :: st) := s_get hc (C := RX0) (T := TX0) (N := 19) (ci := 0) (k := 0) in_X0 (Nat.le_of_ble_eq_true rfl) rfl rfl 16 (Nat.le_of_ble_eq_true rfl) q226 (fun _ _ _ _ h => h) rfl hd kk
theorem rX_aa_69 {own : String} {γ : Type} {Θ : ThT Mem} {g : GeoX} {cc : ByteArray} {nL : Nat} {rm : Room} {ret : Option FieldType} {hs : List (Nat × Nat × Nat × Nat)} {ini : Bool} {O : Outcome} {σ' : Mem} {ρ : γ} {σ : Mem} {F : Option γ} {cs : Nat × Nat} {pc : Nat} {lv : List (Nat × Value)} {st : List Value} (hc : Cx Θ (VX g) cc nL own rm ret hs ini O σ') {i : Int32} {j : Nat} (hin : inb i 5 = true) (hj : ix i = j) (hd : decode cc pc = .ok (.aaload, 1)) (kk : Sim Θ nL ρ σ F cs (pc + 1) lv (.ref (vO (VX g) + (70 + j)) :: st)) : Sim Θ nL ρ σ F cs pc lv (.int i :: .ref (vO (VX g) + 69) :: st) := by
  subst hj
  exact s_aald hc (k := 69) (t := 6) (n := 5) (b := 70) (Nat.le_of_ble_eq_true rfl) rfl rfl rfl hin hd kk
theorem rX_ldv_70 {own : String} {γ : Type} {Θ : ThT Mem} {g : GeoX} {cc : ByteArray} {nL : Nat} {rm : Room} {ret : Option FieldType} {hs : List (Nat × Nat × Nat × Nat)} {ini : Bool} {O : Outcome} {σ' : Mem} {ρ : γ} {σ : Mem} {F : Option γ} {cs : Nat × Nat} {pc : Nat} {lv : List (Nat × Value)} {st : List Value} (hc : Cx Θ (VX g) cc nL own rm ret hs ini O σ') {k : Nat} (hk : k < 5) {i : Int32} {j : Nat} (hin : inb i 495 = true) (hj : ix i = j) (hd : decode cc pc = .ok (.iaload, 1)) (kk : Sim Θ nL ρ σ F cs (pc + 1) lv (.int (gI σ (70 + k) j) :: st)) : Sim Θ nL ρ σ F cs pc lv (.int i :: .ref (vO (VX g) + (70 + k)) :: st) := s_iald hc (k := 70 + k) (t := 0) (n := 495) (YXk_70 g k hk) (YX_70 g.1 _ _ _ k hk) rfl hin hj hd kk
theorem rX_stv_70 {own : String} {γ : Type} {Θ : ThT Mem} {g : GeoX} {cc : ByteArray} {nL : Nat} {rm : Room} {ret : Option FieldType} {hs : List (Nat × Nat × Nat × Nat)} {ini : Bool} {O : Outcome} {σ' : Mem} {ρ : γ} {σ : Mem} {cs : Nat × Nat} {pc : Nat} {lv : List (Nat × Value)} {st : List Value} (hc : Cx Θ (VX g) cc nL own rm ret hs ini O σ') {K : Mem → Option γ} {k : Nat} (hk : k < 5) {i x : Int32} {j : Nat} (hin : inb i 495 = true) (hj : ix i = j) (hd : decode cc pc = .ok (.iastore, 1)) (kk : ∀ σ1 : Mem, Sim Θ nL ρ σ1 (K σ1) cs (pc + 1) lv st) : Sim Θ nL ρ σ (lt_ (pI σ (70 + k) j x) K) cs pc lv (.int x :: .int i :: .ref (vO (VX g) + (70 + k)) :: st) := s_iast hc (k := 70 + k) (t := 0) (n := 495) (YXk_70 g k hk) (fun _ => YX_70 g.1 _ _ _ k hk) rfl hin hj hd kk
def bX0_findWinners_45 (N : Nat) (σ : Mem) (x1 : Int32) (r14 : (Mem × Int32) → Option (Unit × Mem)) (r45 : (Mem × Int32) → Option (Unit × Mem)) (y45 : Mem × Int32) : Option (Unit × Mem) :=
  if (495 : Int32) ≤ y45.2 then
  (r14 (y45.1, (x1 + (1 : Int32))))
  else (gb (inb y45.2 495) (
  gb (inb x1 495) (
  (fX0_rank N y45.1 (gI y45.1 62 (ix y45.2)) (gI y45.1 62 (ix x1))).bind (fun q10 => 
  gb (inb q10 5) (
  gb (inb x1 495) (
  gb (inb y45.2 495) (
  gb (inb x1 495) (
  lt_ (pI y45.1 (70 + ix q10) (ix x1) ((gI y45.1 (70 + ix q10) (ix x1)) + (gI y45.1 68 (ix y45.2)))) (fun σ15 => 
  r45 (σ15, (y45.2 + (1 : Int32))))))))))))
set_option maxHeartbeats 4000000 in
theorem wbX0_findWinners_45 {Θ : ThT Mem} {g : GeoX} {N : Nat}  {ρ : Unit × Mem} (σ : Mem) (hc : Cx Θ (VX g) cX0_findWinners 3 RX0 (rk 77 0 0) none [] false (oV) ρ.2) (x1 : Int32) (r14 : (Mem × Int32) → Option (Unit × Mem)) (hr14 : ∀ y : Mem × Int32, Sim Θ 3 ρ (y.1) (r14 y) (0, 0) 14 [(0, .ref (vO (VX g) + 0)), (1, .int y.2)] []) (r45 : (Mem × Int32) → Option (Unit × Mem)) (hr45 : ∀ y : Mem × Int32, Sim Θ 3 ρ (y.1) (r45 y) (0, 0) 45 [(0, .ref (vO (VX g) + 0)), (1, .int x1), (2, .int y.2)] []) : ∀ y45 : Mem × Int32, Sim Θ 3 ρ (y45.1) (bX0_findWinners_45 N σ x1 r14 r45 y45) (0, 0) 45 [(0, .ref (vO (VX g) + 0)), (1, .int x1), (2, .int y45.2)] [] := by
  intro y45
  have hz := hc.z
  have hr14c : ∀ (z0_ : Mem) (z1_ : Int32), Sim Θ 3 ρ (z0_) (r14 (z0_, z1_)) (0, 0) 14 [(0, .ref (vO (VX g) + 0)), (1, .int z1_)] [] := fun z0_ z1_ => hr14 (z0_, z1_)
  have hr45c : ∀ (z0_ : Mem) (z1_ : Int32), Sim Θ 3 ρ (z0_) (r45 (z0_, z1_)) (0, 0) 45 [(0, .ref (vO (VX g) + 0)), (1, .int x1), (2, .int z1_)] [] := fun z0_ z1_ => hr45 (z0_, z1_)
  unfold bX0_findWinners_45
  refine s_iload_n hz dX0_findWinners_45 rfl 2 rfl ?_
  refine s_sipush (v := (495 : Int32)) hz dX0_findWinners_46 (by decide) ?_
  refine s_icmp_ge (tgt := 89) hz dX0_findWinners_49 rfl (fun h7 => ?_) (fun h7 => ?_)
  · refine s_iinc (v := (1 : Int32)) (lv' := [(1, .int (x1 + (1 : Int32))), (0, .ref (vO (VX g) + 0)), (2, .int y45.2)]) hz dX0_findWinners_89 1 rfl (by decide) (Nat.le_of_ble_eq_true rfl) rfl ?_
    refine s_goto (tgt := 14) hz dX0_findWinners_92 rfl ?_
    exact s_sub [1, 0] rfl (hr14c y45.1 (x1 + (1 : Int32)))
  · refine s_aload_n hz dX0_findWinners_52 rfl 0 rfl ?_
    refine rX_g_X0_95_0 hc dX0_findWinners_53 ?_
    refine s_aload_n hz dX0_findWinners_56 rfl 0 rfl ?_
    refine rX_g_X0_67_0 hc dX0_findWinners_57 ?_
    refine s_iload_n hz dX0_findWinners_60 rfl 2 rfl ?_
    refine s_gb (fun h8 => ?_)
    refine rX_ld_62 hc h8 rfl dX0_findWinners_61 ?_
    refine s_aload_n hz dX0_findWinners_62 rfl 0 rfl ?_
    refine rX_g_X0_67_0 hc dX0_findWinners_63 ?_
    refine s_iload_n hz dX0_findWinners_66 rfl 1 rfl ?_
    refine s_gb (fun h9 => ?_)
    refine rX_ld_62 hc h9 rfl dX0_findWinners_67 ?_
    refine s_bind (fun q10 e11 => ?_)
    refine kX_X0_245 hc (cfX0_rank e11) ⟨(Nat.le_of_ble_eq_true rfl), (Nat.le_of_ble_eq_true rfl)⟩ ⟨(Nat.le_of_ble_eq_true rfl), (Nat.le_of_ble_eq_true rfl)⟩ (Nat.le_of_ble_eq_true rfl) dX0_findWinners_68 ?_
    refine s_gb (fun h12 => ?_)
    refine rX_aa_69 hc h12 rfl dX0_findWinners_71 ?_
    refine s_iload_n hz dX0_findWinners_72 rfl 1 rfl ?_
    refine s_dup2 hz dX0_findWinners_73 rfl rfl ?_
    refine s_gb (fun h13 => ?_)
    refine rX_ldv_70 hc (inb_lt h12) h13 rfl dX0_findWinners_74 ?_
    refine s_aload_n hz dX0_findWinners_75 rfl 0 rfl ?_
    refine rX_g_X0_90_0 hc dX0_findWinners_76 ?_
    refine s_iload_n hz dX0_findWinners_79 rfl 2 rfl ?_
    refine s_gb (fun h14 => ?_)
    refine rX_ld_68 hc h14 rfl dX0_findWinners_80 ?_
    refine s_iadd hz dX0_findWinners_81 ?_
    refine s_gb (fun h16 => ?_)
    refine rX_stv_70 hc (inb_lt h12) h16 rfl dX0_findWinners_82 (fun σ15 => ?_)
    refine s_iinc (v := (1 : Int32)) (lv' := [(2, .int (y45.2 + (1 : Int32))), (0, .ref (vO (VX g) + 0)), (1, .int x1)]) hz dX0_findWinners_83 2 rfl (by decide) (Nat.le_of_ble_eq_true rfl) rfl ?_
    refine s_goto (tgt := 45) hz dX0_findWinners_86 rfl ?_
    exact s_sub [1, 2, 0] rfl (hr45c σ15 (y45.2 + (1 : Int32)))
def bX0_findWinners_23 (N : Nat) (σ : Mem) (x1 : Int32) (r14 : (Mem × Int32) → Option (Unit × Mem)) (r23 : (Mem × Int32) → Option (Unit × Mem)) (y23 : Mem × Int32) : Option (Unit × Mem) :=
  if (4 : Int32) < y23.2 then
  (lp (bX0_findWinners_45 N y23.1 x1 r14) N (y23.1, (0 : Int32)))
  else (gb (inb y23.2 5) (
  gb (inb x1 495) (
  lt_ (pI y23.1 (70 + ix y23.2) (ix x1) (0 : Int32)) (fun σ18 => 
  r23 (σ18, (y23.2 + (1 : Int32)))))))
set_option maxHeartbeats 4000000 in
theorem wbX0_findWinners_23 {Θ : ThT Mem} {g : GeoX} {N : Nat}  {ρ : Unit × Mem} (σ : Mem) (hc : Cx Θ (VX g) cX0_findWinners 3 RX0 (rk 77 0 0) none [] false (oV) ρ.2) (x1 : Int32) (r14 : (Mem × Int32) → Option (Unit × Mem)) (hr14 : ∀ y : Mem × Int32, Sim Θ 3 ρ (y.1) (r14 y) (0, 0) 14 [(0, .ref (vO (VX g) + 0)), (1, .int y.2)] []) (r23 : (Mem × Int32) → Option (Unit × Mem)) (hr23 : ∀ y : Mem × Int32, Sim Θ 3 ρ (y.1) (r23 y) (0, 0) 23 [(0, .ref (vO (VX g) + 0)), (1, .int x1), (2, .int y.2)] []) : ∀ y23 : Mem × Int32, Sim Θ 3 ρ (y23.1) (bX0_findWinners_23 N σ x1 r14 r23 y23) (0, 0) 23 [(0, .ref (vO (VX g) + 0)), (1, .int x1), (2, .int y23.2)] [] := by
  intro y23
  have hz := hc.z
  have hr14c : ∀ (z0_ : Mem) (z1_ : Int32), Sim Θ 3 ρ (z0_) (r14 (z0_, z1_)) (0, 0) 14 [(0, .ref (vO (VX g) + 0)), (1, .int z1_)] [] := fun z0_ z1_ => hr14 (z0_, z1_)
  have hr23c : ∀ (z0_ : Mem) (z1_ : Int32), Sim Θ 3 ρ (z0_) (r23 (z0_, z1_)) (0, 0) 23 [(0, .ref (vO (VX g) + 0)), (1, .int x1), (2, .int z1_)] [] := fun z0_ z1_ => hr23 (z0_, z1_)
  unfold bX0_findWinners_23
  refine s_iload_n hz dX0_findWinners_23 rfl 2 rfl ?_
  refine s_iconst (v := (4 : Int32)) hz dX0_findWinners_24 (by decide) ?_
  refine s_icmp_gt (tgt := 43) hz dX0_findWinners_25 rfl (fun h6 => ?_) (fun h6 => ?_)
  · refine s_iconst (v := (0 : Int32)) hz dX0_findWinners_43 (by decide) ?_
    refine s_istore_n (lv' := [(2, .int (0 : Int32)), (0, .ref (vO (VX g) + 0)), (1, .int x1)]) hz dX0_findWinners_44 rfl (Nat.le_of_ble_eq_true rfl) rfl ?_
    exact s_sub [1, 2, 0] rfl (s_lp (sg := fun y : Mem × Int32 => y.1) (lvs := fun y : Mem × Int32 => [(0, .ref (vO (VX g) + 0)), (1, .int x1), (2, .int y.2)]) (fun rec hrec => wbX0_findWinners_45 y23.1 hc x1 (r14) hr14 rec hrec) N (y23.1, (0 : Int32)))
  · refine s_aload_n hz dX0_findWinners_28 rfl 0 rfl ?_
    refine rX_g_X0_95_0 hc dX0_findWinners_29 ?_
    refine s_iload_n hz dX0_findWinners_32 rfl 2 rfl ?_
    refine s_gb (fun h17 => ?_)
    refine rX_aa_69 hc h17 rfl dX0_findWinners_33 ?_
    refine s_iload_n hz dX0_findWinners_34 rfl 1 rfl ?_
    refine s_iconst (v := (0 : Int32)) hz dX0_findWinners_35 (by decide) ?_
    refine s_gb (fun h19 => ?_)
    refine rX_stv_70 hc (inb_lt h17) h19 rfl dX0_findWinners_36 (fun σ18 => ?_)
    refine s_iinc (v := (1 : Int32)) (lv' := [(2, .int (y23.2 + (1 : Int32))), (0, .ref (vO (VX g) + 0)), (1, .int x1)]) hz dX0_findWinners_37 2 rfl (by decide) (Nat.le_of_ble_eq_true rfl) rfl ?_
    refine s_goto (tgt := 23) hz dX0_findWinners_40 rfl ?_
    exact s_sub [1, 2, 0] rfl (hr23c σ18 (y23.2 + (1 : Int32)))
def bX0_findWinners_14 (N : Nat) (σ : Mem)  (r14 : (Mem × Int32) → Option (Unit × Mem)) (y14 : Mem × Int32) : Option (Unit × Mem) :=
  if (495 : Int32) ≤ y14.2 then
  (lt_ (pI y14.1 0 11 (1 : Int32)) (fun σ5 => 
  some ((), σ5)))
  else (lp (bX0_findWinners_23 N y14.1 y14.2 r14) N (y14.1, (0 : Int32)))
set_option maxHeartbeats 4000000 in
theorem wbX0_findWinners_14 {Θ : ThT Mem} {g : GeoX} {N : Nat}  {ρ : Unit × Mem} (σ : Mem) (hc : Cx Θ (VX g) cX0_findWinners 3 RX0 (rk 77 0 0) none [] false (oV) ρ.2)  (r14 : (Mem × Int32) → Option (Unit × Mem)) (hr14 : ∀ y : Mem × Int32, Sim Θ 3 ρ (y.1) (r14 y) (0, 0) 14 [(0, .ref (vO (VX g) + 0)), (1, .int y.2)] []) : ∀ y14 : Mem × Int32, Sim Θ 3 ρ (y14.1) (bX0_findWinners_14 N σ  r14 y14) (0, 0) 14 [(0, .ref (vO (VX g) + 0)), (1, .int y14.2)] [] := by
  intro y14
  have hz := hc.z
  have hr14c : ∀ (z0_ : Mem) (z1_ : Int32), Sim Θ 3 ρ (z0_) (r14 (z0_, z1_)) (0, 0) 14 [(0, .ref (vO (VX g) + 0)), (1, .int z1_)] [] := fun z0_ z1_ => hr14 (z0_, z1_)
  unfold bX0_findWinners_14
  refine s_iload_n hz dX0_findWinners_14 rfl 1 rfl ?_
  refine s_sipush (v := (495 : Int32)) hz dX0_findWinners_15 (by decide) ?_
  refine s_icmp_ge (tgt := 95) hz dX0_findWinners_18 rfl (fun h4 => ?_) (fun h4 => ?_)
  · refine s_aload_n hz dX0_findWinners_95 rfl 0 rfl ?_
    refine s_iconst (v := (1 : Int32)) hz dX0_findWinners_96 (by decide) ?_
    refine rX_p_X0_242_0 hc rfl rfl dX0_findWinners_97 (fun σ5 => ?_)
    exact s_vretM hc dX0_findWinners_100 (Nat.le_of_ble_eq_true rfl) (Nat.le_of_ble_eq_true rfl)
  · refine s_iconst (v := (0 : Int32)) hz dX0_findWinners_21 (by decide) ?_
    refine s_istore_n (lv' := [(2, .int (0 : Int32)), (0, .ref (vO (VX g) + 0)), (1, .int y14.2)]) hz dX0_findWinners_22 rfl (Nat.le_of_ble_eq_true rfl) rfl ?_
    exact s_sub [1, 2, 0] rfl (s_lp (sg := fun y : Mem × Int32 => y.1) (lvs := fun y : Mem × Int32 => [(0, .ref (vO (VX g) + 0)), (1, .int y14.2), (2, .int y.2)]) (fun rec hrec => wbX0_findWinners_23 y14.1 hc y14.2 (r14) hr14 rec hrec) N (y14.1, (0 : Int32)))
def fX0_findWinners (N : Nat) (σ : Mem)  : Option (Unit × Mem) :=
  (fX0_findCrossed N σ).bind (fun q1 => 
  if (gI q1.2 0 11) = (0 : Int32) then
  (lp (bX0_findWinners_14 N q1.2) N (q1.2, (0 : Int32)))
  else (some ((), q1.2)))
set_option maxHeartbeats 4000000 in
theorem wfX0_findWinners {Θ : ThT Mem} {g : GeoX} {N : Nat}  {ρ : Unit × Mem} (σ : Mem)  (hc : Cx Θ (VX g) cX0_findWinners 3 RX0 (rk 77 0 0) none [] false (oV) ρ.2) : Sim Θ 3 ρ σ (fX0_findWinners N σ ) (0, 0) 0 [(0, .ref (vO (VX g) + 0))] [] := by
  have hz := hc.z
  unfold fX0_findWinners
  refine s_aload_n hz dX0_findWinners_0 rfl 0 rfl ?_
  refine s_bind (fun q1 e2 => ?_)
  refine kX_X0_249 hc (cfX0_findCrossed e2) ⟨(Nat.le_of_ble_eq_true rfl), (Nat.le_of_ble_eq_true rfl)⟩ ⟨(Nat.le_of_ble_eq_true rfl), (Nat.le_of_ble_eq_true rfl)⟩ (Nat.le_of_ble_eq_true rfl) dX0_findWinners_1 ?_
  refine s_aload_n hz dX0_findWinners_4 rfl 0 rfl ?_
  refine rX_g_X0_242_0 hc dX0_findWinners_5 ?_
  refine s_if_eq (tgt := 12) hz dX0_findWinners_8 rfl (fun h3 => ?_) (fun h3 => ?_)
  · refine s_iconst (v := (0 : Int32)) hz dX0_findWinners_12 (by decide) ?_
    refine s_istore_n (lv' := [(1, .int (0 : Int32)), (0, .ref (vO (VX g) + 0))]) hz dX0_findWinners_13 rfl (Nat.le_of_ble_eq_true rfl) rfl ?_
    exact s_sub [1, 0] rfl (s_lp (sg := fun y : Mem × Int32 => y.1) (lvs := fun y : Mem × Int32 => [(0, .ref (vO (VX g) + 0)), (1, .int y.2)]) (fun rec hrec => wbX0_findWinners_14 q1.2 hc   rec hrec) N (q1.2, (0 : Int32)))
  · exact s_vretM hc dX0_findWinners_11 (Nat.le_of_ble_eq_true rfl) (Nat.le_of_ble_eq_true rfl)
theorem cfX0_findWinners {g : GeoX} {N : Nat}  {σ : Mem}  {ρ : Unit × Mem} (hF : fX0_findWinners N σ  = some ρ) (l : Launch) : Ct (VX g) l yX0_findWinners cX0_findWinners 3 none (rk 77 0 0) [.ref (vO (VX g) + 0)] σ (oV) ρ.2 :=
  Ct.of (by decide) (Nat.le_of_ble_eq_true rfl) (fun Θ hc ls hl => wfX0_findWinners σ  hc hF ls hl)
def bX0_placeOf_6 (N : Nat) (σ : Mem) (x1 : Int32) (r6 : (Int32 × Int32) → Option (Int32)) (y6 : Int32 × Int32) : Option (Int32) :=
  if y6.2 ≤ y6.1 then
  (some y6.1)
  else (lt_ ((y6.1 + y6.2) / (2 : Int32)) (fun v2 => 
  gb (inb v2 495) (
  if x1 ≤ (gI σ 62 (ix v2)) then
  (r6 (y6.1, v2))
  else (lt_ (v2 + (1 : Int32)) (fun v5 => 
  r6 (v5, y6.2))))))
set_option maxHeartbeats 4000000 in
theorem wbX0_placeOf_6 {Θ : ThT Mem} {g : GeoX} {N : Nat}  {ρ : Int32} (σ : Mem) (hc : Cx Θ (VX g) cX0_placeOf 5 RX0 (rk 1 0 0) (some .int) [] false (oI ρ) σ) (x1 : Int32) (r6 : (Int32 × Int32) → Option (Int32)) (hr6 : ∀ y : Int32 × Int32, Sim Θ 5 ρ (σ) (r6 y) (0, 0) 6 [(0, .ref (vO (VX g) + 0)), (1, .int x1), (2, .int y.1), (3, .int y.2)] []) : ∀ y6 : Int32 × Int32, Sim Θ 5 ρ (σ) (bX0_placeOf_6 N σ x1 r6 y6) (0, 0) 6 [(0, .ref (vO (VX g) + 0)), (1, .int x1), (2, .int y6.1), (3, .int y6.2)] [] := by
  intro y6
  have hz := hc.z
  have hr6c : ∀ (z0_ : Int32) (z1_ : Int32), Sim Θ 5 ρ (σ) (r6 (z0_, z1_)) (0, 0) 6 [(0, .ref (vO (VX g) + 0)), (1, .int x1), (2, .int z0_), (3, .int z1_)] [] := fun z0_ z1_ => hr6 (z0_, z1_)
  unfold bX0_placeOf_6
  refine s_iload_n hz dX0_placeOf_6 rfl 2 rfl ?_
  refine s_iload_n hz dX0_placeOf_7 rfl 3 rfl ?_
  refine s_icmp_ge (tgt := 43) hz dX0_placeOf_8 rfl (fun h1 => ?_) (fun h1 => ?_)
  · refine s_iload_n hz dX0_placeOf_43 rfl 2 rfl ?_
    exact s_iret hc dX0_placeOf_44 (Nat.le_of_ble_eq_true rfl) (Nat.le_of_ble_eq_true rfl)
  · refine s_iload_n hz dX0_placeOf_11 rfl 2 rfl ?_
    refine s_iload_n hz dX0_placeOf_12 rfl 3 rfl ?_
    refine s_iadd hz dX0_placeOf_13 ?_
    refine s_iconst (v := (2 : Int32)) hz dX0_placeOf_14 (by decide) ?_
    refine s_idiv hz dX0_placeOf_15 (by decide) ?_
    refine s_nmI (fun v2 => ?_)
    refine s_istore (lv' := [(4, .int v2), (0, .ref (vO (VX g) + 0)), (1, .int x1), (2, .int y6.1), (3, .int y6.2)]) hz dX0_placeOf_16 (Nat.le_of_ble_eq_true rfl) rfl ?_
    refine s_aload_n hz dX0_placeOf_18 rfl 1 rfl ?_
    refine rX_g_X0_67_0 hc dX0_placeOf_19 ?_
    refine s_iload hz dX0_placeOf_22 0 rfl ?_
    refine s_gb (fun h3 => ?_)
    refine rX_ld_62 hc h3 rfl dX0_placeOf_24 ?_
    refine s_iload_n hz dX0_placeOf_25 rfl 2 rfl ?_
    refine s_icmp_ge (tgt := 37) hz dX0_placeOf_26 rfl (fun h4 => ?_) (fun h4 => ?_)
    · refine s_iload hz dX0_placeOf_37 0 rfl ?_
      refine s_istore_n (lv' := [(3, .int v2), (4, .int v2), (0, .ref (vO (VX g) + 0)), (1, .int x1), (2, .int y6.1)]) hz dX0_placeOf_39 rfl (Nat.le_of_ble_eq_true rfl) rfl ?_
      refine s_goto (tgt := 6) hz dX0_placeOf_40 rfl ?_
      exact s_sub [2, 3, 4, 0] rfl (hr6c y6.1 v2)
    · refine s_iload hz dX0_placeOf_29 0 rfl ?_
      refine s_iconst (v := (1 : Int32)) hz dX0_placeOf_31 (by decide) ?_
      refine s_iadd hz dX0_placeOf_32 ?_
      refine s_nmI (fun v5 => ?_)
      refine s_istore_n (lv' := [(2, .int v5), (4, .int v2), (0, .ref (vO (VX g) + 0)), (1, .int x1), (3, .int y6.2)]) hz dX0_placeOf_33 rfl (Nat.le_of_ble_eq_true rfl) rfl ?_
      refine s_goto (tgt := 40) hz dX0_placeOf_34 rfl ?_
      refine s_goto (tgt := 6) hz dX0_placeOf_40 rfl ?_
      exact s_sub [2, 3, 0, 4] rfl (hr6c v5 y6.2)
def fX0_placeOf (N : Nat) (σ : Mem) (x1 : Int32) : Option (Int32) :=
  lp (bX0_placeOf_6 N σ x1) N ((0 : Int32), (494 : Int32))
set_option maxHeartbeats 4000000 in
theorem wfX0_placeOf {Θ : ThT Mem} {g : GeoX} {N : Nat}  {ρ : Int32} (σ : Mem) (x1 : Int32) (hc : Cx Θ (VX g) cX0_placeOf 5 RX0 (rk 1 0 0) (some .int) [] false (oI ρ) σ) : Sim Θ 5 ρ σ (fX0_placeOf N σ x1) (0, 0) 0 [(0, .ref (vO (VX g) + 0)), (1, .int x1)] [] := by
  have hz := hc.z
  unfold fX0_placeOf
  refine s_iconst (v := (0 : Int32)) hz dX0_placeOf_0 (by decide) ?_
  refine s_istore_n (lv' := [(2, .int (0 : Int32)), (0, .ref (vO (VX g) + 0)), (1, .int x1)]) hz dX0_placeOf_1 rfl (Nat.le_of_ble_eq_true rfl) rfl ?_
  refine s_sipush (v := (494 : Int32)) hz dX0_placeOf_2 (by decide) ?_
  refine s_istore_n (lv' := [(3, .int (494 : Int32)), (2, .int (0 : Int32)), (0, .ref (vO (VX g) + 0)), (1, .int x1)]) hz dX0_placeOf_5 rfl (Nat.le_of_ble_eq_true rfl) rfl ?_
  exact s_sub [2, 3, 1, 0] rfl (s_lp (sg := fun y : Int32 × Int32 => σ) (lvs := fun y : Int32 × Int32 => [(0, .ref (vO (VX g) + 0)), (1, .int x1), (2, .int y.1), (3, .int y.2)]) (fun rec hrec => wbX0_placeOf_6 σ hc x1  rec hrec) N ((0 : Int32), (494 : Int32)))
theorem cfX0_placeOf {g : GeoX} {N : Nat}  {σ : Mem} {x1 : Int32} {ρ : Int32} (hF : fX0_placeOf N σ x1 = some ρ) (l : Launch) : Ct (VX g) l yX0_placeOf cX0_placeOf 5 (some .int) (rk 1 0 0) [.ref (vO (VX g) + 0), .int x1] σ (oI ρ) σ :=
  Ct.of (by decide) (Nat.le_of_ble_eq_true rfl) (fun Θ hc ls hl => wfX0_placeOf σ x1 hc hF ls hl)
theorem kX_X0_138 {γ : Type} {Θ : ThT Mem} {g : GeoX} {cc : ByteArray} {nL : Nat} {rm : Room} {ret : Option FieldType} {hs : List (Nat × Nat × Nat × Nat)} {ini : Bool} {O : Outcome} {σ' : Mem} {ρ : γ} {σ : Mem} {F : Option γ} {cs : Nat × Nat} {pc : Nat} {lv : List (Nat × Value)} {st : List Value} (hc : Cx Θ (VX g) cc nL RX0 rm ret hs ini O σ') {σ1 : Mem} {x0 : Int32} {r : Int32} {rmc : Room} (hM : ∀ l : Launch, Ct (VX g) l yX0_isRow cX0_isRow 1 (some .boolean) rmc [.int x0] σ (oI r) σ1) (hR : rmc.frames + 1 ≤ rm.frames ∧ 8 + (1 + 11) + rmc.locals ≤ rm.locals) (hf : cs.1 + rmc.cells ≤ rm.cells ∧ cs.2 + rmc.slots ≤ rm.slots) (hrest : (st.map fun v => v.category).sum ≤ 8) (hd : decode cc pc = .ok (.invokestatic 138, 3)) (kk : Sim Θ nL ρ σ1 F (cs.1 + rmc.cells, cs.2 + rmc.slots) (pc + 3) lv (.int r :: st)) : Sim Θ nL ρ σ F cs pc lv (.int x0 :: st) := s_callS hc (As := [.int x0]) (rest := st) (n := 1) hM (lw_S q274 q275 q62 q276) (by decide +kernel) rfl rfl hrest hR hf hd kk
theorem kX_X0_142 {γ : Type} {Θ : ThT Mem} {g : GeoX} {cc : ByteArray} {nL : Nat} {rm : Room} {ret : Option FieldType} {hs : List (Nat × Nat × Nat × Nat)} {ini : Bool} {O : Outcome} {σ' : Mem} {ρ : γ} {σ : Mem} {F : Option γ} {cs : Nat × Nat} {pc : Nat} {lv : List (Nat × Value)} {st : List Value} (hc : Cx Θ (VX g) cc nL RX0 rm ret hs ini O σ') {σ1 : Mem} {x1 : Int32} {r : Int32} {rmc : Room} (hM : ∀ l : Launch, Ct (VX g) l yX0_placeOf cX0_placeOf 5 (some .int) rmc [.ref (vO (VX g) + 0), .int x1] σ (oI r) σ1) (hR : rmc.frames + 1 ≤ rm.frames ∧ 8 + (5 + 11) + rmc.locals ≤ rm.locals) (hf : cs.1 + rmc.cells ≤ rm.cells ∧ cs.2 + rmc.slots ≤ rm.slots) (hrest : (st.map fun v => v.category).sum ≤ 8) (hd : decode cc pc = .ok (.invokevirtual 142, 3)) (kk : Sim Θ nL ρ σ1 F (cs.1 + rmc.cells, cs.2 + rmc.slots) (pc + 3) lv (.int r :: st)) : Sim Θ nL ρ σ F cs pc lv (.int x1 :: .ref (vO (VX g) + 0) :: st) := s_callVo hc (a := 0) (As := [.int x1]) (rest := st) (n := 1) (ci := 0) (q := (RX0, TX0, 19)) hM (lw_V q347 q349 qs1 q62 q350) (by decide +kernel) rfl (Ob.fix (Nat.le_of_ble_eq_true rfl) rfl) rfl rfl hrest hR hf hd kk
theorem kX_X0_145 {γ : Type} {Θ : ThT Mem} {g : GeoX} {cc : ByteArray} {nL : Nat} {rm : Room} {ret : Option FieldType} {hs : List (Nat × Nat × Nat × Nat)} {ini : Bool} {O : Outcome} {σ' : Mem} {ρ : γ} {σ : Mem} {F : Option γ} {cs : Nat × Nat} {pc : Nat} {lv : List (Nat × Value)} {st : List Value} (hc : Cx Θ (VX g) cc nL RX0 rm ret hs ini O σ') {σ1 : Mem} {x1 : Nat} {r : Int32} {rmc : Room} (hM : ∀ l : Launch, Ct (VX g) l yX0_finds cX0_finds 2 (some .int) rmc [.ref (vO (VX g) + 0), .ref (vO (VX g) + x1)] σ (oI r) σ1) (hR : rmc.frames + 1 ≤ rm.frames ∧ 8 + (2 + 11) + rmc.locals ≤ rm.locals) (hf : cs.1 + rmc.cells ≤ rm.cells ∧ cs.2 + rmc.slots ≤ rm.slots) (hrest : (st.map fun v => v.category).sum ≤ 8) (hd : decode cc pc = .ok (.invokevirtual 145, 3)) (kk : Sim Θ nL ρ σ1 F (cs.1 + rmc.cells, cs.2 + rmc.slots) (pc + 3) lv (.int r :: st)) : Sim Θ nL ρ σ F cs pc lv (.ref (vO (VX g) + x1) :: .ref (vO (VX g) + 0) :: st) := s_callVo hc (a := 0) (As := [.ref (vO (VX g) + x1)]) (rest := st) (n := 1) (ci := 0) (q := (RX0, TX0, 19)) hM (lw_V q351 q353 qs2 q62 q354) (by decide +kernel) rfl (Ob.fix (Nat.le_of_ble_eq_true rfl) rfl) rfl rfl hrest hR hf hd kk
def fX0_place (N : Nat) (σ : Mem) (x1 : Int32) : Option (Int32 × Mem) :=
  (fX0_isRow N σ x1).bind (fun q1 => 
  (fX0_need N σ q1 (0 : Int32)).bind (fun q6 => cT2 q6 (fun v3 σ5 => 
  (fX0_placeOf N σ5 x1).bind (fun q9 => 
  some (q9, σ5))) (fun b4 σ5 => 
  gb (isC σ5 b4 5) (
  (fX0_finds N σ5 b4).bind (fun q11 => 
  some (q11.1, q11.2))))))
set_option maxHeartbeats 4000000 in
theorem wfX0_place {Θ : ThT Mem} {g : GeoX} {N : Nat}  {ρ : Int32 × Mem} (σ : Mem) (x1 : Int32) (hc : Cx Θ (VX g) cX0_place 3 RX0 (rk 5 1 7) (some .int) [(0, 13, 14, 1)] false (oI ρ.1) ρ.2) : Sim Θ 3 ρ σ (fX0_place N σ x1) (0, 0) 0 [(0, .ref (vO (VX g) + 0)), (1, .int x1)] [] := by
  have hz := hc.z
  unfold fX0_place
  refine s_iload_n hz dX0_place_0 rfl 1 rfl ?_
  refine s_bind (fun q1 e2 => ?_)
  refine kX_X0_138 hc (cfX0_isRow e2) ⟨(Nat.le_of_ble_eq_true rfl), (Nat.le_of_ble_eq_true rfl)⟩ ⟨(Nat.le_of_ble_eq_true rfl), (Nat.le_of_ble_eq_true rfl)⟩ (Nat.le_of_ble_eq_true rfl) dX0_place_1 ?_
  refine s_iconst (v := (0 : Int32)) hz dX0_place_4 (by decide) ?_
  refine s_bind (fun q6 e7 => ?_)
  rcases q6 with ⟨v3 | b4, σ5⟩
  · refine kX_X0_119 hc (cfX0_need e7) ⟨(Nat.le_of_ble_eq_true rfl), (Nat.le_of_ble_eq_true rfl)⟩ ⟨(Nat.le_of_ble_eq_true rfl), (Nat.le_of_ble_eq_true rfl)⟩ (Nat.le_of_ble_eq_true rfl) dX0_place_5 (s_c2 ?_)
    refine s_aload_n hz dX0_place_8 rfl 0 rfl ?_
    refine s_iload_n hz dX0_place_9 rfl 1 rfl ?_
    refine s_bind (fun q9 e10 => ?_)
    refine kX_X0_142 hc (cfX0_placeOf e10) ⟨(Nat.le_of_ble_eq_true rfl), (Nat.le_of_ble_eq_true rfl)⟩ ⟨(Nat.le_of_ble_eq_true rfl), (Nat.le_of_ble_eq_true rfl)⟩ (Nat.le_of_ble_eq_true rfl) dX0_place_10 ?_
    exact s_iretM hc dX0_place_13 (Nat.le_of_ble_eq_true rfl) (Nat.le_of_ble_eq_true rfl)
  · refine s_gb (fun h8 => ?_)
    refine kX_X0_119_h hc (cfX0_need e7) ⟨(Nat.le_of_ble_eq_true rfl), (Nat.le_of_ble_eq_true rfl)⟩ ⟨(Nat.le_of_ble_eq_true rfl), (Nat.le_of_ble_eq_true rfl)⟩ (Nat.le_of_ble_eq_true rfl) dX0_place_5 (i := 0) rfl rfl (by decide) (by decide) (q := (RX6, TX6, 7)) rfl q273 (isC_ob h8) ?_
    refine s_astore_n (lv' := [(2, .ref (vO (VX g) + b4)), (0, .ref (vO (VX g) + 0)), (1, .int x1)]) hz dX0_place_14 rfl (Nat.le_of_ble_eq_true rfl) rfl ?_
    refine s_aload_n hz dX0_place_15 rfl 1 rfl ?_
    refine s_aload_n hz dX0_place_16 rfl 0 rfl ?_
    refine s_bind (fun q11 e12 => ?_)
    refine kX_X0_145 hc (cfX0_finds e12) ⟨(Nat.le_of_ble_eq_true rfl), (Nat.le_of_ble_eq_true rfl)⟩ ⟨(Nat.le_of_ble_eq_true rfl), (Nat.le_of_ble_eq_true rfl)⟩ (Nat.le_of_ble_eq_true rfl) dX0_place_17 ?_
    exact s_iretM hc dX0_place_20 (Nat.le_of_ble_eq_true rfl) (Nat.le_of_ble_eq_true rfl)
theorem cfX0_place {g : GeoX} {N : Nat}  {σ : Mem} {x1 : Int32} {ρ : Int32 × Mem} (hF : fX0_place N σ x1 = some ρ) (l : Launch) : CtW (wsW_ yX0_place cX0_place 3 (some .int) [(0, 13, 14, 1)]) (VX g) l yX0_place (rk 5 1 7) [.ref (vO (VX g) + 0), .int x1] σ (oI ρ.1) ρ.2 :=
  CtW.ofH (by decide) (Nat.le_of_ble_eq_true rfl) (fun Θ hc ls hl => wfX0_place σ x1 hc hF ls hl)
theorem kX_X0_149 {γ : Type} {Θ : ThT Mem} {g : GeoX} {cc : ByteArray} {nL : Nat} {rm : Room} {ret : Option FieldType} {hs : List (Nat × Nat × Nat × Nat)} {ini : Bool} {O : Outcome} {σ' : Mem} {ρ : γ} {σ : Mem} {F : Option γ} {cs : Nat × Nat} {pc : Nat} {lv : List (Nat × Value)} {st : List Value} (hc : Cx Θ (VX g) cc nL RX0 rm ret hs ini O σ') {σ1 : Mem} {x0 : Int32} {r : Int32} {rmc : Room} (hM : ∀ l : Launch, Ct (VX g) l yX0_isPlace cX0_isPlace 1 (some .boolean) rmc [.int x0] σ (oI r) σ1) (hR : rmc.frames + 1 ≤ rm.frames ∧ 8 + (1 + 11) + rmc.locals ≤ rm.locals) (hf : cs.1 + rmc.cells ≤ rm.cells ∧ cs.2 + rmc.slots ≤ rm.slots) (hrest : (st.map fun v => v.category).sum ≤ 8) (hd : decode cc pc = .ok (.invokestatic 149, 3)) (kk : Sim Θ nL ρ σ1 F (cs.1 + rmc.cells, cs.2 + rmc.slots) (pc + 3) lv (.int r :: st)) : Sim Θ nL ρ σ F cs pc lv (.int x0 :: st) := s_callS hc (As := [.int x0]) (rest := st) (n := 1) hM (lw_S q364 q365 q62 q366) (by decide +kernel) rfl rfl hrest hR hf hd kk
def fX0_row (N : Nat) (σ : Mem) (x1 : Int32) : Option (Int32 × Mem) :=
  (fX0_isPlace N σ x1).bind (fun q1 => 
  (fX0_need N σ q1 (0 : Int32)).bind (fun q6 => cT2 q6 (fun v3 σ5 => 
  gb (inb x1 495) (
  some ((gI σ5 62 (ix x1)), σ5))) (fun b4 σ5 => 
  gb (isC σ5 b4 5) (
  (fX0_finds N σ5 b4).bind (fun q10 => 
  some (q10.1, q10.2))))))
set_option maxHeartbeats 4000000 in
theorem wfX0_row {Θ : ThT Mem} {g : GeoX} {N : Nat}  {ρ : Int32 × Mem} (σ : Mem) (x1 : Int32) (hc : Cx Θ (VX g) cX0_row 3 RX0 (rk 5 1 7) (some .int) [(0, 14, 15, 1)] false (oI ρ.1) ρ.2) : Sim Θ 3 ρ σ (fX0_row N σ x1) (0, 0) 0 [(0, .ref (vO (VX g) + 0)), (1, .int x1)] [] := by
  have hz := hc.z
  unfold fX0_row
  refine s_iload_n hz dX0_row_0 rfl 1 rfl ?_
  refine s_bind (fun q1 e2 => ?_)
  refine kX_X0_149 hc (cfX0_isPlace e2) ⟨(Nat.le_of_ble_eq_true rfl), (Nat.le_of_ble_eq_true rfl)⟩ ⟨(Nat.le_of_ble_eq_true rfl), (Nat.le_of_ble_eq_true rfl)⟩ (Nat.le_of_ble_eq_true rfl) dX0_row_1 ?_
  refine s_iconst (v := (0 : Int32)) hz dX0_row_4 (by decide) ?_
  refine s_bind (fun q6 e7 => ?_)
  rcases q6 with ⟨v3 | b4, σ5⟩
  · refine kX_X0_119 hc (cfX0_need e7) ⟨(Nat.le_of_ble_eq_true rfl), (Nat.le_of_ble_eq_true rfl)⟩ ⟨(Nat.le_of_ble_eq_true rfl), (Nat.le_of_ble_eq_true rfl)⟩ (Nat.le_of_ble_eq_true rfl) dX0_row_5 (s_c2 ?_)
    refine s_aload_n hz dX0_row_8 rfl 0 rfl ?_
    refine rX_g_X0_67_0 hc dX0_row_9 ?_
    refine s_iload_n hz dX0_row_12 rfl 1 rfl ?_
    refine s_gb (fun h9 => ?_)
    refine rX_ld_62 hc h9 rfl dX0_row_13 ?_
    exact s_iretM hc dX0_row_14 (Nat.le_of_ble_eq_true rfl) (Nat.le_of_ble_eq_true rfl)
  · refine s_gb (fun h8 => ?_)
    refine kX_X0_119_h hc (cfX0_need e7) ⟨(Nat.le_of_ble_eq_true rfl), (Nat.le_of_ble_eq_true rfl)⟩ ⟨(Nat.le_of_ble_eq_true rfl), (Nat.le_of_ble_eq_true rfl)⟩ (Nat.le_of_ble_eq_true rfl) dX0_row_5 (i := 0) rfl rfl (by decide) (by decide) (q := (RX6, TX6, 7)) rfl q273 (isC_ob h8) ?_
    refine s_astore_n (lv' := [(2, .ref (vO (VX g) + b4)), (0, .ref (vO (VX g) + 0)), (1, .int x1)]) hz dX0_row_15 rfl (Nat.le_of_ble_eq_true rfl) rfl ?_
    refine s_aload_n hz dX0_row_16 rfl 1 rfl ?_
    refine s_aload_n hz dX0_row_17 rfl 0 rfl ?_
    refine s_bind (fun q10 e11 => ?_)
    refine kX_X0_145 hc (cfX0_finds e11) ⟨(Nat.le_of_ble_eq_true rfl), (Nat.le_of_ble_eq_true rfl)⟩ ⟨(Nat.le_of_ble_eq_true rfl), (Nat.le_of_ble_eq_true rfl)⟩ (Nat.le_of_ble_eq_true rfl) dX0_row_18 ?_
    exact s_iretM hc dX0_row_21 (Nat.le_of_ble_eq_true rfl) (Nat.le_of_ble_eq_true rfl)
theorem cfX0_row {g : GeoX} {N : Nat}  {σ : Mem} {x1 : Int32} {ρ : Int32 × Mem} (hF : fX0_row N σ x1 = some ρ) (l : Launch) : CtW (wsW_ yX0_row cX0_row 3 (some .int) [(0, 14, 15, 1)]) (VX g) l yX0_row (rk 5 1 7) [.ref (vO (VX g) + 0), .int x1] σ (oI ρ.1) ρ.2 :=
  CtW.ofH (by decide) (Nat.le_of_ble_eq_true rfl) (fun Θ hc ls hl => wfX0_row σ x1 hc hF ls hl)
theorem rX_g_X0_156_1 {γ : Type} {Θ : ThT Mem} {g : GeoX} {cc : ByteArray} {nL : Nat} {rm : Room} {ret : Option FieldType} {hs : List (Nat × Nat × Nat × Nat)} {ini : Bool} {O : Outcome} {σ' : Mem} {ρ : γ} {σ : Mem} {F : Option γ} {cs : Nat × Nat} {pc : Nat} {lv : List (Nat × Value)} {st : List Value} (hc : Cx Θ (VX g) cc nL RX0 rm ret hs ini O σ') (hd : decode cc pc = .ok (.getfield 156, 3)) (kk : Sim Θ nL ρ σ F cs (pc + 3) lv (.ref (vO (VX g) + 3) :: st)) : Sim Θ nL ρ σ F cs pc lv (.ref (vO (VX g) + 1) :: st) := s_get hc (C := RX1) (T := TX1) (N := 10) (ci := 1) (k := 1) in_X1 (Nat.le_of_ble_eq_true rfl) rfl rfl 5 (Nat.le_of_ble_eq_true rfl) q133 (fun _ _ _ _ h => h) rfl hd kk
theorem kX_X0_158 {γ : Type} {Θ : ThT Mem} {g : GeoX} {cc : ByteArray} {nL : Nat} {rm : Room} {ret : Option FieldType} {hs : List (Nat × Nat × Nat × Nat)} {ini : Bool} {O : Outcome} {σ' : Mem} {ρ : γ} {σ : Mem} {F : Option γ} {cs : Nat × Nat} {pc : Nat} {lv : List (Nat × Value)} {st : List Value} (hc : Cx Θ (VX g) cc nL RX0 rm ret hs ini O σ') {σ1 : Mem} {x0 : Int32} {x1 : Int32} {r : Option Nat} {rmc : Room} (hM : ∀ l : Launch, Ct (VX g) l yX0_groupOf cX0_groupOf 2 (some (.object "SlipWeeks$Cross")) rmc [.int x0, .int x1] σ (oR (vO (VX g)) r) σ1) (hR : rmc.frames + 1 ≤ rm.frames ∧ 8 + (2 + 11) + rmc.locals ≤ rm.locals) (hf : cs.1 + rmc.cells ≤ rm.cells ∧ cs.2 + rmc.slots ≤ rm.slots) (hrest : (st.map fun v => v.category).sum ≤ 8) (hd : decode cc pc = .ok (.invokestatic 158, 3)) (kk : Sim Θ nL ρ σ1 F (cs.1 + rmc.cells, cs.2 + rmc.slots) (pc + 3) lv (va_rf (r.map (vO (VX g) + ·)) :: st)) : Sim Θ nL ρ σ F cs pc lv (.int x1 :: .int x0 :: st) := s_callS hc (As := [.int x0, .int x1]) (rest := st) (n := 2) hM (lw_S q374 q375 q62 q376) (by decide +kernel) rfl rfl hrest hR hf hd kk
theorem rX_pvn_X0_162_4 {γ : Type} {Θ : ThT Mem} {g : GeoX} {cc : ByteArray} {nL : Nat} {rm : Room} {ret : Option FieldType} {hs : List (Nat × Nat × Nat × Nat)} {ini : Bool} {O : Outcome} {σ' : Mem} {ρ : γ} {σ : Mem} {cs : Nat × Nat} {pc : Nat} {lv : List (Nat × Value)} {st : List Value} (hc : Cx Θ (VX g) cc nL RX0 rm ret hs ini O σ') {K : Mem → Option γ} {j : Nat} (hj : j < 12) (hd : decode cc pc = .ok (.putfield 162, 3)) (kk : ∀ σ1 : Mem, Sim Θ nL ρ σ1 (K σ1) cs (pc + 3) lv st) : Sim Θ nL ρ σ (lt_ (pR σ (4 + j) 0 none) K) cs pc lv (.null :: .ref (vO (VX g) + (4 + j)) :: st) := s_put hc (C := RX2) (T := TX2) (N := 1) (ci := 2) (k := (4 + j)) (v := .null) (σ1 := pR σ (4 + j) 0 none) in_X2 tyX2_ok nmX2 (YXk_4 g j hj) (YX_4 g.1 _ _ _ j hj) rfl 0 (Nat.le_of_ble_eq_true rfl) q113 (fun _ _ _ _ h => h) rfl (ty := .object "java/lang/Object") (by decide +kernel) rfl rfl (Nat.zero_lt_one) (by first | rfl | (show YX g.1 _ _ _ _ = _; rw [YX_4 g.1 _ _ _ j hj]; simp [pR, va_rf] <;> rfl)) (pR_ne σ (4 + j) 0 none) rfl hd (kk _)
theorem rX_p_X0_131_1 {γ : Type} {Θ : ThT Mem} {g : GeoX} {cc : ByteArray} {nL : Nat} {rm : Room} {ret : Option FieldType} {hs : List (Nat × Nat × Nat × Nat)} {ini : Bool} {O : Outcome} {σ' : Mem} {ρ : γ} {σ : Mem} {cs : Nat × Nat} {pc : Nat} {lv : List (Nat × Value)} {st : List Value} (hc : Cx Θ (VX g) cc nL RX0 rm ret hs ini O σ') {K : Mem → Option γ} {x : Int32} (hd : decode cc pc = .ok (.putfield 131, 3)) (kk : ∀ σ1 : Mem, Sim Θ nL ρ σ1 (K σ1) cs (pc + 3) lv st) : Sim Θ nL ρ σ (lt_ (pI σ 1 0 x) K) cs pc lv (.int x :: .ref (vO (VX g) + 1) :: st) := s_put hc (C := RX1) (T := TX1) (N := 10) (ci := 1) (k := 1) (σ1 := pI σ 1 0 x) in_X1 tyX1_ok nmX1 (Nat.le_of_ble_eq_true rfl) rfl rfl 0 (Nat.le_of_ble_eq_true rfl) q123 (fun _ _ _ _ h => h) rfl (ty := .int) (by decide +kernel) rfl rfl (Nat.le_of_ble_eq_true rfl) rfl (pI_ne σ 1 0 x) rfl hd (kk _)
theorem rX_pvr_X0_162_4 {γ : Type} {Θ : ThT Mem} {g : GeoX} {cc : ByteArray} {nL : Nat} {rm : Room} {ret : Option FieldType} {hs : List (Nat × Nat × Nat × Nat)} {ini : Bool} {O : Outcome} {σ' : Mem} {ρ : γ} {σ : Mem} {cs : Nat × Nat} {pc : Nat} {lv : List (Nat × Value)} {st : List Value} (hc : Cx Θ (VX g) cc nL RX0 rm ret hs ini O σ') {K : Mem → Option γ} {a : Nat} {j : Nat} (hj : j < 12) (hd : decode cc pc = .ok (.putfield 162, 3)) (kk : ∀ σ1 : Mem, Sim Θ nL ρ σ1 (K σ1) cs (pc + 3) lv st) : Sim Θ nL ρ σ (lt_ (pR σ (4 + j) 0 (some a)) K) cs pc lv (.ref (vO (VX g) + a) :: .ref (vO (VX g) + (4 + j)) :: st) := s_put hc (C := RX2) (T := TX2) (N := 1) (ci := 2) (k := (4 + j)) (v := .ref (vO (VX g) + a)) (σ1 := pR σ (4 + j) 0 (some a)) in_X2 tyX2_ok nmX2 (YXk_4 g j hj) (YX_4 g.1 _ _ _ j hj) rfl 0 (Nat.le_of_ble_eq_true rfl) q113 (fun _ _ _ _ h => h) rfl (ty := .object "java/lang/Object") (by decide +kernel) rfl rfl (Nat.zero_lt_one) (by first | rfl | (show YX g.1 _ _ _ _ = _; rw [YX_4 g.1 _ _ _ j hj]; simp [pR, va_rf] <;> rfl)) (pR_ne σ (4 + j) 0 (some a)) rfl hd (kk _)
def jX0_people_29 (N : Nat) (σ : Mem) (x1 : Int32) (x2 : Int32) (t0 : Int32)  : Option (Int32 × Mem) :=
  (fX0_need N σ t0 (0 : Int32)).bind (fun q7 => cT2 q7 (fun v4 σ6 => 
  (fX0_need N σ6 (if (12 : Int32) ≤ (gI σ6 1 0) then (0 : Int32) else (1 : Int32)) (1 : Int32)).bind (fun q13 => cT2 q13 (fun v10 σ12 => 
  gb (inb (gI σ12 1 0) 12) (
  (fX0_groupOf N σ12 x1 x2).bind (fun q17 => 
  mO q17.1
  (lt_ (pR q17.2 (4 + ix (gI σ12 1 0)) 0 (none)) (fun σ20 => 
  lt_ (pI σ20 1 0 ((gI σ20 1 0) + (1 : Int32))) (fun σ21 => 
  lt_ (pI σ21 0 10 (0 : Int32)) (fun σ22 => 
  some (((gI σ22 1 0) - (1 : Int32)), σ22))))) (fun a19 => 
  lt_ (pR q17.2 (4 + ix (gI σ12 1 0)) 0 (some a19)) (fun σ23 => 
  lt_ (pI σ23 1 0 ((gI σ23 1 0) + (1 : Int32))) (fun σ24 => 
  lt_ (pI σ24 0 10 (0 : Int32)) (fun σ25 => 
  some (((gI σ25 1 0) - (1 : Int32)), σ25)))))))) (fun b11 σ12 => 
  gb (isC σ12 b11 5) (
  (fX0_finds N σ12 b11).bind (fun q26 => 
  some (q26.1, q26.2)))))) (fun b5 σ6 => 
  gb (isC σ6 b5 5) (
  (fX0_finds N σ6 b5).bind (fun q30 => 
  some (q30.1, q30.2)))))
set_option maxHeartbeats 4000000 in
theorem wjX0_people_29 {Θ : ThT Mem} {g : GeoX} {N : Nat}  {ρ : Int32 × Mem} (σ : Mem) (hc : Cx Θ (VX g) cX0_people 4 RX0 (rk 7 3 15) (some .int) [(0, 104, 105, 1)] false (oI ρ.1) ρ.2) (x1 : Int32) (x2 : Int32) (t0 : Int32)  : Sim Θ 4 ρ σ (jX0_people_29 N σ x1 x2 t0 ) (0, 0) 29 [(0, .ref (vO (VX g) + 0)), (1, .int x1), (2, .int x2)] [.int t0] := by
  have hz := hc.z
  unfold jX0_people_29
  refine s_iconst (v := (0 : Int32)) hz dX0_people_29 (by decide) ?_
  refine s_bind (fun q7 e8 => ?_)
  rcases q7 with ⟨v4 | b5, σ6⟩
  · refine kX_X0_119 hc (cfX0_need e8) ⟨(Nat.le_of_ble_eq_true rfl), (Nat.le_of_ble_eq_true rfl)⟩ ⟨(Nat.le_of_ble_eq_true rfl), (Nat.le_of_ble_eq_true rfl)⟩ (Nat.le_of_ble_eq_true rfl) dX0_people_30 (s_c2 ?_)
    refine s_aload_n hz dX0_people_33 rfl 0 rfl ?_
    refine rX_g_X0_42_0 hc dX0_people_34 ?_
    refine rX_g_X0_131_1 hc dX0_people_37 ?_
    refine s_bipush (v := (12 : Int32)) hz dX0_people_40 (by decide) ?_
    refine s_dia (J := 50) (v := .int (if (12 : Int32) ≤ (gI σ6 1 0) then (0 : Int32) else (1 : Int32))) (st := []) (fun _ hj28 => ?_) ?_
    · refine s_icmp_ge_ (tgt := 49) hz dX0_people_42 rfl (fun h29 => ?_) (fun h29 => ?_)
      · refine s_iconst (v := (0 : Int32)) hz dX0_people_49 (by decide) ?_
        rw [if_pos h29] at hj28
        exact hj28
      · refine s_iconst (v := (1 : Int32)) hz dX0_people_45 (by decide) ?_
        refine s_goto (tgt := 50) hz dX0_people_46 rfl ?_
        rw [if_neg h29] at hj28
        exact hj28
    refine s_iconst (v := (1 : Int32)) hz dX0_people_50 (by decide) ?_
    refine s_bind (fun q13 e14 => ?_)
    rcases q13 with ⟨v10 | b11, σ12⟩
    · refine kX_X0_119 hc (cfX0_need e14) ⟨(Nat.le_of_ble_eq_true rfl), (Nat.le_of_ble_eq_true rfl)⟩ ⟨(Nat.le_of_ble_eq_true rfl), (Nat.le_of_ble_eq_true rfl)⟩ (Nat.le_of_ble_eq_true rfl) dX0_people_51 (s_c2 ?_)
      refine s_aload_n hz dX0_people_54 rfl 0 rfl ?_
      refine rX_g_X0_42_0 hc dX0_people_55 ?_
      refine rX_g_X0_156_1 hc dX0_people_58 ?_
      refine s_aload_n hz dX0_people_61 rfl 0 rfl ?_
      refine rX_g_X0_42_0 hc dX0_people_62 ?_
      refine rX_g_X0_131_1 hc dX0_people_65 ?_
      refine s_gb (fun h16 => ?_)
      refine rX_aa_3 hc h16 rfl dX0_people_68 ?_
      refine s_iload_n hz dX0_people_69 rfl 1 rfl ?_
      refine s_iload_n hz dX0_people_70 rfl 2 rfl ?_
      refine s_bind (fun q17 e18 => ?_)
      refine kX_X0_158 hc (cfX0_groupOf e18) ⟨(Nat.le_of_ble_eq_true rfl), (Nat.le_of_ble_eq_true rfl)⟩ ⟨(Nat.le_of_ble_eq_true rfl), (Nat.le_of_ble_eq_true rfl)⟩ (Nat.le_of_ble_eq_true rfl) dX0_people_71 ?_
      refine s_opt (fun _ => ?_) (fun a19 _ => ?_)
      · refine rX_pvn_X0_162_4 hc (inb_lt h16) dX0_people_74 (fun σ20 => ?_)
        refine s_aload_n hz dX0_people_77 rfl 0 rfl ?_
        refine rX_g_X0_42_0 hc dX0_people_78 ?_
        refine s_dup hz dX0_people_81 rfl ?_
        refine rX_g_X0_131_1 hc dX0_people_82 ?_
        refine s_iconst (v := (1 : Int32)) hz dX0_people_85 (by decide) ?_
        refine s_iadd hz dX0_people_86 ?_
        refine rX_p_X0_131_1 hc dX0_people_87 (fun σ21 => ?_)
        refine s_aload_n hz dX0_people_90 rfl 0 rfl ?_
        refine s_iconst (v := (0 : Int32)) hz dX0_people_91 (by decide) ?_
        refine rX_p_X0_166_0 hc rfl rfl dX0_people_92 (fun σ22 => ?_)
        refine s_aload_n hz dX0_people_95 rfl 0 rfl ?_
        refine rX_g_X0_42_0 hc dX0_people_96 ?_
        refine rX_g_X0_131_1 hc dX0_people_99 ?_
        refine s_iconst (v := (1 : Int32)) hz dX0_people_102 (by decide) ?_
        refine s_isub hz dX0_people_103 ?_
        exact s_iretM hc dX0_people_104 (Nat.le_of_ble_eq_true rfl) (Nat.le_of_ble_eq_true rfl)
      · refine rX_pvr_X0_162_4 hc (inb_lt h16) dX0_people_74 (fun σ23 => ?_)
        refine s_aload_n hz dX0_people_77 rfl 0 rfl ?_
        refine rX_g_X0_42_0 hc dX0_people_78 ?_
        refine s_dup hz dX0_people_81 rfl ?_
        refine rX_g_X0_131_1 hc dX0_people_82 ?_
        refine s_iconst (v := (1 : Int32)) hz dX0_people_85 (by decide) ?_
        refine s_iadd hz dX0_people_86 ?_
        refine rX_p_X0_131_1 hc dX0_people_87 (fun σ24 => ?_)
        refine s_aload_n hz dX0_people_90 rfl 0 rfl ?_
        refine s_iconst (v := (0 : Int32)) hz dX0_people_91 (by decide) ?_
        refine rX_p_X0_166_0 hc rfl rfl dX0_people_92 (fun σ25 => ?_)
        refine s_aload_n hz dX0_people_95 rfl 0 rfl ?_
        refine rX_g_X0_42_0 hc dX0_people_96 ?_
        refine rX_g_X0_131_1 hc dX0_people_99 ?_
        refine s_iconst (v := (1 : Int32)) hz dX0_people_102 (by decide) ?_
        refine s_isub hz dX0_people_103 ?_
        exact s_iretM hc dX0_people_104 (Nat.le_of_ble_eq_true rfl) (Nat.le_of_ble_eq_true rfl)
    · refine s_gb (fun h15 => ?_)
      refine kX_X0_119_h hc (cfX0_need e14) ⟨(Nat.le_of_ble_eq_true rfl), (Nat.le_of_ble_eq_true rfl)⟩ ⟨(Nat.le_of_ble_eq_true rfl), (Nat.le_of_ble_eq_true rfl)⟩ (Nat.le_of_ble_eq_true rfl) dX0_people_51 (i := 0) rfl rfl (by decide) (by decide) (q := (RX6, TX6, 7)) rfl q273 (isC_ob h15) ?_
      refine s_astore_n (lv' := [(3, .ref (vO (VX g) + b11)), (0, .ref (vO (VX g) + 0)), (1, .int x1), (2, .int x2)]) hz dX0_people_105 rfl (Nat.le_of_ble_eq_true rfl) rfl ?_
      refine s_aload_n hz dX0_people_106 rfl 1 rfl ?_
      refine s_aload_n hz dX0_people_107 rfl 0 rfl ?_
      refine s_bind (fun q26 e27 => ?_)
      refine kX_X0_145 hc (cfX0_finds e27) ⟨(Nat.le_of_ble_eq_true rfl), (Nat.le_of_ble_eq_true rfl)⟩ ⟨(Nat.le_of_ble_eq_true rfl), (Nat.le_of_ble_eq_true rfl)⟩ (Nat.le_of_ble_eq_true rfl) dX0_people_108 ?_
      exact s_iretM hc dX0_people_111 (Nat.le_of_ble_eq_true rfl) (Nat.le_of_ble_eq_true rfl)
  · refine s_gb (fun h9 => ?_)
    refine kX_X0_119_h hc (cfX0_need e8) ⟨(Nat.le_of_ble_eq_true rfl), (Nat.le_of_ble_eq_true rfl)⟩ ⟨(Nat.le_of_ble_eq_true rfl), (Nat.le_of_ble_eq_true rfl)⟩ (Nat.le_of_ble_eq_true rfl) dX0_people_30 (i := 0) rfl rfl (by decide) (by decide) (q := (RX6, TX6, 7)) rfl q273 (isC_ob h9) ?_
    refine s_astore_n (lv' := [(3, .ref (vO (VX g) + b5)), (0, .ref (vO (VX g) + 0)), (1, .int x1), (2, .int x2)]) hz dX0_people_105 rfl (Nat.le_of_ble_eq_true rfl) rfl ?_
    refine s_aload_n hz dX0_people_106 rfl 1 rfl ?_
    refine s_aload_n hz dX0_people_107 rfl 0 rfl ?_
    refine s_bind (fun q30 e31 => ?_)
    refine kX_X0_145 hc (cfX0_finds e31) ⟨(Nat.le_of_ble_eq_true rfl), (Nat.le_of_ble_eq_true rfl)⟩ ⟨(Nat.le_of_ble_eq_true rfl), (Nat.le_of_ble_eq_true rfl)⟩ (Nat.le_of_ble_eq_true rfl) dX0_people_108 ?_
    exact s_iretM hc dX0_people_111 (Nat.le_of_ble_eq_true rfl) (Nat.le_of_ble_eq_true rfl)
def fX0_people (N : Nat) (σ : Mem) (x1 : Int32) (x2 : Int32) : Option (Int32 × Mem) :=
  (fX0_in N σ ((x1).toInt64) (0 : Int64) (7 : Int64)).bind (fun q1 => 
  if q1 = (0 : Int32) then
  (jX0_people_29 N σ x1 x2 (0 : Int32))
  else ((fX0_in N σ ((x2).toInt64) (0 : Int64) (99999 : Int64)).bind (fun q32 => 
  (fX0_need N σ (if q32 = (0 : Int32) then (0 : Int32) else (1 : Int32)) (0 : Int32)).bind (fun q37 => cT2 q37 (fun v34 σ36 => 
  (fX0_need N σ36 (if (12 : Int32) ≤ (gI σ36 1 0) then (0 : Int32) else (1 : Int32)) (1 : Int32)).bind (fun q43 => cT2 q43 (fun v40 σ42 => 
  gb (inb (gI σ42 1 0) 12) (
  (fX0_groupOf N σ42 x1 x2).bind (fun q47 => 
  mO q47.1
  (lt_ (pR q47.2 (4 + ix (gI σ42 1 0)) 0 (none)) (fun σ50 => 
  lt_ (pI σ50 1 0 ((gI σ50 1 0) + (1 : Int32))) (fun σ51 => 
  lt_ (pI σ51 0 10 (0 : Int32)) (fun σ52 => 
  some (((gI σ52 1 0) - (1 : Int32)), σ52))))) (fun a49 => 
  lt_ (pR q47.2 (4 + ix (gI σ42 1 0)) 0 (some a49)) (fun σ53 => 
  lt_ (pI σ53 1 0 ((gI σ53 1 0) + (1 : Int32))) (fun σ54 => 
  lt_ (pI σ54 0 10 (0 : Int32)) (fun σ55 => 
  some (((gI σ55 1 0) - (1 : Int32)), σ55)))))))) (fun b41 σ42 => 
  gb (isC σ42 b41 5) (
  (fX0_finds N σ42 b41).bind (fun q56 => 
  some (q56.1, q56.2)))))) (fun b35 σ36 => 
  gb (isC σ36 b35 5) (
  (fX0_finds N σ36 b35).bind (fun q60 => 
  some (q60.1, q60.2))))))))
set_option maxHeartbeats 4000000 in
theorem wfX0_people {Θ : ThT Mem} {g : GeoX} {N : Nat}  {ρ : Int32 × Mem} (σ : Mem) (x1 : Int32) (x2 : Int32) (hc : Cx Θ (VX g) cX0_people 4 RX0 (rk 7 3 15) (some .int) [(0, 104, 105, 1)] false (oI ρ.1) ρ.2) : Sim Θ 4 ρ σ (fX0_people N σ x1 x2) (0, 0) 0 [(0, .ref (vO (VX g) + 0)), (1, .int x1), (2, .int x2)] [] := by
  have hz := hc.z
  unfold fX0_people
  refine s_iload_n hz dX0_people_0 rfl 1 rfl ?_
  refine s_i2l hz dX0_people_1 ?_
  refine s_lconst (v := (0 : Int64)) hz dX0_people_2 (by decide) ?_
  refine s_ldc2 hz dX0_people_3 q372 ?_
  refine s_bind (fun q1 e2 => ?_)
  refine kX_X0_125 hc (cfX0_in e2) ⟨(Nat.le_of_ble_eq_true rfl), (Nat.le_of_ble_eq_true rfl)⟩ ⟨(Nat.le_of_ble_eq_true rfl), (Nat.le_of_ble_eq_true rfl)⟩ (Nat.le_of_ble_eq_true rfl) dX0_people_6 ?_
  refine s_if_eq (tgt := 28) hz dX0_people_9 rfl (fun h3 => ?_) (fun h3 => ?_)
  · refine s_iconst (v := (0 : Int32)) hz dX0_people_28 (by decide) ?_
    exact s_sub [0, 1, 2] rfl (wjX0_people_29 σ hc x1 x2 (0 : Int32) )
  · refine s_iload_n hz dX0_people_12 rfl 2 rfl ?_
    refine s_i2l hz dX0_people_13 ?_
    refine s_lconst (v := (0 : Int64)) hz dX0_people_14 (by decide) ?_
    refine s_ldc2 hz dX0_people_15 q373 ?_
    refine s_bind (fun q32 e33 => ?_)
    refine kX_X0_125 hc (cfX0_in e33) ⟨(Nat.le_of_ble_eq_true rfl), (Nat.le_of_ble_eq_true rfl)⟩ ⟨(Nat.le_of_ble_eq_true rfl), (Nat.le_of_ble_eq_true rfl)⟩ (Nat.le_of_ble_eq_true rfl) dX0_people_18 ?_
    refine s_dia (J := 29) (v := .int (if q32 = (0 : Int32) then (0 : Int32) else (1 : Int32))) (st := []) (fun _ hj62 => ?_) ?_
    · refine s_if_eq_ (tgt := 28) hz dX0_people_21 rfl (fun h63 => ?_) (fun h63 => ?_)
      · refine s_iconst (v := (0 : Int32)) hz dX0_people_28 (by decide) ?_
        rw [if_pos h63] at hj62
        exact hj62
      · refine s_iconst (v := (1 : Int32)) hz dX0_people_24 (by decide) ?_
        refine s_goto (tgt := 29) hz dX0_people_25 rfl ?_
        rw [if_neg h63] at hj62
        exact hj62
    refine s_iconst (v := (0 : Int32)) hz dX0_people_29 (by decide) ?_
    refine s_bind (fun q37 e38 => ?_)
    rcases q37 with ⟨v34 | b35, σ36⟩
    · refine kX_X0_119 hc (cfX0_need e38) ⟨(Nat.le_of_ble_eq_true rfl), (Nat.le_of_ble_eq_true rfl)⟩ ⟨(Nat.le_of_ble_eq_true rfl), (Nat.le_of_ble_eq_true rfl)⟩ (Nat.le_of_ble_eq_true rfl) dX0_people_30 (s_c2 ?_)
      refine s_aload_n hz dX0_people_33 rfl 0 rfl ?_
      refine rX_g_X0_42_0 hc dX0_people_34 ?_
      refine rX_g_X0_131_1 hc dX0_people_37 ?_
      refine s_bipush (v := (12 : Int32)) hz dX0_people_40 (by decide) ?_
      refine s_dia (J := 50) (v := .int (if (12 : Int32) ≤ (gI σ36 1 0) then (0 : Int32) else (1 : Int32))) (st := []) (fun _ hj58 => ?_) ?_
      · refine s_icmp_ge_ (tgt := 49) hz dX0_people_42 rfl (fun h59 => ?_) (fun h59 => ?_)
        · refine s_iconst (v := (0 : Int32)) hz dX0_people_49 (by decide) ?_
          rw [if_pos h59] at hj58
          exact hj58
        · refine s_iconst (v := (1 : Int32)) hz dX0_people_45 (by decide) ?_
          refine s_goto (tgt := 50) hz dX0_people_46 rfl ?_
          rw [if_neg h59] at hj58
          exact hj58
      refine s_iconst (v := (1 : Int32)) hz dX0_people_50 (by decide) ?_
      refine s_bind (fun q43 e44 => ?_)
      rcases q43 with ⟨v40 | b41, σ42⟩
      · refine kX_X0_119 hc (cfX0_need e44) ⟨(Nat.le_of_ble_eq_true rfl), (Nat.le_of_ble_eq_true rfl)⟩ ⟨(Nat.le_of_ble_eq_true rfl), (Nat.le_of_ble_eq_true rfl)⟩ (Nat.le_of_ble_eq_true rfl) dX0_people_51 (s_c2 ?_)
        refine s_aload_n hz dX0_people_54 rfl 0 rfl ?_
        refine rX_g_X0_42_0 hc dX0_people_55 ?_
        refine rX_g_X0_156_1 hc dX0_people_58 ?_
        refine s_aload_n hz dX0_people_61 rfl 0 rfl ?_
        refine rX_g_X0_42_0 hc dX0_people_62 ?_
        refine rX_g_X0_131_1 hc dX0_people_65 ?_
        refine s_gb (fun h46 => ?_)
        refine rX_aa_3 hc h46 rfl dX0_people_68 ?_
        refine s_iload_n hz dX0_people_69 rfl 1 rfl ?_
        refine s_iload_n hz dX0_people_70 rfl 2 rfl ?_
        refine s_bind (fun q47 e48 => ?_)
        refine kX_X0_158 hc (cfX0_groupOf e48) ⟨(Nat.le_of_ble_eq_true rfl), (Nat.le_of_ble_eq_true rfl)⟩ ⟨(Nat.le_of_ble_eq_true rfl), (Nat.le_of_ble_eq_true rfl)⟩ (Nat.le_of_ble_eq_true rfl) dX0_people_71 ?_
        refine s_opt (fun _ => ?_) (fun a49 _ => ?_)
        · refine rX_pvn_X0_162_4 hc (inb_lt h46) dX0_people_74 (fun σ50 => ?_)
          refine s_aload_n hz dX0_people_77 rfl 0 rfl ?_
          refine rX_g_X0_42_0 hc dX0_people_78 ?_
          refine s_dup hz dX0_people_81 rfl ?_
          refine rX_g_X0_131_1 hc dX0_people_82 ?_
          refine s_iconst (v := (1 : Int32)) hz dX0_people_85 (by decide) ?_
          refine s_iadd hz dX0_people_86 ?_
          refine rX_p_X0_131_1 hc dX0_people_87 (fun σ51 => ?_)
          refine s_aload_n hz dX0_people_90 rfl 0 rfl ?_
          refine s_iconst (v := (0 : Int32)) hz dX0_people_91 (by decide) ?_
          refine rX_p_X0_166_0 hc rfl rfl dX0_people_92 (fun σ52 => ?_)
          refine s_aload_n hz dX0_people_95 rfl 0 rfl ?_
          refine rX_g_X0_42_0 hc dX0_people_96 ?_
          refine rX_g_X0_131_1 hc dX0_people_99 ?_
          refine s_iconst (v := (1 : Int32)) hz dX0_people_102 (by decide) ?_
          refine s_isub hz dX0_people_103 ?_
          exact s_iretM hc dX0_people_104 (Nat.le_of_ble_eq_true rfl) (Nat.le_of_ble_eq_true rfl)
        · refine rX_pvr_X0_162_4 hc (inb_lt h46) dX0_people_74 (fun σ53 => ?_)
          refine s_aload_n hz dX0_people_77 rfl 0 rfl ?_
          refine rX_g_X0_42_0 hc dX0_people_78 ?_
          refine s_dup hz dX0_people_81 rfl ?_
          refine rX_g_X0_131_1 hc dX0_people_82 ?_
          refine s_iconst (v := (1 : Int32)) hz dX0_people_85 (by decide) ?_
          refine s_iadd hz dX0_people_86 ?_
          refine rX_p_X0_131_1 hc dX0_people_87 (fun σ54 => ?_)
          refine s_aload_n hz dX0_people_90 rfl 0 rfl ?_
          refine s_iconst (v := (0 : Int32)) hz dX0_people_91 (by decide) ?_
          refine rX_p_X0_166_0 hc rfl rfl dX0_people_92 (fun σ55 => ?_)
          refine s_aload_n hz dX0_people_95 rfl 0 rfl ?_
          refine rX_g_X0_42_0 hc dX0_people_96 ?_
          refine rX_g_X0_131_1 hc dX0_people_99 ?_
          refine s_iconst (v := (1 : Int32)) hz dX0_people_102 (by decide) ?_
          refine s_isub hz dX0_people_103 ?_
          exact s_iretM hc dX0_people_104 (Nat.le_of_ble_eq_true rfl) (Nat.le_of_ble_eq_true rfl)
      · refine s_gb (fun h45 => ?_)
        refine kX_X0_119_h hc (cfX0_need e44) ⟨(Nat.le_of_ble_eq_true rfl), (Nat.le_of_ble_eq_true rfl)⟩ ⟨(Nat.le_of_ble_eq_true rfl), (Nat.le_of_ble_eq_true rfl)⟩ (Nat.le_of_ble_eq_true rfl) dX0_people_51 (i := 0) rfl rfl (by decide) (by decide) (q := (RX6, TX6, 7)) rfl q273 (isC_ob h45) ?_
        refine s_astore_n (lv' := [(3, .ref (vO (VX g) + b41)), (0, .ref (vO (VX g) + 0)), (1, .int x1), (2, .int x2)]) hz dX0_people_105 rfl (Nat.le_of_ble_eq_true rfl) rfl ?_
        refine s_aload_n hz dX0_people_106 rfl 1 rfl ?_
        refine s_aload_n hz dX0_people_107 rfl 0 rfl ?_
        refine s_bind (fun q56 e57 => ?_)
        refine kX_X0_145 hc (cfX0_finds e57) ⟨(Nat.le_of_ble_eq_true rfl), (Nat.le_of_ble_eq_true rfl)⟩ ⟨(Nat.le_of_ble_eq_true rfl), (Nat.le_of_ble_eq_true rfl)⟩ (Nat.le_of_ble_eq_true rfl) dX0_people_108 ?_
        exact s_iretM hc dX0_people_111 (Nat.le_of_ble_eq_true rfl) (Nat.le_of_ble_eq_true rfl)
    · refine s_gb (fun h39 => ?_)
      refine kX_X0_119_h hc (cfX0_need e38) ⟨(Nat.le_of_ble_eq_true rfl), (Nat.le_of_ble_eq_true rfl)⟩ ⟨(Nat.le_of_ble_eq_true rfl), (Nat.le_of_ble_eq_true rfl)⟩ (Nat.le_of_ble_eq_true rfl) dX0_people_30 (i := 0) rfl rfl (by decide) (by decide) (q := (RX6, TX6, 7)) rfl q273 (isC_ob h39) ?_
      refine s_astore_n (lv' := [(3, .ref (vO (VX g) + b35)), (0, .ref (vO (VX g) + 0)), (1, .int x1), (2, .int x2)]) hz dX0_people_105 rfl (Nat.le_of_ble_eq_true rfl) rfl ?_
      refine s_aload_n hz dX0_people_106 rfl 1 rfl ?_
      refine s_aload_n hz dX0_people_107 rfl 0 rfl ?_
      refine s_bind (fun q60 e61 => ?_)
      refine kX_X0_145 hc (cfX0_finds e61) ⟨(Nat.le_of_ble_eq_true rfl), (Nat.le_of_ble_eq_true rfl)⟩ ⟨(Nat.le_of_ble_eq_true rfl), (Nat.le_of_ble_eq_true rfl)⟩ (Nat.le_of_ble_eq_true rfl) dX0_people_108 ?_
      exact s_iretM hc dX0_people_111 (Nat.le_of_ble_eq_true rfl) (Nat.le_of_ble_eq_true rfl)
theorem cfX0_people {g : GeoX} {N : Nat}  {σ : Mem} {x1 : Int32} {x2 : Int32} {ρ : Int32 × Mem} (hF : fX0_people N σ x1 x2 = some ρ) (l : Launch) : CtW (wsW_ yX0_people cX0_people 4 (some .int) [(0, 104, 105, 1)]) (VX g) l yX0_people (rk 7 3 15) [.ref (vO (VX g) + 0), .int x1, .int x2] σ (oI ρ.1) ρ.2 :=
  CtW.ofH (by decide) (Nat.le_of_ble_eq_true rfl) (fun Θ hc ls hl => wfX0_people σ x1 x2 hc hF ls hl)
theorem kX_X0_170 {γ : Type} {Θ : ThT Mem} {g : GeoX} {cc : ByteArray} {nL : Nat} {rm : Room} {ret : Option FieldType} {hs : List (Nat × Nat × Nat × Nat)} {ini : Bool} {O : Outcome} {σ' : Mem} {ρ : γ} {σ : Mem} {F : Option γ} {cs : Nat × Nat} {pc : Nat} {lv : List (Nat × Value)} {st : List Value} (hc : Cx Θ (VX g) cc nL RX0 rm ret hs ini O σ') {σ1 : Mem} {x1 : Int32} {r : Option Nat} {rmc : Room} (hM : ∀ l : Launch, Ct (VX g) l yX0_peopleAt cX0_peopleAt 2 (some (.object "SlipWeeks$Cross")) rmc [.ref (vO (VX g) + 0), .int x1] σ (oR (vO (VX g)) r) σ1) (hR : rmc.frames + 1 ≤ rm.frames ∧ 8 + (2 + 11) + rmc.locals ≤ rm.locals) (hf : cs.1 + rmc.cells ≤ rm.cells ∧ cs.2 + rmc.slots ≤ rm.slots) (hrest : (st.map fun v => v.category).sum ≤ 8) (hd : decode cc pc = .ok (.invokevirtual 170, 3)) (kk : Sim Θ nL ρ σ1 F (cs.1 + rmc.cells, cs.2 + rmc.slots) (pc + 3) lv (va_rf (r.map (vO (VX g) + ·)) :: st)) : Sim Θ nL ρ σ F cs pc lv (.int x1 :: .ref (vO (VX g) + 0) :: st) := s_callVo hc (a := 0) (As := [.int x1]) (rest := st) (n := 1) (ci := 0) (q := (RX0, TX0, 19)) hM (lw_V q462 q464 qs3 q62 q465) (by decide +kernel) rfl (Ob.fix (Nat.le_of_ble_eq_true rfl) rfl) rfl rfl hrest hR hf hd kk
theorem kX_X0_170_h {γ : Type} {Θ : ThT Mem} {g : GeoX} {cc : ByteArray} {nL : Nat} {rm : Room} {ret : Option FieldType} {hs : List (Nat × Nat × Nat × Nat)} {ini : Bool} {O : Outcome} {σ' : Mem} {ρ : γ} {σ : Mem} {F : Option γ} {cs : Nat × Nat} {pc : Nat} {lv : List (Nat × Value)} {st : List Value} (hc : Cx Θ (VX g) cc nL RX0 rm ret hs ini O σ') {σ1 : Mem} {x1 : Int32} {b i s0 e0 hp ct ci : Nat} {q : vw_C} {rmc : Room} (hM : ∀ l : Launch, Ct (VX g) l yX0_peopleAt cX0_peopleAt 2 (some (.object "SlipWeeks$Cross")) rmc [.ref (vO (VX g) + 0), .int x1] σ (.threw (vO (VX g) + b)) σ1) (hR : rmc.frames + 1 ≤ rm.frames ∧ 8 + (2 + 11) + rmc.locals ≤ rm.locals) (hf : cs.1 + rmc.cells ≤ rm.cells ∧ cs.2 + rmc.slots ≤ rm.slots) (hrest : (st.map fun v => v.category).sum ≤ 8) (hd : decode cc pc = .ok (.invokevirtual 170, 3)) (hi : hs[i]? = some (s0, e0, hp, ct)) (hpre : ((hs.take i).all fun q => !(decide (q.1 ≤ pc) && decide (pc < q.2.1))) = true) (hin : s0 ≤ pc ∧ pc < e0) (h0 : ct ≠ 0) (hcl : (vCl (VX g))[ci]? = some q) (hlink : Cond.classLink RX0 ct q.1 ∈ lw_all) (hob : Ob (VX g) σ1 b ci) (kk : Sim Θ nL ρ σ1 F (cs.1 + rmc.cells, cs.2 + rmc.slots) hp lv [.ref (vO (VX g) + b)]) : Sim Θ nL ρ σ F cs pc lv (.int x1 :: .ref (vO (VX g) + 0) :: st) := s_callVh hc (a := 0) (As := [.int x1]) (rest := st) (n := 1) (cj := 0) (q' := (RX0, TX0, 19)) hM (lw_V q462 q464 qs3 q62 q465) (by decide +kernel) rfl (Ob.fix (Nat.le_of_ble_eq_true rfl) rfl) rfl rfl hrest hR hf hd hi hpre hin h0 hcl hlink hob kk
theorem kX_X0_170_t {β : Type} {Θ : ThT Mem} {g : GeoX} {cc : ByteArray} {nL : Nat} {rm : Room} {ret : Option FieldType} {hs : List (Nat × Nat × Nat × Nat)} {ini : Bool} {fo : β → Outcome} {ρ : (β ⊕ Nat) × Mem} {σ : Mem} {cs : Nat × Nat} {pc : Nat} {lv : List (Nat × Value)} {st : List Value} (hc : Cx Θ (VX g) cc nL RX0 rm ret hs ini (oT fo ρ.1 (vO (VX g))) ρ.2) {σ1 : Mem} {x1 : Int32} {b : Nat} {rmc : Room} (hM : ∀ l : Launch, Ct (VX g) l yX0_peopleAt cX0_peopleAt 2 (some (.object "SlipWeeks$Cross")) rmc [.ref (vO (VX g) + 0), .int x1] σ (.threw (vO (VX g) + b)) σ1) (hR : rmc.frames + 1 ≤ rm.frames ∧ 8 + (2 + 11) + rmc.locals ≤ rm.locals) (hf : cs.1 + rmc.cells ≤ rm.cells ∧ cs.2 + rmc.slots ≤ rm.slots) (hrest : (st.map fun v => v.category).sum ≤ 8) (hd : decode cc pc = .ok (.invokevirtual 170, 3)) (hout : (hs.all fun q => !(decide (q.1 ≤ pc) && decide (pc < q.2.1))) = true) : Sim Θ nL ρ σ (some (.inr b, σ1)) cs pc lv (.int x1 :: .ref (vO (VX g) + 0) :: st) := s_callVt hc (a := 0) (As := [.int x1]) (rest := st) (n := 1) (cj := 0) (q' := (RX0, TX0, 19)) hM (lw_V q462 q464 qs3 q62 q465) (by decide +kernel) rfl (Ob.fix (Nat.le_of_ble_eq_true rfl) rfl) rfl rfl hrest hR hf hd hout
set_option maxHeartbeats 4000000 in
theorem kX_X0_173 {γ : Type} {Θ : ThT Mem} {g : GeoX} {cc : ByteArray} {nL : Nat} {rm : Room} {ret : Option FieldType} {hs : List (Nat × Nat × Nat × Nat)} {ini : Bool} {O : Outcome} {σ' : Mem} {ρ : γ} {σ : Mem} {F : Option γ} {cs : Nat × Nat} {pc : Nat} {lv : List (Nat × Value)} {st : List Value} (hc : Cx Θ (VX g) cc nL RX0 rm ret hs ini O σ') {N : Nat} {x0 : Nat} {r : Int32} (h : dX_kind N σ x0 = some r) (hR : 4 + 1 ≤ rm.frames ∧ 8 + (1 + 11) + 40 * 4 ≤ rm.locals) (hf : cs.1 + 0 ≤ rm.cells ∧ cs.2 + 0 ≤ rm.slots) (hrest : (st.map fun v => v.category).sum ≤ 8) (hd : decode cc pc = .ok (.invokevirtual 173, 3)) (kk : Sim Θ nL ρ σ F (cs.1 + 0, cs.2 + 0) (pc + 3) lv (.int r :: st)) : Sim Θ nL ρ σ F cs pc lv (.ref (vO (VX g) + x0) :: st) := by
  unfold dX_kind at h
  obtain ⟨c, hcl, h⟩ := Option.bind_eq_some_iff.mp h
  obtain ⟨fs, ha, h1, h2⟩ := dC_spec hcl
  have h3 : c = 8 ∨ c = 9 ∨ c = 10 ∨ c = 11 ∨ c = 12 ∨ c = 13 ∨ c = 14 ∨ c = 15 := by omega
  rcases h3 with rfl | rfl | rfl | rfl | rfl | rfl | rfl | rfl
  · have h : fX7_kind N σ x0 = some r := h
    exact s_callVo hc (a := x0) (As := []) (rest := st) (n := 0) (ci := 8) (q := (RX7, TX7, 1)) (cfX7_kind h) (lw_V q471 q472 q473 q72 q503) (by decide +kernel) rfl (Ob.dyn ha) rfl rfl hrest ⟨by have := hR.1; simp only [rk] at *; omega, by have := hR.2; simp only [rk] at *; omega⟩ hf hd kk
  · have h : fX8_kind N σ x0 = some r := h
    exact s_callUo hc (a := x0) (As := []) (rest := st) (n := 0) (ci := 9) (owner := "SlipWeeks$Cross") (x := yX7_kind) (q := (RX8, TX8, 1)) (cfX8_kind h) (lw_O q471 q474 q472 q475 q476 q73 q477) q503 (by decide +kernel) rfl (Ob.dyn ha) rfl rfl hrest ⟨by have := hR.1; simp only [rk] at *; omega, by have := hR.2; simp only [rk] at *; omega⟩ hf hd kk
  · have h : fX9_kind N σ x0 = some r := h
    exact s_callUo hc (a := x0) (As := []) (rest := st) (n := 0) (ci := 10) (owner := "SlipWeeks$Cross") (x := yX7_kind) (q := (RX9, TX9, 1)) (cfX9_kind h) (lw_O q471 q474 q472 q489 q490 q74 q491) q503 (by decide +kernel) rfl (Ob.dyn ha) rfl rfl hrest ⟨by have := hR.1; simp only [rk] at *; omega, by have := hR.2; simp only [rk] at *; omega⟩ hf hd kk
  · have h : fX10_kind N σ x0 = some r := h
    exact s_callUo hc (a := x0) (As := []) (rest := st) (n := 0) (ci := 11) (owner := "SlipWeeks$Cross") (x := yX7_kind) (q := (RX10, TX10, 1)) (cfX10_kind h) (lw_O q471 q474 q472 q501 q486 q75 q487) q503 (by decide +kernel) rfl (Ob.dyn ha) rfl rfl hrest ⟨by have := hR.1; simp only [rk] at *; omega, by have := hR.2; simp only [rk] at *; omega⟩ hf hd kk
  · have h : fX11_kind N σ x0 = some r := h
    exact s_callUo hc (a := x0) (As := []) (rest := st) (n := 0) (ci := 12) (owner := "SlipWeeks$Cross") (x := yX7_kind) (q := (RX11, TX11, 1)) (cfX11_kind h) (lw_O q471 q474 q472 q493 q494 q76 q495) q503 (by decide +kernel) rfl (Ob.dyn ha) rfl rfl hrest ⟨by have := hR.1; simp only [rk] at *; omega, by have := hR.2; simp only [rk] at *; omega⟩ hf hd kk
  · have h : fX12_kind N σ x0 = some r := h
    exact s_callUo hc (a := x0) (As := []) (rest := st) (n := 0) (ci := 13) (owner := "SlipWeeks$Cross") (x := yX7_kind) (q := (RX12, TX12, 1)) (cfX12_kind h) (lw_O q471 q474 q472 q497 q498 q77 q499) q503 (by decide +kernel) rfl (Ob.dyn ha) rfl rfl hrest ⟨by have := hR.1; simp only [rk] at *; omega, by have := hR.2; simp only [rk] at *; omega⟩ hf hd kk
  · have h : fX13_kind N σ x0 = some r := h
    exact s_callUo hc (a := x0) (As := []) (rest := st) (n := 0) (ci := 14) (owner := "SlipWeeks$Cross") (x := yX7_kind) (q := (RX13, TX13, 1)) (cfX13_kind h) (lw_O q471 q474 q472 q502 q483 q78 q484) q503 (by decide +kernel) rfl (Ob.dyn ha) rfl rfl hrest ⟨by have := hR.1; simp only [rk] at *; omega, by have := hR.2; simp only [rk] at *; omega⟩ hf hd kk
  · have h : fX14_kind N σ x0 = some r := h
    exact s_callUo hc (a := x0) (As := []) (rest := st) (n := 0) (ci := 15) (owner := "SlipWeeks$Cross") (x := yX7_kind) (q := (RX14, TX14, 1)) (cfX14_kind h) (lw_O q471 q474 q472 q479 q480 q79 q481) q503 (by decide +kernel) rfl (Ob.dyn ha) rfl rfl hrest ⟨by have := hR.1; simp only [rk] at *; omega, by have := hR.2; simp only [rk] at *; omega⟩ hf hd kk
def fX0_of (N : Nat) (σ : Mem) (x1 : Int32) (x2 : Int32) : Option (Int32 × Mem) :=
  (fX0_peopleAt N σ x1).bind (fun q4 => cT2 q4 (fun v1 σ3 => 
  mO v1
  ((fX0_in N σ3 ((x2).toInt64) (0 : Int64) (1 : Int64)).bind (fun q8 => 
  (fX0_need N σ3 q8 (0 : Int32)).bind (fun q13 => cT2 q13 (fun v10 σ12 => 
  if x2 = (0 : Int32) then
  (none)
  else (none)) (fun b11 σ12 => 
  gb (isC σ12 b11 5) (
  (fX0_finds N σ12 b11).bind (fun q17 => 
  some (q17.1, q17.2))))))) (fun a7 => 
  (fX0_in N σ3 ((x2).toInt64) (0 : Int64) (1 : Int64)).bind (fun q19 => 
  (fX0_need N σ3 q19 (0 : Int32)).bind (fun q24 => cT2 q24 (fun v21 σ23 => 
  if x2 = (0 : Int32) then
  ((dX_kind N σ23 a7).bind (fun q30 => 
  some (q30, σ23)))
  else ((dI 8 16 σ23 a7 0).bind (fun v28 => 
  some (v28, σ23)))) (fun b22 σ23 => 
  gb (isC σ23 b22 5) (
  (fX0_finds N σ23 b22).bind (fun q32 => 
  some (q32.1, q32.2)))))))) (fun b2 σ3 => 
  gb (isC σ3 b2 5) (
  (fX0_finds N σ3 b2).bind (fun q34 => 
  some (q34.1, q34.2)))))
set_option maxHeartbeats 4000000 in
theorem wfX0_of {Θ : ThT Mem} {g : GeoX} {N : Nat}  {ρ : Int32 × Mem} (σ : Mem) (x1 : Int32) (x2 : Int32) (hc : Cx Θ (VX g) cX0_of 4 RX0 (rk 6 2 14) (some .int) [(0, 32, 33, 1)] false (oI ρ.1) ρ.2) : Sim Θ 4 ρ σ (fX0_of N σ x1 x2) (0, 0) 0 [(0, .ref (vO (VX g) + 0)), (1, .int x1), (2, .int x2)] [] := by
  have hz := hc.z
  unfold fX0_of
  refine s_aload_n hz dX0_of_0 rfl 0 rfl ?_
  refine s_iload_n hz dX0_of_1 rfl 1 rfl ?_
  refine s_bind (fun q4 e5 => ?_)
  rcases q4 with ⟨v1 | b2, σ3⟩
  · refine kX_X0_170 hc (cfX0_peopleAt e5) ⟨(Nat.le_of_ble_eq_true rfl), (Nat.le_of_ble_eq_true rfl)⟩ ⟨(Nat.le_of_ble_eq_true rfl), (Nat.le_of_ble_eq_true rfl)⟩ (Nat.le_of_ble_eq_true rfl) dX0_of_2 (s_c2 ?_)
    refine s_opt (fun _ => ?_) (fun a7 _ => ?_)
    · refine s_astore_nN (lv' := [(3, .null), (0, .ref (vO (VX g) + 0)), (1, .int x1), (2, .int x2)]) hz dX0_of_5 rfl (Nat.le_of_ble_eq_true rfl) rfl ?_
      refine s_iload_n hz dX0_of_6 rfl 3 rfl ?_
      refine s_i2l hz dX0_of_7 ?_
      refine s_lconst (v := (0 : Int64)) hz dX0_of_8 (by decide) ?_
      refine s_lconst (v := (1 : Int64)) hz dX0_of_9 (by decide) ?_
      refine s_bind (fun q8 e9 => ?_)
      refine kX_X0_125 hc (cfX0_in e9) ⟨(Nat.le_of_ble_eq_true rfl), (Nat.le_of_ble_eq_true rfl)⟩ ⟨(Nat.le_of_ble_eq_true rfl), (Nat.le_of_ble_eq_true rfl)⟩ (Nat.le_of_ble_eq_true rfl) dX0_of_10 ?_
      refine s_iconst (v := (0 : Int32)) hz dX0_of_13 (by decide) ?_
      refine s_bind (fun q13 e14 => ?_)
      rcases q13 with ⟨v10 | b11, σ12⟩
      · refine kX_X0_119 hc (cfX0_need e14) ⟨(Nat.le_of_ble_eq_true rfl), (Nat.le_of_ble_eq_true rfl)⟩ ⟨(Nat.le_of_ble_eq_true rfl), (Nat.le_of_ble_eq_true rfl)⟩ (Nat.le_of_ble_eq_true rfl) dX0_of_14 (s_c2 ?_)
        refine s_iload_n hz dX0_of_17 rfl 3 rfl ?_
        refine s_if_ne (tgt := 28) hz dX0_of_18 rfl (fun h16 => ?_) (fun h16 => ?_)
        · refine s_aload_nN hz dX0_of_28 rfl 0 rfl ?_
          exact s_none
        · refine s_aload_nN hz dX0_of_21 rfl 0 rfl ?_
          exact s_none
      · refine s_gb (fun h15 => ?_)
        refine kX_X0_119_h hc (cfX0_need e14) ⟨(Nat.le_of_ble_eq_true rfl), (Nat.le_of_ble_eq_true rfl)⟩ ⟨(Nat.le_of_ble_eq_true rfl), (Nat.le_of_ble_eq_true rfl)⟩ (Nat.le_of_ble_eq_true rfl) dX0_of_14 (i := 0) rfl rfl (by decide) (by decide) (q := (RX6, TX6, 7)) rfl q273 (isC_ob h15) ?_
        refine s_astore_n (lv' := [(3, .ref (vO (VX g) + b11)), (0, .ref (vO (VX g) + 0)), (1, .int x1), (2, .int x2)]) hz dX0_of_33 rfl (Nat.le_of_ble_eq_true rfl) rfl ?_
        refine s_aload_n hz dX0_of_34 rfl 1 rfl ?_
        refine s_aload_n hz dX0_of_35 rfl 0 rfl ?_
        refine s_bind (fun q17 e18 => ?_)
        refine kX_X0_145 hc (cfX0_finds e18) ⟨(Nat.le_of_ble_eq_true rfl), (Nat.le_of_ble_eq_true rfl)⟩ ⟨(Nat.le_of_ble_eq_true rfl), (Nat.le_of_ble_eq_true rfl)⟩ (Nat.le_of_ble_eq_true rfl) dX0_of_36 ?_
        exact s_iretM hc dX0_of_39 (Nat.le_of_ble_eq_true rfl) (Nat.le_of_ble_eq_true rfl)
    · refine s_astore_n (lv' := [(3, .ref (vO (VX g) + a7)), (0, .ref (vO (VX g) + 0)), (1, .int x1), (2, .int x2)]) hz dX0_of_5 rfl (Nat.le_of_ble_eq_true rfl) rfl ?_
      refine s_iload_n hz dX0_of_6 rfl 3 rfl ?_
      refine s_i2l hz dX0_of_7 ?_
      refine s_lconst (v := (0 : Int64)) hz dX0_of_8 (by decide) ?_
      refine s_lconst (v := (1 : Int64)) hz dX0_of_9 (by decide) ?_
      refine s_bind (fun q19 e20 => ?_)
      refine kX_X0_125 hc (cfX0_in e20) ⟨(Nat.le_of_ble_eq_true rfl), (Nat.le_of_ble_eq_true rfl)⟩ ⟨(Nat.le_of_ble_eq_true rfl), (Nat.le_of_ble_eq_true rfl)⟩ (Nat.le_of_ble_eq_true rfl) dX0_of_10 ?_
      refine s_iconst (v := (0 : Int32)) hz dX0_of_13 (by decide) ?_
      refine s_bind (fun q24 e25 => ?_)
      rcases q24 with ⟨v21 | b22, σ23⟩
      · refine kX_X0_119 hc (cfX0_need e25) ⟨(Nat.le_of_ble_eq_true rfl), (Nat.le_of_ble_eq_true rfl)⟩ ⟨(Nat.le_of_ble_eq_true rfl), (Nat.le_of_ble_eq_true rfl)⟩ (Nat.le_of_ble_eq_true rfl) dX0_of_14 (s_c2 ?_)
        refine s_iload_n hz dX0_of_17 rfl 3 rfl ?_
        refine s_if_ne (tgt := 28) hz dX0_of_18 rfl (fun h27 => ?_) (fun h27 => ?_)
        · refine s_aload_n hz dX0_of_28 rfl 0 rfl ?_
          refine s_bind (fun v28 e29 => ?_)
          refine rX_d_X0_176 hc e29 dX0_of_29 ?_
          exact s_iretM hc dX0_of_32 (Nat.le_of_ble_eq_true rfl) (Nat.le_of_ble_eq_true rfl)
        · refine s_aload_n hz dX0_of_21 rfl 0 rfl ?_
          refine s_bind (fun q30 e31 => ?_)
          refine kX_X0_173 hc e31 ⟨(Nat.le_of_ble_eq_true rfl), (Nat.le_of_ble_eq_true rfl)⟩ ⟨(Nat.le_of_ble_eq_true rfl), (Nat.le_of_ble_eq_true rfl)⟩ (Nat.le_of_ble_eq_true rfl) dX0_of_22 ?_
          refine s_goto (tgt := 32) hz dX0_of_25 rfl ?_
          exact s_iretM hc dX0_of_32 (Nat.le_of_ble_eq_true rfl) (Nat.le_of_ble_eq_true rfl)
      · refine s_gb (fun h26 => ?_)
        refine kX_X0_119_h hc (cfX0_need e25) ⟨(Nat.le_of_ble_eq_true rfl), (Nat.le_of_ble_eq_true rfl)⟩ ⟨(Nat.le_of_ble_eq_true rfl), (Nat.le_of_ble_eq_true rfl)⟩ (Nat.le_of_ble_eq_true rfl) dX0_of_14 (i := 0) rfl rfl (by decide) (by decide) (q := (RX6, TX6, 7)) rfl q273 (isC_ob h26) ?_
        refine s_astore_n (lv' := [(3, .ref (vO (VX g) + b22)), (0, .ref (vO (VX g) + 0)), (1, .int x1), (2, .int x2)]) hz dX0_of_33 rfl (Nat.le_of_ble_eq_true rfl) rfl ?_
        refine s_aload_n hz dX0_of_34 rfl 1 rfl ?_
        refine s_aload_n hz dX0_of_35 rfl 0 rfl ?_
        refine s_bind (fun q32 e33 => ?_)
        refine kX_X0_145 hc (cfX0_finds e33) ⟨(Nat.le_of_ble_eq_true rfl), (Nat.le_of_ble_eq_true rfl)⟩ ⟨(Nat.le_of_ble_eq_true rfl), (Nat.le_of_ble_eq_true rfl)⟩ (Nat.le_of_ble_eq_true rfl) dX0_of_36 ?_
        exact s_iretM hc dX0_of_39 (Nat.le_of_ble_eq_true rfl) (Nat.le_of_ble_eq_true rfl)
  · refine s_gb (fun h6 => ?_)
    refine kX_X0_170_h hc (cfX0_peopleAt e5) ⟨(Nat.le_of_ble_eq_true rfl), (Nat.le_of_ble_eq_true rfl)⟩ ⟨(Nat.le_of_ble_eq_true rfl), (Nat.le_of_ble_eq_true rfl)⟩ (Nat.le_of_ble_eq_true rfl) dX0_of_2 (i := 0) rfl rfl (by decide) (by decide) (q := (RX6, TX6, 7)) rfl q273 (isC_ob h6) ?_
    refine s_astore_n (lv' := [(3, .ref (vO (VX g) + b2)), (0, .ref (vO (VX g) + 0)), (1, .int x1), (2, .int x2)]) hz dX0_of_33 rfl (Nat.le_of_ble_eq_true rfl) rfl ?_
    refine s_aload_n hz dX0_of_34 rfl 1 rfl ?_
    refine s_aload_n hz dX0_of_35 rfl 0 rfl ?_
    refine s_bind (fun q34 e35 => ?_)
    refine kX_X0_145 hc (cfX0_finds e35) ⟨(Nat.le_of_ble_eq_true rfl), (Nat.le_of_ble_eq_true rfl)⟩ ⟨(Nat.le_of_ble_eq_true rfl), (Nat.le_of_ble_eq_true rfl)⟩ (Nat.le_of_ble_eq_true rfl) dX0_of_36 ?_
    exact s_iretM hc dX0_of_39 (Nat.le_of_ble_eq_true rfl) (Nat.le_of_ble_eq_true rfl)
theorem cfX0_of {g : GeoX} {N : Nat}  {σ : Mem} {x1 : Int32} {x2 : Int32} {ρ : Int32 × Mem} (hF : fX0_of N σ x1 x2 = some ρ) (l : Launch) : CtW (wsW_ yX0_of cX0_of 4 (some .int) [(0, 32, 33, 1)]) (VX g) l yX0_of (rk 6 2 14) [.ref (vO (VX g) + 0), .int x1, .int x2] σ (oI ρ.1) ρ.2 :=
  CtW.ofH (by decide) (Nat.le_of_ble_eq_true rfl) (fun Θ hc ls hl => wfX0_of σ x1 x2 hc hF ls hl)
theorem rX_wi_X0_176 {γ : Type} {Θ : ThT Mem} {g : GeoX} {cc : ByteArray} {nL : Nat} {rm : Room} {ret : Option FieldType} {hs : List (Nat × Nat × Nat × Nat)} {ini : Bool} {O : Outcome} {σ' : Mem} {ρ : γ} {σ : Mem} {F : Option γ} {cs : Nat × Nat} {pc : Nat} {lv : List (Nat × Value)} {st : List Value} (hc : Cx Θ (VX g) cc nL RX0 rm ret hs ini O σ') {a : Nat} {x : Int32} {σ1 : Mem} (h : wV 8 16 σ a 0 (.int x) = some σ1) (hd : decode cc pc = .ok (.putfield 176, 3)) (kk : Sim Θ nL ρ σ1 F cs (pc + 3) lv st) : Sim Θ nL ρ σ F cs pc lv (.int x :: .ref (vO (VX g) + a) :: st) := by
  obtain ⟨c, fs, ha, h1, h2, hlen, rfl⟩ := wV_spec h
  have h3 : c = 8 ∨ c = 9 ∨ c = 10 ∨ c = 11 ∨ c = 12 ∨ c = 13 ∨ c = 14 ∨ c = 15 := by omega
  rcases h3 with rfl | rfl | rfl | rfl | rfl | rfl | rfl | rfl
  · exact s_dput hc (C := RX7) (T := TX7) (N := 1) (v := (.int x)) ha in_X7 tyX7_ok nmX7 rfl 0 (Nat.le_of_ble_eq_true rfl) q398 (fun _ _ _ _ h => h) (ty := .int) (by decide +kernel) rfl rfl hlen (Or.inl rfl) hd kk
  · exact s_dput hc (C := RX8) (T := TX8) (N := 1) (v := (.int x)) ha in_X8 tyX8_ok nmX8 rfl 0 (Nat.le_of_ble_eq_true rfl) q398 (fun _ _ _ _ h => h) (ty := .int) (by decide +kernel) rfl rfl hlen (Or.inl rfl) hd kk
  · exact s_dput hc (C := RX9) (T := TX9) (N := 1) (v := (.int x)) ha in_X9 tyX9_ok nmX9 rfl 0 (Nat.le_of_ble_eq_true rfl) q398 (fun _ _ _ _ h => h) (ty := .int) (by decide +kernel) rfl rfl hlen (Or.inl rfl) hd kk
  · exact s_dput hc (C := RX10) (T := TX10) (N := 1) (v := (.int x)) ha in_X10 tyX10_ok nmX10 rfl 0 (Nat.le_of_ble_eq_true rfl) q398 (fun _ _ _ _ h => h) (ty := .int) (by decide +kernel) rfl rfl hlen (Or.inl rfl) hd kk
  · exact s_dput hc (C := RX11) (T := TX11) (N := 1) (v := (.int x)) ha in_X11 tyX11_ok nmX11 rfl 0 (Nat.le_of_ble_eq_true rfl) q398 (fun _ _ _ _ h => h) (ty := .int) (by decide +kernel) rfl rfl hlen (Or.inl rfl) hd kk
  · exact s_dput hc (C := RX12) (T := TX12) (N := 1) (v := (.int x)) ha in_X12 tyX12_ok nmX12 rfl 0 (Nat.le_of_ble_eq_true rfl) q398 (fun _ _ _ _ h => h) (ty := .int) (by decide +kernel) rfl rfl hlen (Or.inl rfl) hd kk
  · exact s_dput hc (C := RX13) (T := TX13) (N := 1) (v := (.int x)) ha in_X13 tyX13_ok nmX13 rfl 0 (Nat.le_of_ble_eq_true rfl) q398 (fun _ _ _ _ h => h) (ty := .int) (by decide +kernel) rfl rfl hlen (Or.inl rfl) hd kk
  · exact s_dput hc (C := RX14) (T := TX14) (N := 1) (v := (.int x)) ha in_X14 tyX14_ok nmX14 rfl 0 (Nat.le_of_ble_eq_true rfl) q398 (fun _ _ _ _ h => h) (ty := .int) (by decide +kernel) rfl rfl hlen (Or.inl rfl) hd kk
def fX0_many (N : Nat) (σ : Mem) (x1 : Int32) (x2 : Int32) : Option (Int32 × Mem) :=
  (fX0_peopleAt N σ x1).bind (fun q4 => cT2 q4 (fun v1 σ3 => 
  mO v1
  ((fX0_in N σ3 ((x2).toInt64) (0 : Int64) (99999 : Int64)).bind (fun q8 => 
  (fX0_need N σ3 q8 (0 : Int32)).bind (fun q13 => cT2 q13 (fun v10 σ12 => 
  none) (fun b11 σ12 => 
  gb (isC σ12 b11 5) (
  (fX0_finds N σ12 b11).bind (fun q16 => 
  some (q16.1, q16.2))))))) (fun a7 => 
  (fX0_in N σ3 ((x2).toInt64) (0 : Int64) (99999 : Int64)).bind (fun q18 => 
  (fX0_need N σ3 q18 (0 : Int32)).bind (fun q23 => cT2 q23 (fun v20 σ22 => 
  (dI 8 16 σ22 a7 0).bind (fun v26 => 
  (wV 8 16 σ22 a7 0 (.int x2)).bind (fun σ28 => 
  lt_ (pI σ28 0 10 (0 : Int32)) (fun σ30 => 
  some (v26, σ30))))) (fun b21 σ22 => 
  gb (isC σ22 b21 5) (
  (fX0_finds N σ22 b21).bind (fun q31 => 
  some (q31.1, q31.2)))))))) (fun b2 σ3 => 
  gb (isC σ3 b2 5) (
  (fX0_finds N σ3 b2).bind (fun q33 => 
  some (q33.1, q33.2)))))
set_option maxHeartbeats 4000000 in
theorem wfX0_many {Θ : ThT Mem} {g : GeoX} {N : Nat}  {ρ : Int32 × Mem} (σ : Mem) (x1 : Int32) (x2 : Int32) (hc : Cx Θ (VX g) cX0_many 5 RX0 (rk 6 2 14) (some .int) [(0, 37, 38, 1)] false (oI ρ.1) ρ.2) : Sim Θ 5 ρ σ (fX0_many N σ x1 x2) (0, 0) 0 [(0, .ref (vO (VX g) + 0)), (1, .int x1), (2, .int x2)] [] := by
  have hz := hc.z
  unfold fX0_many
  refine s_aload_n hz dX0_many_0 rfl 0 rfl ?_
  refine s_iload_n hz dX0_many_1 rfl 1 rfl ?_
  refine s_bind (fun q4 e5 => ?_)
  rcases q4 with ⟨v1 | b2, σ3⟩
  · refine kX_X0_170 hc (cfX0_peopleAt e5) ⟨(Nat.le_of_ble_eq_true rfl), (Nat.le_of_ble_eq_true rfl)⟩ ⟨(Nat.le_of_ble_eq_true rfl), (Nat.le_of_ble_eq_true rfl)⟩ (Nat.le_of_ble_eq_true rfl) dX0_many_2 (s_c2 ?_)
    refine s_opt (fun _ => ?_) (fun a7 _ => ?_)
    · refine s_astore_nN (lv' := [(3, .null), (0, .ref (vO (VX g) + 0)), (1, .int x1), (2, .int x2)]) hz dX0_many_5 rfl (Nat.le_of_ble_eq_true rfl) rfl ?_
      refine s_iload_n hz dX0_many_6 rfl 3 rfl ?_
      refine s_i2l hz dX0_many_7 ?_
      refine s_lconst (v := (0 : Int64)) hz dX0_many_8 (by decide) ?_
      refine s_ldc2 hz dX0_many_9 q373 ?_
      refine s_bind (fun q8 e9 => ?_)
      refine kX_X0_125 hc (cfX0_in e9) ⟨(Nat.le_of_ble_eq_true rfl), (Nat.le_of_ble_eq_true rfl)⟩ ⟨(Nat.le_of_ble_eq_true rfl), (Nat.le_of_ble_eq_true rfl)⟩ (Nat.le_of_ble_eq_true rfl) dX0_many_12 ?_
      refine s_iconst (v := (0 : Int32)) hz dX0_many_15 (by decide) ?_
      refine s_bind (fun q13 e14 => ?_)
      rcases q13 with ⟨v10 | b11, σ12⟩
      · refine kX_X0_119 hc (cfX0_need e14) ⟨(Nat.le_of_ble_eq_true rfl), (Nat.le_of_ble_eq_true rfl)⟩ ⟨(Nat.le_of_ble_eq_true rfl), (Nat.le_of_ble_eq_true rfl)⟩ (Nat.le_of_ble_eq_true rfl) dX0_many_16 (s_c2 ?_)
        refine s_aload_nN hz dX0_many_19 rfl 0 rfl ?_
        exact s_none
      · refine s_gb (fun h15 => ?_)
        refine kX_X0_119_h hc (cfX0_need e14) ⟨(Nat.le_of_ble_eq_true rfl), (Nat.le_of_ble_eq_true rfl)⟩ ⟨(Nat.le_of_ble_eq_true rfl), (Nat.le_of_ble_eq_true rfl)⟩ (Nat.le_of_ble_eq_true rfl) dX0_many_16 (i := 0) rfl rfl (by decide) (by decide) (q := (RX6, TX6, 7)) rfl q273 (isC_ob h15) ?_
        refine s_astore_n (lv' := [(3, .ref (vO (VX g) + b11)), (0, .ref (vO (VX g) + 0)), (1, .int x1), (2, .int x2)]) hz dX0_many_38 rfl (Nat.le_of_ble_eq_true rfl) rfl ?_
        refine s_aload_n hz dX0_many_39 rfl 1 rfl ?_
        refine s_aload_n hz dX0_many_40 rfl 0 rfl ?_
        refine s_bind (fun q16 e17 => ?_)
        refine kX_X0_145 hc (cfX0_finds e17) ⟨(Nat.le_of_ble_eq_true rfl), (Nat.le_of_ble_eq_true rfl)⟩ ⟨(Nat.le_of_ble_eq_true rfl), (Nat.le_of_ble_eq_true rfl)⟩ (Nat.le_of_ble_eq_true rfl) dX0_many_41 ?_
        exact s_iretM hc dX0_many_44 (Nat.le_of_ble_eq_true rfl) (Nat.le_of_ble_eq_true rfl)
    · refine s_astore_n (lv' := [(3, .ref (vO (VX g) + a7)), (0, .ref (vO (VX g) + 0)), (1, .int x1), (2, .int x2)]) hz dX0_many_5 rfl (Nat.le_of_ble_eq_true rfl) rfl ?_
      refine s_iload_n hz dX0_many_6 rfl 3 rfl ?_
      refine s_i2l hz dX0_many_7 ?_
      refine s_lconst (v := (0 : Int64)) hz dX0_many_8 (by decide) ?_
      refine s_ldc2 hz dX0_many_9 q373 ?_
      refine s_bind (fun q18 e19 => ?_)
      refine kX_X0_125 hc (cfX0_in e19) ⟨(Nat.le_of_ble_eq_true rfl), (Nat.le_of_ble_eq_true rfl)⟩ ⟨(Nat.le_of_ble_eq_true rfl), (Nat.le_of_ble_eq_true rfl)⟩ (Nat.le_of_ble_eq_true rfl) dX0_many_12 ?_
      refine s_iconst (v := (0 : Int32)) hz dX0_many_15 (by decide) ?_
      refine s_bind (fun q23 e24 => ?_)
      rcases q23 with ⟨v20 | b21, σ22⟩
      · refine kX_X0_119 hc (cfX0_need e24) ⟨(Nat.le_of_ble_eq_true rfl), (Nat.le_of_ble_eq_true rfl)⟩ ⟨(Nat.le_of_ble_eq_true rfl), (Nat.le_of_ble_eq_true rfl)⟩ (Nat.le_of_ble_eq_true rfl) dX0_many_16 (s_c2 ?_)
        refine s_aload_n hz dX0_many_19 rfl 0 rfl ?_
        refine s_bind (fun v26 e27 => ?_)
        refine rX_d_X0_176 hc e27 dX0_many_20 ?_
        refine s_istore (lv' := [(4, .int v26), (3, .ref (vO (VX g) + a7)), (0, .ref (vO (VX g) + 0)), (1, .int x1), (2, .int x2)]) hz dX0_many_23 (Nat.le_of_ble_eq_true rfl) rfl ?_
        refine s_aload_n hz dX0_many_25 rfl 1 rfl ?_
        refine s_iload_n hz dX0_many_26 rfl 4 rfl ?_
        refine s_bind (fun σ28 e29 => ?_)
        refine rX_wi_X0_176 hc e29 dX0_many_27 ?_
        refine s_aload_n hz dX0_many_30 rfl 2 rfl ?_
        refine s_iconst (v := (0 : Int32)) hz dX0_many_31 (by decide) ?_
        refine rX_p_X0_166_0 hc rfl rfl dX0_many_32 (fun σ30 => ?_)
        refine s_iload hz dX0_many_35 0 rfl ?_
        exact s_iretM hc dX0_many_37 (Nat.le_of_ble_eq_true rfl) (Nat.le_of_ble_eq_true rfl)
      · refine s_gb (fun h25 => ?_)
        refine kX_X0_119_h hc (cfX0_need e24) ⟨(Nat.le_of_ble_eq_true rfl), (Nat.le_of_ble_eq_true rfl)⟩ ⟨(Nat.le_of_ble_eq_true rfl), (Nat.le_of_ble_eq_true rfl)⟩ (Nat.le_of_ble_eq_true rfl) dX0_many_16 (i := 0) rfl rfl (by decide) (by decide) (q := (RX6, TX6, 7)) rfl q273 (isC_ob h25) ?_
        refine s_astore_n (lv' := [(3, .ref (vO (VX g) + b21)), (0, .ref (vO (VX g) + 0)), (1, .int x1), (2, .int x2)]) hz dX0_many_38 rfl (Nat.le_of_ble_eq_true rfl) rfl ?_
        refine s_aload_n hz dX0_many_39 rfl 1 rfl ?_
        refine s_aload_n hz dX0_many_40 rfl 0 rfl ?_
        refine s_bind (fun q31 e32 => ?_)
        refine kX_X0_145 hc (cfX0_finds e32) ⟨(Nat.le_of_ble_eq_true rfl), (Nat.le_of_ble_eq_true rfl)⟩ ⟨(Nat.le_of_ble_eq_true rfl), (Nat.le_of_ble_eq_true rfl)⟩ (Nat.le_of_ble_eq_true rfl) dX0_many_41 ?_
        exact s_iretM hc dX0_many_44 (Nat.le_of_ble_eq_true rfl) (Nat.le_of_ble_eq_true rfl)
  · refine s_gb (fun h6 => ?_)
    refine kX_X0_170_h hc (cfX0_peopleAt e5) ⟨(Nat.le_of_ble_eq_true rfl), (Nat.le_of_ble_eq_true rfl)⟩ ⟨(Nat.le_of_ble_eq_true rfl), (Nat.le_of_ble_eq_true rfl)⟩ (Nat.le_of_ble_eq_true rfl) dX0_many_2 (i := 0) rfl rfl (by decide) (by decide) (q := (RX6, TX6, 7)) rfl q273 (isC_ob h6) ?_
    refine s_astore_n (lv' := [(3, .ref (vO (VX g) + b2)), (0, .ref (vO (VX g) + 0)), (1, .int x1), (2, .int x2)]) hz dX0_many_38 rfl (Nat.le_of_ble_eq_true rfl) rfl ?_
    refine s_aload_n hz dX0_many_39 rfl 1 rfl ?_
    refine s_aload_n hz dX0_many_40 rfl 0 rfl ?_
    refine s_bind (fun q33 e34 => ?_)
    refine kX_X0_145 hc (cfX0_finds e34) ⟨(Nat.le_of_ble_eq_true rfl), (Nat.le_of_ble_eq_true rfl)⟩ ⟨(Nat.le_of_ble_eq_true rfl), (Nat.le_of_ble_eq_true rfl)⟩ (Nat.le_of_ble_eq_true rfl) dX0_many_41 ?_
    exact s_iretM hc dX0_many_44 (Nat.le_of_ble_eq_true rfl) (Nat.le_of_ble_eq_true rfl)
theorem cfX0_many {g : GeoX} {N : Nat}  {σ : Mem} {x1 : Int32} {x2 : Int32} {ρ : Int32 × Mem} (hF : fX0_many N σ x1 x2 = some ρ) (l : Launch) : CtW (wsW_ yX0_many cX0_many 5 (some .int) [(0, 37, 38, 1)]) (VX g) l yX0_many (rk 6 2 14) [.ref (vO (VX g) + 0), .int x1, .int x2] σ (oI ρ.1) ρ.2 :=
  CtW.ofH (by decide) (Nat.le_of_ble_eq_true rfl) (fun Θ hc ls hl => wfX0_many σ x1 x2 hc hF ls hl)
set_option maxHeartbeats 4000000 in
theorem kX_X0_179 {γ : Type} {Θ : ThT Mem} {g : GeoX} {cc : ByteArray} {nL : Nat} {rm : Room} {ret : Option FieldType} {hs : List (Nat × Nat × Nat × Nat)} {ini : Bool} {O : Outcome} {σ' : Mem} {ρ : γ} {σ : Mem} {F : Option γ} {cs : Nat × Nat} {pc : Nat} {lv : List (Nat × Value)} {st : List Value} (hc : Cx Θ (VX g) cc nL RX0 rm ret hs ini O σ') {N : Nat} {x0 : Nat} {x1 : Int32} {r : Int32} (h : dX_is N σ x0 x1 = some r) (hR : 7 + 1 ≤ rm.frames ∧ 8 + (2 + 11) + 40 * 7 ≤ rm.locals) (hf : cs.1 + 0 ≤ rm.cells ∧ cs.2 + 0 ≤ rm.slots) (hrest : (st.map fun v => v.category).sum ≤ 8) (hd : decode cc pc = .ok (.invokevirtual 179, 3)) (kk : Sim Θ nL ρ σ F (cs.1 + 0, cs.2 + 0) (pc + 3) lv (.int r :: st)) : Sim Θ nL ρ σ F cs pc lv (.int x1 :: .ref (vO (VX g) + x0) :: st) := by
  unfold dX_is at h
  obtain ⟨c, hcl, h⟩ := Option.bind_eq_some_iff.mp h
  obtain ⟨fs, ha, h1, h2⟩ := dC_spec hcl
  have h3 : c = 8 ∨ c = 9 ∨ c = 10 ∨ c = 11 ∨ c = 12 ∨ c = 13 ∨ c = 14 ∨ c = 15 := by omega
  rcases h3 with rfl | rfl | rfl | rfl | rfl | rfl | rfl | rfl
  · have h : fX7_is N σ x0 x1 = some r := h
    exact s_callVo hc (a := x0) (As := [.int x1]) (rest := st) (n := 1) (ci := 8) (q := (RX7, TX7, 1)) (cfX7_is h) (lw_V q512 q513 q514 q72 q532) (by decide +kernel) rfl (Ob.dyn ha) rfl rfl hrest ⟨by have := hR.1; simp only [rk] at *; omega, by have := hR.2; simp only [rk] at *; omega⟩ hf hd kk
  · have h : fX8_is N σ x0 x1 = some r := h
    exact s_callUo hc (a := x0) (As := [.int x1]) (rest := st) (n := 1) (ci := 9) (owner := "SlipWeeks$Cross") (x := yX7_is) (q := (RX8, TX8, 1)) (cfX8_is h) (lw_O q512 q515 q513 q516 q517 q73 q518) q532 (by decide +kernel) rfl (Ob.dyn ha) rfl rfl hrest ⟨by have := hR.1; simp only [rk] at *; omega, by have := hR.2; simp only [rk] at *; omega⟩ hf hd kk
  · have h : fX7_is N σ x0 x1 = some r := h
    exact s_callUo hc (a := x0) (As := [.int x1]) (rest := st) (n := 1) (ci := 10) (owner := "SlipWeeks$Cross") (x := yX7_is) (q := (RX9, TX9, 1)) (cfX7_is h) (lw_O q512 q515 q513 q527 q513 q72 q532) q532 (by decide +kernel) rfl (Ob.dyn ha) rfl rfl hrest ⟨by have := hR.1; simp only [rk] at *; omega, by have := hR.2; simp only [rk] at *; omega⟩ hf hd kk
  · have h : fX10_is N σ x0 x1 = some r := h
    exact s_callUo hc (a := x0) (As := [.int x1]) (rest := st) (n := 1) (ci := 11) (owner := "SlipWeeks$Cross") (x := yX7_is) (q := (RX10, TX10, 1)) (cfX10_is h) (lw_O q512 q515 q513 q530 q524 q75 q525) q532 (by decide +kernel) rfl (Ob.dyn ha) rfl rfl hrest ⟨by have := hR.1; simp only [rk] at *; omega, by have := hR.2; simp only [rk] at *; omega⟩ hf hd kk
  · have h : fX7_is N σ x0 x1 = some r := h
    exact s_callUo hc (a := x0) (As := [.int x1]) (rest := st) (n := 1) (ci := 12) (owner := "SlipWeeks$Cross") (x := yX7_is) (q := (RX11, TX11, 1)) (cfX7_is h) (lw_O q512 q515 q513 q528 q513 q72 q532) q532 (by decide +kernel) rfl (Ob.dyn ha) rfl rfl hrest ⟨by have := hR.1; simp only [rk] at *; omega, by have := hR.2; simp only [rk] at *; omega⟩ hf hd kk
  · have h : fX8_is N σ x0 x1 = some r := h
    exact s_callUo hc (a := x0) (As := [.int x1]) (rest := st) (n := 1) (ci := 13) (owner := "SlipWeeks$Cross") (x := yX7_is) (q := (RX12, TX12, 1)) (cfX8_is h) (lw_O q512 q515 q513 q529 q517 q73 q518) q532 (by decide +kernel) rfl (Ob.dyn ha) rfl rfl hrest ⟨by have := hR.1; simp only [rk] at *; omega, by have := hR.2; simp only [rk] at *; omega⟩ hf hd kk
  · have h : fX13_is N σ x0 x1 = some r := h
    exact s_callUo hc (a := x0) (As := [.int x1]) (rest := st) (n := 1) (ci := 14) (owner := "SlipWeeks$Cross") (x := yX7_is) (q := (RX13, TX13, 1)) (cfX13_is h) (lw_O q512 q515 q513 q531 q521 q78 q522) q532 (by decide +kernel) rfl (Ob.dyn ha) rfl rfl hrest ⟨by have := hR.1; simp only [rk] at *; omega, by have := hR.2; simp only [rk] at *; omega⟩ hf hd kk
  · have h : fX13_is N σ x0 x1 = some r := h
    exact s_callUo hc (a := x0) (As := [.int x1]) (rest := st) (n := 1) (ci := 15) (owner := "SlipWeeks$Cross") (x := yX7_is) (q := (RX14, TX14, 1)) (cfX13_is h) (lw_O q512 q515 q513 q520 q521 q78 q522) q532 (by decide +kernel) rfl (Ob.dyn ha) rfl rfl hrest ⟨by have := hR.1; simp only [rk] at *; omega, by have := hR.2; simp only [rk] at *; omega⟩ hf hd kk
def fX0_as (N : Nat) (σ : Mem) (x1 : Int32) (x2 : Int32) : Option (Int32 × Mem) :=
  (fX0_peopleAt N σ x1).bind (fun q4 => cT2 q4 (fun v1 σ3 => 
  mO v1
  ((fX0_in N σ3 ((x2).toInt64) (0 : Int64) (7 : Int64)).bind (fun q8 => 
  (fX0_need N σ3 q8 (0 : Int32)).bind (fun q13 => cT2 q13 (fun v10 σ12 => 
  none) (fun b11 σ12 => 
  gb (isC σ12 b11 5) (
  (fX0_finds N σ12 b11).bind (fun q16 => 
  some (q16.1, q16.2))))))) (fun a7 => 
  (fX0_in N σ3 ((x2).toInt64) (0 : Int64) (7 : Int64)).bind (fun q18 => 
  (fX0_need N σ3 q18 (0 : Int32)).bind (fun q23 => cT2 q23 (fun v20 σ22 => 
  (dX_is N σ22 a7 x2).bind (fun q26 => 
  (fX0_need N σ22 q26 (2 : Int32)).bind (fun q31 => cT2 q31 (fun v28 σ30 => 
  (dI 8 16 σ30 a7 0).bind (fun v34 => 
  some (v34, σ30))) (fun b29 σ30 => 
  gb (isC σ30 b29 5) (
  (fX0_finds N σ30 b29).bind (fun q36 => 
  some (q36.1, q36.2))))))) (fun b21 σ22 => 
  gb (isC σ22 b21 5) (
  (fX0_finds N σ22 b21).bind (fun q38 => 
  some (q38.1, q38.2)))))))) (fun b2 σ3 => 
  gb (isC σ3 b2 5) (
  (fX0_finds N σ3 b2).bind (fun q40 => 
  some (q40.1, q40.2)))))
set_option maxHeartbeats 4000000 in
theorem wfX0_as {Θ : ThT Mem} {g : GeoX} {N : Nat}  {ρ : Int32 × Mem} (σ : Mem) (x1 : Int32) (x2 : Int32) (hc : Cx Θ (VX g) cX0_as 4 RX0 (rk 8 3 21) (some .int) [(0, 32, 33, 1)] false (oI ρ.1) ρ.2) : Sim Θ 4 ρ σ (fX0_as N σ x1 x2) (0, 0) 0 [(0, .ref (vO (VX g) + 0)), (1, .int x1), (2, .int x2)] [] := by
  have hz := hc.z
  unfold fX0_as
  refine s_aload_n hz dX0_as_0 rfl 0 rfl ?_
  refine s_iload_n hz dX0_as_1 rfl 1 rfl ?_
  refine s_bind (fun q4 e5 => ?_)
  rcases q4 with ⟨v1 | b2, σ3⟩
  · refine kX_X0_170 hc (cfX0_peopleAt e5) ⟨(Nat.le_of_ble_eq_true rfl), (Nat.le_of_ble_eq_true rfl)⟩ ⟨(Nat.le_of_ble_eq_true rfl), (Nat.le_of_ble_eq_true rfl)⟩ (Nat.le_of_ble_eq_true rfl) dX0_as_2 (s_c2 ?_)
    refine s_opt (fun _ => ?_) (fun a7 _ => ?_)
    · refine s_astore_nN (lv' := [(3, .null), (0, .ref (vO (VX g) + 0)), (1, .int x1), (2, .int x2)]) hz dX0_as_5 rfl (Nat.le_of_ble_eq_true rfl) rfl ?_
      refine s_iload_n hz dX0_as_6 rfl 3 rfl ?_
      refine s_i2l hz dX0_as_7 ?_
      refine s_lconst (v := (0 : Int64)) hz dX0_as_8 (by decide) ?_
      refine s_ldc2 hz dX0_as_9 q372 ?_
      refine s_bind (fun q8 e9 => ?_)
      refine kX_X0_125 hc (cfX0_in e9) ⟨(Nat.le_of_ble_eq_true rfl), (Nat.le_of_ble_eq_true rfl)⟩ ⟨(Nat.le_of_ble_eq_true rfl), (Nat.le_of_ble_eq_true rfl)⟩ (Nat.le_of_ble_eq_true rfl) dX0_as_12 ?_
      refine s_iconst (v := (0 : Int32)) hz dX0_as_15 (by decide) ?_
      refine s_bind (fun q13 e14 => ?_)
      rcases q13 with ⟨v10 | b11, σ12⟩
      · refine kX_X0_119 hc (cfX0_need e14) ⟨(Nat.le_of_ble_eq_true rfl), (Nat.le_of_ble_eq_true rfl)⟩ ⟨(Nat.le_of_ble_eq_true rfl), (Nat.le_of_ble_eq_true rfl)⟩ (Nat.le_of_ble_eq_true rfl) dX0_as_16 (s_c2 ?_)
        refine s_aload_nN hz dX0_as_19 rfl 0 rfl ?_
        refine s_iload_n hz dX0_as_20 rfl 3 rfl ?_
        exact s_none
      · refine s_gb (fun h15 => ?_)
        refine kX_X0_119_h hc (cfX0_need e14) ⟨(Nat.le_of_ble_eq_true rfl), (Nat.le_of_ble_eq_true rfl)⟩ ⟨(Nat.le_of_ble_eq_true rfl), (Nat.le_of_ble_eq_true rfl)⟩ (Nat.le_of_ble_eq_true rfl) dX0_as_16 (i := 0) rfl rfl (by decide) (by decide) (q := (RX6, TX6, 7)) rfl q273 (isC_ob h15) ?_
        refine s_astore_n (lv' := [(3, .ref (vO (VX g) + b11)), (0, .ref (vO (VX g) + 0)), (1, .int x1), (2, .int x2)]) hz dX0_as_33 rfl (Nat.le_of_ble_eq_true rfl) rfl ?_
        refine s_aload_n hz dX0_as_34 rfl 1 rfl ?_
        refine s_aload_n hz dX0_as_35 rfl 0 rfl ?_
        refine s_bind (fun q16 e17 => ?_)
        refine kX_X0_145 hc (cfX0_finds e17) ⟨(Nat.le_of_ble_eq_true rfl), (Nat.le_of_ble_eq_true rfl)⟩ ⟨(Nat.le_of_ble_eq_true rfl), (Nat.le_of_ble_eq_true rfl)⟩ (Nat.le_of_ble_eq_true rfl) dX0_as_36 ?_
        exact s_iretM hc dX0_as_39 (Nat.le_of_ble_eq_true rfl) (Nat.le_of_ble_eq_true rfl)
    · refine s_astore_n (lv' := [(3, .ref (vO (VX g) + a7)), (0, .ref (vO (VX g) + 0)), (1, .int x1), (2, .int x2)]) hz dX0_as_5 rfl (Nat.le_of_ble_eq_true rfl) rfl ?_
      refine s_iload_n hz dX0_as_6 rfl 3 rfl ?_
      refine s_i2l hz dX0_as_7 ?_
      refine s_lconst (v := (0 : Int64)) hz dX0_as_8 (by decide) ?_
      refine s_ldc2 hz dX0_as_9 q372 ?_
      refine s_bind (fun q18 e19 => ?_)
      refine kX_X0_125 hc (cfX0_in e19) ⟨(Nat.le_of_ble_eq_true rfl), (Nat.le_of_ble_eq_true rfl)⟩ ⟨(Nat.le_of_ble_eq_true rfl), (Nat.le_of_ble_eq_true rfl)⟩ (Nat.le_of_ble_eq_true rfl) dX0_as_12 ?_
      refine s_iconst (v := (0 : Int32)) hz dX0_as_15 (by decide) ?_
      refine s_bind (fun q23 e24 => ?_)
      rcases q23 with ⟨v20 | b21, σ22⟩
      · refine kX_X0_119 hc (cfX0_need e24) ⟨(Nat.le_of_ble_eq_true rfl), (Nat.le_of_ble_eq_true rfl)⟩ ⟨(Nat.le_of_ble_eq_true rfl), (Nat.le_of_ble_eq_true rfl)⟩ (Nat.le_of_ble_eq_true rfl) dX0_as_16 (s_c2 ?_)
        refine s_aload_n hz dX0_as_19 rfl 0 rfl ?_
        refine s_iload_n hz dX0_as_20 rfl 3 rfl ?_
        refine s_bind (fun q26 e27 => ?_)
        refine kX_X0_179 hc e27 ⟨(Nat.le_of_ble_eq_true rfl), (Nat.le_of_ble_eq_true rfl)⟩ ⟨(Nat.le_of_ble_eq_true rfl), (Nat.le_of_ble_eq_true rfl)⟩ (Nat.le_of_ble_eq_true rfl) dX0_as_21 ?_
        refine s_iconst (v := (2 : Int32)) hz dX0_as_24 (by decide) ?_
        refine s_bind (fun q31 e32 => ?_)
        rcases q31 with ⟨v28 | b29, σ30⟩
        · refine kX_X0_119 hc (cfX0_need e32) ⟨(Nat.le_of_ble_eq_true rfl), (Nat.le_of_ble_eq_true rfl)⟩ ⟨(Nat.le_of_ble_eq_true rfl), (Nat.le_of_ble_eq_true rfl)⟩ (Nat.le_of_ble_eq_true rfl) dX0_as_25 (s_c2 ?_)
          refine s_aload_n hz dX0_as_28 rfl 0 rfl ?_
          refine s_bind (fun v34 e35 => ?_)
          refine rX_d_X0_176 hc e35 dX0_as_29 ?_
          exact s_iretM hc dX0_as_32 (Nat.le_of_ble_eq_true rfl) (Nat.le_of_ble_eq_true rfl)
        · refine s_gb (fun h33 => ?_)
          refine kX_X0_119_h hc (cfX0_need e32) ⟨(Nat.le_of_ble_eq_true rfl), (Nat.le_of_ble_eq_true rfl)⟩ ⟨(Nat.le_of_ble_eq_true rfl), (Nat.le_of_ble_eq_true rfl)⟩ (Nat.le_of_ble_eq_true rfl) dX0_as_25 (i := 0) rfl rfl (by decide) (by decide) (q := (RX6, TX6, 7)) rfl q273 (isC_ob h33) ?_
          refine s_astore_n (lv' := [(3, .ref (vO (VX g) + b29)), (0, .ref (vO (VX g) + 0)), (1, .int x1), (2, .int x2)]) hz dX0_as_33 rfl (Nat.le_of_ble_eq_true rfl) rfl ?_
          refine s_aload_n hz dX0_as_34 rfl 1 rfl ?_
          refine s_aload_n hz dX0_as_35 rfl 0 rfl ?_
          refine s_bind (fun q36 e37 => ?_)
          refine kX_X0_145 hc (cfX0_finds e37) ⟨(Nat.le_of_ble_eq_true rfl), (Nat.le_of_ble_eq_true rfl)⟩ ⟨(Nat.le_of_ble_eq_true rfl), (Nat.le_of_ble_eq_true rfl)⟩ (Nat.le_of_ble_eq_true rfl) dX0_as_36 ?_
          exact s_iretM hc dX0_as_39 (Nat.le_of_ble_eq_true rfl) (Nat.le_of_ble_eq_true rfl)
      · refine s_gb (fun h25 => ?_)
        refine kX_X0_119_h hc (cfX0_need e24) ⟨(Nat.le_of_ble_eq_true rfl), (Nat.le_of_ble_eq_true rfl)⟩ ⟨(Nat.le_of_ble_eq_true rfl), (Nat.le_of_ble_eq_true rfl)⟩ (Nat.le_of_ble_eq_true rfl) dX0_as_16 (i := 0) rfl rfl (by decide) (by decide) (q := (RX6, TX6, 7)) rfl q273 (isC_ob h25) ?_
        refine s_astore_n (lv' := [(3, .ref (vO (VX g) + b21)), (0, .ref (vO (VX g) + 0)), (1, .int x1), (2, .int x2)]) hz dX0_as_33 rfl (Nat.le_of_ble_eq_true rfl) rfl ?_
        refine s_aload_n hz dX0_as_34 rfl 1 rfl ?_
        refine s_aload_n hz dX0_as_35 rfl 0 rfl ?_
        refine s_bind (fun q38 e39 => ?_)
        refine kX_X0_145 hc (cfX0_finds e39) ⟨(Nat.le_of_ble_eq_true rfl), (Nat.le_of_ble_eq_true rfl)⟩ ⟨(Nat.le_of_ble_eq_true rfl), (Nat.le_of_ble_eq_true rfl)⟩ (Nat.le_of_ble_eq_true rfl) dX0_as_36 ?_
        exact s_iretM hc dX0_as_39 (Nat.le_of_ble_eq_true rfl) (Nat.le_of_ble_eq_true rfl)
  · refine s_gb (fun h6 => ?_)
    refine kX_X0_170_h hc (cfX0_peopleAt e5) ⟨(Nat.le_of_ble_eq_true rfl), (Nat.le_of_ble_eq_true rfl)⟩ ⟨(Nat.le_of_ble_eq_true rfl), (Nat.le_of_ble_eq_true rfl)⟩ (Nat.le_of_ble_eq_true rfl) dX0_as_2 (i := 0) rfl rfl (by decide) (by decide) (q := (RX6, TX6, 7)) rfl q273 (isC_ob h6) ?_
    refine s_astore_n (lv' := [(3, .ref (vO (VX g) + b2)), (0, .ref (vO (VX g) + 0)), (1, .int x1), (2, .int x2)]) hz dX0_as_33 rfl (Nat.le_of_ble_eq_true rfl) rfl ?_
    refine s_aload_n hz dX0_as_34 rfl 1 rfl ?_
    refine s_aload_n hz dX0_as_35 rfl 0 rfl ?_
    refine s_bind (fun q40 e41 => ?_)
    refine kX_X0_145 hc (cfX0_finds e41) ⟨(Nat.le_of_ble_eq_true rfl), (Nat.le_of_ble_eq_true rfl)⟩ ⟨(Nat.le_of_ble_eq_true rfl), (Nat.le_of_ble_eq_true rfl)⟩ (Nat.le_of_ble_eq_true rfl) dX0_as_36 ?_
    exact s_iretM hc dX0_as_39 (Nat.le_of_ble_eq_true rfl) (Nat.le_of_ble_eq_true rfl)
theorem cfX0_as {g : GeoX} {N : Nat}  {σ : Mem} {x1 : Int32} {x2 : Int32} {ρ : Int32 × Mem} (hF : fX0_as N σ x1 x2 = some ρ) (l : Launch) : CtW (wsW_ yX0_as cX0_as 4 (some .int) [(0, 32, 33, 1)]) (VX g) l yX0_as (rk 8 3 21) [.ref (vO (VX g) + 0), .int x1, .int x2] σ (oI ρ.1) ρ.2 :=
  CtW.ofH (by decide) (Nat.le_of_ble_eq_true rfl) (fun Θ hc ls hl => wfX0_as σ x1 x2 hc hF ls hl)
def fX0_likes (N : Nat) (σ : Mem) (x1 : Int32) (x2 : Int32) : Option (Int32 × Mem) :=
  (fX0_peopleAt N σ x1).bind (fun q4 => cT2 q4 (fun v1 σ3 => 
  mO v1
  ((fX0_isPlace N σ3 x2).bind (fun q8 => 
  (fX0_need N σ3 q8 (0 : Int32)).bind (fun q13 => cT2 q13 (fun v10 σ12 => 
  (fX0_findCrossed N σ12).bind (fun q16 => 
  none)) (fun b11 σ12 => 
  gb (isC σ12 b11 5) (
  (fX0_finds N σ12 b11).bind (fun q18 => 
  some (q18.1, q18.2))))))) (fun a7 => 
  (fX0_isPlace N σ3 x2).bind (fun q20 => 
  (fX0_need N σ3 q20 (0 : Int32)).bind (fun q25 => cT2 q25 (fun v22 σ24 => 
  (fX0_findCrossed N σ24).bind (fun q28 => 
  (fX0_likesOf N q28.2 a7 x2).bind (fun q30 => 
  some (q30.1, q30.2)))) (fun b23 σ24 => 
  gb (isC σ24 b23 5) (
  (fX0_finds N σ24 b23).bind (fun q32 => 
  some (q32.1, q32.2)))))))) (fun b2 σ3 => 
  gb (isC σ3 b2 5) (
  (fX0_finds N σ3 b2).bind (fun q34 => 
  some (q34.1, q34.2)))))
set_option maxHeartbeats 4000000 in
theorem wfX0_likes {Θ : ThT Mem} {g : GeoX} {N : Nat}  {ρ : Int32 × Mem} (σ : Mem) (x1 : Int32) (x2 : Int32) (hc : Cx Θ (VX g) cX0_likes 4 RX0 (rk 77 2 14) (some .int) [(0, 24, 25, 1)] false (oI ρ.1) ρ.2) : Sim Θ 4 ρ σ (fX0_likes N σ x1 x2) (0, 0) 0 [(0, .ref (vO (VX g) + 0)), (1, .int x1), (2, .int x2)] [] := by
  have hz := hc.z
  unfold fX0_likes
  refine s_aload_n hz dX0_likes_0 rfl 0 rfl ?_
  refine s_iload_n hz dX0_likes_1 rfl 1 rfl ?_
  refine s_bind (fun q4 e5 => ?_)
  rcases q4 with ⟨v1 | b2, σ3⟩
  · refine kX_X0_170 hc (cfX0_peopleAt e5) ⟨(Nat.le_of_ble_eq_true rfl), (Nat.le_of_ble_eq_true rfl)⟩ ⟨(Nat.le_of_ble_eq_true rfl), (Nat.le_of_ble_eq_true rfl)⟩ (Nat.le_of_ble_eq_true rfl) dX0_likes_2 (s_c2 ?_)
    refine s_opt (fun _ => ?_) (fun a7 _ => ?_)
    · refine s_astore_nN (lv' := [(3, .null), (0, .ref (vO (VX g) + 0)), (1, .int x1), (2, .int x2)]) hz dX0_likes_5 rfl (Nat.le_of_ble_eq_true rfl) rfl ?_
      refine s_iload_n hz dX0_likes_6 rfl 3 rfl ?_
      refine s_bind (fun q8 e9 => ?_)
      refine kX_X0_149 hc (cfX0_isPlace e9) ⟨(Nat.le_of_ble_eq_true rfl), (Nat.le_of_ble_eq_true rfl)⟩ ⟨(Nat.le_of_ble_eq_true rfl), (Nat.le_of_ble_eq_true rfl)⟩ (Nat.le_of_ble_eq_true rfl) dX0_likes_7 ?_
      refine s_iconst (v := (0 : Int32)) hz dX0_likes_10 (by decide) ?_
      refine s_bind (fun q13 e14 => ?_)
      rcases q13 with ⟨v10 | b11, σ12⟩
      · refine kX_X0_119 hc (cfX0_need e14) ⟨(Nat.le_of_ble_eq_true rfl), (Nat.le_of_ble_eq_true rfl)⟩ ⟨(Nat.le_of_ble_eq_true rfl), (Nat.le_of_ble_eq_true rfl)⟩ (Nat.le_of_ble_eq_true rfl) dX0_likes_11 (s_c2 ?_)
        refine s_aload_n hz dX0_likes_14 rfl 1 rfl ?_
        refine s_bind (fun q16 e17 => ?_)
        refine kX_X0_249 hc (cfX0_findCrossed e17) ⟨(Nat.le_of_ble_eq_true rfl), (Nat.le_of_ble_eq_true rfl)⟩ ⟨(Nat.le_of_ble_eq_true rfl), (Nat.le_of_ble_eq_true rfl)⟩ (Nat.le_of_ble_eq_true rfl) dX0_likes_15 ?_
        refine s_aload_n hz dX0_likes_18 rfl 1 rfl ?_
        refine s_aload_nN hz dX0_likes_19 rfl 0 rfl ?_
        refine s_iload_n hz dX0_likes_20 rfl 3 rfl ?_
        exact s_none
      · refine s_gb (fun h15 => ?_)
        refine kX_X0_119_h hc (cfX0_need e14) ⟨(Nat.le_of_ble_eq_true rfl), (Nat.le_of_ble_eq_true rfl)⟩ ⟨(Nat.le_of_ble_eq_true rfl), (Nat.le_of_ble_eq_true rfl)⟩ (Nat.le_of_ble_eq_true rfl) dX0_likes_11 (i := 0) rfl rfl (by decide) (by decide) (q := (RX6, TX6, 7)) rfl q273 (isC_ob h15) ?_
        refine s_astore_n (lv' := [(3, .ref (vO (VX g) + b11)), (0, .ref (vO (VX g) + 0)), (1, .int x1), (2, .int x2)]) hz dX0_likes_25 rfl (Nat.le_of_ble_eq_true rfl) rfl ?_
        refine s_aload_n hz dX0_likes_26 rfl 1 rfl ?_
        refine s_aload_n hz dX0_likes_27 rfl 0 rfl ?_
        refine s_bind (fun q18 e19 => ?_)
        refine kX_X0_145 hc (cfX0_finds e19) ⟨(Nat.le_of_ble_eq_true rfl), (Nat.le_of_ble_eq_true rfl)⟩ ⟨(Nat.le_of_ble_eq_true rfl), (Nat.le_of_ble_eq_true rfl)⟩ (Nat.le_of_ble_eq_true rfl) dX0_likes_28 ?_
        exact s_iretM hc dX0_likes_31 (Nat.le_of_ble_eq_true rfl) (Nat.le_of_ble_eq_true rfl)
    · refine s_astore_n (lv' := [(3, .ref (vO (VX g) + a7)), (0, .ref (vO (VX g) + 0)), (1, .int x1), (2, .int x2)]) hz dX0_likes_5 rfl (Nat.le_of_ble_eq_true rfl) rfl ?_
      refine s_iload_n hz dX0_likes_6 rfl 3 rfl ?_
      refine s_bind (fun q20 e21 => ?_)
      refine kX_X0_149 hc (cfX0_isPlace e21) ⟨(Nat.le_of_ble_eq_true rfl), (Nat.le_of_ble_eq_true rfl)⟩ ⟨(Nat.le_of_ble_eq_true rfl), (Nat.le_of_ble_eq_true rfl)⟩ (Nat.le_of_ble_eq_true rfl) dX0_likes_7 ?_
      refine s_iconst (v := (0 : Int32)) hz dX0_likes_10 (by decide) ?_
      refine s_bind (fun q25 e26 => ?_)
      rcases q25 with ⟨v22 | b23, σ24⟩
      · refine kX_X0_119 hc (cfX0_need e26) ⟨(Nat.le_of_ble_eq_true rfl), (Nat.le_of_ble_eq_true rfl)⟩ ⟨(Nat.le_of_ble_eq_true rfl), (Nat.le_of_ble_eq_true rfl)⟩ (Nat.le_of_ble_eq_true rfl) dX0_likes_11 (s_c2 ?_)
        refine s_aload_n hz dX0_likes_14 rfl 1 rfl ?_
        refine s_bind (fun q28 e29 => ?_)
        refine kX_X0_249 hc (cfX0_findCrossed e29) ⟨(Nat.le_of_ble_eq_true rfl), (Nat.le_of_ble_eq_true rfl)⟩ ⟨(Nat.le_of_ble_eq_true rfl), (Nat.le_of_ble_eq_true rfl)⟩ (Nat.le_of_ble_eq_true rfl) dX0_likes_15 ?_
        refine s_aload_n hz dX0_likes_18 rfl 1 rfl ?_
        refine s_aload_n hz dX0_likes_19 rfl 0 rfl ?_
        refine s_iload_n hz dX0_likes_20 rfl 3 rfl ?_
        refine s_bind (fun q30 e31 => ?_)
        refine kX_X0_214 hc (cfX0_likesOf e31) ⟨(Nat.le_of_ble_eq_true rfl), (Nat.le_of_ble_eq_true rfl)⟩ ⟨(Nat.le_of_ble_eq_true rfl), (Nat.le_of_ble_eq_true rfl)⟩ (Nat.le_of_ble_eq_true rfl) dX0_likes_21 ?_
        exact s_iretM hc dX0_likes_24 (Nat.le_of_ble_eq_true rfl) (Nat.le_of_ble_eq_true rfl)
      · refine s_gb (fun h27 => ?_)
        refine kX_X0_119_h hc (cfX0_need e26) ⟨(Nat.le_of_ble_eq_true rfl), (Nat.le_of_ble_eq_true rfl)⟩ ⟨(Nat.le_of_ble_eq_true rfl), (Nat.le_of_ble_eq_true rfl)⟩ (Nat.le_of_ble_eq_true rfl) dX0_likes_11 (i := 0) rfl rfl (by decide) (by decide) (q := (RX6, TX6, 7)) rfl q273 (isC_ob h27) ?_
        refine s_astore_n (lv' := [(3, .ref (vO (VX g) + b23)), (0, .ref (vO (VX g) + 0)), (1, .int x1), (2, .int x2)]) hz dX0_likes_25 rfl (Nat.le_of_ble_eq_true rfl) rfl ?_
        refine s_aload_n hz dX0_likes_26 rfl 1 rfl ?_
        refine s_aload_n hz dX0_likes_27 rfl 0 rfl ?_
        refine s_bind (fun q32 e33 => ?_)
        refine kX_X0_145 hc (cfX0_finds e33) ⟨(Nat.le_of_ble_eq_true rfl), (Nat.le_of_ble_eq_true rfl)⟩ ⟨(Nat.le_of_ble_eq_true rfl), (Nat.le_of_ble_eq_true rfl)⟩ (Nat.le_of_ble_eq_true rfl) dX0_likes_28 ?_
        exact s_iretM hc dX0_likes_31 (Nat.le_of_ble_eq_true rfl) (Nat.le_of_ble_eq_true rfl)
  · refine s_gb (fun h6 => ?_)
    refine kX_X0_170_h hc (cfX0_peopleAt e5) ⟨(Nat.le_of_ble_eq_true rfl), (Nat.le_of_ble_eq_true rfl)⟩ ⟨(Nat.le_of_ble_eq_true rfl), (Nat.le_of_ble_eq_true rfl)⟩ (Nat.le_of_ble_eq_true rfl) dX0_likes_2 (i := 0) rfl rfl (by decide) (by decide) (q := (RX6, TX6, 7)) rfl q273 (isC_ob h6) ?_
    refine s_astore_n (lv' := [(3, .ref (vO (VX g) + b2)), (0, .ref (vO (VX g) + 0)), (1, .int x1), (2, .int x2)]) hz dX0_likes_25 rfl (Nat.le_of_ble_eq_true rfl) rfl ?_
    refine s_aload_n hz dX0_likes_26 rfl 1 rfl ?_
    refine s_aload_n hz dX0_likes_27 rfl 0 rfl ?_
    refine s_bind (fun q34 e35 => ?_)
    refine kX_X0_145 hc (cfX0_finds e35) ⟨(Nat.le_of_ble_eq_true rfl), (Nat.le_of_ble_eq_true rfl)⟩ ⟨(Nat.le_of_ble_eq_true rfl), (Nat.le_of_ble_eq_true rfl)⟩ (Nat.le_of_ble_eq_true rfl) dX0_likes_28 ?_
    exact s_iretM hc dX0_likes_31 (Nat.le_of_ble_eq_true rfl) (Nat.le_of_ble_eq_true rfl)
theorem cfX0_likes {g : GeoX} {N : Nat}  {σ : Mem} {x1 : Int32} {x2 : Int32} {ρ : Int32 × Mem} (hF : fX0_likes N σ x1 x2 = some ρ) (l : Launch) : CtW (wsW_ yX0_likes cX0_likes 4 (some .int) [(0, 24, 25, 1)]) (VX g) l yX0_likes (rk 77 2 14) [.ref (vO (VX g) + 0), .int x1, .int x2] σ (oI ρ.1) ρ.2 :=
  CtW.ofH (by decide) (Nat.le_of_ble_eq_true rfl) (fun Θ hc ls hl => wfX0_likes σ x1 x2 hc hF ls hl)
def jX0_crossed_33 (N : Nat) (σ : Mem) (x1 : Int32) (x2 : Int32) (t0 : Int32)  : Option (Int32 × Mem) :=
  (fX0_need N σ t0 (0 : Int32)).bind (fun q7 => cT2 q7 (fun v4 σ6 => 
  (fX0_findCrossed N σ6).bind (fun q10 => 
  if (0 : Int32) ≤ x1 then
  ((fX1_group_1 N q10.2 x1).bind (fun q13 => 
  mO q13
  (none) (fun a15 => 
  (fX0_findLiked N q10.2 a15).bind (fun q16 => 
  gb (inb x2 495) (
  (fX0_crossedBy N q16.2 a15 (gI q16.2 67 (ix x2)) q16.1).bind (fun q19 => 
  some (q19, q16.2)))))))
  else (gb (inb x2 495) (
  some ((gI q10.2 68 (ix x2)), q10.2))))) (fun b5 σ6 => 
  gb (isC σ6 b5 5) (
  (fX0_finds N σ6 b5).bind (fun q22 => 
  some (q22.1, q22.2)))))
set_option maxHeartbeats 4000000 in
theorem wjX0_crossed_33 {Θ : ThT Mem} {g : GeoX} {N : Nat}  {ρ : Int32 × Mem} (σ : Mem) (hc : Cx Θ (VX g) cX0_crossed 5 RX0 (rk 77 1 7) (some .int) [(0, 51, 81, 1), (52, 80, 81, 1)] false (oI ρ.1) ρ.2) (x1 : Int32) (x2 : Int32) (t0 : Int32)  : Sim Θ 5 ρ σ (jX0_crossed_33 N σ x1 x2 t0 ) (0, 0) 33 [(0, .ref (vO (VX g) + 0)), (1, .int x1), (2, .int x2)] [.int t0] := by
  have hz := hc.z
  unfold jX0_crossed_33
  refine s_iconst (v := (0 : Int32)) hz dX0_crossed_33 (by decide) ?_
  refine s_bind (fun q7 e8 => ?_)
  rcases q7 with ⟨v4 | b5, σ6⟩
  · refine kX_X0_119 hc (cfX0_need e8) ⟨(Nat.le_of_ble_eq_true rfl), (Nat.le_of_ble_eq_true rfl)⟩ ⟨(Nat.le_of_ble_eq_true rfl), (Nat.le_of_ble_eq_true rfl)⟩ (Nat.le_of_ble_eq_true rfl) dX0_crossed_34 (s_c2 ?_)
    refine s_aload_n hz dX0_crossed_37 rfl 0 rfl ?_
    refine s_bind (fun q10 e11 => ?_)
    refine kX_X0_249 hc (cfX0_findCrossed e11) ⟨(Nat.le_of_ble_eq_true rfl), (Nat.le_of_ble_eq_true rfl)⟩ ⟨(Nat.le_of_ble_eq_true rfl), (Nat.le_of_ble_eq_true rfl)⟩ (Nat.le_of_ble_eq_true rfl) dX0_crossed_38 ?_
    refine s_iload_n hz dX0_crossed_41 rfl 1 rfl ?_
    refine s_if_ge (tgt := 52) hz dX0_crossed_42 rfl (fun h12 => ?_) (fun h12 => ?_)
    · refine s_aload_n hz dX0_crossed_52 rfl 0 rfl ?_
      refine rX_g_X0_42_0 hc dX0_crossed_53 ?_
      refine s_iload_n hz dX0_crossed_56 rfl 1 rfl ?_
      refine s_bind (fun q13 e14 => ?_)
      refine kX_X0_134_1 hc (cfX1_group_1 e14) ⟨(Nat.le_of_ble_eq_true rfl), (Nat.le_of_ble_eq_true rfl)⟩ ⟨(Nat.le_of_ble_eq_true rfl), (Nat.le_of_ble_eq_true rfl)⟩ (Nat.le_of_ble_eq_true rfl) dX0_crossed_57 ?_
      refine s_opt (fun _ => ?_) (fun a15 _ => ?_)
      · refine s_astore_nN (lv' := [(3, .null), (0, .ref (vO (VX g) + 0)), (1, .int x1), (2, .int x2)]) hz dX0_crossed_60 rfl (Nat.le_of_ble_eq_true rfl) rfl ?_
        refine s_aload_n hz dX0_crossed_61 rfl 1 rfl ?_
        refine s_aload_nN hz dX0_crossed_62 rfl 0 rfl ?_
        exact s_none
      · refine s_astore_n (lv' := [(3, .ref (vO (VX g) + a15)), (0, .ref (vO (VX g) + 0)), (1, .int x1), (2, .int x2)]) hz dX0_crossed_60 rfl (Nat.le_of_ble_eq_true rfl) rfl ?_
        refine s_aload_n hz dX0_crossed_61 rfl 1 rfl ?_
        refine s_aload_n hz dX0_crossed_62 rfl 0 rfl ?_
        refine s_bind (fun q16 e17 => ?_)
        refine kX_X0_221 hc (cfX0_findLiked e17) ⟨(Nat.le_of_ble_eq_true rfl), (Nat.le_of_ble_eq_true rfl)⟩ ⟨(Nat.le_of_ble_eq_true rfl), (Nat.le_of_ble_eq_true rfl)⟩ (Nat.le_of_ble_eq_true rfl) dX0_crossed_63 ?_
        refine s_istore (lv' := [(4, .int q16.1), (3, .ref (vO (VX g) + a15)), (0, .ref (vO (VX g) + 0)), (1, .int x1), (2, .int x2)]) hz dX0_crossed_66 (Nat.le_of_ble_eq_true rfl) rfl ?_
        refine s_aload_n hz dX0_crossed_68 rfl 1 rfl ?_
        refine s_aload_n hz dX0_crossed_69 rfl 2 rfl ?_
        refine rX_g_X0_87_0 hc dX0_crossed_70 ?_
        refine s_iload_n hz dX0_crossed_73 rfl 4 rfl ?_
        refine s_gb (fun h18 => ?_)
        refine rX_ld_67 hc h18 rfl dX0_crossed_74 ?_
        refine s_iload hz dX0_crossed_75 0 rfl ?_
        refine s_bind (fun q19 e20 => ?_)
        refine kX_X0_225 hc (cfX0_crossedBy e20) ⟨(Nat.le_of_ble_eq_true rfl), (Nat.le_of_ble_eq_true rfl)⟩ ⟨(Nat.le_of_ble_eq_true rfl), (Nat.le_of_ble_eq_true rfl)⟩ (Nat.le_of_ble_eq_true rfl) dX0_crossed_77 ?_
        exact s_iretM hc dX0_crossed_80 (Nat.le_of_ble_eq_true rfl) (Nat.le_of_ble_eq_true rfl)
    · refine s_aload_n hz dX0_crossed_45 rfl 0 rfl ?_
      refine rX_g_X0_90_0 hc dX0_crossed_46 ?_
      refine s_iload_n hz dX0_crossed_49 rfl 2 rfl ?_
      refine s_gb (fun h21 => ?_)
      refine rX_ld_68 hc h21 rfl dX0_crossed_50 ?_
      exact s_iretM hc dX0_crossed_51 (Nat.le_of_ble_eq_true rfl) (Nat.le_of_ble_eq_true rfl)
  · refine s_gb (fun h9 => ?_)
    refine kX_X0_119_h hc (cfX0_need e8) ⟨(Nat.le_of_ble_eq_true rfl), (Nat.le_of_ble_eq_true rfl)⟩ ⟨(Nat.le_of_ble_eq_true rfl), (Nat.le_of_ble_eq_true rfl)⟩ (Nat.le_of_ble_eq_true rfl) dX0_crossed_34 (i := 0) rfl rfl (by decide) (by decide) (q := (RX6, TX6, 7)) rfl q273 (isC_ob h9) ?_
    refine s_astore_n (lv' := [(3, .ref (vO (VX g) + b5)), (0, .ref (vO (VX g) + 0)), (1, .int x1), (2, .int x2)]) hz dX0_crossed_81 rfl (Nat.le_of_ble_eq_true rfl) rfl ?_
    refine s_aload_n hz dX0_crossed_82 rfl 1 rfl ?_
    refine s_aload_n hz dX0_crossed_83 rfl 0 rfl ?_
    refine s_bind (fun q22 e23 => ?_)
    refine kX_X0_145 hc (cfX0_finds e23) ⟨(Nat.le_of_ble_eq_true rfl), (Nat.le_of_ble_eq_true rfl)⟩ ⟨(Nat.le_of_ble_eq_true rfl), (Nat.le_of_ble_eq_true rfl)⟩ (Nat.le_of_ble_eq_true rfl) dX0_crossed_84 ?_
    exact s_iretM hc dX0_crossed_87 (Nat.le_of_ble_eq_true rfl) (Nat.le_of_ble_eq_true rfl)
def fX0_crossed (N : Nat) (σ : Mem) (x1 : Int32) (x2 : Int32) : Option (Int32 × Mem) :=
  (fX0_in N σ ((x1).toInt64) (-1 : Int64) ((((gI σ 1 0) - (1 : Int32))).toInt64)).bind (fun q1 => 
  if q1 = (0 : Int32) then
  (jX0_crossed_33 N σ x1 x2 (0 : Int32))
  else ((fX0_isPlace N σ x2).bind (fun q24 => 
  (fX0_need N σ (if q24 = (0 : Int32) then (0 : Int32) else (1 : Int32)) (0 : Int32)).bind (fun q29 => cT2 q29 (fun v26 σ28 => 
  (fX0_findCrossed N σ28).bind (fun q32 => 
  if (0 : Int32) ≤ x1 then
  ((fX1_group_1 N q32.2 x1).bind (fun q35 => 
  mO q35
  (none) (fun a37 => 
  (fX0_findLiked N q32.2 a37).bind (fun q38 => 
  gb (inb x2 495) (
  (fX0_crossedBy N q38.2 a37 (gI q38.2 67 (ix x2)) q38.1).bind (fun q41 => 
  some (q41, q38.2)))))))
  else (gb (inb x2 495) (
  some ((gI q32.2 68 (ix x2)), q32.2))))) (fun b27 σ28 => 
  gb (isC σ28 b27 5) (
  (fX0_finds N σ28 b27).bind (fun q44 => 
  some (q44.1, q44.2))))))))
set_option maxHeartbeats 4000000 in
theorem wfX0_crossed {Θ : ThT Mem} {g : GeoX} {N : Nat}  {ρ : Int32 × Mem} (σ : Mem) (x1 : Int32) (x2 : Int32) (hc : Cx Θ (VX g) cX0_crossed 5 RX0 (rk 77 1 7) (some .int) [(0, 51, 81, 1), (52, 80, 81, 1)] false (oI ρ.1) ρ.2) : Sim Θ 5 ρ σ (fX0_crossed N σ x1 x2) (0, 0) 0 [(0, .ref (vO (VX g) + 0)), (1, .int x1), (2, .int x2)] [] := by
  have hz := hc.z
  unfold fX0_crossed
  refine s_iload_n hz dX0_crossed_0 rfl 1 rfl ?_
  refine s_i2l hz dX0_crossed_1 ?_
  refine s_ldc2 hz dX0_crossed_2 q669 ?_
  refine s_aload_n hz dX0_crossed_5 rfl 0 rfl ?_
  refine rX_g_X0_42_0 hc dX0_crossed_6 ?_
  refine rX_g_X0_131_1 hc dX0_crossed_9 ?_
  refine s_iconst (v := (1 : Int32)) hz dX0_crossed_12 (by decide) ?_
  refine s_isub hz dX0_crossed_13 ?_
  refine s_i2l hz dX0_crossed_14 ?_
  refine s_bind (fun q1 e2 => ?_)
  refine kX_X0_125 hc (cfX0_in e2) ⟨(Nat.le_of_ble_eq_true rfl), (Nat.le_of_ble_eq_true rfl)⟩ ⟨(Nat.le_of_ble_eq_true rfl), (Nat.le_of_ble_eq_true rfl)⟩ (Nat.le_of_ble_eq_true rfl) dX0_crossed_15 ?_
  refine s_if_eq (tgt := 32) hz dX0_crossed_18 rfl (fun h3 => ?_) (fun h3 => ?_)
  · refine s_iconst (v := (0 : Int32)) hz dX0_crossed_32 (by decide) ?_
    exact s_sub [0, 1, 2] rfl (wjX0_crossed_33 σ hc x1 x2 (0 : Int32) )
  · refine s_iload_n hz dX0_crossed_21 rfl 2 rfl ?_
    refine s_bind (fun q24 e25 => ?_)
    refine kX_X0_149 hc (cfX0_isPlace e25) ⟨(Nat.le_of_ble_eq_true rfl), (Nat.le_of_ble_eq_true rfl)⟩ ⟨(Nat.le_of_ble_eq_true rfl), (Nat.le_of_ble_eq_true rfl)⟩ (Nat.le_of_ble_eq_true rfl) dX0_crossed_22 ?_
    refine s_dia (J := 33) (v := .int (if q24 = (0 : Int32) then (0 : Int32) else (1 : Int32))) (st := []) (fun _ hj46 => ?_) ?_
    · refine s_if_eq_ (tgt := 32) hz dX0_crossed_25 rfl (fun h47 => ?_) (fun h47 => ?_)
      · refine s_iconst (v := (0 : Int32)) hz dX0_crossed_32 (by decide) ?_
        rw [if_pos h47] at hj46
        exact hj46
      · refine s_iconst (v := (1 : Int32)) hz dX0_crossed_28 (by decide) ?_
        refine s_goto (tgt := 33) hz dX0_crossed_29 rfl ?_
        rw [if_neg h47] at hj46
        exact hj46
    refine s_iconst (v := (0 : Int32)) hz dX0_crossed_33 (by decide) ?_
    refine s_bind (fun q29 e30 => ?_)
    rcases q29 with ⟨v26 | b27, σ28⟩
    · refine kX_X0_119 hc (cfX0_need e30) ⟨(Nat.le_of_ble_eq_true rfl), (Nat.le_of_ble_eq_true rfl)⟩ ⟨(Nat.le_of_ble_eq_true rfl), (Nat.le_of_ble_eq_true rfl)⟩ (Nat.le_of_ble_eq_true rfl) dX0_crossed_34 (s_c2 ?_)
      refine s_aload_n hz dX0_crossed_37 rfl 0 rfl ?_
      refine s_bind (fun q32 e33 => ?_)
      refine kX_X0_249 hc (cfX0_findCrossed e33) ⟨(Nat.le_of_ble_eq_true rfl), (Nat.le_of_ble_eq_true rfl)⟩ ⟨(Nat.le_of_ble_eq_true rfl), (Nat.le_of_ble_eq_true rfl)⟩ (Nat.le_of_ble_eq_true rfl) dX0_crossed_38 ?_
      refine s_iload_n hz dX0_crossed_41 rfl 1 rfl ?_
      refine s_if_ge (tgt := 52) hz dX0_crossed_42 rfl (fun h34 => ?_) (fun h34 => ?_)
      · refine s_aload_n hz dX0_crossed_52 rfl 0 rfl ?_
        refine rX_g_X0_42_0 hc dX0_crossed_53 ?_
        refine s_iload_n hz dX0_crossed_56 rfl 1 rfl ?_
        refine s_bind (fun q35 e36 => ?_)
        refine kX_X0_134_1 hc (cfX1_group_1 e36) ⟨(Nat.le_of_ble_eq_true rfl), (Nat.le_of_ble_eq_true rfl)⟩ ⟨(Nat.le_of_ble_eq_true rfl), (Nat.le_of_ble_eq_true rfl)⟩ (Nat.le_of_ble_eq_true rfl) dX0_crossed_57 ?_
        refine s_opt (fun _ => ?_) (fun a37 _ => ?_)
        · refine s_astore_nN (lv' := [(3, .null), (0, .ref (vO (VX g) + 0)), (1, .int x1), (2, .int x2)]) hz dX0_crossed_60 rfl (Nat.le_of_ble_eq_true rfl) rfl ?_
          refine s_aload_n hz dX0_crossed_61 rfl 1 rfl ?_
          refine s_aload_nN hz dX0_crossed_62 rfl 0 rfl ?_
          exact s_none
        · refine s_astore_n (lv' := [(3, .ref (vO (VX g) + a37)), (0, .ref (vO (VX g) + 0)), (1, .int x1), (2, .int x2)]) hz dX0_crossed_60 rfl (Nat.le_of_ble_eq_true rfl) rfl ?_
          refine s_aload_n hz dX0_crossed_61 rfl 1 rfl ?_
          refine s_aload_n hz dX0_crossed_62 rfl 0 rfl ?_
          refine s_bind (fun q38 e39 => ?_)
          refine kX_X0_221 hc (cfX0_findLiked e39) ⟨(Nat.le_of_ble_eq_true rfl), (Nat.le_of_ble_eq_true rfl)⟩ ⟨(Nat.le_of_ble_eq_true rfl), (Nat.le_of_ble_eq_true rfl)⟩ (Nat.le_of_ble_eq_true rfl) dX0_crossed_63 ?_
          refine s_istore (lv' := [(4, .int q38.1), (3, .ref (vO (VX g) + a37)), (0, .ref (vO (VX g) + 0)), (1, .int x1), (2, .int x2)]) hz dX0_crossed_66 (Nat.le_of_ble_eq_true rfl) rfl ?_
          refine s_aload_n hz dX0_crossed_68 rfl 1 rfl ?_
          refine s_aload_n hz dX0_crossed_69 rfl 2 rfl ?_
          refine rX_g_X0_87_0 hc dX0_crossed_70 ?_
          refine s_iload_n hz dX0_crossed_73 rfl 4 rfl ?_
          refine s_gb (fun h40 => ?_)
          refine rX_ld_67 hc h40 rfl dX0_crossed_74 ?_
          refine s_iload hz dX0_crossed_75 0 rfl ?_
          refine s_bind (fun q41 e42 => ?_)
          refine kX_X0_225 hc (cfX0_crossedBy e42) ⟨(Nat.le_of_ble_eq_true rfl), (Nat.le_of_ble_eq_true rfl)⟩ ⟨(Nat.le_of_ble_eq_true rfl), (Nat.le_of_ble_eq_true rfl)⟩ (Nat.le_of_ble_eq_true rfl) dX0_crossed_77 ?_
          exact s_iretM hc dX0_crossed_80 (Nat.le_of_ble_eq_true rfl) (Nat.le_of_ble_eq_true rfl)
      · refine s_aload_n hz dX0_crossed_45 rfl 0 rfl ?_
        refine rX_g_X0_90_0 hc dX0_crossed_46 ?_
        refine s_iload_n hz dX0_crossed_49 rfl 2 rfl ?_
        refine s_gb (fun h43 => ?_)
        refine rX_ld_68 hc h43 rfl dX0_crossed_50 ?_
        exact s_iretM hc dX0_crossed_51 (Nat.le_of_ble_eq_true rfl) (Nat.le_of_ble_eq_true rfl)
    · refine s_gb (fun h31 => ?_)
      refine kX_X0_119_h hc (cfX0_need e30) ⟨(Nat.le_of_ble_eq_true rfl), (Nat.le_of_ble_eq_true rfl)⟩ ⟨(Nat.le_of_ble_eq_true rfl), (Nat.le_of_ble_eq_true rfl)⟩ (Nat.le_of_ble_eq_true rfl) dX0_crossed_34 (i := 0) rfl rfl (by decide) (by decide) (q := (RX6, TX6, 7)) rfl q273 (isC_ob h31) ?_
      refine s_astore_n (lv' := [(3, .ref (vO (VX g) + b27)), (0, .ref (vO (VX g) + 0)), (1, .int x1), (2, .int x2)]) hz dX0_crossed_81 rfl (Nat.le_of_ble_eq_true rfl) rfl ?_
      refine s_aload_n hz dX0_crossed_82 rfl 1 rfl ?_
      refine s_aload_n hz dX0_crossed_83 rfl 0 rfl ?_
      refine s_bind (fun q44 e45 => ?_)
      refine kX_X0_145 hc (cfX0_finds e45) ⟨(Nat.le_of_ble_eq_true rfl), (Nat.le_of_ble_eq_true rfl)⟩ ⟨(Nat.le_of_ble_eq_true rfl), (Nat.le_of_ble_eq_true rfl)⟩ (Nat.le_of_ble_eq_true rfl) dX0_crossed_84 ?_
      exact s_iretM hc dX0_crossed_87 (Nat.le_of_ble_eq_true rfl) (Nat.le_of_ble_eq_true rfl)
theorem cfX0_crossed {g : GeoX} {N : Nat}  {σ : Mem} {x1 : Int32} {x2 : Int32} {ρ : Int32 × Mem} (hF : fX0_crossed N σ x1 x2 = some ρ) (l : Launch) : CtW (wsW_ yX0_crossed cX0_crossed 5 (some .int) [(0, 51, 81, 1), (52, 80, 81, 1)]) (VX g) l yX0_crossed (rk 77 1 7) [.ref (vO (VX g) + 0), .int x1, .int x2] σ (oI ρ.1) ρ.2 :=
  CtW.ofH (by decide) (Nat.le_of_ble_eq_true rfl) (fun Θ hc ls hl => wfX0_crossed σ x1 x2 hc hF ls hl)
theorem rX_st_18 {own : String} {γ : Type} {Θ : ThT Mem} {g : GeoX} {cc : ByteArray} {nL : Nat} {rm : Room} {ret : Option FieldType} {hs : List (Nat × Nat × Nat × Nat)} {ini : Bool} {O : Outcome} {σ' : Mem} {ρ : γ} {σ : Mem} {cs : Nat × Nat} {pc : Nat} {lv : List (Nat × Value)} {st : List Value} (hc : Cx Θ (VX g) cc nL own rm ret hs ini O σ') {K : Mem → Option γ} {i x : Int32} {j : Nat} (hin : inb i 40 = true) (hj : ix i = j) (hd : decode cc pc = .ok (.iastore, 1)) (kk : ∀ σ1 : Mem, Sim Θ nL ρ σ1 (K σ1) cs (pc + 1) lv st) : Sim Θ nL ρ σ (lt_ (pI σ 18 j x) K) cs pc lv (.int x :: .int i :: .ref (vO (VX g) + 18) :: st) := s_iast hc (k := 18) (t := 0) (n := 40) (Nat.le_of_ble_eq_true rfl) (fun _ => rfl) rfl hin hj hd kk
theorem rX_st_17 {own : String} {γ : Type} {Θ : ThT Mem} {g : GeoX} {cc : ByteArray} {nL : Nat} {rm : Room} {ret : Option FieldType} {hs : List (Nat × Nat × Nat × Nat)} {ini : Bool} {O : Outcome} {σ' : Mem} {ρ : γ} {σ : Mem} {cs : Nat × Nat} {pc : Nat} {lv : List (Nat × Value)} {st : List Value} (hc : Cx Θ (VX g) cc nL own rm ret hs ini O σ') {K : Mem → Option γ} {i x : Int32} {j : Nat} (hin : inb i 40 = true) (hj : ix i = j) (hd : decode cc pc = .ok (.iastore, 1)) (kk : ∀ σ1 : Mem, Sim Θ nL ρ σ1 (K σ1) cs (pc + 1) lv st) : Sim Θ nL ρ σ (lt_ (pI σ 17 j x) K) cs pc lv (.int x :: .int i :: .ref (vO (VX g) + 17) :: st) := s_iast hc (k := 17) (t := 0) (n := 40) (Nat.le_of_ble_eq_true rfl) (fun _ => rfl) rfl hin hj hd kk
theorem rX_p_X0_229_1 {γ : Type} {Θ : ThT Mem} {g : GeoX} {cc : ByteArray} {nL : Nat} {rm : Room} {ret : Option FieldType} {hs : List (Nat × Nat × Nat × Nat)} {ini : Bool} {O : Outcome} {σ' : Mem} {ρ : γ} {σ : Mem} {cs : Nat × Nat} {pc : Nat} {lv : List (Nat × Value)} {st : List Value} (hc : Cx Θ (VX g) cc nL RX0 rm ret hs ini O σ') {K : Mem → Option γ} {x : Int32} (hd : decode cc pc = .ok (.putfield 229, 3)) (kk : ∀ σ1 : Mem, Sim Θ nL ρ σ1 (K σ1) cs (pc + 3) lv st) : Sim Θ nL ρ σ (lt_ (pI σ 1 2 x) K) cs pc lv (.int x :: .ref (vO (VX g) + 1) :: st) := s_put hc (C := RX1) (T := TX1) (N := 10) (ci := 1) (k := 1) (σ1 := pI σ 1 2 x) in_X1 tyX1_ok nmX1 (Nat.le_of_ble_eq_true rfl) rfl rfl 2 (Nat.le_of_ble_eq_true rfl) q127 (fun _ _ _ _ h => h) rfl (ty := .int) (by decide +kernel) rfl rfl (Nat.le_of_ble_eq_true rfl) rfl (pI_ne σ 1 2 x) rfl hd (kk _)
def jX0_buys_155 (N : Nat) (σ : Mem) (x2 : Int32) (x3 : Int32)  : Option (Int32 × Mem) :=
  gb (inb x3 40) (
  gb (inb x3 40) (
  lt_ (pI σ 18 (ix x3) ((gI σ 18 (ix x3)) + x2)) (fun σ20 => 
  lt_ (pI σ20 0 10 (0 : Int32)) (fun σ22 => 
  gb (inb x3 40) (
  some ((gI σ22 18 (ix x3)), σ22))))))
set_option maxHeartbeats 4000000 in
theorem wjX0_buys_155 {Θ : ThT Mem} {g : GeoX} {N : Nat}  {ρ : Int32 × Mem} (σ : Mem) (hc : Cx Θ (VX g) cX0_buys 4 RX0 (rk 5 2 14) (some .int) [(0, 182, 183, 1)] false (oI ρ.1) ρ.2) (x2 : Int32) (x3 : Int32)  : Sim Θ 4 ρ σ (jX0_buys_155 N σ x2 x3 ) (2, 14) 155 [(0, .ref (vO (VX g) + 0)), (2, .int x2), (3, .int x3)] [] := by
  have hz := hc.z
  unfold jX0_buys_155
  refine s_aload_n hz dX0_buys_155 rfl 0 rfl ?_
  refine rX_g_X0_42_0 hc dX0_buys_156 ?_
  refine rX_g_X0_235_1 hc dX0_buys_159 ?_
  refine s_iload_n hz dX0_buys_162 rfl 2 rfl ?_
  refine s_dup2 hz dX0_buys_163 rfl rfl ?_
  refine s_gb (fun h19 => ?_)
  refine rX_ld_18 hc h19 rfl dX0_buys_164 ?_
  refine s_iload_n hz dX0_buys_165 rfl 1 rfl ?_
  refine s_iadd hz dX0_buys_166 ?_
  refine s_gb (fun h21 => ?_)
  refine rX_st_18 hc h21 rfl dX0_buys_167 (fun σ20 => ?_)
  refine s_aload_n hz dX0_buys_168 rfl 0 rfl ?_
  refine s_iconst (v := (0 : Int32)) hz dX0_buys_169 (by decide) ?_
  refine rX_p_X0_166_0 hc rfl rfl dX0_buys_170 (fun σ22 => ?_)
  refine s_aload_n hz dX0_buys_173 rfl 0 rfl ?_
  refine rX_g_X0_42_0 hc dX0_buys_174 ?_
  refine rX_g_X0_235_1 hc dX0_buys_177 ?_
  refine s_iload_n hz dX0_buys_180 rfl 2 rfl ?_
  refine s_gb (fun h23 => ?_)
  refine rX_ld_18 hc h23 rfl dX0_buys_181 ?_
  exact s_iretM hc dX0_buys_182 (Nat.le_of_ble_eq_true rfl) (Nat.le_of_ble_eq_true rfl)
def jX0_buys_107 (N : Nat) (σ : Mem) (x1 : Int32) (x2 : Int32) (x3 : Int32) (t0 : Int32)  : Option (Int32 × Mem) :=
  (fX0_need N σ t0 (1 : Int32)).bind (fun q15 => cT2 q15 (fun v12 σ14 => 
  if x3 = (gI σ14 1 2) then
  (gb (inb x3 40) (
  lt_ (pI σ14 17 (ix x3) x1) (fun σ24 => 
  gb (inb x3 40) (
  lt_ (pI σ24 18 (ix x3) (0 : Int32)) (fun σ26 => 
  lt_ (pI σ26 1 2 ((gI σ26 1 2) + (1 : Int32))) (fun σ28 => 
  jX0_buys_155 N σ28 x2 x3))))))
  else (jX0_buys_155 N σ14 x2 x3)) (fun b13 σ14 => 
  gb (isC σ14 b13 5) (
  (fX0_finds N σ14 b13).bind (fun q29 => 
  some (q29.1, q29.2)))))
set_option maxHeartbeats 4000000 in
theorem wjX0_buys_107 {Θ : ThT Mem} {g : GeoX} {N : Nat}  {ρ : Int32 × Mem} (σ : Mem) (hc : Cx Θ (VX g) cX0_buys 4 RX0 (rk 5 2 14) (some .int) [(0, 182, 183, 1)] false (oI ρ.1) ρ.2) (x1 : Int32) (x2 : Int32) (x3 : Int32) (t0 : Int32)  : Sim Θ 4 ρ σ (jX0_buys_107 N σ x1 x2 x3 t0 ) (1, 7) 107 [(0, .ref (vO (VX g) + 0)), (1, .int x1), (2, .int x2), (3, .int x3)] [.int t0] := by
  have hz := hc.z
  unfold jX0_buys_107
  refine s_iconst (v := (1 : Int32)) hz dX0_buys_107 (by decide) ?_
  refine s_bind (fun q15 e16 => ?_)
  rcases q15 with ⟨v12 | b13, σ14⟩
  · refine kX_X0_119 hc (cfX0_need e16) ⟨(Nat.le_of_ble_eq_true rfl), (Nat.le_of_ble_eq_true rfl)⟩ ⟨(Nat.le_of_ble_eq_true rfl), (Nat.le_of_ble_eq_true rfl)⟩ (Nat.le_of_ble_eq_true rfl) dX0_buys_108 (s_c2 ?_)
    refine s_iload_n hz dX0_buys_111 rfl 3 rfl ?_
    refine s_aload_n hz dX0_buys_112 rfl 0 rfl ?_
    refine rX_g_X0_42_0 hc dX0_buys_113 ?_
    refine rX_g_X0_229_1 hc dX0_buys_116 ?_
    refine s_icmp_ne (tgt := 155) hz dX0_buys_119 rfl (fun h18 => ?_) (fun h18 => ?_)
    · exact s_sub [0, 2, 3] rfl (wjX0_buys_155 σ14 hc x2 x3 )
    · refine s_aload_n hz dX0_buys_122 rfl 0 rfl ?_
      refine rX_g_X0_42_0 hc dX0_buys_123 ?_
      refine rX_g_X0_232_1 hc dX0_buys_126 ?_
      refine s_iload_n hz dX0_buys_129 rfl 3 rfl ?_
      refine s_iload_n hz dX0_buys_130 rfl 1 rfl ?_
      refine s_gb (fun h25 => ?_)
      refine rX_st_17 hc h25 rfl dX0_buys_131 (fun σ24 => ?_)
      refine s_aload_n hz dX0_buys_132 rfl 0 rfl ?_
      refine rX_g_X0_42_0 hc dX0_buys_133 ?_
      refine rX_g_X0_235_1 hc dX0_buys_136 ?_
      refine s_iload_n hz dX0_buys_139 rfl 3 rfl ?_
      refine s_iconst (v := (0 : Int32)) hz dX0_buys_140 (by decide) ?_
      refine s_gb (fun h27 => ?_)
      refine rX_st_18 hc h27 rfl dX0_buys_141 (fun σ26 => ?_)
      refine s_aload_n hz dX0_buys_142 rfl 0 rfl ?_
      refine rX_g_X0_42_0 hc dX0_buys_143 ?_
      refine s_dup hz dX0_buys_146 rfl ?_
      refine rX_g_X0_229_1 hc dX0_buys_147 ?_
      refine s_iconst (v := (1 : Int32)) hz dX0_buys_150 (by decide) ?_
      refine s_iadd hz dX0_buys_151 ?_
      refine rX_p_X0_229_1 hc dX0_buys_152 (fun σ28 => ?_)
      exact s_sub [0, 2, 3] rfl (wjX0_buys_155 σ28 hc x2 x3 )
  · refine s_gb (fun h17 => ?_)
    refine kX_X0_119_h hc (cfX0_need e16) ⟨(Nat.le_of_ble_eq_true rfl), (Nat.le_of_ble_eq_true rfl)⟩ ⟨(Nat.le_of_ble_eq_true rfl), (Nat.le_of_ble_eq_true rfl)⟩ (Nat.le_of_ble_eq_true rfl) dX0_buys_108 (i := 0) rfl rfl (by decide) (by decide) (q := (RX6, TX6, 7)) rfl q273 (isC_ob h17) ?_
    refine s_astore_n (lv' := [(3, .ref (vO (VX g) + b13)), (0, .ref (vO (VX g) + 0)), (1, .int x1), (2, .int x2)]) hz dX0_buys_183 rfl (Nat.le_of_ble_eq_true rfl) rfl ?_
    refine s_aload_n hz dX0_buys_184 rfl 1 rfl ?_
    refine s_aload_n hz dX0_buys_185 rfl 0 rfl ?_
    refine s_bind (fun q29 e30 => ?_)
    refine kX_X0_145 hc (cfX0_finds e30) ⟨(Nat.le_of_ble_eq_true rfl), (Nat.le_of_ble_eq_true rfl)⟩ ⟨(Nat.le_of_ble_eq_true rfl), (Nat.le_of_ble_eq_true rfl)⟩ (Nat.le_of_ble_eq_true rfl) dX0_buys_186 ?_
    exact s_iretM hc dX0_buys_189 (Nat.le_of_ble_eq_true rfl) (Nat.le_of_ble_eq_true rfl)
def jX0_buys_60 (N : Nat) (σ : Mem) (x1 : Int32) (x2 : Int32) (x3 : Int32)  : Option (Int32 × Mem) :=
  if (gI σ 1 2) ≤ x3 then
  (jX0_buys_107 N σ x1 x2 x3 (if (40 : Int32) ≤ x3 then (0 : Int32) else (1 : Int32)))
  else (gb (inb x3 40) (
  jX0_buys_107 N σ x1 x2 x3 (if (99999 : Int32) < ((gI σ 18 (ix x3)) + x2) then (0 : Int32) else (1 : Int32))))
set_option maxHeartbeats 4000000 in
theorem wjX0_buys_60 {Θ : ThT Mem} {g : GeoX} {N : Nat}  {ρ : Int32 × Mem} (σ : Mem) (hc : Cx Θ (VX g) cX0_buys 4 RX0 (rk 5 2 14) (some .int) [(0, 182, 183, 1)] false (oI ρ.1) ρ.2) (x1 : Int32) (x2 : Int32) (x3 : Int32)  : Sim Θ 4 ρ σ (jX0_buys_60 N σ x1 x2 x3 ) (1, 7) 60 [(0, .ref (vO (VX g) + 0)), (1, .int x1), (2, .int x2), (3, .int x3)] [] := by
  have hz := hc.z
  unfold jX0_buys_60
  refine s_iload_n hz dX0_buys_60 rfl 3 rfl ?_
  refine s_aload_n hz dX0_buys_61 rfl 0 rfl ?_
  refine rX_g_X0_42_0 hc dX0_buys_62 ?_
  refine rX_g_X0_229_1 hc dX0_buys_65 ?_
  refine s_icmp_ge (tgt := 96) hz dX0_buys_68 rfl (fun h11 => ?_) (fun h11 => ?_)
  · refine s_iload_n hz dX0_buys_96 rfl 3 rfl ?_
    refine s_bipush (v := (40 : Int32)) hz dX0_buys_97 (by decide) ?_
    refine s_dia (J := 107) (v := .int (if (40 : Int32) ≤ x3 then (0 : Int32) else (1 : Int32))) (st := []) (fun _ hj31 => ?_) ?_
    · refine s_icmp_ge_ (tgt := 106) hz dX0_buys_99 rfl (fun h32 => ?_) (fun h32 => ?_)
      · refine s_iconst (v := (0 : Int32)) hz dX0_buys_106 (by decide) ?_
        rw [if_pos h32] at hj31
        exact hj31
      · refine s_iconst (v := (1 : Int32)) hz dX0_buys_102 (by decide) ?_
        refine s_goto (tgt := 107) hz dX0_buys_103 rfl ?_
        rw [if_neg h32] at hj31
        exact hj31
    exact s_sub [0, 1, 2, 3] rfl (wjX0_buys_107 σ hc x1 x2 x3 (if (40 : Int32) ≤ x3 then (0 : Int32) else (1 : Int32)) )
  · refine s_aload_n hz dX0_buys_71 rfl 0 rfl ?_
    refine rX_g_X0_42_0 hc dX0_buys_72 ?_
    refine rX_g_X0_235_1 hc dX0_buys_75 ?_
    refine s_iload_n hz dX0_buys_78 rfl 3 rfl ?_
    refine s_gb (fun h33 => ?_)
    refine rX_ld_18 hc h33 rfl dX0_buys_79 ?_
    refine s_iload_n hz dX0_buys_80 rfl 2 rfl ?_
    refine s_iadd hz dX0_buys_81 ?_
    refine s_ldcw hz dX0_buys_82 q675 ?_
    refine s_dia (J := 107) (v := .int (if (99999 : Int32) < ((gI σ 18 (ix x3)) + x2) then (0 : Int32) else (1 : Int32))) (st := []) (fun _ hj34 => ?_) ?_
    · refine s_icmp_gt_ (tgt := 92) hz dX0_buys_85 rfl (fun h35 => ?_) (fun h35 => ?_)
      · refine s_iconst (v := (0 : Int32)) hz dX0_buys_92 (by decide) ?_
        refine s_goto (tgt := 107) hz dX0_buys_93 rfl ?_
        rw [if_pos h35] at hj34
        exact hj34
      · refine s_iconst (v := (1 : Int32)) hz dX0_buys_88 (by decide) ?_
        refine s_goto (tgt := 107) hz dX0_buys_89 rfl ?_
        rw [if_neg h35] at hj34
        exact hj34
    exact s_sub [0, 1, 2, 3] rfl (wjX0_buys_107 σ hc x1 x2 x3 (if (99999 : Int32) < ((gI σ 18 (ix x3)) + x2) then (0 : Int32) else (1 : Int32)) )
def bX0_buys_30 (N : Nat) (σ : Mem) (x1 : Int32) (x2 : Int32) (r30 : Int32 → Option (Int32 × Mem)) (y30 : Int32) : Option (Int32 × Mem) :=
  if (gI σ 1 2) ≤ y30 then
  (jX0_buys_60 N σ x1 x2 y30)
  else (gb (inb y30 40) (
  if (gI σ 17 (ix y30)) = x1 then
  (jX0_buys_60 N σ x1 x2 y30)
  else (r30 (y30 + (1 : Int32)))))
set_option maxHeartbeats 4000000 in
theorem wbX0_buys_30 {Θ : ThT Mem} {g : GeoX} {N : Nat}  {ρ : Int32 × Mem} (σ : Mem) (hc : Cx Θ (VX g) cX0_buys 4 RX0 (rk 5 2 14) (some .int) [(0, 182, 183, 1)] false (oI ρ.1) ρ.2) (x1 : Int32) (x2 : Int32) (r30 : Int32 → Option (Int32 × Mem)) (hr30 : ∀ y : Int32, Sim Θ 4 ρ (σ) (r30 y) (1, 7) 30 [(0, .ref (vO (VX g) + 0)), (1, .int x1), (2, .int x2), (3, .int y)] []) : ∀ y30 : Int32, Sim Θ 4 ρ (σ) (bX0_buys_30 N σ x1 x2 r30 y30) (1, 7) 30 [(0, .ref (vO (VX g) + 0)), (1, .int x1), (2, .int x2), (3, .int y30)] [] := by
  intro y30
  have hz := hc.z
  unfold bX0_buys_30
  refine s_iload_n hz dX0_buys_30 rfl 3 rfl ?_
  refine s_aload_n hz dX0_buys_31 rfl 0 rfl ?_
  refine rX_g_X0_42_0 hc dX0_buys_32 ?_
  refine rX_g_X0_229_1 hc dX0_buys_35 ?_
  refine s_icmp_ge (tgt := 60) hz dX0_buys_38 rfl (fun h10 => ?_) (fun h10 => ?_)
  · exact s_sub [0, 1, 2, 3] rfl (wjX0_buys_60 σ hc x1 x2 y30 )
  · refine s_aload_n hz dX0_buys_41 rfl 0 rfl ?_
    refine rX_g_X0_42_0 hc dX0_buys_42 ?_
    refine rX_g_X0_232_1 hc dX0_buys_45 ?_
    refine s_iload_n hz dX0_buys_48 rfl 3 rfl ?_
    refine s_gb (fun h36 => ?_)
    refine rX_ld_17 hc h36 rfl dX0_buys_49 ?_
    refine s_iload_n hz dX0_buys_50 rfl 1 rfl ?_
    refine s_icmp_eq (tgt := 60) hz dX0_buys_51 rfl (fun h37 => ?_) (fun h37 => ?_)
    · exact s_sub [0, 1, 2, 3] rfl (wjX0_buys_60 σ hc x1 x2 y30 )
    · refine s_iinc (v := (1 : Int32)) (lv' := [(3, .int (y30 + (1 : Int32))), (0, .ref (vO (VX g) + 0)), (1, .int x1), (2, .int x2)]) hz dX0_buys_54 3 rfl (by decide) (Nat.le_of_ble_eq_true rfl) rfl ?_
      refine s_goto (tgt := 30) hz dX0_buys_57 rfl ?_
      exact s_sub [1, 2, 3, 0] rfl (hr30 (y30 + (1 : Int32)))
def fX0_buys (N : Nat) (σ : Mem) (x1 : Int32) (x2 : Int32) : Option (Int32 × Mem) :=
  (fX0_isPlace N σ x1).bind (fun q1 => 
  if q1 = (0 : Int32) then
  ((fX0_need N σ (0 : Int32) (0 : Int32)).bind (fun q7 => cT2 q7 (fun v4 σ6 => 
  lp (bX0_buys_30 N σ6 x1 x2) N (0 : Int32)) (fun b5 σ6 => 
  gb (isC σ6 b5 5) (
  (fX0_finds N σ6 b5).bind (fun q38 => 
  some (q38.1, q38.2))))))
  else ((fX0_in N σ ((x2).toInt64) (1 : Int64) (9999 : Int64)).bind (fun q40 => 
  (fX0_need N σ (if q40 = (0 : Int32) then (0 : Int32) else (1 : Int32)) (0 : Int32)).bind (fun q45 => cT2 q45 (fun v42 σ44 => 
  lp (bX0_buys_30 N σ44 x1 x2) N (0 : Int32)) (fun b43 σ44 => 
  gb (isC σ44 b43 5) (
  (fX0_finds N σ44 b43).bind (fun q48 => 
  some (q48.1, q48.2))))))))
set_option maxHeartbeats 4000000 in
theorem wfX0_buys {Θ : ThT Mem} {g : GeoX} {N : Nat}  {ρ : Int32 × Mem} (σ : Mem) (x1 : Int32) (x2 : Int32) (hc : Cx Θ (VX g) cX0_buys 4 RX0 (rk 5 2 14) (some .int) [(0, 182, 183, 1)] false (oI ρ.1) ρ.2) : Sim Θ 4 ρ σ (fX0_buys N σ x1 x2) (0, 0) 0 [(0, .ref (vO (VX g) + 0)), (1, .int x1), (2, .int x2)] [] := by
  have hz := hc.z
  unfold fX0_buys
  refine s_iload_n hz dX0_buys_0 rfl 1 rfl ?_
  refine s_bind (fun q1 e2 => ?_)
  refine kX_X0_149 hc (cfX0_isPlace e2) ⟨(Nat.le_of_ble_eq_true rfl), (Nat.le_of_ble_eq_true rfl)⟩ ⟨(Nat.le_of_ble_eq_true rfl), (Nat.le_of_ble_eq_true rfl)⟩ (Nat.le_of_ble_eq_true rfl) dX0_buys_1 ?_
  refine s_if_eq (tgt := 23) hz dX0_buys_4 rfl (fun h3 => ?_) (fun h3 => ?_)
  · refine s_iconst (v := (0 : Int32)) hz dX0_buys_23 (by decide) ?_
    refine s_iconst (v := (0 : Int32)) hz dX0_buys_24 (by decide) ?_
    refine s_bind (fun q7 e8 => ?_)
    rcases q7 with ⟨v4 | b5, σ6⟩
    · refine kX_X0_119 hc (cfX0_need e8) ⟨(Nat.le_of_ble_eq_true rfl), (Nat.le_of_ble_eq_true rfl)⟩ ⟨(Nat.le_of_ble_eq_true rfl), (Nat.le_of_ble_eq_true rfl)⟩ (Nat.le_of_ble_eq_true rfl) dX0_buys_25 (s_c2 ?_)
      refine s_iconst (v := (0 : Int32)) hz dX0_buys_28 (by decide) ?_
      refine s_istore_n (lv' := [(3, .int (0 : Int32)), (0, .ref (vO (VX g) + 0)), (1, .int x1), (2, .int x2)]) hz dX0_buys_29 rfl (Nat.le_of_ble_eq_true rfl) rfl ?_
      exact s_sub [1, 2, 3, 0] rfl (s_lp (sg := fun y : Int32 => σ6) (lvs := fun y : Int32 => [(0, .ref (vO (VX g) + 0)), (1, .int x1), (2, .int x2), (3, .int y)]) (fun rec hrec => wbX0_buys_30 σ6 hc x1 x2  rec hrec) N (0 : Int32))
    · refine s_gb (fun h9 => ?_)
      refine kX_X0_119_h hc (cfX0_need e8) ⟨(Nat.le_of_ble_eq_true rfl), (Nat.le_of_ble_eq_true rfl)⟩ ⟨(Nat.le_of_ble_eq_true rfl), (Nat.le_of_ble_eq_true rfl)⟩ (Nat.le_of_ble_eq_true rfl) dX0_buys_25 (i := 0) rfl rfl (by decide) (by decide) (q := (RX6, TX6, 7)) rfl q273 (isC_ob h9) ?_
      refine s_astore_n (lv' := [(3, .ref (vO (VX g) + b5)), (0, .ref (vO (VX g) + 0)), (1, .int x1), (2, .int x2)]) hz dX0_buys_183 rfl (Nat.le_of_ble_eq_true rfl) rfl ?_
      refine s_aload_n hz dX0_buys_184 rfl 1 rfl ?_
      refine s_aload_n hz dX0_buys_185 rfl 0 rfl ?_
      refine s_bind (fun q38 e39 => ?_)
      refine kX_X0_145 hc (cfX0_finds e39) ⟨(Nat.le_of_ble_eq_true rfl), (Nat.le_of_ble_eq_true rfl)⟩ ⟨(Nat.le_of_ble_eq_true rfl), (Nat.le_of_ble_eq_true rfl)⟩ (Nat.le_of_ble_eq_true rfl) dX0_buys_186 ?_
      exact s_iretM hc dX0_buys_189 (Nat.le_of_ble_eq_true rfl) (Nat.le_of_ble_eq_true rfl)
  · refine s_iload_n hz dX0_buys_7 rfl 2 rfl ?_
    refine s_i2l hz dX0_buys_8 ?_
    refine s_lconst (v := (1 : Int64)) hz dX0_buys_9 (by decide) ?_
    refine s_ldc2 hz dX0_buys_10 q674 ?_
    refine s_bind (fun q40 e41 => ?_)
    refine kX_X0_125 hc (cfX0_in e41) ⟨(Nat.le_of_ble_eq_true rfl), (Nat.le_of_ble_eq_true rfl)⟩ ⟨(Nat.le_of_ble_eq_true rfl), (Nat.le_of_ble_eq_true rfl)⟩ (Nat.le_of_ble_eq_true rfl) dX0_buys_13 ?_
    refine s_dia (J := 24) (v := .int (if q40 = (0 : Int32) then (0 : Int32) else (1 : Int32))) (st := []) (fun _ hj50 => ?_) ?_
    · refine s_if_eq_ (tgt := 23) hz dX0_buys_16 rfl (fun h51 => ?_) (fun h51 => ?_)
      · refine s_iconst (v := (0 : Int32)) hz dX0_buys_23 (by decide) ?_
        rw [if_pos h51] at hj50
        exact hj50
      · refine s_iconst (v := (1 : Int32)) hz dX0_buys_19 (by decide) ?_
        refine s_goto (tgt := 24) hz dX0_buys_20 rfl ?_
        rw [if_neg h51] at hj50
        exact hj50
    refine s_iconst (v := (0 : Int32)) hz dX0_buys_24 (by decide) ?_
    refine s_bind (fun q45 e46 => ?_)
    rcases q45 with ⟨v42 | b43, σ44⟩
    · refine kX_X0_119 hc (cfX0_need e46) ⟨(Nat.le_of_ble_eq_true rfl), (Nat.le_of_ble_eq_true rfl)⟩ ⟨(Nat.le_of_ble_eq_true rfl), (Nat.le_of_ble_eq_true rfl)⟩ (Nat.le_of_ble_eq_true rfl) dX0_buys_25 (s_c2 ?_)
      refine s_iconst (v := (0 : Int32)) hz dX0_buys_28 (by decide) ?_
      refine s_istore_n (lv' := [(3, .int (0 : Int32)), (0, .ref (vO (VX g) + 0)), (1, .int x1), (2, .int x2)]) hz dX0_buys_29 rfl (Nat.le_of_ble_eq_true rfl) rfl ?_
      exact s_sub [1, 2, 3, 0] rfl (s_lp (sg := fun y : Int32 => σ44) (lvs := fun y : Int32 => [(0, .ref (vO (VX g) + 0)), (1, .int x1), (2, .int x2), (3, .int y)]) (fun rec hrec => wbX0_buys_30 σ44 hc x1 x2  rec hrec) N (0 : Int32))
    · refine s_gb (fun h47 => ?_)
      refine kX_X0_119_h hc (cfX0_need e46) ⟨(Nat.le_of_ble_eq_true rfl), (Nat.le_of_ble_eq_true rfl)⟩ ⟨(Nat.le_of_ble_eq_true rfl), (Nat.le_of_ble_eq_true rfl)⟩ (Nat.le_of_ble_eq_true rfl) dX0_buys_25 (i := 0) rfl rfl (by decide) (by decide) (q := (RX6, TX6, 7)) rfl q273 (isC_ob h47) ?_
      refine s_astore_n (lv' := [(3, .ref (vO (VX g) + b43)), (0, .ref (vO (VX g) + 0)), (1, .int x1), (2, .int x2)]) hz dX0_buys_183 rfl (Nat.le_of_ble_eq_true rfl) rfl ?_
      refine s_aload_n hz dX0_buys_184 rfl 1 rfl ?_
      refine s_aload_n hz dX0_buys_185 rfl 0 rfl ?_
      refine s_bind (fun q48 e49 => ?_)
      refine kX_X0_145 hc (cfX0_finds e49) ⟨(Nat.le_of_ble_eq_true rfl), (Nat.le_of_ble_eq_true rfl)⟩ ⟨(Nat.le_of_ble_eq_true rfl), (Nat.le_of_ble_eq_true rfl)⟩ (Nat.le_of_ble_eq_true rfl) dX0_buys_186 ?_
      exact s_iretM hc dX0_buys_189 (Nat.le_of_ble_eq_true rfl) (Nat.le_of_ble_eq_true rfl)
theorem cfX0_buys {g : GeoX} {N : Nat}  {σ : Mem} {x1 : Int32} {x2 : Int32} {ρ : Int32 × Mem} (hF : fX0_buys N σ x1 x2 = some ρ) (l : Launch) : CtW (wsW_ yX0_buys cX0_buys 4 (some .int) [(0, 182, 183, 1)]) (VX g) l yX0_buys (rk 5 2 14) [.ref (vO (VX g) + 0), .int x1, .int x2] σ (oI ρ.1) ρ.2 :=
  CtW.ofH (by decide) (Nat.le_of_ble_eq_true rfl) (fun Θ hc ls hl => wfX0_buys σ x1 x2 hc hF ls hl)
def bX0_returned_4 (N : Nat) (σ : Mem)  (r4 : (Int32 × Int32) → Option (Int32 × Mem)) (y4 : Int32 × Int32) : Option (Int32 × Mem) :=
  if (gI σ 1 2) ≤ y4.2 then
  (lt_ (pI σ 1 2 (0 : Int32)) (fun σ2 => 
  lt_ (pI σ2 0 10 (0 : Int32)) (fun σ3 => 
  some (y4.1, σ3))))
  else (gb (inb y4.2 40) (
  lt_ (y4.1 + (gI σ 18 (ix y4.2))) (fun v5 => 
  r4 (v5, (y4.2 + (1 : Int32))))))
set_option maxHeartbeats 4000000 in
theorem wbX0_returned_4 {Θ : ThT Mem} {g : GeoX} {N : Nat}  {ρ : Int32 × Mem} (σ : Mem) (hc : Cx Θ (VX g) cX0_returned 3 RX0 (rk 1 0 0) (some .int) [] false (oI ρ.1) ρ.2)  (r4 : (Int32 × Int32) → Option (Int32 × Mem)) (hr4 : ∀ y : Int32 × Int32, Sim Θ 3 ρ (σ) (r4 y) (0, 0) 4 [(0, .ref (vO (VX g) + 0)), (1, .int y.1), (2, .int y.2)] []) : ∀ y4 : Int32 × Int32, Sim Θ 3 ρ (σ) (bX0_returned_4 N σ  r4 y4) (0, 0) 4 [(0, .ref (vO (VX g) + 0)), (1, .int y4.1), (2, .int y4.2)] [] := by
  intro y4
  have hz := hc.z
  have hr4c : ∀ (z0_ : Int32) (z1_ : Int32), Sim Θ 3 ρ (σ) (r4 (z0_, z1_)) (0, 0) 4 [(0, .ref (vO (VX g) + 0)), (1, .int z0_), (2, .int z1_)] [] := fun z0_ z1_ => hr4 (z0_, z1_)
  unfold bX0_returned_4
  refine s_iload_n hz dX0_returned_4 rfl 2 rfl ?_
  refine s_aload_n hz dX0_returned_5 rfl 0 rfl ?_
  refine rX_g_X0_42_0 hc dX0_returned_6 ?_
  refine rX_g_X0_229_1 hc dX0_returned_9 ?_
  refine s_icmp_ge (tgt := 33) hz dX0_returned_12 rfl (fun h1 => ?_) (fun h1 => ?_)
  · refine s_aload_n hz dX0_returned_33 rfl 0 rfl ?_
    refine rX_g_X0_42_0 hc dX0_returned_34 ?_
    refine s_iconst (v := (0 : Int32)) hz dX0_returned_37 (by decide) ?_
    refine rX_p_X0_229_1 hc dX0_returned_38 (fun σ2 => ?_)
    refine s_aload_n hz dX0_returned_41 rfl 0 rfl ?_
    refine s_iconst (v := (0 : Int32)) hz dX0_returned_42 (by decide) ?_
    refine rX_p_X0_166_0 hc rfl rfl dX0_returned_43 (fun σ3 => ?_)
    refine s_iload_n hz dX0_returned_46 rfl 1 rfl ?_
    exact s_iretM hc dX0_returned_47 (Nat.le_of_ble_eq_true rfl) (Nat.le_of_ble_eq_true rfl)
  · refine s_iload_n hz dX0_returned_15 rfl 1 rfl ?_
    refine s_aload_n hz dX0_returned_16 rfl 0 rfl ?_
    refine rX_g_X0_42_0 hc dX0_returned_17 ?_
    refine rX_g_X0_235_1 hc dX0_returned_20 ?_
    refine s_iload_n hz dX0_returned_23 rfl 2 rfl ?_
    refine s_gb (fun h4 => ?_)
    refine rX_ld_18 hc h4 rfl dX0_returned_24 ?_
    refine s_iadd hz dX0_returned_25 ?_
    refine s_nmI (fun v5 => ?_)
    refine s_istore_n (lv' := [(1, .int v5), (0, .ref (vO (VX g) + 0)), (2, .int y4.2)]) hz dX0_returned_26 rfl (Nat.le_of_ble_eq_true rfl) rfl ?_
    refine s_iinc (v := (1 : Int32)) (lv' := [(2, .int (y4.2 + (1 : Int32))), (1, .int v5), (0, .ref (vO (VX g) + 0))]) hz dX0_returned_27 2 rfl (by decide) (Nat.le_of_ble_eq_true rfl) rfl ?_
    refine s_goto (tgt := 4) hz dX0_returned_30 rfl ?_
    exact s_sub [2, 1, 0] rfl (hr4c v5 (y4.2 + (1 : Int32)))
def fX0_returned (N : Nat) (σ : Mem)  : Option (Int32 × Mem) :=
  lp (bX0_returned_4 N σ) N ((0 : Int32), (0 : Int32))
set_option maxHeartbeats 4000000 in
theorem wfX0_returned {Θ : ThT Mem} {g : GeoX} {N : Nat}  {ρ : Int32 × Mem} (σ : Mem)  (hc : Cx Θ (VX g) cX0_returned 3 RX0 (rk 1 0 0) (some .int) [] false (oI ρ.1) ρ.2) : Sim Θ 3 ρ σ (fX0_returned N σ ) (0, 0) 0 [(0, .ref (vO (VX g) + 0))] [] := by
  have hz := hc.z
  unfold fX0_returned
  refine s_iconst (v := (0 : Int32)) hz dX0_returned_0 (by decide) ?_
  refine s_istore_n (lv' := [(1, .int (0 : Int32)), (0, .ref (vO (VX g) + 0))]) hz dX0_returned_1 rfl (Nat.le_of_ble_eq_true rfl) rfl ?_
  refine s_iconst (v := (0 : Int32)) hz dX0_returned_2 (by decide) ?_
  refine s_istore_n (lv' := [(2, .int (0 : Int32)), (1, .int (0 : Int32)), (0, .ref (vO (VX g) + 0))]) hz dX0_returned_3 rfl (Nat.le_of_ble_eq_true rfl) rfl ?_
  exact s_sub [2, 1, 0] rfl (s_lp (sg := fun y : Int32 × Int32 => σ) (lvs := fun y : Int32 × Int32 => [(0, .ref (vO (VX g) + 0)), (1, .int y.1), (2, .int y.2)]) (fun rec hrec => wbX0_returned_4 σ hc   rec hrec) N ((0 : Int32), (0 : Int32)))
theorem cfX0_returned {g : GeoX} {N : Nat}  {σ : Mem}  {ρ : Int32 × Mem} (hF : fX0_returned N σ  = some ρ) (l : Launch) : Ct (VX g) l yX0_returned cX0_returned 3 (some .int) (rk 1 0 0) [.ref (vO (VX g) + 0)] σ (oI ρ.1) ρ.2 :=
  Ct.of (by decide) (Nat.le_of_ble_eq_true rfl) (fun Θ hc ls hl => wfX0_returned σ  hc hF ls hl)
theorem rX_g_X0_259_0 {γ : Type} {Θ : ThT Mem} {g : GeoX} {cc : ByteArray} {nL : Nat} {rm : Room} {ret : Option FieldType} {hs : List (Nat × Nat × Nat × Nat)} {ini : Bool} {O : Outcome} {σ' : Mem} {ρ : γ} {σ : Mem} {F : Option γ} {cs : Nat × Nat} {pc : Nat} {lv : List (Nat × Value)} {st : List Value} (hc : Cx Θ (VX g) cc nL RX0 rm ret hs ini O σ') (hd : decode cc pc = .ok (.getfield 259, 3)) (kk : Sim Θ nL ρ σ F cs (pc + 3) lv (.int (gI σ 0 4) :: st)) : Sim Θ nL ρ σ F cs pc lv (.ref (vO (VX g) + 0) :: st) := s_get hc (C := RX0) (T := TX0) (N := 19) (ci := 0) (k := 0) in_X0 (Nat.le_of_ble_eq_true rfl) rfl rfl 4 (Nat.le_of_ble_eq_true rfl) q214 (fun _ _ _ _ h => h) rfl hd kk
theorem rX_g_X0_51_0 {γ : Type} {Θ : ThT Mem} {g : GeoX} {cc : ByteArray} {nL : Nat} {rm : Room} {ret : Option FieldType} {hs : List (Nat × Nat × Nat × Nat)} {ini : Bool} {O : Outcome} {σ' : Mem} {ρ : γ} {σ : Mem} {F : Option γ} {cs : Nat × Nat} {pc : Nat} {lv : List (Nat × Value)} {st : List Value} (hc : Cx Θ (VX g) cc nL RX0 rm ret hs ini O σ') (hd : decode cc pc = .ok (.getfield 51, 3)) (kk : Sim Θ nL ρ σ F cs (pc + 3) lv (.ref (vO (VX g) + 55) :: st)) : Sim Θ nL ρ σ F cs pc lv (.ref (vO (VX g) + 0) :: st) := s_get hc (C := RX0) (T := TX0) (N := 19) (ci := 0) (k := 0) in_X0 (Nat.le_of_ble_eq_true rfl) rfl rfl 3 (Nat.le_of_ble_eq_true rfl) q213 (fun _ _ _ _ h => h) rfl hd kk
theorem rX_st_55 {own : String} {γ : Type} {Θ : ThT Mem} {g : GeoX} {cc : ByteArray} {nL : Nat} {rm : Room} {ret : Option FieldType} {hs : List (Nat × Nat × Nat × Nat)} {ini : Bool} {O : Outcome} {σ' : Mem} {ρ : γ} {σ : Mem} {cs : Nat × Nat} {pc : Nat} {lv : List (Nat × Value)} {st : List Value} (hc : Cx Θ (VX g) cc nL own rm ret hs ini O σ') {K : Mem → Option γ} {i x : Int32} {j : Nat} (hin : inb i 60 = true) (hj : ix i = j) (hn : narrow .byte (.int x) = .int x) (hd : decode cc pc = .ok (.bastore, 1)) (kk : ∀ σ1 : Mem, Sim Θ nL ρ σ1 (K σ1) cs (pc + 1) lv st) : Sim Θ nL ρ σ (lt_ (pI σ 55 j x) K) cs pc lv (.int x :: .int i :: .ref (vO (VX g) + 55) :: st) := s_bast hc (k := 55) (t := 3) (n := 60) (Nat.le_of_ble_eq_true rfl) (fun _ => rfl) rfl hin hj hn hd kk
theorem rX_p_X0_259_0 {γ : Type} {Θ : ThT Mem} {g : GeoX} {cc : ByteArray} {nL : Nat} {rm : Room} {ret : Option FieldType} {hs : List (Nat × Nat × Nat × Nat)} {ini : Bool} {O : Outcome} {σ' : Mem} {ρ : γ} {σ : Mem} {cs : Nat × Nat} {pc : Nat} {lv : List (Nat × Value)} {st : List Value} (hc : Cx Θ (VX g) cc nL RX0 rm ret hs ini O σ') {K : Mem → Option γ} {x : Int32} (hd : decode cc pc = .ok (.putfield 259, 3)) (kk : ∀ σ1 : Mem, Sim Θ nL ρ σ1 (K σ1) cs (pc + 3) lv st) : Sim Θ nL ρ σ (lt_ (pI σ 0 4 x) K) cs pc lv (.int x :: .ref (vO (VX g) + 0) :: st) := s_put hc (C := RX0) (T := TX0) (N := 19) (ci := 0) (k := 0) (σ1 := pI σ 0 4 x) in_X0 tyX0_ok nmX0 (Nat.le_of_ble_eq_true rfl) rfl rfl 4 (Nat.le_of_ble_eq_true rfl) q214 (fun _ _ _ _ h => h) rfl (ty := .int) (by decide +kernel) rfl rfl (Nat.le_of_ble_eq_true rfl) rfl (pI_ne σ 0 4 x) rfl hd (kk _)
def bX0_feed_37 (N : Nat) (σ : Mem) (x1 : Int32) (r37 : (Mem × Int32) → Option (Int32 × Mem)) (y37 : Mem × Int32) : Option (Int32 × Mem) :=
  if y37.2 < (0 : Int32) then
  (some ((gI y37.1 0 4), y37.1))
  else (gb (inb (gI y37.1 0 4) 60) (
  lt_ (pI y37.1 55 (ix (gI y37.1 0 4)) (((x1 >>> (((8 : Int32) * y37.2) &&& 31))).toInt8.toInt32)) (fun σ17 => 
  lt_ (pI σ17 0 4 ((gI σ17 0 4) + (1 : Int32))) (fun σ19 => 
  r37 (σ19, (y37.2 + (-1 : Int32)))))))
set_option maxHeartbeats 4000000 in
theorem wbX0_feed_37 {Θ : ThT Mem} {g : GeoX} {N : Nat}  {ρ : Int32 × Mem} (σ : Mem) (hc : Cx Θ (VX g) cX0_feed 4 RX0 (rk 5 2 14) (some .int) [(0, 77, 78, 1)] false (oI ρ.1) ρ.2) (x1 : Int32) (r37 : (Mem × Int32) → Option (Int32 × Mem)) (hr37 : ∀ y : Mem × Int32, Sim Θ 4 ρ (y.1) (r37 y) (2, 14) 37 [(0, .ref (vO (VX g) + 0)), (1, .int x1), (3, .int y.2)] []) : ∀ y37 : Mem × Int32, Sim Θ 4 ρ (y37.1) (bX0_feed_37 N σ x1 r37 y37) (2, 14) 37 [(0, .ref (vO (VX g) + 0)), (1, .int x1), (3, .int y37.2)] [] := by
  intro y37
  have hz := hc.z
  have hr37c : ∀ (z0_ : Mem) (z1_ : Int32), Sim Θ 4 ρ (z0_) (r37 (z0_, z1_)) (2, 14) 37 [(0, .ref (vO (VX g) + 0)), (1, .int x1), (3, .int z1_)] [] := fun z0_ z1_ => hr37 (z0_, z1_)
  unfold bX0_feed_37
  refine s_iload_n hz dX0_feed_37 rfl 2 rfl ?_
  refine s_if_lt (tgt := 73) hz dX0_feed_38 rfl (fun h16 => ?_) (fun h16 => ?_)
  · refine s_aload_n hz dX0_feed_73 rfl 0 rfl ?_
    refine rX_g_X0_259_0 hc dX0_feed_74 ?_
    exact s_iretM hc dX0_feed_77 (Nat.le_of_ble_eq_true rfl) (Nat.le_of_ble_eq_true rfl)
  · refine s_aload_n hz dX0_feed_41 rfl 0 rfl ?_
    refine rX_g_X0_51_0 hc dX0_feed_42 ?_
    refine s_aload_n hz dX0_feed_45 rfl 0 rfl ?_
    refine rX_g_X0_259_0 hc dX0_feed_46 ?_
    refine s_iload_n hz dX0_feed_49 rfl 1 rfl ?_
    refine s_bipush (v := (8 : Int32)) hz dX0_feed_50 (by decide) ?_
    refine s_iload_n hz dX0_feed_52 rfl 2 rfl ?_
    refine s_imul hz dX0_feed_53 ?_
    refine s_ishr hz dX0_feed_54 ?_
    refine s_i2b hz dX0_feed_55 ?_
    refine s_gb (fun h18 => ?_)
    refine rX_st_55 hc h18 rfl (nr_byte _) dX0_feed_56 (fun σ17 => ?_)
    refine s_aload_n hz dX0_feed_57 rfl 0 rfl ?_
    refine s_dup hz dX0_feed_58 rfl ?_
    refine rX_g_X0_259_0 hc dX0_feed_59 ?_
    refine s_iconst (v := (1 : Int32)) hz dX0_feed_62 (by decide) ?_
    refine s_iadd hz dX0_feed_63 ?_
    refine rX_p_X0_259_0 hc dX0_feed_64 (fun σ19 => ?_)
    refine s_iinc (v := (-1 : Int32)) (lv' := [(3, .int (y37.2 + (-1 : Int32))), (0, .ref (vO (VX g) + 0)), (1, .int x1)]) hz dX0_feed_67 2 rfl (by decide) (Nat.le_of_ble_eq_true rfl) rfl ?_
    refine s_goto (tgt := 37) hz dX0_feed_70 rfl ?_
    exact s_sub [1, 2, 0] rfl (hr37c σ19 (y37.2 + (-1 : Int32)))
def fX0_feed (N : Nat) (σ : Mem) (x1 : Int32) (x2 : Int32) : Option (Int32 × Mem) :=
  (fX0_in N σ ((x2).toInt64) (1 : Int64) (4 : Int64)).bind (fun q1 => 
  (fX0_need N σ q1 (0 : Int32)).bind (fun q6 => cT2 q6 (fun v3 σ5 => 
  (fX0_need N σ5 (if (60 : Int32) < ((gI σ5 0 4) + x2) then (0 : Int32) else (1 : Int32)) (1 : Int32)).bind (fun q12 => cT2 q12 (fun v9 σ11 => 
  lt_ (x2 - (1 : Int32)) (fun v15 => 
  lp (bX0_feed_37 N σ11 x1) N (σ11, v15))) (fun b10 σ11 => 
  gb (isC σ11 b10 5) (
  (fX0_finds N σ11 b10).bind (fun q20 => 
  some (q20.1, q20.2)))))) (fun b4 σ5 => 
  gb (isC σ5 b4 5) (
  (fX0_finds N σ5 b4).bind (fun q24 => 
  some (q24.1, q24.2))))))
set_option maxHeartbeats 4000000 in
theorem wfX0_feed {Θ : ThT Mem} {g : GeoX} {N : Nat}  {ρ : Int32 × Mem} (σ : Mem) (x1 : Int32) (x2 : Int32) (hc : Cx Θ (VX g) cX0_feed 4 RX0 (rk 5 2 14) (some .int) [(0, 77, 78, 1)] false (oI ρ.1) ρ.2) : Sim Θ 4 ρ σ (fX0_feed N σ x1 x2) (0, 0) 0 [(0, .ref (vO (VX g) + 0)), (1, .int x1), (2, .int x2)] [] := by
  have hz := hc.z
  unfold fX0_feed
  refine s_iload_n hz dX0_feed_0 rfl 2 rfl ?_
  refine s_i2l hz dX0_feed_1 ?_
  refine s_lconst (v := (1 : Int64)) hz dX0_feed_2 (by decide) ?_
  refine s_ldc2 hz dX0_feed_3 q684 ?_
  refine s_bind (fun q1 e2 => ?_)
  refine kX_X0_125 hc (cfX0_in e2) ⟨(Nat.le_of_ble_eq_true rfl), (Nat.le_of_ble_eq_true rfl)⟩ ⟨(Nat.le_of_ble_eq_true rfl), (Nat.le_of_ble_eq_true rfl)⟩ (Nat.le_of_ble_eq_true rfl) dX0_feed_6 ?_
  refine s_iconst (v := (0 : Int32)) hz dX0_feed_9 (by decide) ?_
  refine s_bind (fun q6 e7 => ?_)
  rcases q6 with ⟨v3 | b4, σ5⟩
  · refine kX_X0_119 hc (cfX0_need e7) ⟨(Nat.le_of_ble_eq_true rfl), (Nat.le_of_ble_eq_true rfl)⟩ ⟨(Nat.le_of_ble_eq_true rfl), (Nat.le_of_ble_eq_true rfl)⟩ (Nat.le_of_ble_eq_true rfl) dX0_feed_10 (s_c2 ?_)
    refine s_aload_n hz dX0_feed_13 rfl 0 rfl ?_
    refine rX_g_X0_259_0 hc dX0_feed_14 ?_
    refine s_iload_n hz dX0_feed_17 rfl 2 rfl ?_
    refine s_iadd hz dX0_feed_18 ?_
    refine s_bipush (v := (60 : Int32)) hz dX0_feed_19 (by decide) ?_
    refine s_dia (J := 29) (v := .int (if (60 : Int32) < ((gI σ5 0 4) + x2) then (0 : Int32) else (1 : Int32))) (st := []) (fun _ hj22 => ?_) ?_
    · refine s_icmp_gt_ (tgt := 28) hz dX0_feed_21 rfl (fun h23 => ?_) (fun h23 => ?_)
      · refine s_iconst (v := (0 : Int32)) hz dX0_feed_28 (by decide) ?_
        rw [if_pos h23] at hj22
        exact hj22
      · refine s_iconst (v := (1 : Int32)) hz dX0_feed_24 (by decide) ?_
        refine s_goto (tgt := 29) hz dX0_feed_25 rfl ?_
        rw [if_neg h23] at hj22
        exact hj22
    refine s_iconst (v := (1 : Int32)) hz dX0_feed_29 (by decide) ?_
    refine s_bind (fun q12 e13 => ?_)
    rcases q12 with ⟨v9 | b10, σ11⟩
    · refine kX_X0_119 hc (cfX0_need e13) ⟨(Nat.le_of_ble_eq_true rfl), (Nat.le_of_ble_eq_true rfl)⟩ ⟨(Nat.le_of_ble_eq_true rfl), (Nat.le_of_ble_eq_true rfl)⟩ (Nat.le_of_ble_eq_true rfl) dX0_feed_30 (s_c2 ?_)
      refine s_iload_n hz dX0_feed_33 rfl 2 rfl ?_
      refine s_iconst (v := (1 : Int32)) hz dX0_feed_34 (by decide) ?_
      refine s_isub hz dX0_feed_35 ?_
      refine s_nmI (fun v15 => ?_)
      refine s_istore_n (lv' := [(3, .int v15), (0, .ref (vO (VX g) + 0)), (1, .int x1), (2, .int x2)]) hz dX0_feed_36 rfl (Nat.le_of_ble_eq_true rfl) rfl ?_
      exact s_sub [1, 2, 0] rfl (s_lp (sg := fun y : Mem × Int32 => y.1) (lvs := fun y : Mem × Int32 => [(0, .ref (vO (VX g) + 0)), (1, .int x1), (3, .int y.2)]) (fun rec hrec => wbX0_feed_37 σ11 hc x1  rec hrec) N (σ11, v15))
    · refine s_gb (fun h14 => ?_)
      refine kX_X0_119_h hc (cfX0_need e13) ⟨(Nat.le_of_ble_eq_true rfl), (Nat.le_of_ble_eq_true rfl)⟩ ⟨(Nat.le_of_ble_eq_true rfl), (Nat.le_of_ble_eq_true rfl)⟩ (Nat.le_of_ble_eq_true rfl) dX0_feed_30 (i := 0) rfl rfl (by decide) (by decide) (q := (RX6, TX6, 7)) rfl q273 (isC_ob h14) ?_
      refine s_astore_n (lv' := [(3, .ref (vO (VX g) + b10)), (0, .ref (vO (VX g) + 0)), (1, .int x1), (2, .int x2)]) hz dX0_feed_78 rfl (Nat.le_of_ble_eq_true rfl) rfl ?_
      refine s_aload_n hz dX0_feed_79 rfl 1 rfl ?_
      refine s_aload_n hz dX0_feed_80 rfl 0 rfl ?_
      refine s_bind (fun q20 e21 => ?_)
      refine kX_X0_145 hc (cfX0_finds e21) ⟨(Nat.le_of_ble_eq_true rfl), (Nat.le_of_ble_eq_true rfl)⟩ ⟨(Nat.le_of_ble_eq_true rfl), (Nat.le_of_ble_eq_true rfl)⟩ (Nat.le_of_ble_eq_true rfl) dX0_feed_81 ?_
      exact s_iretM hc dX0_feed_84 (Nat.le_of_ble_eq_true rfl) (Nat.le_of_ble_eq_true rfl)
  · refine s_gb (fun h8 => ?_)
    refine kX_X0_119_h hc (cfX0_need e7) ⟨(Nat.le_of_ble_eq_true rfl), (Nat.le_of_ble_eq_true rfl)⟩ ⟨(Nat.le_of_ble_eq_true rfl), (Nat.le_of_ble_eq_true rfl)⟩ (Nat.le_of_ble_eq_true rfl) dX0_feed_10 (i := 0) rfl rfl (by decide) (by decide) (q := (RX6, TX6, 7)) rfl q273 (isC_ob h8) ?_
    refine s_astore_n (lv' := [(3, .ref (vO (VX g) + b4)), (0, .ref (vO (VX g) + 0)), (1, .int x1), (2, .int x2)]) hz dX0_feed_78 rfl (Nat.le_of_ble_eq_true rfl) rfl ?_
    refine s_aload_n hz dX0_feed_79 rfl 1 rfl ?_
    refine s_aload_n hz dX0_feed_80 rfl 0 rfl ?_
    refine s_bind (fun q24 e25 => ?_)
    refine kX_X0_145 hc (cfX0_finds e25) ⟨(Nat.le_of_ble_eq_true rfl), (Nat.le_of_ble_eq_true rfl)⟩ ⟨(Nat.le_of_ble_eq_true rfl), (Nat.le_of_ble_eq_true rfl)⟩ (Nat.le_of_ble_eq_true rfl) dX0_feed_81 ?_
    exact s_iretM hc dX0_feed_84 (Nat.le_of_ble_eq_true rfl) (Nat.le_of_ble_eq_true rfl)
theorem cfX0_feed {g : GeoX} {N : Nat}  {σ : Mem} {x1 : Int32} {x2 : Int32} {ρ : Int32 × Mem} (hF : fX0_feed N σ x1 x2 = some ρ) (l : Launch) : CtW (wsW_ yX0_feed cX0_feed 4 (some .int) [(0, 77, 78, 1)]) (VX g) l yX0_feed (rk 5 2 14) [.ref (vO (VX g) + 0), .int x1, .int x2] σ (oI ρ.1) ρ.2 :=
  CtW.ofH (by decide) (Nat.le_of_ble_eq_true rfl) (fun Θ hc ls hl => wfX0_feed σ x1 x2 hc hF ls hl)
def fX0_wipe (N : Nat) (σ : Mem)  : Option (Int32 × Mem) :=
  lt_ (gI σ 0 4) (fun v1 => 
  lt_ (pI σ 0 4 (0 : Int32)) (fun σ2 => 
  some (v1, σ2)))
set_option maxHeartbeats 4000000 in
theorem wfX0_wipe {Θ : ThT Mem} {g : GeoX} {N : Nat}  {ρ : Int32 × Mem} (σ : Mem)  (hc : Cx Θ (VX g) cX0_wipe 2 RX0 (rk 1 0 0) (some .int) [] false (oI ρ.1) ρ.2) : Sim Θ 2 ρ σ (fX0_wipe N σ ) (0, 0) 0 [(0, .ref (vO (VX g) + 0))] [] := by
  have hz := hc.z
  unfold fX0_wipe
  refine s_aload_n hz dX0_wipe_0 rfl 0 rfl ?_
  refine rX_g_X0_259_0 hc dX0_wipe_1 ?_
  refine s_nmI (fun v1 => ?_)
  refine s_istore_n (lv' := [(1, .int v1), (0, .ref (vO (VX g) + 0))]) hz dX0_wipe_4 rfl (Nat.le_of_ble_eq_true rfl) rfl ?_
  refine s_aload_n hz dX0_wipe_5 rfl 1 rfl ?_
  refine s_iconst (v := (0 : Int32)) hz dX0_wipe_6 (by decide) ?_
  refine rX_p_X0_259_0 hc dX0_wipe_7 (fun σ2 => ?_)
  refine s_iload_n hz dX0_wipe_10 rfl 0 rfl ?_
  exact s_iretM hc dX0_wipe_11 (Nat.le_of_ble_eq_true rfl) (Nat.le_of_ble_eq_true rfl)
theorem cfX0_wipe {g : GeoX} {N : Nat}  {σ : Mem}  {ρ : Int32 × Mem} (hF : fX0_wipe N σ  = some ρ) (l : Launch) : Ct (VX g) l yX0_wipe cX0_wipe 2 (some .int) (rk 1 0 0) [.ref (vO (VX g) + 0)] σ (oI ρ.1) ρ.2 :=
  Ct.of (by decide) (Nat.le_of_ble_eq_true rfl) (fun Θ hc ls hl => wfX0_wipe σ  hc hF ls hl)
theorem rX_psn_X0_162_16 {γ : Type} {Θ : ThT Mem} {g : GeoX} {cc : ByteArray} {nL : Nat} {rm : Room} {ret : Option FieldType} {hs : List (Nat × Nat × Nat × Nat)} {ini : Bool} {O : Outcome} {σ' : Mem} {ρ : γ} {σ : Mem} {cs : Nat × Nat} {pc : Nat} {lv : List (Nat × Value)} {st : List Value} (hc : Cx Θ (VX g) cc nL RX0 rm ret hs ini O σ') {K : Mem → Option γ} (hd : decode cc pc = .ok (.putfield 162, 3)) (kk : ∀ σ1 : Mem, Sim Θ nL ρ σ1 (K σ1) cs (pc + 3) lv st) : Sim Θ nL ρ σ (lt_ (pR σ 16 0 none) K) cs pc lv (.null :: .ref (vO (VX g) + 16) :: st) := s_put hc (C := RX2) (T := TX2) (N := 1) (ci := 2) (k := 16) (v := .null) (σ1 := pR σ 16 0 none) in_X2 tyX2_ok nmX2 (Nat.le_of_ble_eq_true rfl) rfl rfl 0 (Nat.le_of_ble_eq_true rfl) q113 (fun _ _ _ _ h => h) rfl (ty := .object "java/lang/Object") (by decide +kernel) rfl rfl (Nat.zero_lt_one) (by simp [vY, VX, YX, pR, va_rf] <;> rfl) (pR_ne σ 16 0 none) rfl hd (kk _)
def jX0_even_18 (N : Nat) (σ : Mem) (t0 : Int32)  : Option (Int32 × Mem) :=
  lt_ (pR σ 16 0 (none)) (fun σ2 => 
  lt_ (pI σ2 0 10 (0 : Int32)) (fun σ3 => 
  some (t0, σ3)))
set_option maxHeartbeats 4000000 in
theorem wjX0_even_18 {Θ : ThT Mem} {g : GeoX} {N : Nat}  {ρ : Int32 × Mem} (σ : Mem) (hc : Cx Θ (VX g) cX0_even 2 RX0 (rk 1 0 0) (some .int) [] false (oI ρ.1) ρ.2) (t0 : Int32)  : Sim Θ 2 ρ σ (jX0_even_18 N σ t0 ) (0, 0) 18 [(0, .ref (vO (VX g) + 0))] [.int t0] := by
  have hz := hc.z
  unfold jX0_even_18
  refine s_istore_n (lv' := [(1, .int t0), (0, .ref (vO (VX g) + 0))]) hz dX0_even_18 rfl (Nat.le_of_ble_eq_true rfl) rfl ?_
  refine s_aload_n hz dX0_even_19 rfl 1 rfl ?_
  refine rX_g_X0_42_0 hc dX0_even_20 ?_
  refine rX_g_X0_191_1 hc dX0_even_23 ?_
  refine s_null hz dX0_even_26 ?_
  refine rX_psn_X0_162_16 hc dX0_even_27 (fun σ2 => ?_)
  refine s_aload_n hz dX0_even_30 rfl 1 rfl ?_
  refine s_iconst (v := (0 : Int32)) hz dX0_even_31 (by decide) ?_
  refine rX_p_X0_166_0 hc rfl rfl dX0_even_32 (fun σ3 => ?_)
  refine s_iload_n hz dX0_even_35 rfl 0 rfl ?_
  exact s_iretM hc dX0_even_36 (Nat.le_of_ble_eq_true rfl) (Nat.le_of_ble_eq_true rfl)
def fX0_even (N : Nat) (σ : Mem)  : Option (Int32 × Mem) :=
  mO (gR σ 16 0)
  (jX0_even_18 N σ (0 : Int32)) (fun a1 => 
  jX0_even_18 N σ (1 : Int32))
set_option maxHeartbeats 4000000 in
theorem wfX0_even {Θ : ThT Mem} {g : GeoX} {N : Nat}  {ρ : Int32 × Mem} (σ : Mem)  (hc : Cx Θ (VX g) cX0_even 2 RX0 (rk 1 0 0) (some .int) [] false (oI ρ.1) ρ.2) : Sim Θ 2 ρ σ (fX0_even N σ ) (0, 0) 0 [(0, .ref (vO (VX g) + 0))] [] := by
  have hz := hc.z
  unfold fX0_even
  refine s_aload_n hz dX0_even_0 rfl 0 rfl ?_
  refine rX_g_X0_42_0 hc dX0_even_1 ?_
  refine rX_g_X0_191_1 hc dX0_even_4 ?_
  refine rX_gs_X0_162_16 hc dX0_even_7 ?_
  refine s_opt (fun _ => ?_) (fun a1 _ => ?_)
  · refine s_ifnonnullN hz dX0_even_10 ?_
    refine s_iconst (v := (0 : Int32)) hz dX0_even_13 (by decide) ?_
    refine s_goto (tgt := 18) hz dX0_even_14 rfl ?_
    exact s_sub [0] rfl (wjX0_even_18 σ hc (0 : Int32) )
  · refine s_ifnonnull (tgt := 17) hz dX0_even_10 rfl ?_
    refine s_iconst (v := (1 : Int32)) hz dX0_even_17 (by decide) ?_
    exact s_sub [0] rfl (wjX0_even_18 σ hc (1 : Int32) )
theorem cfX0_even {g : GeoX} {N : Nat}  {σ : Mem}  {ρ : Int32 × Mem} (hF : fX0_even N σ  = some ρ) (l : Launch) : Ct (VX g) l yX0_even cX0_even 2 (some .int) (rk 1 0 0) [.ref (vO (VX g) + 0)] σ (oI ρ.1) ρ.2 :=
  Ct.of (by decide) (Nat.le_of_ble_eq_true rfl) (fun Θ hc ls hl => wfX0_even σ  hc hF ls hl)
theorem kX_X0_282 {γ : Type} {Θ : ThT Mem} {g : GeoX} {cc : ByteArray} {nL : Nat} {rm : Room} {ret : Option FieldType} {hs : List (Nat × Nat × Nat × Nat)} {ini : Bool} {O : Outcome} {σ' : Mem} {ρ : γ} {σ : Mem} {F : Option γ} {cs : Nat × Nat} {pc : Nat} {lv : List (Nat × Value)} {st : List Value} (hc : Cx Θ (VX g) cc nL RX0 rm ret hs ini O σ') {σ1 : Mem} {x0 : Int32} {x1 : Int32} {r : Int32} {rmc : Room} (hM : ∀ l : Launch, Ct (VX g) l yX0_isRule cX0_isRule 2 (some .boolean) rmc [.int x0, .int x1] σ (oI r) σ1) (hR : rmc.frames + 1 ≤ rm.frames ∧ 8 + (2 + 11) + rmc.locals ≤ rm.locals) (hf : cs.1 + rmc.cells ≤ rm.cells ∧ cs.2 + rmc.slots ≤ rm.slots) (hrest : (st.map fun v => v.category).sum ≤ 8) (hd : decode cc pc = .ok (.invokestatic 282, 3)) (kk : Sim Θ nL ρ σ1 F (cs.1 + rmc.cells, cs.2 + rmc.slots) (pc + 3) lv (.int r :: st)) : Sim Θ nL ρ σ F cs pc lv (.int x1 :: .int x0 :: st) := s_callS hc (As := [.int x0, .int x1]) (rest := st) (n := 2) hM (lw_S q828 q829 q62 q830) (by decide +kernel) rfl rfl hrest hR hf hd kk
theorem rX_g_X0_286_1 {γ : Type} {Θ : ThT Mem} {g : GeoX} {cc : ByteArray} {nL : Nat} {rm : Room} {ret : Option FieldType} {hs : List (Nat × Nat × Nat × Nat)} {ini : Bool} {O : Outcome} {σ' : Mem} {ρ : γ} {σ : Mem} {F : Option γ} {cs : Nat × Nat} {pc : Nat} {lv : List (Nat × Value)} {st : List Value} (hc : Cx Θ (VX g) cc nL RX0 rm ret hs ini O σ') (hd : decode cc pc = .ok (.getfield 286, 3)) (kk : Sim Θ nL ρ σ F cs (pc + 3) lv (.ref (vO (VX g) + 2) :: st)) : Sim Θ nL ρ σ F cs pc lv (.ref (vO (VX g) + 1) :: st) := s_get hc (C := RX1) (T := TX1) (N := 10) (ci := 1) (k := 1) in_X1 (Nat.le_of_ble_eq_true rfl) rfl rfl 4 (Nat.le_of_ble_eq_true rfl) q131 (fun _ _ _ _ h => h) rfl hd kk
theorem rX_ld_2 {own : String} {γ : Type} {Θ : ThT Mem} {g : GeoX} {cc : ByteArray} {nL : Nat} {rm : Room} {ret : Option FieldType} {hs : List (Nat × Nat × Nat × Nat)} {ini : Bool} {O : Outcome} {σ' : Mem} {ρ : γ} {σ : Mem} {F : Option γ} {cs : Nat × Nat} {pc : Nat} {lv : List (Nat × Value)} {st : List Value} (hc : Cx Θ (VX g) cc nL own rm ret hs ini O σ') {i : Int32} {j : Nat} (hin : inb i 8 = true) (hj : ix i = j) (hd : decode cc pc = .ok (.iaload, 1)) (kk : Sim Θ nL ρ σ F cs (pc + 1) lv (.int (gI σ 2 j) :: st)) : Sim Θ nL ρ σ F cs pc lv (.int i :: .ref (vO (VX g) + 2) :: st) := s_iald hc (k := 2) (t := 0) (n := 8) (Nat.le_of_ble_eq_true rfl) rfl rfl hin hj hd kk
theorem rX_st_2 {own : String} {γ : Type} {Θ : ThT Mem} {g : GeoX} {cc : ByteArray} {nL : Nat} {rm : Room} {ret : Option FieldType} {hs : List (Nat × Nat × Nat × Nat)} {ini : Bool} {O : Outcome} {σ' : Mem} {ρ : γ} {σ : Mem} {cs : Nat × Nat} {pc : Nat} {lv : List (Nat × Value)} {st : List Value} (hc : Cx Θ (VX g) cc nL own rm ret hs ini O σ') {K : Mem → Option γ} {i x : Int32} {j : Nat} (hin : inb i 8 = true) (hj : ix i = j) (hd : decode cc pc = .ok (.iastore, 1)) (kk : ∀ σ1 : Mem, Sim Θ nL ρ σ1 (K σ1) cs (pc + 1) lv st) : Sim Θ nL ρ σ (lt_ (pI σ 2 j x) K) cs pc lv (.int x :: .int i :: .ref (vO (VX g) + 2) :: st) := s_iast hc (k := 2) (t := 0) (n := 8) (Nat.le_of_ble_eq_true rfl) (fun _ => rfl) rfl hin hj hd kk
def fX0_rule (N : Nat) (σ : Mem) (x1 : Int32) (x2 : Int32) : Option (Int32 × Mem) :=
  (fX0_isRule N σ x1 x2).bind (fun q1 => 
  (fX0_need N σ q1 (0 : Int32)).bind (fun q6 => cT2 q6 (fun v3 σ5 => 
  gb (inb x1 8) (
  lt_ (gI σ5 2 (ix x1)) (fun v10 => 
  gb (inb x1 8) (
  lt_ (pI σ5 2 (ix x1) x2) (fun σ11 => 
  some (v10, σ11)))))) (fun b4 σ5 => 
  gb (isC σ5 b4 5) (
  (fX0_finds N σ5 b4).bind (fun q13 => 
  some (q13.1, q13.2))))))
set_option maxHeartbeats 4000000 in
theorem wfX0_rule {Θ : ThT Mem} {g : GeoX} {N : Nat}  {ρ : Int32 × Mem} (σ : Mem) (x1 : Int32) (x2 : Int32) (hc : Cx Θ (VX g) cX0_rule 4 RX0 (rk 5 1 7) (some .int) [(0, 30, 31, 1)] false (oI ρ.1) ρ.2) : Sim Θ 4 ρ σ (fX0_rule N σ x1 x2) (0, 0) 0 [(0, .ref (vO (VX g) + 0)), (1, .int x1), (2, .int x2)] [] := by
  have hz := hc.z
  unfold fX0_rule
  refine s_iload_n hz dX0_rule_0 rfl 1 rfl ?_
  refine s_iload_n hz dX0_rule_1 rfl 2 rfl ?_
  refine s_bind (fun q1 e2 => ?_)
  refine kX_X0_282 hc (cfX0_isRule e2) ⟨(Nat.le_of_ble_eq_true rfl), (Nat.le_of_ble_eq_true rfl)⟩ ⟨(Nat.le_of_ble_eq_true rfl), (Nat.le_of_ble_eq_true rfl)⟩ (Nat.le_of_ble_eq_true rfl) dX0_rule_2 ?_
  refine s_iconst (v := (0 : Int32)) hz dX0_rule_5 (by decide) ?_
  refine s_bind (fun q6 e7 => ?_)
  rcases q6 with ⟨v3 | b4, σ5⟩
  · refine kX_X0_119 hc (cfX0_need e7) ⟨(Nat.le_of_ble_eq_true rfl), (Nat.le_of_ble_eq_true rfl)⟩ ⟨(Nat.le_of_ble_eq_true rfl), (Nat.le_of_ble_eq_true rfl)⟩ (Nat.le_of_ble_eq_true rfl) dX0_rule_6 (s_c2 ?_)
    refine s_aload_n hz dX0_rule_9 rfl 0 rfl ?_
    refine rX_g_X0_42_0 hc dX0_rule_10 ?_
    refine rX_g_X0_286_1 hc dX0_rule_13 ?_
    refine s_iload_n hz dX0_rule_16 rfl 1 rfl ?_
    refine s_gb (fun h9 => ?_)
    refine rX_ld_2 hc h9 rfl dX0_rule_17 ?_
    refine s_nmI (fun v10 => ?_)
    refine s_istore_n (lv' := [(3, .int v10), (0, .ref (vO (VX g) + 0)), (1, .int x1), (2, .int x2)]) hz dX0_rule_18 rfl (Nat.le_of_ble_eq_true rfl) rfl ?_
    refine s_aload_n hz dX0_rule_19 rfl 1 rfl ?_
    refine rX_g_X0_42_0 hc dX0_rule_20 ?_
    refine rX_g_X0_286_1 hc dX0_rule_23 ?_
    refine s_iload_n hz dX0_rule_26 rfl 2 rfl ?_
    refine s_iload_n hz dX0_rule_27 rfl 3 rfl ?_
    refine s_gb (fun h12 => ?_)
    refine rX_st_2 hc h12 rfl dX0_rule_28 (fun σ11 => ?_)
    refine s_iload_n hz dX0_rule_29 rfl 0 rfl ?_
    exact s_iretM hc dX0_rule_30 (Nat.le_of_ble_eq_true rfl) (Nat.le_of_ble_eq_true rfl)
  · refine s_gb (fun h8 => ?_)
    refine kX_X0_119_h hc (cfX0_need e7) ⟨(Nat.le_of_ble_eq_true rfl), (Nat.le_of_ble_eq_true rfl)⟩ ⟨(Nat.le_of_ble_eq_true rfl), (Nat.le_of_ble_eq_true rfl)⟩ (Nat.le_of_ble_eq_true rfl) dX0_rule_6 (i := 0) rfl rfl (by decide) (by decide) (q := (RX6, TX6, 7)) rfl q273 (isC_ob h8) ?_
    refine s_astore_n (lv' := [(3, .ref (vO (VX g) + b4)), (0, .ref (vO (VX g) + 0)), (1, .int x1), (2, .int x2)]) hz dX0_rule_31 rfl (Nat.le_of_ble_eq_true rfl) rfl ?_
    refine s_aload_n hz dX0_rule_32 rfl 1 rfl ?_
    refine s_aload_n hz dX0_rule_33 rfl 0 rfl ?_
    refine s_bind (fun q13 e14 => ?_)
    refine kX_X0_145 hc (cfX0_finds e14) ⟨(Nat.le_of_ble_eq_true rfl), (Nat.le_of_ble_eq_true rfl)⟩ ⟨(Nat.le_of_ble_eq_true rfl), (Nat.le_of_ble_eq_true rfl)⟩ (Nat.le_of_ble_eq_true rfl) dX0_rule_34 ?_
    exact s_iretM hc dX0_rule_37 (Nat.le_of_ble_eq_true rfl) (Nat.le_of_ble_eq_true rfl)
theorem cfX0_rule {g : GeoX} {N : Nat}  {σ : Mem} {x1 : Int32} {x2 : Int32} {ρ : Int32 × Mem} (hF : fX0_rule N σ x1 x2 = some ρ) (l : Launch) : CtW (wsW_ yX0_rule cX0_rule 4 (some .int) [(0, 30, 31, 1)]) (VX g) l yX0_rule (rk 5 1 7) [.ref (vO (VX g) + 0), .int x1, .int x2] σ (oI ρ.1) ρ.2 :=
  CtW.ofH (by decide) (Nat.le_of_ble_eq_true rfl) (fun Θ hc ls hl => wfX0_rule σ x1 x2 hc hF ls hl)
theorem rX_g_X0_289_1 {γ : Type} {Θ : ThT Mem} {g : GeoX} {cc : ByteArray} {nL : Nat} {rm : Room} {ret : Option FieldType} {hs : List (Nat × Nat × Nat × Nat)} {ini : Bool} {O : Outcome} {σ' : Mem} {ρ : γ} {σ : Mem} {F : Option γ} {cs : Nat × Nat} {pc : Nat} {lv : List (Nat × Value)} {st : List Value} (hc : Cx Θ (VX g) cc nL RX0 rm ret hs ini O σ') (hd : decode cc pc = .ok (.getfield 289, 3)) (kk : Sim Θ nL ρ σ F cs (pc + 3) lv (.int (gI σ 1 3) :: st)) : Sim Θ nL ρ σ F cs pc lv (.ref (vO (VX g) + 1) :: st) := s_get hc (C := RX1) (T := TX1) (N := 10) (ci := 1) (k := 1) in_X1 (Nat.le_of_ble_eq_true rfl) rfl rfl 3 (Nat.le_of_ble_eq_true rfl) q129 (fun _ _ _ _ h => h) rfl hd kk
theorem rX_p_X0_289_1 {γ : Type} {Θ : ThT Mem} {g : GeoX} {cc : ByteArray} {nL : Nat} {rm : Room} {ret : Option FieldType} {hs : List (Nat × Nat × Nat × Nat)} {ini : Bool} {O : Outcome} {σ' : Mem} {ρ : γ} {σ : Mem} {cs : Nat × Nat} {pc : Nat} {lv : List (Nat × Value)} {st : List Value} (hc : Cx Θ (VX g) cc nL RX0 rm ret hs ini O σ') {K : Mem → Option γ} {x : Int32} (hd : decode cc pc = .ok (.putfield 289, 3)) (kk : ∀ σ1 : Mem, Sim Θ nL ρ σ1 (K σ1) cs (pc + 3) lv st) : Sim Θ nL ρ σ (lt_ (pI σ 1 3 x) K) cs pc lv (.int x :: .ref (vO (VX g) + 1) :: st) := s_put hc (C := RX1) (T := TX1) (N := 10) (ci := 1) (k := 1) (σ1 := pI σ 1 3 x) in_X1 tyX1_ok nmX1 (Nat.le_of_ble_eq_true rfl) rfl rfl 3 (Nat.le_of_ble_eq_true rfl) q129 (fun _ _ _ _ h => h) rfl (ty := .int) (by decide +kernel) rfl rfl (Nat.le_of_ble_eq_true rfl) rfl (pI_ne σ 1 3 x) rfl hd (kk _)
def fX0_seed (N : Nat) (σ : Mem) (x1 : Int32) : Option (Int32 × Mem) :=
  lt_ (gI σ 1 3) (fun v1 => 
  lt_ (pI σ 1 3 x1) (fun σ2 => 
  some (v1, σ2)))
set_option maxHeartbeats 4000000 in
theorem wfX0_seed {Θ : ThT Mem} {g : GeoX} {N : Nat}  {ρ : Int32 × Mem} (σ : Mem) (x1 : Int32) (hc : Cx Θ (VX g) cX0_seed 3 RX0 (rk 1 0 0) (some .int) [] false (oI ρ.1) ρ.2) : Sim Θ 3 ρ σ (fX0_seed N σ x1) (0, 0) 0 [(0, .ref (vO (VX g) + 0)), (1, .int x1)] [] := by
  have hz := hc.z
  unfold fX0_seed
  refine s_aload_n hz dX0_seed_0 rfl 0 rfl ?_
  refine rX_g_X0_42_0 hc dX0_seed_1 ?_
  refine rX_g_X0_289_1 hc dX0_seed_4 ?_
  refine s_nmI (fun v1 => ?_)
  refine s_istore_n (lv' := [(2, .int v1), (0, .ref (vO (VX g) + 0)), (1, .int x1)]) hz dX0_seed_7 rfl (Nat.le_of_ble_eq_true rfl) rfl ?_
  refine s_aload_n hz dX0_seed_8 rfl 1 rfl ?_
  refine rX_g_X0_42_0 hc dX0_seed_9 ?_
  refine s_iload_n hz dX0_seed_12 rfl 2 rfl ?_
  refine rX_p_X0_289_1 hc dX0_seed_13 (fun σ2 => ?_)
  refine s_iload_n hz dX0_seed_16 rfl 0 rfl ?_
  exact s_iretM hc dX0_seed_17 (Nat.le_of_ble_eq_true rfl) (Nat.le_of_ble_eq_true rfl)
theorem cfX0_seed {g : GeoX} {N : Nat}  {σ : Mem} {x1 : Int32} {ρ : Int32 × Mem} (hF : fX0_seed N σ x1 = some ρ) (l : Launch) : Ct (VX g) l yX0_seed cX0_seed 3 (some .int) (rk 1 0 0) [.ref (vO (VX g) + 0), .int x1] σ (oI ρ.1) ρ.2 :=
  Ct.of (by decide) (Nat.le_of_ble_eq_true rfl) (fun Θ hc ls hl => wfX0_seed σ x1 hc hF ls hl)
