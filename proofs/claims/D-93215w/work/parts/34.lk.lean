/-! liking -/
set_option maxRecDepth 100000
theorem gnX15i {N : Nat} {σ : Mem} {x0 : Nat} {x2 : Int32} {ρ : Unit × Mem} (h : fX15_init N σ x0 x2 = some ρ) : gN ρ.2 = gN σ :=
  (mo_bind (P := fun n => n = gN σ) fun _ e1 => mo_bind fun _ e2 => mo_some ((wV_gN e2).trans (wV_gN e1))) ρ h
theorem ml_b15 {β : Type} {m N a : Nat} {x : Int32} {σ : Mem} {K : Unit × Mem → Option (β × Mem)} (h : ∀ q, gN q.2 = gN σ → ML m (K q)) : ML m ((fX15_init N σ a x).bind K) := ml_bind fun q e => h q (gnX15i e)
theorem ml_bD {β : Type} {m N a : Nat} {σ : Mem} {K : (Option Nat ⊕ Nat) × Mem → Option (β × Mem)} (h : ∀ q, gN σ ≤ gN q.2 → ML m (K q)) : ML m ((fX15_read N σ a).bind K) := ml_bind fun q e => h q (gnX15_read e)
theorem dfX_X15 (o : Nat) : ∀ j, j < 4 → defaultValue (tyX15 j) = vp_V (([.null, .int 0, .int 0, .int 0] : List Value).map (rv o)) j := by
  intro j hj
  match j, hj with
  | 0, _ => rfl
  | 1, _ => rfl
  | 2, _ => rfl
  | 3, _ => rfl
  | j + 4, hj => exact absurd hj (by omega)
theorem kX_X0_264 {γ : Type} {Θ : ThT Mem} {g : GeoX} {cc : ByteArray} {nL : Nat} {rm : Room} {ret : Option FieldType} {hs : List (Nat × Nat × Nat × Nat)} {ini : Bool} {O : Outcome} {σ' : Mem} {ρ : γ} {σ : Mem} {F : Option γ} {cs : Nat × Nat} {pc : Nat} {lv : List (Nat × Value)} {st : List Value} (hc : Cx Θ (VX g) cc nL RX0 rm ret hs ini O σ') {σ1 : Mem} {x0 : Nat} {x2 : Int32} {rmc : Room} (hM : ∀ l : Launch, Ct (VX g) l yX15_init cX15_init 3 none rmc [.ref (vO (VX g) + x0), .ref (vO (VX g) + 55), .int x2] σ oV σ1) (hR : rmc.frames + 1 ≤ rm.frames ∧ 8 + (3 + 11) + rmc.locals ≤ rm.locals) (hf : cs.1 + rmc.cells ≤ rm.cells ∧ cs.2 + rmc.slots ≤ rm.slots) (hrest : (st.map fun v => v.category).sum ≤ 8) (hd : decode cc pc = .ok (.invokespecial 264, 3)) (kk : Sim Θ nL ρ σ1 F (cs.1 + rmc.cells, cs.2 + rmc.slots) (pc + 3) lv (st)) : Sim Θ nL ρ σ F cs pc lv (.int x2 :: .ref (vO (VX g) + 55) :: .ref (vO (VX g) + x0) :: st) := s_callI hc (a := x0) (As := [.ref (vO (VX g) + 55), .int x2]) (rest := st) (n := 2) hM q698 q81 q696 q697 (by decide +kernel) rfl rfl hrest hR hf hd kk
theorem kX_X0_267 {γ : Type} {Θ : ThT Mem} {g : GeoX} {cc : ByteArray} {nL : Nat} {rm : Room} {ret : Option FieldType} {hs : List (Nat × Nat × Nat × Nat)} {ini : Bool} {O : Outcome} {σ' : Mem} {ρ : γ} {σ : Mem} {F : Option γ} {cs : Nat × Nat} {pc : Nat} {lv : List (Nat × Value)} {st : List Value} (hc : Cx Θ (VX g) cc nL RX0 rm ret hs ini O σ') {σ1 : Mem} {x0 : Nat} {r : Option Nat} (hob : Ob (VX g) σ x0 7) {rmc : Room} (hM : ∀ l : Launch, Ct (VX g) l yX15_read cX15_read 2 (some (.object "SlipWeeks$Part")) rmc [.ref (vO (VX g) + x0)] σ (oR (vO (VX g)) r) σ1) (hR : rmc.frames + 1 ≤ rm.frames ∧ 8 + (2 + 11) + rmc.locals ≤ rm.locals) (hf : cs.1 + rmc.cells ≤ rm.cells ∧ cs.2 + rmc.slots ≤ rm.slots) (hrest : (st.map fun v => v.category).sum ≤ 8) (hd : decode cc pc = .ok (.invokevirtual 267, 3)) (kk : Sim Θ nL ρ σ1 F (cs.1 + rmc.cells, cs.2 + rmc.slots) (pc + 3) lv (va_rf (r.map (vO (VX g) + ·)) :: st)) : Sim Θ nL ρ σ F cs pc lv (.ref (vO (VX g) + x0) :: st) := s_callVo hc (a := x0) (As := []) (rest := st) (n := 0) (ci := 7) (q := (RX15, TX15, 4)) hM (lw_V q713 q714 q715 q81 q716) (by decide +kernel) rfl hob rfl rfl hrest hR hf hd kk
theorem kX_X0_267_h {γ : Type} {Θ : ThT Mem} {g : GeoX} {cc : ByteArray} {nL : Nat} {rm : Room} {ret : Option FieldType} {hs : List (Nat × Nat × Nat × Nat)} {ini : Bool} {O : Outcome} {σ' : Mem} {ρ : γ} {σ : Mem} {F : Option γ} {cs : Nat × Nat} {pc : Nat} {lv : List (Nat × Value)} {st : List Value} (hc : Cx Θ (VX g) cc nL RX0 rm ret hs ini O σ') {σ1 : Mem} {x0 : Nat} {b i s0 e0 hp ct ci : Nat} {q : vw_C} (hob : Ob (VX g) σ x0 7) {rmc : Room} (hM : ∀ l : Launch, Ct (VX g) l yX15_read cX15_read 2 (some (.object "SlipWeeks$Part")) rmc [.ref (vO (VX g) + x0)] σ (.threw (vO (VX g) + b)) σ1) (hR : rmc.frames + 1 ≤ rm.frames ∧ 8 + (2 + 11) + rmc.locals ≤ rm.locals) (hf : cs.1 + rmc.cells ≤ rm.cells ∧ cs.2 + rmc.slots ≤ rm.slots) (hrest : (st.map fun v => v.category).sum ≤ 8) (hd : decode cc pc = .ok (.invokevirtual 267, 3)) (hi : hs[i]? = some (s0, e0, hp, ct)) (hpre : ((hs.take i).all fun q => !(decide (q.1 ≤ pc) && decide (pc < q.2.1))) = true) (hin : s0 ≤ pc ∧ pc < e0) (h0 : ct ≠ 0) (hcl : (vCl (VX g))[ci]? = some q) (hlink : Cond.classLink RX0 ct q.1 ∈ lw_all) (hobx : Ob (VX g) σ1 b ci) (kk : Sim Θ nL ρ σ1 F (cs.1 + rmc.cells, cs.2 + rmc.slots) hp lv [.ref (vO (VX g) + b)]) : Sim Θ nL ρ σ F cs pc lv (.ref (vO (VX g) + x0) :: st) := s_callVh hc (a := x0) (As := []) (rest := st) (n := 0) (cj := 7) (q' := (RX15, TX15, 4)) hM (lw_V q713 q714 q715 q81 q716) (by decide +kernel) rfl hob rfl rfl hrest hR hf hd hi hpre hin h0 hcl hlink hobx kk
theorem kX_X0_267_t {β : Type} {Θ : ThT Mem} {g : GeoX} {cc : ByteArray} {nL : Nat} {rm : Room} {ret : Option FieldType} {hs : List (Nat × Nat × Nat × Nat)} {ini : Bool} {fo : β → Outcome} {ρ : (β ⊕ Nat) × Mem} {σ : Mem} {cs : Nat × Nat} {pc : Nat} {lv : List (Nat × Value)} {st : List Value} (hc : Cx Θ (VX g) cc nL RX0 rm ret hs ini (oT fo ρ.1 (vO (VX g))) ρ.2) {σ1 : Mem} {x0 : Nat} {b : Nat} (hob : Ob (VX g) σ x0 7) {rmc : Room} (hM : ∀ l : Launch, Ct (VX g) l yX15_read cX15_read 2 (some (.object "SlipWeeks$Part")) rmc [.ref (vO (VX g) + x0)] σ (.threw (vO (VX g) + b)) σ1) (hR : rmc.frames + 1 ≤ rm.frames ∧ 8 + (2 + 11) + rmc.locals ≤ rm.locals) (hf : cs.1 + rmc.cells ≤ rm.cells ∧ cs.2 + rmc.slots ≤ rm.slots) (hrest : (st.map fun v => v.category).sum ≤ 8) (hd : decode cc pc = .ok (.invokevirtual 267, 3)) (hout : (hs.all fun q => !(decide (q.1 ≤ pc) && decide (pc < q.2.1))) = true) : Sim Θ nL ρ σ (some (.inr b, σ1)) cs pc lv (.ref (vO (VX g) + x0) :: st) := s_callVt hc (a := x0) (As := []) (rest := st) (n := 0) (cj := 7) (q' := (RX15, TX15, 4)) hM (lw_V q713 q714 q715 q81 q716) (by decide +kernel) rfl hob rfl rfl hrest hR hf hd hout
theorem rX_psr_X0_162_16 {γ : Type} {Θ : ThT Mem} {g : GeoX} {cc : ByteArray} {nL : Nat} {rm : Room} {ret : Option FieldType} {hs : List (Nat × Nat × Nat × Nat)} {ini : Bool} {O : Outcome} {σ' : Mem} {ρ : γ} {σ : Mem} {cs : Nat × Nat} {pc : Nat} {lv : List (Nat × Value)} {st : List Value} (hc : Cx Θ (VX g) cc nL RX0 rm ret hs ini O σ') {K : Mem → Option γ} {a : Nat} (hd : decode cc pc = .ok (.putfield 162, 3)) (kk : ∀ σ1 : Mem, Sim Θ nL ρ σ1 (K σ1) cs (pc + 3) lv st) : Sim Θ nL ρ σ (lt_ (pR σ 16 0 (some a)) K) cs pc lv (.ref (vO (VX g) + a) :: .ref (vO (VX g) + 16) :: st) := s_put hc (C := RX2) (T := TX2) (N := 1) (ci := 2) (k := 16) (v := .ref (vO (VX g) + a)) (σ1 := pR σ 16 0 (some a)) in_X2 tyX2_ok nmX2 (Nat.le_of_ble_eq_true rfl) rfl rfl 0 (Nat.le_of_ble_eq_true rfl) q113 (fun _ _ _ _ h => h) rfl (ty := .object "java/lang/Object") (by decide +kernel) rfl rfl (Nat.zero_lt_one) (by simp [vY, VX, YX, pR, va_rf] <;> rfl) (pR_ne σ 16 0 (some a)) rfl hd (kk _)
theorem rX_d_X0_273 {γ : Type} {Θ : ThT Mem} {g : GeoX} {cc : ByteArray} {nL : Nat} {rm : Room} {ret : Option FieldType} {hs : List (Nat × Nat × Nat × Nat)} {ini : Bool} {O : Outcome} {σ' : Mem} {ρ : γ} {σ : Mem} {F : Option γ} {cs : Nat × Nat} {pc : Nat} {lv : List (Nat × Value)} {st : List Value} (hc : Cx Θ (VX g) cc nL RX0 rm ret hs ini O σ') {a : Nat} {v : Int32} (h : dI 6 7 σ a 6 = some v) (hd : decode cc pc = .ok (.getfield 273, 3)) (kk : Sim Θ nL ρ σ F cs (pc + 3) lv (.int v :: st)) : Sim Θ nL ρ σ F cs pc lv (.ref (vO (VX g) + a) :: st) := by
  obtain ⟨c, fs, ha, h1, h2, hv⟩ := dI_spec h
  have h3 : c = 6 := by omega
  rcases h3 with rfl
  · exact s_dget hc (C := RX18) (T := TX18) (N := 7) ha in_X18 rfl 6 (Nat.le_of_ble_eq_true rfl) q778 (fun _ _ _ _ h => h) hv hd kk
def fX0_liking (N : Nat) (σ : Mem) : Option (Int32 × Mem) :=
  lt_ (nC σ (.inr (7, [.null, .int 0, .int 0, .int 0]))) (fun σ1 => 
  gb (decide (gN σ1 = gN σ + 1)) ((fX15_init N σ1 (gN σ) (gI σ1 0 4)).bind (fun q4 => 
  gb (isC q4.2 (gN σ) 7) ((fX15_read N q4.2 (gN σ)).bind (fun q11 => cT2 q11 (fun v8 σ10 => 
  mO v8
  (none) (fun a14 => 
  lt_ (pR σ10 16 0 (some a14)) (fun σ15 => 
  gb (decide (gN σ15 = gN σ10)) (lt_ (pI σ15 0 4 (0 : Int32)) (fun σ17 => 
  gb (decide (gN σ17 = gN σ15)) (lt_ (pI σ17 0 10 (0 : Int32)) (fun σ19 => 
  gb (decide (gN σ19 = gN σ17)) (some ((0 : Int32), σ19))))))))) (fun b9 σ10 => 
  gb (isC σ10 b9 6) (
  (dI 6 7 σ10 b9 6).bind (fun v24 => 
  some (((-1 : Int32) - v24), σ10)))))))))
set_option maxHeartbeats 4000000 in
theorem wfX0_liking {Θ : ThT Mem} {g : GeoX} {N : Nat} {n0 : Nat} {ρ : Int32 × Mem} (σ : Mem) (hk : n0 ≤ gN σ) (hc : Cx Θ (VX g) cX0_liking 2 RX0 (rk 27 (gN ρ.2 - n0) (7 * (gN ρ.2 - n0))) (some .int) [(0, 39, 40, 271)] false (oI ρ.1) ρ.2) : Sim Θ 2 ρ σ (fX0_liking N σ) (0, 0) 0 [(0, .ref (vO (VX g) + 0))] [] := by
  have hz := hc.z
  unfold fX0_liking
  refine s_pk (m := gN σ) (by repeat' (first | (with_reducible exact ml_none) | (with_reducible refine ml_some ?_; omega) | (with_reducible refine ml_lt ?_) | (with_reducible refine ml_gbD (fun _ => ?_)) | (with_reducible refine ml_gb (fun _ => ?_)) | (with_reducible refine ml_ite (fun _ => ?_) (fun _ => ?_)) | (with_reducible refine ml_mO ?_ (fun _ => ?_)) | (with_reducible refine ml_c2l ?_) | (with_reducible refine ml_c2r ?_) | (with_reducible refine ml_c2 (fun _ => ?_) (fun _ => ?_)) | (with_reducible refine ml_bW (fun _ _ => ?_)) | (with_reducible refine ml_bT (fun _ _ => ?_)) | (with_reducible refine ml_bN (fun _ _ => ?_)) | (with_reducible refine ml_b19 (fun _ _ => ?_)) | (with_reducible refine ml_b20 (fun _ _ => ?_)) | (with_reducible refine ml_b17 (fun _ _ => ?_)) | (with_reducible refine ml_bM (fun _ _ => ?_)) | (with_reducible refine ml_bD (fun _ _ => ?_)) | (with_reducible refine ml_b15 (fun _ _ => ?_)) | (with_reducible refine ml_bind (fun _ _ => ?_)))) (fun p28 => ?_)
  refine s_wid hz (gN σ - n0, 7 * (gN σ - n0)) (Nat.zero_le _) (Nat.zero_le _) ?_
  refine s_aload_n hz dX0_liking_0 rfl 0 rfl ?_
  refine rX_g_X0_42_0 hc dX0_liking_1 ?_
  refine rX_g_X0_191_1 hc dX0_liking_4 ?_
  refine s_pk (m := gN σ + 1) (by repeat' (first | (with_reducible exact ml_none) | (with_reducible refine ml_some ?_; omega) | (with_reducible refine ml_lt ?_) | (with_reducible refine ml_gbD (fun _ => ?_)) | (with_reducible refine ml_gb (fun _ => ?_)) | (with_reducible refine ml_ite (fun _ => ?_) (fun _ => ?_)) | (with_reducible refine ml_mO ?_ (fun _ => ?_)) | (with_reducible refine ml_c2l ?_) | (with_reducible refine ml_c2r ?_) | (with_reducible refine ml_c2 (fun _ => ?_) (fun _ => ?_)) | (with_reducible refine ml_bW (fun _ _ => ?_)) | (with_reducible refine ml_bT (fun _ _ => ?_)) | (with_reducible refine ml_bN (fun _ _ => ?_)) | (with_reducible refine ml_b19 (fun _ _ => ?_)) | (with_reducible refine ml_b20 (fun _ _ => ?_)) | (with_reducible refine ml_b17 (fun _ _ => ?_)) | (with_reducible refine ml_bM (fun _ _ => ?_)) | (with_reducible refine ml_bD (fun _ _ => ?_)) | (with_reducible refine ml_b15 (fun _ _ => ?_)) | (with_reducible refine ml_bind (fun _ _ => ?_)))) (fun p3 => ?_)
  refine s_new hc (C := RX15) (T := TX15) (N := 4) (ci := 7) in_X15 tyX15_ok rfl q694 q695 q81 (dfX_X15 _) ⟨by simp only [rk]; omega, by simp only [rk]; omega⟩ dX0_liking_7 (fun σ1 => ?_)
  refine s_gb (fun h2 => ?_)
  have h2 := of_decide_eq_true h2
  refine s_wid hz (gN σ1 - n0, 7 * (gN σ1 - n0)) (by simp only [rk]; omega) (by simp only [rk]; omega) ?_
  refine s_dup hz dX0_liking_10 rfl ?_
  refine s_aload_n hz dX0_liking_11 rfl 0 rfl ?_
  refine rX_g_X0_51_0 hc dX0_liking_12 ?_
  refine s_aload_n hz dX0_liking_15 rfl 0 rfl ?_
  refine rX_g_X0_259_0 hc dX0_liking_16 ?_
  refine s_bind (fun q4 e5 => ?_)
  have e5_ := gnX15i e5
  refine s_pk (m := gN q4.2) (by repeat' (first | (with_reducible exact ml_none) | (with_reducible refine ml_some ?_; omega) | (with_reducible refine ml_lt ?_) | (with_reducible refine ml_gbD (fun _ => ?_)) | (with_reducible refine ml_gb (fun _ => ?_)) | (with_reducible refine ml_ite (fun _ => ?_) (fun _ => ?_)) | (with_reducible refine ml_mO ?_ (fun _ => ?_)) | (with_reducible refine ml_c2l ?_) | (with_reducible refine ml_c2r ?_) | (with_reducible refine ml_c2 (fun _ => ?_) (fun _ => ?_)) | (with_reducible refine ml_bW (fun _ _ => ?_)) | (with_reducible refine ml_bT (fun _ _ => ?_)) | (with_reducible refine ml_bN (fun _ _ => ?_)) | (with_reducible refine ml_b19 (fun _ _ => ?_)) | (with_reducible refine ml_b20 (fun _ _ => ?_)) | (with_reducible refine ml_b17 (fun _ _ => ?_)) | (with_reducible refine ml_bM (fun _ _ => ?_)) | (with_reducible refine ml_bD (fun _ _ => ?_)) | (with_reducible refine ml_b15 (fun _ _ => ?_)) | (with_reducible refine ml_bind (fun _ _ => ?_)))) (fun p6 => ?_)
  refine kX_X0_264 hc (cfX15_init e5) ⟨by simp only [rk]; omega, by simp only [rk]; omega⟩ ⟨by simp only [rk]; omega, by simp only [rk]; omega⟩ (Nat.le_of_ble_eq_true rfl) dX0_liking_19 ?_
  refine s_wid hz (gN q4.2 - n0, 7 * (gN q4.2 - n0)) (by simp only [rk]; omega) (by simp only [rk]; omega) ?_
  refine s_gb (fun h7 => ?_)
  refine s_bind (fun q11 e12 => ?_)
  rcases q11 with ⟨v8 | b9, σ10⟩
  · have e12_ : gN q4.2 ≤ gN σ10 := gnX15_read e12
    refine s_pk (m := gN σ10) (by repeat' (first | (with_reducible exact ml_none) | (with_reducible refine ml_some ?_; omega) | (with_reducible refine ml_lt ?_) | (with_reducible refine ml_gbD (fun _ => ?_)) | (with_reducible refine ml_gb (fun _ => ?_)) | (with_reducible refine ml_ite (fun _ => ?_) (fun _ => ?_)) | (with_reducible refine ml_mO ?_ (fun _ => ?_)) | (with_reducible refine ml_c2l ?_) | (with_reducible refine ml_c2r ?_) | (with_reducible refine ml_c2 (fun _ => ?_) (fun _ => ?_)) | (with_reducible refine ml_bW (fun _ _ => ?_)) | (with_reducible refine ml_bT (fun _ _ => ?_)) | (with_reducible refine ml_bN (fun _ _ => ?_)) | (with_reducible refine ml_b19 (fun _ _ => ?_)) | (with_reducible refine ml_b20 (fun _ _ => ?_)) | (with_reducible refine ml_b17 (fun _ _ => ?_)) | (with_reducible refine ml_bM (fun _ _ => ?_)) | (with_reducible refine ml_bD (fun _ _ => ?_)) | (with_reducible refine ml_b15 (fun _ _ => ?_)) | (with_reducible refine ml_bind (fun _ _ => ?_)))) (fun p22 => ?_)
    refine kX_X0_267 hc (isC_ob h7) (cfX15_read e12) ⟨by simp only [rk]; omega, by simp only [rk]; omega⟩ ⟨by simp only [rk]; omega, by simp only [rk]; omega⟩ (Nat.le_of_ble_eq_true rfl) dX0_liking_22 (s_c2 ?_)
    refine s_wid hz (gN σ10 - n0, 7 * (gN σ10 - n0)) (by simp only [rk]; omega) (by simp only [rk]; omega) ?_
    refine s_opt (fun _ => ?_) (fun a14 _ => ?_)
    · exact s_none
    · refine rX_psr_X0_162_16 hc dX0_liking_25 (fun σ15 => ?_)
      refine s_gb (fun h16 => ?_)
      have h16 := of_decide_eq_true h16
      refine s_wid hz (gN σ15 - n0, 7 * (gN σ15 - n0)) (by simp only [rk]; omega) (by simp only [rk]; omega) ?_
      refine s_aload_n hz dX0_liking_28 rfl 0 rfl ?_
      refine s_iconst (v := (0 : Int32)) hz dX0_liking_29 (by decide) ?_
      refine rX_p_X0_259_0 hc dX0_liking_30 (fun σ17 => ?_)
      refine s_gb (fun h18 => ?_)
      have h18 := of_decide_eq_true h18
      refine s_wid hz (gN σ17 - n0, 7 * (gN σ17 - n0)) (by simp only [rk]; omega) (by simp only [rk]; omega) ?_
      refine s_aload_n hz dX0_liking_33 rfl 0 rfl ?_
      refine s_iconst (v := (0 : Int32)) hz dX0_liking_34 (by decide) ?_
      refine rX_p_X0_166_0 hc rfl rfl dX0_liking_35 (fun σ19 => ?_)
      refine s_gb (fun h20 => ?_)
      have h20 := of_decide_eq_true h20
      refine s_wid hz (gN σ19 - n0, 7 * (gN σ19 - n0)) (by simp only [rk]; omega) (by simp only [rk]; omega) ?_
      refine s_iconst (v := (0 : Int32)) hz dX0_liking_38 (by decide) ?_
      refine s_pk (m := gN σ19) (by repeat' (first | (with_reducible exact ml_none) | (with_reducible refine ml_some ?_; omega) | (with_reducible refine ml_lt ?_) | (with_reducible refine ml_gbD (fun _ => ?_)) | (with_reducible refine ml_gb (fun _ => ?_)) | (with_reducible refine ml_ite (fun _ => ?_) (fun _ => ?_)) | (with_reducible refine ml_mO ?_ (fun _ => ?_)) | (with_reducible refine ml_c2l ?_) | (with_reducible refine ml_c2r ?_) | (with_reducible refine ml_c2 (fun _ => ?_) (fun _ => ?_)) | (with_reducible refine ml_bW (fun _ _ => ?_)) | (with_reducible refine ml_bT (fun _ _ => ?_)) | (with_reducible refine ml_bN (fun _ _ => ?_)) | (with_reducible refine ml_b19 (fun _ _ => ?_)) | (with_reducible refine ml_b20 (fun _ _ => ?_)) | (with_reducible refine ml_b17 (fun _ _ => ?_)) | (with_reducible refine ml_bM (fun _ _ => ?_)) | (with_reducible refine ml_bD (fun _ _ => ?_)) | (with_reducible refine ml_b15 (fun _ _ => ?_)) | (with_reducible refine ml_bind (fun _ _ => ?_)))) (fun p21 => ?_)
      exact s_iretM hc dX0_liking_39 (by simp only [rk]; omega) (by simp only [rk]; omega)
  · have e12_ : gN q4.2 ≤ gN σ10 := gnX15_read e12
    refine s_gb (fun h13 => ?_)
    refine s_pk (m := gN σ10) (by repeat' (first | (with_reducible exact ml_none) | (with_reducible refine ml_some ?_; omega) | (with_reducible refine ml_lt ?_) | (with_reducible refine ml_gbD (fun _ => ?_)) | (with_reducible refine ml_gb (fun _ => ?_)) | (with_reducible refine ml_ite (fun _ => ?_) (fun _ => ?_)) | (with_reducible refine ml_mO ?_ (fun _ => ?_)) | (with_reducible refine ml_c2l ?_) | (with_reducible refine ml_c2r ?_) | (with_reducible refine ml_c2 (fun _ => ?_) (fun _ => ?_)) | (with_reducible refine ml_bW (fun _ _ => ?_)) | (with_reducible refine ml_bT (fun _ _ => ?_)) | (with_reducible refine ml_bN (fun _ _ => ?_)) | (with_reducible refine ml_b19 (fun _ _ => ?_)) | (with_reducible refine ml_b20 (fun _ _ => ?_)) | (with_reducible refine ml_b17 (fun _ _ => ?_)) | (with_reducible refine ml_bM (fun _ _ => ?_)) | (with_reducible refine ml_bD (fun _ _ => ?_)) | (with_reducible refine ml_b15 (fun _ _ => ?_)) | (with_reducible refine ml_bind (fun _ _ => ?_)))) (fun p27 => ?_)
    refine kX_X0_267_h hc (isC_ob h7) (cfX15_read e12) ⟨by simp only [rk]; omega, by simp only [rk]; omega⟩ ⟨by simp only [rk]; omega, by simp only [rk]; omega⟩ (Nat.le_of_ble_eq_true rfl) dX0_liking_22 (i := 0) rfl rfl (by decide) (by decide) (q := (RX18, TX18, 7)) rfl q693 (isC_ob h13) ?_
    refine s_wid hz (gN σ10 - n0, 7 * (gN σ10 - n0)) (by simp only [rk]; omega) (by simp only [rk]; omega) ?_
    refine s_astore_n (lv' := [(1, .ref (vO (VX g) + b9)), (0, .ref (vO (VX g) + 0))]) hz dX0_liking_40 rfl (Nat.le_of_ble_eq_true rfl) rfl ?_
    refine s_iconst (v := (-1 : Int32)) hz dX0_liking_41 (by decide) ?_
    refine s_aload_n hz dX0_liking_42 rfl 0 rfl ?_
    refine s_bind (fun v24 e25 => ?_)
    refine rX_d_X0_273 hc e25 dX0_liking_43 ?_
    refine s_isub hz dX0_liking_46 ?_
    refine s_pk (m := gN σ10) (by repeat' (first | (with_reducible exact ml_none) | (with_reducible refine ml_some ?_; omega) | (with_reducible refine ml_lt ?_) | (with_reducible refine ml_gbD (fun _ => ?_)) | (with_reducible refine ml_gb (fun _ => ?_)) | (with_reducible refine ml_ite (fun _ => ?_) (fun _ => ?_)) | (with_reducible refine ml_mO ?_ (fun _ => ?_)) | (with_reducible refine ml_c2l ?_) | (with_reducible refine ml_c2r ?_) | (with_reducible refine ml_c2 (fun _ => ?_) (fun _ => ?_)) | (with_reducible refine ml_bW (fun _ _ => ?_)) | (with_reducible refine ml_bT (fun _ _ => ?_)) | (with_reducible refine ml_bN (fun _ _ => ?_)) | (with_reducible refine ml_b19 (fun _ _ => ?_)) | (with_reducible refine ml_b20 (fun _ _ => ?_)) | (with_reducible refine ml_b17 (fun _ _ => ?_)) | (with_reducible refine ml_bM (fun _ _ => ?_)) | (with_reducible refine ml_bD (fun _ _ => ?_)) | (with_reducible refine ml_b15 (fun _ _ => ?_)) | (with_reducible refine ml_bind (fun _ _ => ?_)))) (fun p26 => ?_)
    exact s_iretM hc dX0_liking_47 (by simp only [rk]; omega) (by simp only [rk]; omega)
theorem cfX0_liking {g : GeoX} {N : Nat} {σ : Mem} {ρ : Int32 × Mem} (hF : fX0_liking N σ = some ρ) (l : Launch) : CtW (wsW_ yX0_liking cX0_liking 2 (some .int) [(0, 39, 40, 271)]) (VX g) l yX0_liking (rk 27 (gN ρ.2 - gN σ) (7 * (gN ρ.2 - gN σ))) [.ref (vO (VX g) + 0)] σ (oI ρ.1) ρ.2 :=
  CtW.ofH (by decide) (Nat.le_of_ble_eq_true rfl) (fun Θ hc ls hl => wfX0_liking σ (Nat.le_refl _) hc hF ls hl)
