set_option maxRecDepth 100000
def fX0_in (N : Nat) (σ : Mem) (x0 : Int64) (x2 : Int64) (x4 : Int64) : Option (Int32) :=
  some (if x0 < x2 then (0 : Int32) else (if x4 < x0 then (0 : Int32) else (1 : Int32)))
set_option maxHeartbeats 4000000 in
theorem wfX0_in {Θ : ThT Mem} {g : GeoX} {N : Nat}  {ρ : Int32} (σ : Mem) (x0 : Int64) (x2 : Int64) (x4 : Int64) (hc : Cx Θ (VX g) cX0_in 6 RX0 (rk 1 0 0) (some .boolean) [] false (oI ρ) σ) : Sim Θ 6 ρ σ (fX0_in N σ x0 x2 x4) (0, 0) 0 [(0, .long x0), (2, .long x2), (4, .long x4)] [] := by
  have hz := hc.z
  unfold fX0_in
  refine s_lload_n hz dX0_in_0 rfl 0 rfl ?_
  refine s_lload_n hz dX0_in_1 rfl 1 rfl ?_
  refine s_dia (J := 18) (v := .int (if x0 < x2 then (0 : Int32) else (if x4 < x0 then (0 : Int32) else (1 : Int32)))) (st := []) (fun _ hj1 => ?_) ?_
  · refine s_lcmp_lt_ (tgt := 17) hz dX0_in_2 dX0_in_3 rfl (fun h2 => ?_) (fun h2 => ?_)
    · refine s_iconst (v := (0 : Int32)) hz dX0_in_17 (by decide) ?_
      rw [if_pos h2] at hj1
      exact hj1
    · refine s_lload_n hz dX0_in_6 rfl 0 rfl ?_
      refine s_lload hz dX0_in_7 2 rfl ?_
      refine s_lcmp_gt_ (tgt := 17) hz dX0_in_9 dX0_in_10 rfl (fun h3 => ?_) (fun h3 => ?_)
      · refine s_iconst (v := (0 : Int32)) hz dX0_in_17 (by decide) ?_
        rw [if_neg h2, if_pos h3] at hj1
        exact hj1
      · refine s_iconst (v := (1 : Int32)) hz dX0_in_13 (by decide) ?_
        refine s_goto (tgt := 18) hz dX0_in_14 rfl ?_
        rw [if_neg h2, if_neg h3] at hj1
        exact hj1
  exact s_zret hc (nb_ite rfl (nb_ite rfl rfl)) dX0_in_18 (Nat.le_of_ble_eq_true rfl) (Nat.le_of_ble_eq_true rfl)
theorem cfX0_in {g : GeoX} {N : Nat}  {σ : Mem} {x0 : Int64} {x2 : Int64} {x4 : Int64} {ρ : Int32} (hF : fX0_in N σ x0 x2 x4 = some ρ) (l : Launch) : Ct (VX g) l yX0_in cX0_in 6 (some .boolean) (rk 1 0 0) [.long x0, .long x2, .long x4] σ (oI ρ) σ :=
  Ct.of (by decide) (Nat.le_of_ble_eq_true rfl) (fun Θ hc ls hl => wfX0_in σ x0 x2 x4 hc hF ls hl)
def fX0_has (N : Nat) (σ : Mem) (x0 : Int32) (x1 : Int32) : Option (Int32) :=
  some (if ((x0 >>> (x1 &&& 31)) &&& (1 : Int32)) = (1 : Int32) then (1 : Int32) else (0 : Int32))
set_option maxHeartbeats 4000000 in
theorem wfX0_has {Θ : ThT Mem} {g : GeoX} {N : Nat}  {ρ : Int32} (σ : Mem) (x0 : Int32) (x1 : Int32) (hc : Cx Θ (VX g) cX0_has 2 RX0 (rk 1 0 0) (some .boolean) [] false (oI ρ) σ) : Sim Θ 2 ρ σ (fX0_has N σ x0 x1) (0, 0) 0 [(0, .int x0), (1, .int x1)] [] := by
  have hz := hc.z
  unfold fX0_has
  refine s_iload_n hz dX0_has_0 rfl 0 rfl ?_
  refine s_iload_n hz dX0_has_1 rfl 1 rfl ?_
  refine s_ishr hz dX0_has_2 ?_
  refine s_iconst (v := (1 : Int32)) hz dX0_has_3 (by decide) ?_
  refine s_iand hz dX0_has_4 ?_
  refine s_iconst (v := (1 : Int32)) hz dX0_has_5 (by decide) ?_
  refine s_dia (J := 14) (v := .int (if ((x0 >>> (x1 &&& 31)) &&& (1 : Int32)) = (1 : Int32) then (1 : Int32) else (0 : Int32))) (st := []) (fun _ hj1 => ?_) ?_
  · refine s_icmp_ne_ (tgt := 13) hz dX0_has_6 rfl (fun h2 => ?_) (fun h2 => ?_)
    · refine s_iconst (v := (0 : Int32)) hz dX0_has_13 (by decide) ?_
      rw [if_neg h2] at hj1
      exact hj1
    · refine s_iconst (v := (1 : Int32)) hz dX0_has_9 (by decide) ?_
      refine s_goto (tgt := 14) hz dX0_has_10 rfl ?_
      rw [if_pos h2] at hj1
      exact hj1
  exact s_zret hc (nb_ite rfl rfl) dX0_has_14 (Nat.le_of_ble_eq_true rfl) (Nat.le_of_ble_eq_true rfl)
theorem cfX0_has {g : GeoX} {N : Nat}  {σ : Mem} {x0 : Int32} {x1 : Int32} {ρ : Int32} (hF : fX0_has N σ x0 x1 = some ρ) (l : Launch) : Ct (VX g) l yX0_has cX0_has 2 (some .boolean) (rk 1 0 0) [.int x0, .int x1] σ (oI ρ) σ :=
  Ct.of (by decide) (Nat.le_of_ble_eq_true rfl) (fun Θ hc ls hl => wfX0_has σ x0 x1 hc hF ls hl)
theorem kX_X0_125 {γ : Type} {Θ : ThT Mem} {g : GeoX} {cc : ByteArray} {nL : Nat} {rm : Room} {ret : Option FieldType} {hs : List (Nat × Nat × Nat × Nat)} {ini : Bool} {O : Outcome} {σ' : Mem} {ρ : γ} {σ : Mem} {F : Option γ} {cs : Nat × Nat} {pc : Nat} {lv : List (Nat × Value)} {st : List Value} (hc : Cx Θ (VX g) cc nL RX0 rm ret hs ini O σ') {σ1 : Mem} {x0 : Int64} {x2 : Int64} {x4 : Int64} {r : Int32} {rmc : Room} (hM : ∀ l : Launch, Ct (VX g) l yX0_in cX0_in 6 (some .boolean) rmc [.long x0, .long x2, .long x4] σ (oI r) σ1) (hR : rmc.frames + 1 ≤ rm.frames ∧ 8 + (6 + 11) + rmc.locals ≤ rm.locals) (hf : cs.1 + rmc.cells ≤ rm.cells ∧ cs.2 + rmc.slots ≤ rm.slots) (hrest : (st.map fun v => v.category).sum ≤ 8) (hd : decode cc pc = .ok (.invokestatic 125, 3)) (kk : Sim Θ nL ρ σ1 F (cs.1 + rmc.cells, cs.2 + rmc.slots) (pc + 3) lv (.int r :: st)) : Sim Θ nL ρ σ F cs pc lv (.long x4 :: .long x2 :: .long x0 :: st) := s_callS hc (As := [.long x0, .long x2, .long x4]) (rest := st) (n := 3) hM (lw_S q278 q279 q62 q280) (by decide +kernel) rfl rfl hrest hR hf hd kk
def fX0_isPlace (N : Nat) (σ : Mem) (x0 : Int32) : Option (Int32) :=
  (fX0_in N σ ((x0).toInt64) (0 : Int64) (494 : Int64)).bind (fun q1 => 
  gb (zb q1) (some q1))
set_option maxHeartbeats 4000000 in
theorem wfX0_isPlace {Θ : ThT Mem} {g : GeoX} {N : Nat}  {ρ : Int32} (σ : Mem) (x0 : Int32) (hc : Cx Θ (VX g) cX0_isPlace 1 RX0 (rk 2 0 0) (some .boolean) [] false (oI ρ) σ) : Sim Θ 1 ρ σ (fX0_isPlace N σ x0) (0, 0) 0 [(0, .int x0)] [] := by
  have hz := hc.z
  unfold fX0_isPlace
  refine s_iload_n hz dX0_isPlace_0 rfl 0 rfl ?_
  refine s_i2l hz dX0_isPlace_1 ?_
  refine s_lconst (v := (0 : Int64)) hz dX0_isPlace_2 (by decide) ?_
  refine s_ldc2 hz dX0_isPlace_3 q367 ?_
  refine s_bind (fun q1 e2 => ?_)
  refine kX_X0_125 hc (cfX0_in e2) ⟨(Nat.le_of_ble_eq_true rfl), (Nat.le_of_ble_eq_true rfl)⟩ ⟨(Nat.le_of_ble_eq_true rfl), (Nat.le_of_ble_eq_true rfl)⟩ (Nat.le_of_ble_eq_true rfl) dX0_isPlace_6 ?_
  refine s_gb (fun h3 => ?_)
  exact s_zret hc (zb_spec h3) dX0_isPlace_9 (Nat.le_of_ble_eq_true rfl) (Nat.le_of_ble_eq_true rfl)
theorem cfX0_isPlace {g : GeoX} {N : Nat}  {σ : Mem} {x0 : Int32} {ρ : Int32} (hF : fX0_isPlace N σ x0 = some ρ) (l : Launch) : Ct (VX g) l yX0_isPlace cX0_isPlace 1 (some .boolean) (rk 2 0 0) [.int x0] σ (oI ρ) σ :=
  Ct.of (by decide) (Nat.le_of_ble_eq_true rfl) (fun Θ hc ls hl => wfX0_isPlace σ x0 hc hF ls hl)
def fJ0_bitCount (N : Nat) (σ : Mem) (x0 : Int32) : Option (Int32) :=
  lt_ (x0 - (((x0).toUInt32 >>> (((1 : Int32)).toUInt32 &&& Int32.toUInt32 31)).toInt32 &&& (1431655765 : Int32))) (fun v1 => 
  lt_ ((v1 &&& (858993459 : Int32)) + (((v1).toUInt32 >>> (((2 : Int32)).toUInt32 &&& Int32.toUInt32 31)).toInt32 &&& (858993459 : Int32))) (fun v2 => 
  lt_ ((v2 + ((v2).toUInt32 >>> (((4 : Int32)).toUInt32 &&& Int32.toUInt32 31)).toInt32) &&& (252645135 : Int32)) (fun v3 => 
  lt_ (v3 + ((v3).toUInt32 >>> (((8 : Int32)).toUInt32 &&& Int32.toUInt32 31)).toInt32) (fun v4 => 
  lt_ (v4 + ((v4).toUInt32 >>> (((16 : Int32)).toUInt32 &&& Int32.toUInt32 31)).toInt32) (fun v5 => 
  some (v5 &&& (63 : Int32)))))))
set_option maxHeartbeats 4000000 in
theorem wfJ0_bitCount {Θ : ThT Mem} {g : GeoX} {N : Nat}  {ρ : Int32} (σ : Mem) (x0 : Int32) (hc : Cx Θ (VX g) cJ0_bitCount 1 RJ0 (rk 1 0 0) (some .int) [] false (oI ρ) σ) : Sim Θ 1 ρ σ (fJ0_bitCount N σ x0) (0, 0) 0 [(0, .int x0)] [] := by
  have hz := hc.z
  unfold fJ0_bitCount
  refine s_iload_n hz dJ0_bitCount_0 rfl 0 rfl ?_
  refine s_iload_n hz dJ0_bitCount_1 rfl 0 rfl ?_
  refine s_iconst (v := (1 : Int32)) hz dJ0_bitCount_2 (by decide) ?_
  refine s_iushr hz dJ0_bitCount_3 ?_
  refine s_ldcw hz dJ0_bitCount_4 q207 ?_
  refine s_iand hz dJ0_bitCount_7 ?_
  refine s_isub hz dJ0_bitCount_8 ?_
  refine s_nmI (fun v1 => ?_)
  refine s_istore_n (lv' := [(0, .int v1)]) hz dJ0_bitCount_9 rfl (Nat.le_of_ble_eq_true rfl) rfl ?_
  refine s_iload_n hz dJ0_bitCount_10 rfl 0 rfl ?_
  refine s_ldcw hz dJ0_bitCount_11 q208 ?_
  refine s_iand hz dJ0_bitCount_14 ?_
  refine s_iload_n hz dJ0_bitCount_15 rfl 0 rfl ?_
  refine s_iconst (v := (2 : Int32)) hz dJ0_bitCount_16 (by decide) ?_
  refine s_iushr hz dJ0_bitCount_17 ?_
  refine s_ldcw hz dJ0_bitCount_18 q208 ?_
  refine s_iand hz dJ0_bitCount_21 ?_
  refine s_iadd hz dJ0_bitCount_22 ?_
  refine s_nmI (fun v2 => ?_)
  refine s_istore_n (lv' := [(0, .int v2)]) hz dJ0_bitCount_23 rfl (Nat.le_of_ble_eq_true rfl) rfl ?_
  refine s_iload_n hz dJ0_bitCount_24 rfl 0 rfl ?_
  refine s_iload_n hz dJ0_bitCount_25 rfl 0 rfl ?_
  refine s_iconst (v := (4 : Int32)) hz dJ0_bitCount_26 (by decide) ?_
  refine s_iushr hz dJ0_bitCount_27 ?_
  refine s_iadd hz dJ0_bitCount_28 ?_
  refine s_ldcw hz dJ0_bitCount_29 q209 ?_
  refine s_iand hz dJ0_bitCount_32 ?_
  refine s_nmI (fun v3 => ?_)
  refine s_istore_n (lv' := [(0, .int v3)]) hz dJ0_bitCount_33 rfl (Nat.le_of_ble_eq_true rfl) rfl ?_
  refine s_iload_n hz dJ0_bitCount_34 rfl 0 rfl ?_
  refine s_iload_n hz dJ0_bitCount_35 rfl 0 rfl ?_
  refine s_bipush (v := (8 : Int32)) hz dJ0_bitCount_36 (by decide) ?_
  refine s_iushr hz dJ0_bitCount_38 ?_
  refine s_iadd hz dJ0_bitCount_39 ?_
  refine s_nmI (fun v4 => ?_)
  refine s_istore_n (lv' := [(0, .int v4)]) hz dJ0_bitCount_40 rfl (Nat.le_of_ble_eq_true rfl) rfl ?_
  refine s_iload_n hz dJ0_bitCount_41 rfl 0 rfl ?_
  refine s_iload_n hz dJ0_bitCount_42 rfl 0 rfl ?_
  refine s_bipush (v := (16 : Int32)) hz dJ0_bitCount_43 (by decide) ?_
  refine s_iushr hz dJ0_bitCount_45 ?_
  refine s_iadd hz dJ0_bitCount_46 ?_
  refine s_nmI (fun v5 => ?_)
  refine s_istore_n (lv' := [(0, .int v5)]) hz dJ0_bitCount_47 rfl (Nat.le_of_ble_eq_true rfl) rfl ?_
  refine s_iload_n hz dJ0_bitCount_48 rfl 0 rfl ?_
  refine s_bipush (v := (63 : Int32)) hz dJ0_bitCount_49 (by decide) ?_
  refine s_iand hz dJ0_bitCount_51 ?_
  exact s_iret hc dJ0_bitCount_52 (Nat.le_of_ble_eq_true rfl) (Nat.le_of_ble_eq_true rfl)
theorem cfJ0_bitCount {g : GeoX} {N : Nat}  {σ : Mem} {x0 : Int32} {ρ : Int32} (hF : fJ0_bitCount N σ x0 = some ρ) (l : Launch) : Ct (VX g) l yJ0_bitCount cJ0_bitCount 1 (some .int) (rk 1 0 0) [.int x0] σ (oI ρ) σ :=
  Ct.ofFI false (by decide +kernel) (fun h => by cases h) (Nat.le_of_ble_eq_true rfl) (fun Θ hc ls hl => wfJ0_bitCount σ x0 hc hF ls hl)
theorem kX_X0_105 {γ : Type} {Θ : ThT Mem} {g : GeoX} {cc : ByteArray} {nL : Nat} {rm : Room} {ret : Option FieldType} {hs : List (Nat × Nat × Nat × Nat)} {ini : Bool} {O : Outcome} {σ' : Mem} {ρ : γ} {σ : Mem} {F : Option γ} {cs : Nat × Nat} {pc : Nat} {lv : List (Nat × Value)} {st : List Value} (hc : Cx Θ (VX g) cc nL RX0 rm ret hs ini O σ') {σ1 : Mem} {x0 : Int32} {r : Int32} {rmc : Room} (hM : ∀ l : Launch, Ct (VX g) l yJ0_bitCount cJ0_bitCount 1 (some .int) rmc [.int x0] σ (oI r) σ1) (hR : rmc.frames + 1 ≤ rm.frames ∧ 8 + (1 + 11) + rmc.locals ≤ rm.locals) (hf : cs.1 + rmc.cells ≤ rm.cells ∧ cs.2 + rmc.slots ≤ rm.slots) (hrest : (st.map fun v => v.category).sum ≤ 8) (hd : decode cc pc = .ok (.invokestatic 105, 3)) (kk : Sim Θ nL ρ σ1 F (cs.1 + rmc.cells, cs.2 + rmc.slots) (pc + 3) lv (.int r :: st)) : Sim Θ nL ρ σ F cs pc lv (.int x0 :: st) := s_callS hc (As := [.int x0]) (rest := st) (n := 1) hM (lw_S q204 q205 q67 q206) (by decide +kernel) rfl rfl hrest hR hf hd kk
def fX0_isRow (N : Nat) (σ : Mem) (x0 : Int32) : Option (Int32) :=
  (fX0_in N σ ((x0).toInt64) (0 : Int64) (4095 : Int64)).bind (fun q1 => 
  if q1 = (0 : Int32) then
  (some (0 : Int32))
  else ((fJ0_bitCount N σ x0).bind (fun q4 => 
  some (if q4 = (4 : Int32) then (1 : Int32) else (0 : Int32)))))
set_option maxHeartbeats 4000000 in
theorem wfX0_isRow {Θ : ThT Mem} {g : GeoX} {N : Nat}  {ρ : Int32} (σ : Mem) (x0 : Int32) (hc : Cx Θ (VX g) cX0_isRow 1 RX0 (rk 2 0 0) (some .boolean) [] false (oI ρ) σ) : Sim Θ 1 ρ σ (fX0_isRow N σ x0) (0, 0) 0 [(0, .int x0)] [] := by
  have hz := hc.z
  unfold fX0_isRow
  refine s_iload_n hz dX0_isRow_0 rfl 0 rfl ?_
  refine s_i2l hz dX0_isRow_1 ?_
  refine s_lconst (v := (0 : Int64)) hz dX0_isRow_2 (by decide) ?_
  refine s_ldc2 hz dX0_isRow_3 q277 ?_
  refine s_bind (fun q1 e2 => ?_)
  refine kX_X0_125 hc (cfX0_in e2) ⟨(Nat.le_of_ble_eq_true rfl), (Nat.le_of_ble_eq_true rfl)⟩ ⟨(Nat.le_of_ble_eq_true rfl), (Nat.le_of_ble_eq_true rfl)⟩ (Nat.le_of_ble_eq_true rfl) dX0_isRow_6 ?_
  refine s_if_eq (tgt := 24) hz dX0_isRow_9 rfl (fun h3 => ?_) (fun h3 => ?_)
  · refine s_iconst (v := (0 : Int32)) hz dX0_isRow_24 (by decide) ?_
    exact s_zret hc rfl dX0_isRow_25 (Nat.le_of_ble_eq_true rfl) (Nat.le_of_ble_eq_true rfl)
  · refine s_iload_n hz dX0_isRow_12 rfl 0 rfl ?_
    refine s_bind (fun q4 e5 => ?_)
    refine kX_X0_105 hc (cfJ0_bitCount e5) ⟨(Nat.le_of_ble_eq_true rfl), (Nat.le_of_ble_eq_true rfl)⟩ ⟨(Nat.le_of_ble_eq_true rfl), (Nat.le_of_ble_eq_true rfl)⟩ (Nat.le_of_ble_eq_true rfl) dX0_isRow_13 ?_
    refine s_iconst (v := (4 : Int32)) hz dX0_isRow_16 (by decide) ?_
    refine s_dia (J := 25) (v := .int (if q4 = (4 : Int32) then (1 : Int32) else (0 : Int32))) (st := []) (fun _ hj6 => ?_) ?_
    · refine s_icmp_ne_ (tgt := 24) hz dX0_isRow_17 rfl (fun h7 => ?_) (fun h7 => ?_)
      · refine s_iconst (v := (0 : Int32)) hz dX0_isRow_24 (by decide) ?_
        rw [if_neg h7] at hj6
        exact hj6
      · refine s_iconst (v := (1 : Int32)) hz dX0_isRow_20 (by decide) ?_
        refine s_goto (tgt := 25) hz dX0_isRow_21 rfl ?_
        rw [if_pos h7] at hj6
        exact hj6
    exact s_zret hc (nb_ite rfl rfl) dX0_isRow_25 (Nat.le_of_ble_eq_true rfl) (Nat.le_of_ble_eq_true rfl)
theorem cfX0_isRow {g : GeoX} {N : Nat}  {σ : Mem} {x0 : Int32} {ρ : Int32} (hF : fX0_isRow N σ x0 = some ρ) (l : Launch) : Ct (VX g) l yX0_isRow cX0_isRow 1 (some .boolean) (rk 2 0 0) [.int x0] σ (oI ρ) σ :=
  Ct.of (by decide) (Nat.le_of_ble_eq_true rfl) (fun Θ hc ls hl => wfX0_isRow σ x0 hc hF ls hl)
def fX0_rank (N : Nat) (σ : Mem) (x0 : Int32) (x1 : Int32) : Option (Int32) :=
  (fJ0_bitCount N σ (x0 &&& x1)).bind (fun q1 => 
  some q1)
set_option maxHeartbeats 4000000 in
theorem wfX0_rank {Θ : ThT Mem} {g : GeoX} {N : Nat}  {ρ : Int32} (σ : Mem) (x0 : Int32) (x1 : Int32) (hc : Cx Θ (VX g) cX0_rank 2 RX0 (rk 2 0 0) (some .int) [] false (oI ρ) σ) : Sim Θ 2 ρ σ (fX0_rank N σ x0 x1) (0, 0) 0 [(0, .int x0), (1, .int x1)] [] := by
  have hz := hc.z
  unfold fX0_rank
  refine s_iload_n hz dX0_rank_0 rfl 0 rfl ?_
  refine s_iload_n hz dX0_rank_1 rfl 1 rfl ?_
  refine s_iand hz dX0_rank_2 ?_
  refine s_bind (fun q1 e2 => ?_)
  refine kX_X0_105 hc (cfJ0_bitCount e2) ⟨(Nat.le_of_ble_eq_true rfl), (Nat.le_of_ble_eq_true rfl)⟩ ⟨(Nat.le_of_ble_eq_true rfl), (Nat.le_of_ble_eq_true rfl)⟩ (Nat.le_of_ble_eq_true rfl) dX0_rank_3 ?_
  exact s_iret hc dX0_rank_6 (Nat.le_of_ble_eq_true rfl) (Nat.le_of_ble_eq_true rfl)
theorem cfX0_rank {g : GeoX} {N : Nat}  {σ : Mem} {x0 : Int32} {x1 : Int32} {ρ : Int32} (hF : fX0_rank N σ x0 x1 = some ρ) (l : Launch) : Ct (VX g) l yX0_rank cX0_rank 2 (some .int) (rk 2 0 0) [.int x0, .int x1] σ (oI ρ) σ :=
  Ct.of (by decide) (Nat.le_of_ble_eq_true rfl) (fun Θ hc ls hl => wfX0_rank σ x0 x1 hc hF ls hl)
def fX0_isNumber (N : Nat) (σ : Mem) (x0 : Int32) : Option (Int32) :=
  (fX0_in N σ ((x0).toInt64) (0 : Int64) (11 : Int64)).bind (fun q1 => 
  gb (zb q1) (some q1))
set_option maxHeartbeats 4000000 in
theorem wfX0_isNumber {Θ : ThT Mem} {g : GeoX} {N : Nat}  {ρ : Int32} (σ : Mem) (x0 : Int32) (hc : Cx Θ (VX g) cX0_isNumber 1 RX0 (rk 2 0 0) (some .boolean) [] false (oI ρ) σ) : Sim Θ 1 ρ σ (fX0_isNumber N σ x0) (0, 0) 0 [(0, .int x0)] [] := by
  have hz := hc.z
  unfold fX0_isNumber
  refine s_iload_n hz dX0_isNumber_0 rfl 0 rfl ?_
  refine s_i2l hz dX0_isNumber_1 ?_
  refine s_lconst (v := (0 : Int64)) hz dX0_isNumber_2 (by decide) ?_
  refine s_ldc2 hz dX0_isNumber_3 q946 ?_
  refine s_bind (fun q1 e2 => ?_)
  refine kX_X0_125 hc (cfX0_in e2) ⟨(Nat.le_of_ble_eq_true rfl), (Nat.le_of_ble_eq_true rfl)⟩ ⟨(Nat.le_of_ble_eq_true rfl), (Nat.le_of_ble_eq_true rfl)⟩ (Nat.le_of_ble_eq_true rfl) dX0_isNumber_6 ?_
  refine s_gb (fun h3 => ?_)
  exact s_zret hc (zb_spec h3) dX0_isNumber_9 (Nat.le_of_ble_eq_true rfl) (Nat.le_of_ble_eq_true rfl)
theorem cfX0_isNumber {g : GeoX} {N : Nat}  {σ : Mem} {x0 : Int32} {ρ : Int32} (hF : fX0_isNumber N σ x0 = some ρ) (l : Launch) : Ct (VX g) l yX0_isNumber cX0_isNumber 1 (some .boolean) (rk 2 0 0) [.int x0] σ (oI ρ) σ :=
  Ct.of (by decide) (Nat.le_of_ble_eq_true rfl) (fun Θ hc ls hl => wfX0_isNumber σ x0 hc hF ls hl)
def fX0_isRule (N : Nat) (σ : Mem) (x0 : Int32) (x1 : Int32) : Option (Int32) :=
  if x0 = (0 : Int32) then
  ((fX0_in N σ ((x1).toInt64) (1 : Int64) (99 : Int64)).bind (fun q2 => 
  gb (zb q2) (some q2)))
  else (if x0 = (1 : Int32) then
  ((fX0_in N σ ((x1).toInt64) (0 : Int64) (100 : Int64)).bind (fun q6 => 
  gb (zb q6) (some q6)))
  else (if x0 = (2 : Int32) then
  ((fX0_in N σ ((x1).toInt64) (0 : Int64) (100 : Int64)).bind (fun q10 => 
  gb (zb q10) (some q10)))
  else (if x0 = (3 : Int32) then
  ((fX0_in N σ ((x1).toInt64) (0 : Int64) (100 : Int64)).bind (fun q14 => 
  gb (zb q14) (some q14)))
  else (if x0 = (4 : Int32) then
  ((fX0_in N σ ((x1).toInt64) (0 : Int64) (100 : Int64)).bind (fun q18 => 
  gb (zb q18) (some q18)))
  else (if x0 = (5 : Int32) then
  ((fX0_in N σ ((x1).toInt64) (0 : Int64) (100 : Int64)).bind (fun q22 => 
  gb (zb q22) (some q22)))
  else (if x0 = (6 : Int32) then
  ((fX0_in N σ ((x1).toInt64) (0 : Int64) (999999 : Int64)).bind (fun q26 => 
  gb (zb q26) (some q26)))
  else (if x0 = (7 : Int32) then
  ((fX0_in N σ ((x1).toInt64) (0 : Int64) (99999999 : Int64)).bind (fun q30 => 
  some (if q30 = (0 : Int32) then (0 : Int32) else (1 : Int32))))
  else (some (0 : Int32)))))))))
set_option maxHeartbeats 4000000 in
theorem wfX0_isRule {Θ : ThT Mem} {g : GeoX} {N : Nat}  {ρ : Int32} (σ : Mem) (x0 : Int32) (x1 : Int32) (hc : Cx Θ (VX g) cX0_isRule 2 RX0 (rk 2 0 0) (some .boolean) [] false (oI ρ) σ) : Sim Θ 2 ρ σ (fX0_isRule N σ x0 x1) (0, 0) 0 [(0, .int x0), (1, .int x1)] [] := by
  have hz := hc.z
  unfold fX0_isRule
  refine s_iload_n hz dX0_isRule_0 rfl 0 rfl ?_
  refine s_ite (fun h1 => ?_) (fun h1 => ?_)
  · refine s_tblIn (off := 43) (tgt := 44) (k := (0 : Int32)) hz dX0_isRule_1 h1 (by decide) (by decide) rfl rfl ?_
    refine s_iload_n hz dX0_isRule_44 rfl 1 rfl ?_
    refine s_i2l hz dX0_isRule_45 ?_
    refine s_lconst (v := (1 : Int64)) hz dX0_isRule_46 (by decide) ?_
    refine s_ldc2 hz dX0_isRule_47 q831 ?_
    refine s_bind (fun q2 e3 => ?_)
    refine kX_X0_125 hc (cfX0_in e3) ⟨(Nat.le_of_ble_eq_true rfl), (Nat.le_of_ble_eq_true rfl)⟩ ⟨(Nat.le_of_ble_eq_true rfl), (Nat.le_of_ble_eq_true rfl)⟩ (Nat.le_of_ble_eq_true rfl) dX0_isRule_50 ?_
    refine s_gb (fun h4 => ?_)
    exact s_zret hc (zb_spec h4) dX0_isRule_53 (Nat.le_of_ble_eq_true rfl) (Nat.le_of_ble_eq_true rfl)
  refine s_ite (fun h5 => ?_) (fun h5 => ?_)
  · refine s_tblIn (off := 53) (tgt := 54) (k := (1 : Int32)) hz dX0_isRule_1 h5 (by decide) (by decide) rfl rfl ?_
    refine s_iload_n hz dX0_isRule_54 rfl 1 rfl ?_
    refine s_i2l hz dX0_isRule_55 ?_
    refine s_lconst (v := (0 : Int64)) hz dX0_isRule_56 (by decide) ?_
    refine s_ldc2 hz dX0_isRule_57 q832 ?_
    refine s_bind (fun q6 e7 => ?_)
    refine kX_X0_125 hc (cfX0_in e7) ⟨(Nat.le_of_ble_eq_true rfl), (Nat.le_of_ble_eq_true rfl)⟩ ⟨(Nat.le_of_ble_eq_true rfl), (Nat.le_of_ble_eq_true rfl)⟩ (Nat.le_of_ble_eq_true rfl) dX0_isRule_60 ?_
    refine s_gb (fun h8 => ?_)
    exact s_zret hc (zb_spec h8) dX0_isRule_63 (Nat.le_of_ble_eq_true rfl) (Nat.le_of_ble_eq_true rfl)
  refine s_ite (fun h9 => ?_) (fun h9 => ?_)
  · refine s_tblIn (off := 53) (tgt := 54) (k := (2 : Int32)) hz dX0_isRule_1 h9 (by decide) (by decide) rfl rfl ?_
    refine s_iload_n hz dX0_isRule_54 rfl 1 rfl ?_
    refine s_i2l hz dX0_isRule_55 ?_
    refine s_lconst (v := (0 : Int64)) hz dX0_isRule_56 (by decide) ?_
    refine s_ldc2 hz dX0_isRule_57 q832 ?_
    refine s_bind (fun q10 e11 => ?_)
    refine kX_X0_125 hc (cfX0_in e11) ⟨(Nat.le_of_ble_eq_true rfl), (Nat.le_of_ble_eq_true rfl)⟩ ⟨(Nat.le_of_ble_eq_true rfl), (Nat.le_of_ble_eq_true rfl)⟩ (Nat.le_of_ble_eq_true rfl) dX0_isRule_60 ?_
    refine s_gb (fun h12 => ?_)
    exact s_zret hc (zb_spec h12) dX0_isRule_63 (Nat.le_of_ble_eq_true rfl) (Nat.le_of_ble_eq_true rfl)
  refine s_ite (fun h13 => ?_) (fun h13 => ?_)
  · refine s_tblIn (off := 53) (tgt := 54) (k := (3 : Int32)) hz dX0_isRule_1 h13 (by decide) (by decide) rfl rfl ?_
    refine s_iload_n hz dX0_isRule_54 rfl 1 rfl ?_
    refine s_i2l hz dX0_isRule_55 ?_
    refine s_lconst (v := (0 : Int64)) hz dX0_isRule_56 (by decide) ?_
    refine s_ldc2 hz dX0_isRule_57 q832 ?_
    refine s_bind (fun q14 e15 => ?_)
    refine kX_X0_125 hc (cfX0_in e15) ⟨(Nat.le_of_ble_eq_true rfl), (Nat.le_of_ble_eq_true rfl)⟩ ⟨(Nat.le_of_ble_eq_true rfl), (Nat.le_of_ble_eq_true rfl)⟩ (Nat.le_of_ble_eq_true rfl) dX0_isRule_60 ?_
    refine s_gb (fun h16 => ?_)
    exact s_zret hc (zb_spec h16) dX0_isRule_63 (Nat.le_of_ble_eq_true rfl) (Nat.le_of_ble_eq_true rfl)
  refine s_ite (fun h17 => ?_) (fun h17 => ?_)
  · refine s_tblIn (off := 53) (tgt := 54) (k := (4 : Int32)) hz dX0_isRule_1 h17 (by decide) (by decide) rfl rfl ?_
    refine s_iload_n hz dX0_isRule_54 rfl 1 rfl ?_
    refine s_i2l hz dX0_isRule_55 ?_
    refine s_lconst (v := (0 : Int64)) hz dX0_isRule_56 (by decide) ?_
    refine s_ldc2 hz dX0_isRule_57 q832 ?_
    refine s_bind (fun q18 e19 => ?_)
    refine kX_X0_125 hc (cfX0_in e19) ⟨(Nat.le_of_ble_eq_true rfl), (Nat.le_of_ble_eq_true rfl)⟩ ⟨(Nat.le_of_ble_eq_true rfl), (Nat.le_of_ble_eq_true rfl)⟩ (Nat.le_of_ble_eq_true rfl) dX0_isRule_60 ?_
    refine s_gb (fun h20 => ?_)
    exact s_zret hc (zb_spec h20) dX0_isRule_63 (Nat.le_of_ble_eq_true rfl) (Nat.le_of_ble_eq_true rfl)
  refine s_ite (fun h21 => ?_) (fun h21 => ?_)
  · refine s_tblIn (off := 53) (tgt := 54) (k := (5 : Int32)) hz dX0_isRule_1 h21 (by decide) (by decide) rfl rfl ?_
    refine s_iload_n hz dX0_isRule_54 rfl 1 rfl ?_
    refine s_i2l hz dX0_isRule_55 ?_
    refine s_lconst (v := (0 : Int64)) hz dX0_isRule_56 (by decide) ?_
    refine s_ldc2 hz dX0_isRule_57 q832 ?_
    refine s_bind (fun q22 e23 => ?_)
    refine kX_X0_125 hc (cfX0_in e23) ⟨(Nat.le_of_ble_eq_true rfl), (Nat.le_of_ble_eq_true rfl)⟩ ⟨(Nat.le_of_ble_eq_true rfl), (Nat.le_of_ble_eq_true rfl)⟩ (Nat.le_of_ble_eq_true rfl) dX0_isRule_60 ?_
    refine s_gb (fun h24 => ?_)
    exact s_zret hc (zb_spec h24) dX0_isRule_63 (Nat.le_of_ble_eq_true rfl) (Nat.le_of_ble_eq_true rfl)
  refine s_ite (fun h25 => ?_) (fun h25 => ?_)
  · refine s_tblIn (off := 63) (tgt := 64) (k := (6 : Int32)) hz dX0_isRule_1 h25 (by decide) (by decide) rfl rfl ?_
    refine s_iload_n hz dX0_isRule_64 rfl 1 rfl ?_
    refine s_i2l hz dX0_isRule_65 ?_
    refine s_lconst (v := (0 : Int64)) hz dX0_isRule_66 (by decide) ?_
    refine s_ldc2 hz dX0_isRule_67 q833 ?_
    refine s_bind (fun q26 e27 => ?_)
    refine kX_X0_125 hc (cfX0_in e27) ⟨(Nat.le_of_ble_eq_true rfl), (Nat.le_of_ble_eq_true rfl)⟩ ⟨(Nat.le_of_ble_eq_true rfl), (Nat.le_of_ble_eq_true rfl)⟩ (Nat.le_of_ble_eq_true rfl) dX0_isRule_70 ?_
    refine s_gb (fun h28 => ?_)
    exact s_zret hc (zb_spec h28) dX0_isRule_73 (Nat.le_of_ble_eq_true rfl) (Nat.le_of_ble_eq_true rfl)
  refine s_tblOut (tgt := 74) hz dX0_isRule_1 (by have a0 : (x0).toInt ≠ 0 := lc_ne h1; have a1 : (x0).toInt ≠ 1 := lc_ne h5; have a2 : (x0).toInt ≠ 2 := lc_ne h9; have a3 : (x0).toInt ≠ 3 := lc_ne h13; have a4 : (x0).toInt ≠ 4 := lc_ne h17; have a5 : (x0).toInt ≠ 5 := lc_ne h21; have a6 : (x0).toInt ≠ 6 := lc_ne h25; omega) rfl ?_
  refine s_iload_n hz dX0_isRule_74 rfl 0 rfl ?_
  refine s_bipush (v := (7 : Int32)) hz dX0_isRule_75 (by decide) ?_
  refine s_icmp_ne (tgt := 96) hz dX0_isRule_77 rfl (fun h29 => ?_) (fun h29 => ?_)
  · refine s_iconst (v := (0 : Int32)) hz dX0_isRule_96 (by decide) ?_
    exact s_zret hc rfl dX0_isRule_97 (Nat.le_of_ble_eq_true rfl) (Nat.le_of_ble_eq_true rfl)
  · refine s_iload_n hz dX0_isRule_80 rfl 1 rfl ?_
    refine s_i2l hz dX0_isRule_81 ?_
    refine s_lconst (v := (0 : Int64)) hz dX0_isRule_82 (by decide) ?_
    refine s_ldc2 hz dX0_isRule_83 q834 ?_
    refine s_bind (fun q30 e31 => ?_)
    refine kX_X0_125 hc (cfX0_in e31) ⟨(Nat.le_of_ble_eq_true rfl), (Nat.le_of_ble_eq_true rfl)⟩ ⟨(Nat.le_of_ble_eq_true rfl), (Nat.le_of_ble_eq_true rfl)⟩ (Nat.le_of_ble_eq_true rfl) dX0_isRule_86 ?_
    refine s_dia (J := 97) (v := .int (if q30 = (0 : Int32) then (0 : Int32) else (1 : Int32))) (st := []) (fun _ hj32 => ?_) ?_
    · refine s_if_eq_ (tgt := 96) hz dX0_isRule_89 rfl (fun h33 => ?_) (fun h33 => ?_)
      · refine s_iconst (v := (0 : Int32)) hz dX0_isRule_96 (by decide) ?_
        rw [if_pos h33] at hj32
        exact hj32
      · refine s_iconst (v := (1 : Int32)) hz dX0_isRule_92 (by decide) ?_
        refine s_goto (tgt := 97) hz dX0_isRule_93 rfl ?_
        rw [if_neg h33] at hj32
        exact hj32
    exact s_zret hc (nb_ite rfl rfl) dX0_isRule_97 (Nat.le_of_ble_eq_true rfl) (Nat.le_of_ble_eq_true rfl)
theorem cfX0_isRule {g : GeoX} {N : Nat}  {σ : Mem} {x0 : Int32} {x1 : Int32} {ρ : Int32} (hF : fX0_isRule N σ x0 x1 = some ρ) (l : Launch) : Ct (VX g) l yX0_isRule cX0_isRule 2 (some .boolean) (rk 2 0 0) [.int x0, .int x1] σ (oI ρ) σ :=
  Ct.of (by decide) (Nat.le_of_ble_eq_true rfl) (fun Θ hc ls hl => wfX0_isRule σ x0 x1 hc hF ls hl)
def fJ3_max (N : Nat) (σ : Mem) (x0 : Int32) (x1 : Int32) : Option (Int32) :=
  some (if x0 < x1 then x1 else x0)
set_option maxHeartbeats 4000000 in
theorem wfJ3_max {Θ : ThT Mem} {g : GeoX} {N : Nat}  {ρ : Int32} (σ : Mem) (x0 : Int32) (x1 : Int32) (hc : Cx Θ (VX g) cJ3_max 2 RJ3 (rk 1 0 0) (some .int) [] false (oI ρ) σ) : Sim Θ 2 ρ σ (fJ3_max N σ x0 x1) (0, 0) 0 [(0, .int x0), (1, .int x1)] [] := by
  have hz := hc.z
  unfold fJ3_max
  refine s_iload_n hz dJ3_max_0 rfl 0 rfl ?_
  refine s_iload_n hz dJ3_max_1 rfl 1 rfl ?_
  refine s_dia (J := 10) (v := .int (if x0 < x1 then x1 else x0)) (st := []) (fun _ hj1 => ?_) ?_
  · refine s_icmp_lt_ (tgt := 9) hz dJ3_max_2 rfl (fun h2 => ?_) (fun h2 => ?_)
    · refine s_iload_n hz dJ3_max_9 rfl 1 rfl ?_
      rw [if_pos h2] at hj1
      exact hj1
    · refine s_iload_n hz dJ3_max_5 rfl 0 rfl ?_
      refine s_goto (tgt := 10) hz dJ3_max_6 rfl ?_
      rw [if_neg h2] at hj1
      exact hj1
  exact s_iret hc dJ3_max_10 (Nat.le_of_ble_eq_true rfl) (Nat.le_of_ble_eq_true rfl)
theorem cfJ3_max {g : GeoX} {N : Nat}  {σ : Mem} {x0 : Int32} {x1 : Int32} {ρ : Int32} (hF : fJ3_max N σ x0 x1 = some ρ) (l : Launch) : Ct (VX g) l yJ3_max cJ3_max 2 (some .int) (rk 1 0 0) [.int x0, .int x1] σ (oI ρ) σ :=
  Ct.ofFI false (by decide +kernel) (fun h => by cases h) (Nat.le_of_ble_eq_true rfl) (fun Θ hc ls hl => wfJ3_max σ x0 x1 hc hF ls hl)
def fJ3_min (N : Nat) (σ : Mem) (x0 : Int32) (x1 : Int32) : Option (Int32) :=
  some (if x1 < x0 then x1 else x0)
set_option maxHeartbeats 4000000 in
theorem wfJ3_min {Θ : ThT Mem} {g : GeoX} {N : Nat}  {ρ : Int32} (σ : Mem) (x0 : Int32) (x1 : Int32) (hc : Cx Θ (VX g) cJ3_min 2 RJ3 (rk 1 0 0) (some .int) [] false (oI ρ) σ) : Sim Θ 2 ρ σ (fJ3_min N σ x0 x1) (0, 0) 0 [(0, .int x0), (1, .int x1)] [] := by
  have hz := hc.z
  unfold fJ3_min
  refine s_iload_n hz dJ3_min_0 rfl 0 rfl ?_
  refine s_iload_n hz dJ3_min_1 rfl 1 rfl ?_
  refine s_dia (J := 10) (v := .int (if x1 < x0 then x1 else x0)) (st := []) (fun _ hj1 => ?_) ?_
  · refine s_icmp_gt_ (tgt := 9) hz dJ3_min_2 rfl (fun h2 => ?_) (fun h2 => ?_)
    · refine s_iload_n hz dJ3_min_9 rfl 1 rfl ?_
      rw [if_pos h2] at hj1
      exact hj1
    · refine s_iload_n hz dJ3_min_5 rfl 0 rfl ?_
      refine s_goto (tgt := 10) hz dJ3_min_6 rfl ?_
      rw [if_neg h2] at hj1
      exact hj1
  exact s_iret hc dJ3_min_10 (Nat.le_of_ble_eq_true rfl) (Nat.le_of_ble_eq_true rfl)
theorem cfJ3_min {g : GeoX} {N : Nat}  {σ : Mem} {x0 : Int32} {x1 : Int32} {ρ : Int32} (hF : fJ3_min N σ x0 x1 = some ρ) (l : Launch) : Ct (VX g) l yJ3_min cJ3_min 2 (some .int) (rk 1 0 0) [.int x0, .int x1] σ (oI ρ) σ :=
  Ct.ofFI false (by decide +kernel) (fun h => by cases h) (Nat.le_of_ble_eq_true rfl) (fun Θ hc ls hl => wfJ3_min σ x0 x1 hc hF ls hl)
def fJ3_max_2 (N : Nat) (σ : Mem) (x0 : Int64) (x2 : Int64) : Option (Int64) :=
  some (if x0 < x2 then x2 else x0)
set_option maxHeartbeats 4000000 in
theorem wfJ3_max_2 {Θ : ThT Mem} {g : GeoX} {N : Nat}  {ρ : Int64} (σ : Mem) (x0 : Int64) (x2 : Int64) (hc : Cx Θ (VX g) cJ3_max_2 4 RJ3 (rk 1 0 0) (some .long) [] false (oL ρ) σ) : Sim Θ 4 ρ σ (fJ3_max_2 N σ x0 x2) (0, 0) 0 [(0, .long x0), (2, .long x2)] [] := by
  have hz := hc.z
  unfold fJ3_max_2
  refine s_lload_n hz dJ3_max_2_0 rfl 0 rfl ?_
  refine s_lload_n hz dJ3_max_2_1 rfl 1 rfl ?_
  refine s_dia (J := 11) (v := .long (if x0 < x2 then x2 else x0)) (st := []) (fun _ hj1 => ?_) ?_
  · refine s_lcmp_lt_ (tgt := 10) hz dJ3_max_2_2 dJ3_max_2_3 rfl (fun h2 => ?_) (fun h2 => ?_)
    · refine s_lload_n hz dJ3_max_2_10 rfl 1 rfl ?_
      rw [if_pos h2] at hj1
      exact hj1
    · refine s_lload_n hz dJ3_max_2_6 rfl 0 rfl ?_
      refine s_goto (tgt := 11) hz dJ3_max_2_7 rfl ?_
      rw [if_neg h2] at hj1
      exact hj1
  exact s_lret hc dJ3_max_2_11 (Nat.le_of_ble_eq_true rfl) (Nat.le_of_ble_eq_true rfl)
theorem cfJ3_max_2 {g : GeoX} {N : Nat}  {σ : Mem} {x0 : Int64} {x2 : Int64} {ρ : Int64} (hF : fJ3_max_2 N σ x0 x2 = some ρ) (l : Launch) : Ct (VX g) l yJ3_max_2 cJ3_max_2 4 (some .long) (rk 1 0 0) [.long x0, .long x2] σ (oL ρ) σ :=
  Ct.ofFI false (by decide +kernel) (fun h => by cases h) (Nat.le_of_ble_eq_true rfl) (fun Θ hc ls hl => wfJ3_max_2 σ x0 x2 hc hF ls hl)
def fJ3_min_2 (N : Nat) (σ : Mem) (x0 : Int64) (x2 : Int64) : Option (Int64) :=
  some (if x2 < x0 then x2 else x0)
set_option maxHeartbeats 4000000 in
theorem wfJ3_min_2 {Θ : ThT Mem} {g : GeoX} {N : Nat}  {ρ : Int64} (σ : Mem) (x0 : Int64) (x2 : Int64) (hc : Cx Θ (VX g) cJ3_min_2 4 RJ3 (rk 1 0 0) (some .long) [] false (oL ρ) σ) : Sim Θ 4 ρ σ (fJ3_min_2 N σ x0 x2) (0, 0) 0 [(0, .long x0), (2, .long x2)] [] := by
  have hz := hc.z
  unfold fJ3_min_2
  refine s_lload_n hz dJ3_min_2_0 rfl 0 rfl ?_
  refine s_lload_n hz dJ3_min_2_1 rfl 1 rfl ?_
  refine s_dia (J := 11) (v := .long (if x2 < x0 then x2 else x0)) (st := []) (fun _ hj1 => ?_) ?_
  · refine s_lcmp_gt_ (tgt := 10) hz dJ3_min_2_2 dJ3_min_2_3 rfl (fun h2 => ?_) (fun h2 => ?_)
    · refine s_lload_n hz dJ3_min_2_10 rfl 1 rfl ?_
      rw [if_pos h2] at hj1
      exact hj1
    · refine s_lload_n hz dJ3_min_2_6 rfl 0 rfl ?_
      refine s_goto (tgt := 11) hz dJ3_min_2_7 rfl ?_
      rw [if_neg h2] at hj1
      exact hj1
  exact s_lret hc dJ3_min_2_11 (Nat.le_of_ble_eq_true rfl) (Nat.le_of_ble_eq_true rfl)
theorem cfJ3_min_2 {g : GeoX} {N : Nat}  {σ : Mem} {x0 : Int64} {x2 : Int64} {ρ : Int64} (hF : fJ3_min_2 N σ x0 x2 = some ρ) (l : Launch) : Ct (VX g) l yJ3_min_2 cJ3_min_2 4 (some .long) (rk 1 0 0) [.long x0, .long x2] σ (oL ρ) σ :=
  Ct.ofFI false (by decide +kernel) (fun h => by cases h) (Nat.le_of_ble_eq_true rfl) (fun Θ hc ls hl => wfJ3_min_2 σ x0 x2 hc hF ls hl)
def jJ0_numberOfTrailingZeros_62 (N : Nat) (σ : Mem) (x0 : Int32) (x1 : Int32)  : Option (Int32) :=
  if x0 ≤ (4 : Int32) then
  (some (x1 + ((x0).toUInt32 >>> (((1 : Int32)).toUInt32 &&& Int32.toUInt32 31)).toInt32))
  else (lt_ (((x0).toUInt32 >>> (((2 : Int32)).toUInt32 &&& Int32.toUInt32 31)).toInt32) (fun v7 => 
  some ((x1 + (2 : Int32)) + ((v7).toUInt32 >>> (((1 : Int32)).toUInt32 &&& Int32.toUInt32 31)).toInt32)))
set_option maxHeartbeats 4000000 in
theorem wjJ0_numberOfTrailingZeros_62 {Θ : ThT Mem} {g : GeoX} {N : Nat}  {ρ : Int32} (σ : Mem) (hc : Cx Θ (VX g) cJ0_numberOfTrailingZeros 2 RJ0 (rk 1 0 0) (some .int) [] false (oI ρ) σ) (x0 : Int32) (x1 : Int32)  : Sim Θ 2 ρ σ (jJ0_numberOfTrailingZeros_62 N σ x0 x1 ) (0, 0) 62 [(0, .int x0), (1, .int x1)] [] := by
  have hz := hc.z
  unfold jJ0_numberOfTrailingZeros_62
  refine s_iload_n hz dJ0_numberOfTrailingZeros_62 rfl 0 rfl ?_
  refine s_iconst (v := (4 : Int32)) hz dJ0_numberOfTrailingZeros_63 (by decide) ?_
  refine s_icmp_le (tgt := 74) hz dJ0_numberOfTrailingZeros_64 rfl (fun h6 => ?_) (fun h6 => ?_)
  · refine s_iload_n hz dJ0_numberOfTrailingZeros_74 rfl 1 rfl ?_
    refine s_iload_n hz dJ0_numberOfTrailingZeros_75 rfl 0 rfl ?_
    refine s_iconst (v := (1 : Int32)) hz dJ0_numberOfTrailingZeros_76 (by decide) ?_
    refine s_iushr hz dJ0_numberOfTrailingZeros_77 ?_
    refine s_iadd hz dJ0_numberOfTrailingZeros_78 ?_
    exact s_iret hc dJ0_numberOfTrailingZeros_79 (Nat.le_of_ble_eq_true rfl) (Nat.le_of_ble_eq_true rfl)
  · refine s_iinc (v := (2 : Int32)) (lv' := [(1, .int (x1 + (2 : Int32))), (0, .int x0)]) hz dJ0_numberOfTrailingZeros_67 1 rfl (by decide) (Nat.le_of_ble_eq_true rfl) rfl ?_
    refine s_iload_n hz dJ0_numberOfTrailingZeros_70 rfl 1 rfl ?_
    refine s_iconst (v := (2 : Int32)) hz dJ0_numberOfTrailingZeros_71 (by decide) ?_
    refine s_iushr hz dJ0_numberOfTrailingZeros_72 ?_
    refine s_nmI (fun v7 => ?_)
    refine s_istore_n (lv' := [(0, .int v7), (1, .int (x1 + (2 : Int32)))]) hz dJ0_numberOfTrailingZeros_73 rfl (Nat.le_of_ble_eq_true rfl) rfl ?_
    refine s_iload_n hz dJ0_numberOfTrailingZeros_74 rfl 1 rfl ?_
    refine s_iload_n hz dJ0_numberOfTrailingZeros_75 rfl 0 rfl ?_
    refine s_iconst (v := (1 : Int32)) hz dJ0_numberOfTrailingZeros_76 (by decide) ?_
    refine s_iushr hz dJ0_numberOfTrailingZeros_77 ?_
    refine s_iadd hz dJ0_numberOfTrailingZeros_78 ?_
    exact s_iret hc dJ0_numberOfTrailingZeros_79 (Nat.le_of_ble_eq_true rfl) (Nat.le_of_ble_eq_true rfl)
def jJ0_numberOfTrailingZeros_49 (N : Nat) (σ : Mem) (x0 : Int32) (x1 : Int32)  : Option (Int32) :=
  if x0 ≤ (16 : Int32) then
  (jJ0_numberOfTrailingZeros_62 N σ x0 x1)
  else (lt_ (((x0).toUInt32 >>> (((4 : Int32)).toUInt32 &&& Int32.toUInt32 31)).toInt32) (fun v8 => 
  jJ0_numberOfTrailingZeros_62 N σ v8 (x1 + (4 : Int32))))
set_option maxHeartbeats 4000000 in
theorem wjJ0_numberOfTrailingZeros_49 {Θ : ThT Mem} {g : GeoX} {N : Nat}  {ρ : Int32} (σ : Mem) (hc : Cx Θ (VX g) cJ0_numberOfTrailingZeros 2 RJ0 (rk 1 0 0) (some .int) [] false (oI ρ) σ) (x0 : Int32) (x1 : Int32)  : Sim Θ 2 ρ σ (jJ0_numberOfTrailingZeros_49 N σ x0 x1 ) (0, 0) 49 [(0, .int x0), (1, .int x1)] [] := by
  have hz := hc.z
  unfold jJ0_numberOfTrailingZeros_49
  refine s_iload_n hz dJ0_numberOfTrailingZeros_49 rfl 0 rfl ?_
  refine s_bipush (v := (16 : Int32)) hz dJ0_numberOfTrailingZeros_50 (by decide) ?_
  refine s_icmp_le (tgt := 62) hz dJ0_numberOfTrailingZeros_52 rfl (fun h5 => ?_) (fun h5 => ?_)
  · exact s_sub [0, 1] rfl (wjJ0_numberOfTrailingZeros_62 σ hc x0 x1 )
  · refine s_iinc (v := (4 : Int32)) (lv' := [(1, .int (x1 + (4 : Int32))), (0, .int x0)]) hz dJ0_numberOfTrailingZeros_55 1 rfl (by decide) (Nat.le_of_ble_eq_true rfl) rfl ?_
    refine s_iload_n hz dJ0_numberOfTrailingZeros_58 rfl 1 rfl ?_
    refine s_iconst (v := (4 : Int32)) hz dJ0_numberOfTrailingZeros_59 (by decide) ?_
    refine s_iushr hz dJ0_numberOfTrailingZeros_60 ?_
    refine s_nmI (fun v8 => ?_)
    refine s_istore_n (lv' := [(0, .int v8), (1, .int (x1 + (4 : Int32)))]) hz dJ0_numberOfTrailingZeros_61 rfl (Nat.le_of_ble_eq_true rfl) rfl ?_
    exact s_sub [0, 1] rfl (wjJ0_numberOfTrailingZeros_62 σ hc v8 (x1 + (4 : Int32)) )
def jJ0_numberOfTrailingZeros_34 (N : Nat) (σ : Mem) (x0 : Int32) (x1 : Int32)  : Option (Int32) :=
  if x0 ≤ (256 : Int32) then
  (jJ0_numberOfTrailingZeros_49 N σ x0 x1)
  else (lt_ (((x0).toUInt32 >>> (((8 : Int32)).toUInt32 &&& Int32.toUInt32 31)).toInt32) (fun v9 => 
  jJ0_numberOfTrailingZeros_49 N σ v9 (x1 + (8 : Int32))))
set_option maxHeartbeats 4000000 in
theorem wjJ0_numberOfTrailingZeros_34 {Θ : ThT Mem} {g : GeoX} {N : Nat}  {ρ : Int32} (σ : Mem) (hc : Cx Θ (VX g) cJ0_numberOfTrailingZeros 2 RJ0 (rk 1 0 0) (some .int) [] false (oI ρ) σ) (x0 : Int32) (x1 : Int32)  : Sim Θ 2 ρ σ (jJ0_numberOfTrailingZeros_34 N σ x0 x1 ) (0, 0) 34 [(0, .int x0), (1, .int x1)] [] := by
  have hz := hc.z
  unfold jJ0_numberOfTrailingZeros_34
  refine s_iload_n hz dJ0_numberOfTrailingZeros_34 rfl 0 rfl ?_
  refine s_sipush (v := (256 : Int32)) hz dJ0_numberOfTrailingZeros_35 (by decide) ?_
  refine s_icmp_le (tgt := 49) hz dJ0_numberOfTrailingZeros_38 rfl (fun h4 => ?_) (fun h4 => ?_)
  · exact s_sub [0, 1] rfl (wjJ0_numberOfTrailingZeros_49 σ hc x0 x1 )
  · refine s_iinc (v := (8 : Int32)) (lv' := [(1, .int (x1 + (8 : Int32))), (0, .int x0)]) hz dJ0_numberOfTrailingZeros_41 1 rfl (by decide) (Nat.le_of_ble_eq_true rfl) rfl ?_
    refine s_iload_n hz dJ0_numberOfTrailingZeros_44 rfl 1 rfl ?_
    refine s_bipush (v := (8 : Int32)) hz dJ0_numberOfTrailingZeros_45 (by decide) ?_
    refine s_iushr hz dJ0_numberOfTrailingZeros_47 ?_
    refine s_nmI (fun v9 => ?_)
    refine s_istore_n (lv' := [(0, .int v9), (1, .int (x1 + (8 : Int32)))]) hz dJ0_numberOfTrailingZeros_48 rfl (Nat.le_of_ble_eq_true rfl) rfl ?_
    exact s_sub [0, 1] rfl (wjJ0_numberOfTrailingZeros_49 σ hc v9 (x1 + (8 : Int32)) )
def fJ0_numberOfTrailingZeros (N : Nat) (σ : Mem) (x0 : Int32) : Option (Int32) :=
  lt_ ((x0 ^^^ (-1 : Int32)) &&& (x0 - (1 : Int32))) (fun v1 => 
  if (0 : Int32) < v1 then
  (if v1 ≤ (65536 : Int32) then
  (jJ0_numberOfTrailingZeros_34 N σ v1 (1 : Int32))
  else (lt_ (((v1).toUInt32 >>> (((16 : Int32)).toUInt32 &&& Int32.toUInt32 31)).toInt32) (fun v10 => 
  jJ0_numberOfTrailingZeros_34 N σ v10 ((1 : Int32) + (16 : Int32)))))
  else (some (v1 &&& (32 : Int32))))
set_option maxHeartbeats 4000000 in
theorem wfJ0_numberOfTrailingZeros {Θ : ThT Mem} {g : GeoX} {N : Nat}  {ρ : Int32} (σ : Mem) (x0 : Int32) (hc : Cx Θ (VX g) cJ0_numberOfTrailingZeros 2 RJ0 (rk 1 0 0) (some .int) [] false (oI ρ) σ) : Sim Θ 2 ρ σ (fJ0_numberOfTrailingZeros N σ x0) (0, 0) 0 [(0, .int x0)] [] := by
  have hz := hc.z
  unfold fJ0_numberOfTrailingZeros
  refine s_iload_n hz dJ0_numberOfTrailingZeros_0 rfl 0 rfl ?_
  refine s_iconst (v := (-1 : Int32)) hz dJ0_numberOfTrailingZeros_1 (by decide) ?_
  refine s_ixor hz dJ0_numberOfTrailingZeros_2 ?_
  refine s_iload_n hz dJ0_numberOfTrailingZeros_3 rfl 0 rfl ?_
  refine s_iconst (v := (1 : Int32)) hz dJ0_numberOfTrailingZeros_4 (by decide) ?_
  refine s_isub hz dJ0_numberOfTrailingZeros_5 ?_
  refine s_iand hz dJ0_numberOfTrailingZeros_6 ?_
  refine s_nmI (fun v1 => ?_)
  refine s_istore_n (lv' := [(0, .int v1)]) hz dJ0_numberOfTrailingZeros_7 rfl (Nat.le_of_ble_eq_true rfl) rfl ?_
  refine s_iload_n hz dJ0_numberOfTrailingZeros_8 rfl 0 rfl ?_
  refine s_if_gt (tgt := 17) hz dJ0_numberOfTrailingZeros_9 rfl (fun h2 => ?_) (fun h2 => ?_)
  · refine s_iconst (v := (1 : Int32)) hz dJ0_numberOfTrailingZeros_17 (by decide) ?_
    refine s_istore_n (lv' := [(1, .int (1 : Int32)), (0, .int v1)]) hz dJ0_numberOfTrailingZeros_18 rfl (Nat.le_of_ble_eq_true rfl) rfl ?_
    refine s_iload_n hz dJ0_numberOfTrailingZeros_19 rfl 1 rfl ?_
    refine s_ldcw hz dJ0_numberOfTrailingZeros_20 q563 ?_
    refine s_icmp_le (tgt := 34) hz dJ0_numberOfTrailingZeros_23 rfl (fun h3 => ?_) (fun h3 => ?_)
    · exact s_sub [1, 0] rfl (wjJ0_numberOfTrailingZeros_34 σ hc v1 (1 : Int32) )
    · refine s_iinc (v := (16 : Int32)) (lv' := [(1, .int ((1 : Int32) + (16 : Int32))), (0, .int v1)]) hz dJ0_numberOfTrailingZeros_26 0 rfl (by decide) (Nat.le_of_ble_eq_true rfl) rfl ?_
      refine s_iload_n hz dJ0_numberOfTrailingZeros_29 rfl 1 rfl ?_
      refine s_bipush (v := (16 : Int32)) hz dJ0_numberOfTrailingZeros_30 (by decide) ?_
      refine s_iushr hz dJ0_numberOfTrailingZeros_32 ?_
      refine s_nmI (fun v10 => ?_)
      refine s_istore_n (lv' := [(0, .int v10), (1, .int ((1 : Int32) + (16 : Int32)))]) hz dJ0_numberOfTrailingZeros_33 rfl (Nat.le_of_ble_eq_true rfl) rfl ?_
      exact s_sub [0, 1] rfl (wjJ0_numberOfTrailingZeros_34 σ hc v10 ((1 : Int32) + (16 : Int32)) )
  · refine s_iload_n hz dJ0_numberOfTrailingZeros_12 rfl 0 rfl ?_
    refine s_bipush (v := (32 : Int32)) hz dJ0_numberOfTrailingZeros_13 (by decide) ?_
    refine s_iand hz dJ0_numberOfTrailingZeros_15 ?_
    exact s_iret hc dJ0_numberOfTrailingZeros_16 (Nat.le_of_ble_eq_true rfl) (Nat.le_of_ble_eq_true rfl)
theorem cfJ0_numberOfTrailingZeros {g : GeoX} {N : Nat}  {σ : Mem} {x0 : Int32} {ρ : Int32} (hF : fJ0_numberOfTrailingZeros N σ x0 = some ρ) (l : Launch) : Ct (VX g) l yJ0_numberOfTrailingZeros cJ0_numberOfTrailingZeros 2 (some .int) (rk 1 0 0) [.int x0] σ (oI ρ) σ :=
  Ct.ofFI false (by decide +kernel) (fun h => by cases h) (Nat.le_of_ble_eq_true rfl) (fun Θ hc ls hl => wfJ0_numberOfTrailingZeros σ x0 hc hF ls hl)
def jJ0_numberOfLeadingZeros_61 (N : Nat) (σ : Mem) (x0 : Int32) (x1 : Int32)  : Option (Int32) :=
  if x0 < (4 : Int32) then
  (some (x1 - ((x0).toUInt32 >>> (((1 : Int32)).toUInt32 &&& Int32.toUInt32 31)).toInt32))
  else (lt_ (((x0).toUInt32 >>> (((2 : Int32)).toUInt32 &&& Int32.toUInt32 31)).toInt32) (fun v6 => 
  some ((x1 + (-2 : Int32)) - ((v6).toUInt32 >>> (((1 : Int32)).toUInt32 &&& Int32.toUInt32 31)).toInt32)))
set_option maxHeartbeats 4000000 in
theorem wjJ0_numberOfLeadingZeros_61 {Θ : ThT Mem} {g : GeoX} {N : Nat}  {ρ : Int32} (σ : Mem) (hc : Cx Θ (VX g) cJ0_numberOfLeadingZeros 2 RJ0 (rk 1 0 0) (some .int) [] false (oI ρ) σ) (x0 : Int32) (x1 : Int32)  : Sim Θ 2 ρ σ (jJ0_numberOfLeadingZeros_61 N σ x0 x1 ) (0, 0) 61 [(0, .int x0), (1, .int x1)] [] := by
  have hz := hc.z
  unfold jJ0_numberOfLeadingZeros_61
  refine s_iload_n hz dJ0_numberOfLeadingZeros_61 rfl 0 rfl ?_
  refine s_iconst (v := (4 : Int32)) hz dJ0_numberOfLeadingZeros_62 (by decide) ?_
  refine s_icmp_lt (tgt := 73) hz dJ0_numberOfLeadingZeros_63 rfl (fun h5 => ?_) (fun h5 => ?_)
  · refine s_iload_n hz dJ0_numberOfLeadingZeros_73 rfl 1 rfl ?_
    refine s_iload_n hz dJ0_numberOfLeadingZeros_74 rfl 0 rfl ?_
    refine s_iconst (v := (1 : Int32)) hz dJ0_numberOfLeadingZeros_75 (by decide) ?_
    refine s_iushr hz dJ0_numberOfLeadingZeros_76 ?_
    refine s_isub hz dJ0_numberOfLeadingZeros_77 ?_
    exact s_iret hc dJ0_numberOfLeadingZeros_78 (Nat.le_of_ble_eq_true rfl) (Nat.le_of_ble_eq_true rfl)
  · refine s_iinc (v := (-2 : Int32)) (lv' := [(1, .int (x1 + (-2 : Int32))), (0, .int x0)]) hz dJ0_numberOfLeadingZeros_66 1 rfl (by decide) (Nat.le_of_ble_eq_true rfl) rfl ?_
    refine s_iload_n hz dJ0_numberOfLeadingZeros_69 rfl 1 rfl ?_
    refine s_iconst (v := (2 : Int32)) hz dJ0_numberOfLeadingZeros_70 (by decide) ?_
    refine s_iushr hz dJ0_numberOfLeadingZeros_71 ?_
    refine s_nmI (fun v6 => ?_)
    refine s_istore_n (lv' := [(0, .int v6), (1, .int (x1 + (-2 : Int32)))]) hz dJ0_numberOfLeadingZeros_72 rfl (Nat.le_of_ble_eq_true rfl) rfl ?_
    refine s_iload_n hz dJ0_numberOfLeadingZeros_73 rfl 1 rfl ?_
    refine s_iload_n hz dJ0_numberOfLeadingZeros_74 rfl 0 rfl ?_
    refine s_iconst (v := (1 : Int32)) hz dJ0_numberOfLeadingZeros_75 (by decide) ?_
    refine s_iushr hz dJ0_numberOfLeadingZeros_76 ?_
    refine s_isub hz dJ0_numberOfLeadingZeros_77 ?_
    exact s_iret hc dJ0_numberOfLeadingZeros_78 (Nat.le_of_ble_eq_true rfl) (Nat.le_of_ble_eq_true rfl)
def jJ0_numberOfLeadingZeros_48 (N : Nat) (σ : Mem) (x0 : Int32) (x1 : Int32)  : Option (Int32) :=
  if x0 < (16 : Int32) then
  (jJ0_numberOfLeadingZeros_61 N σ x0 x1)
  else (lt_ (((x0).toUInt32 >>> (((4 : Int32)).toUInt32 &&& Int32.toUInt32 31)).toInt32) (fun v7 => 
  jJ0_numberOfLeadingZeros_61 N σ v7 (x1 + (-4 : Int32))))
set_option maxHeartbeats 4000000 in
theorem wjJ0_numberOfLeadingZeros_48 {Θ : ThT Mem} {g : GeoX} {N : Nat}  {ρ : Int32} (σ : Mem) (hc : Cx Θ (VX g) cJ0_numberOfLeadingZeros 2 RJ0 (rk 1 0 0) (some .int) [] false (oI ρ) σ) (x0 : Int32) (x1 : Int32)  : Sim Θ 2 ρ σ (jJ0_numberOfLeadingZeros_48 N σ x0 x1 ) (0, 0) 48 [(0, .int x0), (1, .int x1)] [] := by
  have hz := hc.z
  unfold jJ0_numberOfLeadingZeros_48
  refine s_iload_n hz dJ0_numberOfLeadingZeros_48 rfl 0 rfl ?_
  refine s_bipush (v := (16 : Int32)) hz dJ0_numberOfLeadingZeros_49 (by decide) ?_
  refine s_icmp_lt (tgt := 61) hz dJ0_numberOfLeadingZeros_51 rfl (fun h4 => ?_) (fun h4 => ?_)
  · exact s_sub [0, 1] rfl (wjJ0_numberOfLeadingZeros_61 σ hc x0 x1 )
  · refine s_iinc (v := (-4 : Int32)) (lv' := [(1, .int (x1 + (-4 : Int32))), (0, .int x0)]) hz dJ0_numberOfLeadingZeros_54 1 rfl (by decide) (Nat.le_of_ble_eq_true rfl) rfl ?_
    refine s_iload_n hz dJ0_numberOfLeadingZeros_57 rfl 1 rfl ?_
    refine s_iconst (v := (4 : Int32)) hz dJ0_numberOfLeadingZeros_58 (by decide) ?_
    refine s_iushr hz dJ0_numberOfLeadingZeros_59 ?_
    refine s_nmI (fun v7 => ?_)
    refine s_istore_n (lv' := [(0, .int v7), (1, .int (x1 + (-4 : Int32)))]) hz dJ0_numberOfLeadingZeros_60 rfl (Nat.le_of_ble_eq_true rfl) rfl ?_
    exact s_sub [0, 1] rfl (wjJ0_numberOfLeadingZeros_61 σ hc v7 (x1 + (-4 : Int32)) )
def jJ0_numberOfLeadingZeros_33 (N : Nat) (σ : Mem) (x0 : Int32) (x1 : Int32)  : Option (Int32) :=
  if x0 < (256 : Int32) then
  (jJ0_numberOfLeadingZeros_48 N σ x0 x1)
  else (lt_ (((x0).toUInt32 >>> (((8 : Int32)).toUInt32 &&& Int32.toUInt32 31)).toInt32) (fun v8 => 
  jJ0_numberOfLeadingZeros_48 N σ v8 (x1 + (-8 : Int32))))
set_option maxHeartbeats 4000000 in
theorem wjJ0_numberOfLeadingZeros_33 {Θ : ThT Mem} {g : GeoX} {N : Nat}  {ρ : Int32} (σ : Mem) (hc : Cx Θ (VX g) cJ0_numberOfLeadingZeros 2 RJ0 (rk 1 0 0) (some .int) [] false (oI ρ) σ) (x0 : Int32) (x1 : Int32)  : Sim Θ 2 ρ σ (jJ0_numberOfLeadingZeros_33 N σ x0 x1 ) (0, 0) 33 [(0, .int x0), (1, .int x1)] [] := by
  have hz := hc.z
  unfold jJ0_numberOfLeadingZeros_33
  refine s_iload_n hz dJ0_numberOfLeadingZeros_33 rfl 0 rfl ?_
  refine s_sipush (v := (256 : Int32)) hz dJ0_numberOfLeadingZeros_34 (by decide) ?_
  refine s_icmp_lt (tgt := 48) hz dJ0_numberOfLeadingZeros_37 rfl (fun h3 => ?_) (fun h3 => ?_)
  · exact s_sub [0, 1] rfl (wjJ0_numberOfLeadingZeros_48 σ hc x0 x1 )
  · refine s_iinc (v := (-8 : Int32)) (lv' := [(1, .int (x1 + (-8 : Int32))), (0, .int x0)]) hz dJ0_numberOfLeadingZeros_40 1 rfl (by decide) (Nat.le_of_ble_eq_true rfl) rfl ?_
    refine s_iload_n hz dJ0_numberOfLeadingZeros_43 rfl 1 rfl ?_
    refine s_bipush (v := (8 : Int32)) hz dJ0_numberOfLeadingZeros_44 (by decide) ?_
    refine s_iushr hz dJ0_numberOfLeadingZeros_46 ?_
    refine s_nmI (fun v8 => ?_)
    refine s_istore_n (lv' := [(0, .int v8), (1, .int (x1 + (-8 : Int32)))]) hz dJ0_numberOfLeadingZeros_47 rfl (Nat.le_of_ble_eq_true rfl) rfl ?_
    exact s_sub [0, 1] rfl (wjJ0_numberOfLeadingZeros_48 σ hc v8 (x1 + (-8 : Int32)) )
def fJ0_numberOfLeadingZeros (N : Nat) (σ : Mem) (x0 : Int32) : Option (Int32) :=
  if (0 : Int32) < x0 then
  (if x0 < (65536 : Int32) then
  (jJ0_numberOfLeadingZeros_33 N σ x0 (31 : Int32))
  else (lt_ (((x0).toUInt32 >>> (((16 : Int32)).toUInt32 &&& Int32.toUInt32 31)).toInt32) (fun v9 => 
  jJ0_numberOfLeadingZeros_33 N σ v9 ((31 : Int32) + (-16 : Int32)))))
  else (some (if x0 = (0 : Int32) then (32 : Int32) else (0 : Int32)))
set_option maxHeartbeats 4000000 in
theorem wfJ0_numberOfLeadingZeros {Θ : ThT Mem} {g : GeoX} {N : Nat}  {ρ : Int32} (σ : Mem) (x0 : Int32) (hc : Cx Θ (VX g) cJ0_numberOfLeadingZeros 2 RJ0 (rk 1 0 0) (some .int) [] false (oI ρ) σ) : Sim Θ 2 ρ σ (fJ0_numberOfLeadingZeros N σ x0) (0, 0) 0 [(0, .int x0)] [] := by
  have hz := hc.z
  unfold fJ0_numberOfLeadingZeros
  refine s_iload_n hz dJ0_numberOfLeadingZeros_0 rfl 0 rfl ?_
  refine s_if_gt (tgt := 15) hz dJ0_numberOfLeadingZeros_1 rfl (fun h1 => ?_) (fun h1 => ?_)
  · refine s_bipush (v := (31 : Int32)) hz dJ0_numberOfLeadingZeros_15 (by decide) ?_
    refine s_istore_n (lv' := [(1, .int (31 : Int32)), (0, .int x0)]) hz dJ0_numberOfLeadingZeros_17 rfl (Nat.le_of_ble_eq_true rfl) rfl ?_
    refine s_iload_n hz dJ0_numberOfLeadingZeros_18 rfl 1 rfl ?_
    refine s_ldcw hz dJ0_numberOfLeadingZeros_19 q563 ?_
    refine s_icmp_lt (tgt := 33) hz dJ0_numberOfLeadingZeros_22 rfl (fun h2 => ?_) (fun h2 => ?_)
    · exact s_sub [1, 0] rfl (wjJ0_numberOfLeadingZeros_33 σ hc x0 (31 : Int32) )
    · refine s_iinc (v := (-16 : Int32)) (lv' := [(1, .int ((31 : Int32) + (-16 : Int32))), (0, .int x0)]) hz dJ0_numberOfLeadingZeros_25 0 rfl (by decide) (Nat.le_of_ble_eq_true rfl) rfl ?_
      refine s_iload_n hz dJ0_numberOfLeadingZeros_28 rfl 1 rfl ?_
      refine s_bipush (v := (16 : Int32)) hz dJ0_numberOfLeadingZeros_29 (by decide) ?_
      refine s_iushr hz dJ0_numberOfLeadingZeros_31 ?_
      refine s_nmI (fun v9 => ?_)
      refine s_istore_n (lv' := [(0, .int v9), (1, .int ((31 : Int32) + (-16 : Int32)))]) hz dJ0_numberOfLeadingZeros_32 rfl (Nat.le_of_ble_eq_true rfl) rfl ?_
      exact s_sub [0, 1] rfl (wjJ0_numberOfLeadingZeros_33 σ hc v9 ((31 : Int32) + (-16 : Int32)) )
  · refine s_iload_n hz dJ0_numberOfLeadingZeros_4 rfl 0 rfl ?_
    refine s_dia (J := 14) (v := .int (if x0 = (0 : Int32) then (32 : Int32) else (0 : Int32))) (st := []) (fun _ hj10 => ?_) ?_
    · refine s_if_ne_ (tgt := 13) hz dJ0_numberOfLeadingZeros_5 rfl (fun h11 => ?_) (fun h11 => ?_)
      · refine s_iconst (v := (0 : Int32)) hz dJ0_numberOfLeadingZeros_13 (by decide) ?_
        rw [if_neg h11] at hj10
        exact hj10
      · refine s_bipush (v := (32 : Int32)) hz dJ0_numberOfLeadingZeros_8 (by decide) ?_
        refine s_goto (tgt := 14) hz dJ0_numberOfLeadingZeros_10 rfl ?_
        rw [if_pos h11] at hj10
        exact hj10
    exact s_iret hc dJ0_numberOfLeadingZeros_14 (Nat.le_of_ble_eq_true rfl) (Nat.le_of_ble_eq_true rfl)
theorem cfJ0_numberOfLeadingZeros {g : GeoX} {N : Nat}  {σ : Mem} {x0 : Int32} {ρ : Int32} (hF : fJ0_numberOfLeadingZeros N σ x0 = some ρ) (l : Launch) : Ct (VX g) l yJ0_numberOfLeadingZeros cJ0_numberOfLeadingZeros 2 (some .int) (rk 1 0 0) [.int x0] σ (oI ρ) σ :=
  Ct.ofFI false (by decide +kernel) (fun h => by cases h) (Nat.le_of_ble_eq_true rfl) (fun Θ hc ls hl => wfJ0_numberOfLeadingZeros σ x0 hc hF ls hl)
