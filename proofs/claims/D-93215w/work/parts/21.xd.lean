set_option maxRecDepth 100000
def fX0_potWith (N : Nat) (σ : Mem) (x1 : Int64) : Option (Int64) :=
  some (x1 + ((((gL σ 0 15) * (((gI σ 2 0)).toInt64)) * (((gI σ 2 1)).toInt64)) / (100 : Int64)))
set_option maxHeartbeats 4000000 in
theorem wfX0_potWith {Θ : ThT Mem} {g : GeoX} {N : Nat}  {ρ : Int64} (σ : Mem) (x1 : Int64) (hc : Cx Θ (VX g) cX0_potWith 3 RX0 (rk 1 0 0) (some .long) [] false (oL ρ) σ) : Sim Θ 3 ρ σ (fX0_potWith N σ x1) (0, 0) 0 [(0, .ref (vO (VX g) + 0)), (1, .long x1)] [] := by
  have hz := hc.z
  unfold fX0_potWith
  refine s_lload_n hz dX0_potWith_0 rfl 1 rfl ?_
  refine s_aload_n hz dX0_potWith_1 rfl 0 rfl ?_
  refine rX_g_X0_238_0 hc dX0_potWith_2 ?_
  refine s_aload_n hz dX0_potWith_5 rfl 0 rfl ?_
  refine rX_g_X0_42_0 hc dX0_potWith_6 ?_
  refine rX_g_X0_286_1 hc dX0_potWith_9 ?_
  refine s_iconst (v := (0 : Int32)) hz dX0_potWith_12 (by decide) ?_
  refine rX_ld_2 hc (j := 0) (by decide) (by decide) dX0_potWith_13 ?_
  refine s_i2l hz dX0_potWith_14 ?_
  refine s_lmul hz dX0_potWith_15 ?_
  refine s_aload_n hz dX0_potWith_16 rfl 0 rfl ?_
  refine rX_g_X0_42_0 hc dX0_potWith_17 ?_
  refine rX_g_X0_286_1 hc dX0_potWith_20 ?_
  refine s_iconst (v := (1 : Int32)) hz dX0_potWith_23 (by decide) ?_
  refine rX_ld_2 hc (j := 1) (by decide) (by decide) dX0_potWith_24 ?_
  refine s_i2l hz dX0_potWith_25 ?_
  refine s_lmul hz dX0_potWith_26 ?_
  refine s_ldc2 hz dX0_potWith_27 q832 ?_
  refine s_ldiv hz dX0_potWith_30 (by decide) ?_
  refine s_ladd hz dX0_potWith_31 ?_
  exact s_lret hc dX0_potWith_32 (Nat.le_of_ble_eq_true rfl) (Nat.le_of_ble_eq_true rfl)
theorem cfX0_potWith {g : GeoX} {N : Nat}  {σ : Mem} {x1 : Int64} {ρ : Int64} (hF : fX0_potWith N σ x1 = some ρ) (l : Launch) : Ct (VX g) l yX0_potWith cX0_potWith 3 (some .long) (rk 1 0 0) [.ref (vO (VX g) + 0), .long x1] σ (oL ρ) σ :=
  Ct.of (by decide) (Nat.le_of_ble_eq_true rfl) (fun Θ hc ls hl => wfX0_potWith σ x1 hc hF ls hl)
def fX0_shareOf (N : Nat) (σ : Mem) (x1 : Int64) (x3 : Int32) : Option (Int64) :=
  gb (inb ((6 : Int32) - x3) 8) (
  some ((x1 * (((gI σ 2 (ix ((6 : Int32) - x3)))).toInt64)) / (100 : Int64)))
set_option maxHeartbeats 4000000 in
theorem wfX0_shareOf {Θ : ThT Mem} {g : GeoX} {N : Nat}  {ρ : Int64} (σ : Mem) (x1 : Int64) (x3 : Int32) (hc : Cx Θ (VX g) cX0_shareOf 4 RX0 (rk 1 0 0) (some .long) [] false (oL ρ) σ) : Sim Θ 4 ρ σ (fX0_shareOf N σ x1 x3) (0, 0) 0 [(0, .ref (vO (VX g) + 0)), (1, .long x1), (3, .int x3)] [] := by
  have hz := hc.z
  unfold fX0_shareOf
  refine s_lload_n hz dX0_shareOf_0 rfl 1 rfl ?_
  refine s_aload_n hz dX0_shareOf_1 rfl 0 rfl ?_
  refine rX_g_X0_42_0 hc dX0_shareOf_2 ?_
  refine rX_g_X0_286_1 hc dX0_shareOf_5 ?_
  refine s_bipush (v := (6 : Int32)) hz dX0_shareOf_8 (by decide) ?_
  refine s_iload_n hz dX0_shareOf_10 rfl 2 rfl ?_
  refine s_isub hz dX0_shareOf_11 ?_
  refine s_gb (fun h1 => ?_)
  refine rX_ld_2 hc h1 rfl dX0_shareOf_12 ?_
  refine s_i2l hz dX0_shareOf_13 ?_
  refine s_lmul hz dX0_shareOf_14 ?_
  refine s_ldc2 hz dX0_shareOf_15 q832 ?_
  refine s_ldiv hz dX0_shareOf_18 (by decide) ?_
  exact s_lret hc dX0_shareOf_19 (Nat.le_of_ble_eq_true rfl) (Nat.le_of_ble_eq_true rfl)
theorem cfX0_shareOf {g : GeoX} {N : Nat}  {σ : Mem} {x1 : Int64} {x3 : Int32} {ρ : Int64} (hF : fX0_shareOf N σ x1 x3 = some ρ) (l : Launch) : Ct (VX g) l yX0_shareOf cX0_shareOf 4 (some .long) (rk 1 0 0) [.ref (vO (VX g) + 0), .long x1, .int x3] σ (oL ρ) σ :=
  Ct.of (by decide) (Nat.le_of_ble_eq_true rfl) (fun Θ hc ls hl => wfX0_shareOf σ x1 x3 hc hF ls hl)
theorem kX_X0_292 {γ : Type} {Θ : ThT Mem} {g : GeoX} {cc : ByteArray} {nL : Nat} {rm : Room} {ret : Option FieldType} {hs : List (Nat × Nat × Nat × Nat)} {ini : Bool} {O : Outcome} {σ' : Mem} {ρ : γ} {σ : Mem} {F : Option γ} {cs : Nat × Nat} {pc : Nat} {lv : List (Nat × Value)} {st : List Value} (hc : Cx Θ (VX g) cc nL RX0 rm ret hs ini O σ') {σ1 : Mem} {x1 : Int64} {r : Int64} {rmc : Room} (hM : ∀ l : Launch, Ct (VX g) l yX0_potWith cX0_potWith 3 (some .long) rmc [.ref (vO (VX g) + 0), .long x1] σ (oL r) σ1) (hR : rmc.frames + 1 ≤ rm.frames ∧ 8 + (3 + 11) + rmc.locals ≤ rm.locals) (hf : cs.1 + rmc.cells ≤ rm.cells ∧ cs.2 + rmc.slots ≤ rm.slots) (hrest : (st.map fun v => v.category).sum ≤ 8) (hd : decode cc pc = .ok (.invokevirtual 292, 3)) (kk : Sim Θ nL ρ σ1 F (cs.1 + rmc.cells, cs.2 + rmc.slots) (pc + 3) lv (.long r :: st)) : Sim Θ nL ρ σ F cs pc lv (.long x1 :: .ref (vO (VX g) + 0) :: st) := s_callVo hc (a := 0) (As := [.long x1]) (rest := st) (n := 1) (ci := 0) (q := (RX0, TX0, 19)) hM (lw_V q852 q854 qs17 q62 q855) (by decide +kernel) rfl (Ob.fix (Nat.le_of_ble_eq_true rfl) rfl) rfl rfl hrest hR hf hd kk
theorem rX_g_X0_296_1 {γ : Type} {Θ : ThT Mem} {g : GeoX} {cc : ByteArray} {nL : Nat} {rm : Room} {ret : Option FieldType} {hs : List (Nat × Nat × Nat × Nat)} {ini : Bool} {O : Outcome} {σ' : Mem} {ρ : γ} {σ : Mem} {F : Option γ} {cs : Nat × Nat} {pc : Nat} {lv : List (Nat × Value)} {st : List Value} (hc : Cx Θ (VX g) cc nL RX0 rm ret hs ini O σ') (hd : decode cc pc = .ok (.getfield 296, 3)) (kk : Sim Θ nL ρ σ F cs (pc + 3) lv (.ref (vO (VX g) + 19) :: st)) : Sim Θ nL ρ σ F cs pc lv (.ref (vO (VX g) + 1) :: st) := s_get hc (C := RX1) (T := TX1) (N := 10) (ci := 1) (k := 1) in_X1 (Nat.le_of_ble_eq_true rfl) rfl rfl 9 (Nat.le_of_ble_eq_true rfl) q141 (fun _ _ _ _ h => h) rfl hd kk
theorem rX_st_20 {own : String} {γ : Type} {Θ : ThT Mem} {g : GeoX} {cc : ByteArray} {nL : Nat} {rm : Room} {ret : Option FieldType} {hs : List (Nat × Nat × Nat × Nat)} {ini : Bool} {O : Outcome} {σ' : Mem} {ρ : γ} {σ : Mem} {cs : Nat × Nat} {pc : Nat} {lv : List (Nat × Value)} {st : List Value} (hc : Cx Θ (VX g) cc nL own rm ret hs ini O σ') {K : Mem → Option γ} {i x : Int32} {j : Nat} (hin : inb i 40 = true) (hj : ix i = j) (hd : decode cc pc = .ok (.iastore, 1)) (kk : ∀ σ1 : Mem, Sim Θ nL ρ σ1 (K σ1) cs (pc + 1) lv st) : Sim Θ nL ρ σ (lt_ (pI σ 20 j x) K) cs pc lv (.int x :: .int i :: .ref (vO (VX g) + 20) :: st) := s_iast hc (k := 20) (t := 0) (n := 40) (Nat.le_of_ble_eq_true rfl) (fun _ => rfl) rfl hin hj hd kk
theorem kX_X0_306 {γ : Type} {Θ : ThT Mem} {g : GeoX} {cc : ByteArray} {nL : Nat} {rm : Room} {ret : Option FieldType} {hs : List (Nat × Nat × Nat × Nat)} {ini : Bool} {O : Outcome} {σ' : Mem} {ρ : γ} {σ : Mem} {F : Option γ} {cs : Nat × Nat} {pc : Nat} {lv : List (Nat × Value)} {st : List Value} (hc : Cx Θ (VX g) cc nL RX0 rm ret hs ini O σ') {σ1 : Mem} {x0 : Int64} {x2 : Int64} {r : Int64} {rmc : Room} (hM : ∀ l : Launch, Ct (VX g) l yJ3_min_2 cJ3_min_2 4 (some .long) rmc [.long x0, .long x2] σ (oL r) σ1) (hR : rmc.frames + 1 ≤ rm.frames ∧ 8 + (4 + 11) + rmc.locals ≤ rm.locals) (hf : cs.1 + rmc.cells ≤ rm.cells ∧ cs.2 + rmc.slots ≤ rm.slots) (hrest : (st.map fun v => v.category).sum ≤ 8) (hd : decode cc pc = .ok (.invokestatic 306, 3)) (kk : Sim Θ nL ρ σ1 F (cs.1 + rmc.cells, cs.2 + rmc.slots) (pc + 3) lv (.long r :: st)) : Sim Θ nL ρ σ F cs pc lv (.long x2 :: .long x0 :: st) := s_callS hc (As := [.long x0, .long x2]) (rest := st) (n := 2) hM (lw_S q867 q868 q80 q869) (by decide +kernel) rfl rfl hrest hR hf hd kk
theorem kX_X0_312 {γ : Type} {Θ : ThT Mem} {g : GeoX} {cc : ByteArray} {nL : Nat} {rm : Room} {ret : Option FieldType} {hs : List (Nat × Nat × Nat × Nat)} {ini : Bool} {O : Outcome} {σ' : Mem} {ρ : γ} {σ : Mem} {F : Option γ} {cs : Nat × Nat} {pc : Nat} {lv : List (Nat × Value)} {st : List Value} (hc : Cx Θ (VX g) cc nL RX0 rm ret hs ini O σ') {σ1 : Mem} {x0 : Int64} {x2 : Int64} {r : Int64} {rmc : Room} (hM : ∀ l : Launch, Ct (VX g) l yJ3_max_2 cJ3_max_2 4 (some .long) rmc [.long x0, .long x2] σ (oL r) σ1) (hR : rmc.frames + 1 ≤ rm.frames ∧ 8 + (4 + 11) + rmc.locals ≤ rm.locals) (hf : cs.1 + rmc.cells ≤ rm.cells ∧ cs.2 + rmc.slots ≤ rm.slots) (hrest : (st.map fun v => v.category).sum ≤ 8) (hd : decode cc pc = .ok (.invokestatic 312, 3)) (kk : Sim Θ nL ρ σ1 F (cs.1 + rmc.cells, cs.2 + rmc.slots) (pc + 3) lv (.long r :: st)) : Sim Θ nL ρ σ F cs pc lv (.long x2 :: .long x0 :: st) := s_callS hc (As := [.long x0, .long x2]) (rest := st) (n := 2) hM (lw_S q870 q871 q80 q872) (by decide +kernel) rfl rfl hrest hR hf hd kk
theorem rX_st_27 {own : String} {γ : Type} {Θ : ThT Mem} {g : GeoX} {cc : ByteArray} {nL : Nat} {rm : Room} {ret : Option FieldType} {hs : List (Nat × Nat × Nat × Nat)} {ini : Bool} {O : Outcome} {σ' : Mem} {ρ : γ} {σ : Mem} {cs : Nat × Nat} {pc : Nat} {lv : List (Nat × Value)} {st : List Value} (hc : Cx Θ (VX g) cc nL own rm ret hs ini O σ') {K : Mem → Option γ} {i x : Int32} {j : Nat} (hin : inb i 40 = true) (hj : ix i = j) (hd : decode cc pc = .ok (.iastore, 1)) (kk : ∀ σ1 : Mem, Sim Θ nL ρ σ1 (K σ1) cs (pc + 1) lv st) : Sim Θ nL ρ σ (lt_ (pI σ 27 j x) K) cs pc lv (.int x :: .int i :: .ref (vO (VX g) + 27) :: st) := s_iast hc (k := 27) (t := 0) (n := 40) (Nat.le_of_ble_eq_true rfl) (fun _ => rfl) rfl hin hj hd kk
theorem rX_p_X0_185_1 {γ : Type} {Θ : ThT Mem} {g : GeoX} {cc : ByteArray} {nL : Nat} {rm : Room} {ret : Option FieldType} {hs : List (Nat × Nat × Nat × Nat)} {ini : Bool} {O : Outcome} {σ' : Mem} {ρ : γ} {σ : Mem} {cs : Nat × Nat} {pc : Nat} {lv : List (Nat × Value)} {st : List Value} (hc : Cx Θ (VX g) cc nL RX0 rm ret hs ini O σ') {K : Mem → Option γ} {x : Int32} (hd : decode cc pc = .ok (.putfield 185, 3)) (kk : ∀ σ1 : Mem, Sim Θ nL ρ σ1 (K σ1) cs (pc + 3) lv st) : Sim Θ nL ρ σ (lt_ (pI σ 1 1 x) K) cs pc lv (.int x :: .ref (vO (VX g) + 1) :: st) := s_put hc (C := RX1) (T := TX1) (N := 10) (ci := 1) (k := 1) (σ1 := pI σ 1 1 x) in_X1 tyX1_ok nmX1 (Nat.le_of_ble_eq_true rfl) rfl rfl 1 (Nat.le_of_ble_eq_true rfl) q125 (fun _ _ _ _ h => h) rfl (ty := .int) (by decide +kernel) rfl rfl (Nat.le_of_ble_eq_true rfl) rfl (pI_ne σ 1 1 x) rfl hd (kk _)
theorem rX_ld_21 {own : String} {γ : Type} {Θ : ThT Mem} {g : GeoX} {cc : ByteArray} {nL : Nat} {rm : Room} {ret : Option FieldType} {hs : List (Nat × Nat × Nat × Nat)} {ini : Bool} {O : Outcome} {σ' : Mem} {ρ : γ} {σ : Mem} {F : Option γ} {cs : Nat × Nat} {pc : Nat} {lv : List (Nat × Value)} {st : List Value} (hc : Cx Θ (VX g) cc nL own rm ret hs ini O σ') {i : Int32} {j : Nat} (hin : inb i 40 = true) (hj : ix i = j) (hd : decode cc pc = .ok (.iaload, 1)) (kk : Sim Θ nL ρ σ F cs (pc + 1) lv (.int (gI σ 21 j) :: st)) : Sim Θ nL ρ σ F cs pc lv (.int i :: .ref (vO (VX g) + 21) :: st) := s_iald hc (k := 21) (t := 0) (n := 40) (Nat.le_of_ble_eq_true rfl) rfl rfl hin hj hd kk
theorem kX_X0_299 {γ : Type} {Θ : ThT Mem} {g : GeoX} {cc : ByteArray} {nL : Nat} {rm : Room} {ret : Option FieldType} {hs : List (Nat × Nat × Nat × Nat)} {ini : Bool} {O : Outcome} {σ' : Mem} {ρ : γ} {σ : Mem} {F : Option γ} {cs : Nat × Nat} {pc : Nat} {lv : List (Nat × Value)} {st : List Value} (hc : Cx Θ (VX g) cc nL RX0 rm ret hs ini O σ') {σ1 : Mem} {x1 : Int32} {x2 : Int32} {r : Int32} {rmc : Room} (hM : ∀ l : Launch, Ct (VX g) l yX0_winnersOf cX0_winnersOf 5 (some .int) rmc [.ref (vO (VX g) + 0), .int x1, .int x2] σ (oI r) σ1) (hR : rmc.frames + 1 ≤ rm.frames ∧ 8 + (5 + 11) + rmc.locals ≤ rm.locals) (hf : cs.1 + rmc.cells ≤ rm.cells ∧ cs.2 + rmc.slots ≤ rm.slots) (hrest : (st.map fun v => v.category).sum ≤ 8) (hd : decode cc pc = .ok (.invokevirtual 299, 3)) (kk : Sim Θ nL ρ σ1 F (cs.1 + rmc.cells, cs.2 + rmc.slots) (pc + 3) lv (.int r :: st)) : Sim Θ nL ρ σ F cs pc lv (.int x2 :: .int x1 :: .ref (vO (VX g) + 0) :: st) := s_callVo hc (a := 0) (As := [.int x1, .int x2]) (rest := st) (n := 2) (ci := 0) (q := (RX0, TX0, 19)) hM (lw_V q856 q858 qs18 q62 q859) (by decide +kernel) rfl (Ob.fix (Nat.le_of_ble_eq_true rfl) rfl) rfl rfl hrest hR hf hd kk
theorem kX_X0_302 {γ : Type} {Θ : ThT Mem} {g : GeoX} {cc : ByteArray} {nL : Nat} {rm : Room} {ret : Option FieldType} {hs : List (Nat × Nat × Nat × Nat)} {ini : Bool} {O : Outcome} {σ' : Mem} {ρ : γ} {σ : Mem} {F : Option γ} {cs : Nat × Nat} {pc : Nat} {lv : List (Nat × Value)} {st : List Value} (hc : Cx Θ (VX g) cc nL RX0 rm ret hs ini O σ') {σ1 : Mem} {x1 : Int64} {x3 : Int32} {r : Int64} {rmc : Room} (hM : ∀ l : Launch, Ct (VX g) l yX0_shareOf cX0_shareOf 4 (some .long) rmc [.ref (vO (VX g) + 0), .long x1, .int x3] σ (oL r) σ1) (hR : rmc.frames + 1 ≤ rm.frames ∧ 8 + (4 + 11) + rmc.locals ≤ rm.locals) (hf : cs.1 + rmc.cells ≤ rm.cells ∧ cs.2 + rmc.slots ≤ rm.slots) (hrest : (st.map fun v => v.category).sum ≤ 8) (hd : decode cc pc = .ok (.invokevirtual 302, 3)) (kk : Sim Θ nL ρ σ1 F (cs.1 + rmc.cells, cs.2 + rmc.slots) (pc + 3) lv (.long r :: st)) : Sim Θ nL ρ σ F cs pc lv (.int x3 :: .long x1 :: .ref (vO (VX g) + 0) :: st) := s_callVo hc (a := 0) (As := [.long x1, .int x3]) (rest := st) (n := 2) (ci := 0) (q := (RX0, TX0, 19)) hM (lw_V q863 q865 qs19 q62 q866) (by decide +kernel) rfl (Ob.fix (Nat.le_of_ble_eq_true rfl) rfl) rfl rfl hrest hR hf hd kk
theorem rX_stv_20 {own : String} {γ : Type} {Θ : ThT Mem} {g : GeoX} {cc : ByteArray} {nL : Nat} {rm : Room} {ret : Option FieldType} {hs : List (Nat × Nat × Nat × Nat)} {ini : Bool} {O : Outcome} {σ' : Mem} {ρ : γ} {σ : Mem} {cs : Nat × Nat} {pc : Nat} {lv : List (Nat × Value)} {st : List Value} (hc : Cx Θ (VX g) cc nL own rm ret hs ini O σ') {K : Mem → Option γ} {k : Nat} (hk : k < 8) {i x : Int32} {j : Nat} (hin : inb i 40 = true) (hj : ix i = j) (hd : decode cc pc = .ok (.iastore, 1)) (kk : ∀ σ1 : Mem, Sim Θ nL ρ σ1 (K σ1) cs (pc + 1) lv st) : Sim Θ nL ρ σ (lt_ (pI σ (20 + k) j x) K) cs pc lv (.int x :: .int i :: .ref (vO (VX g) + (20 + k)) :: st) := s_iast hc (k := 20 + k) (t := 0) (n := 40) (YXk_20 g k hk) (fun _ => YX_20 g.1 _ _ _ k hk) rfl hin hj hd kk
def jX0_plays_85 (N : Nat) (σ : Mem) (x1 : Int32) (x2 : Int32) (x3 : Int64) (x5 : Int64) (x7 : Int32) (x8 : Int32) (t0 : Int64) (r46 : (Mem × Int64 × Int32) → Option (Int32 × Mem)) : Option (Int32 × Mem) :=
  gb (inb ((1 : Int32) + x7) 8) (
  gb (inb x2 40) (
  lt_ (pI σ (20 + ix ((1 : Int32) + x7)) (ix x2) x8) (fun σ26 => 
  gb (inb ((4 : Int32) + x7) 8) (
  gb (inb x2 40) (
  lt_ (pI σ26 (20 + ix ((4 : Int32) + x7)) (ix x2) ((t0).toInt32)) (fun σ29 => 
  lt_ (x5 - (t0 * ((x8).toInt64))) (fun v31 => 
  r46 (σ29, v31, (x7 + (1 : Int32))))))))))
set_option maxHeartbeats 4000000 in
theorem wjX0_plays_85 {Θ : ThT Mem} {g : GeoX} {N : Nat}  {ρ : Int32 × Mem} (σ : Mem) (hc : Cx Θ (VX g) cX0_plays 11 RX0 (rk 77 0 0) (some .int) [] false (oI ρ.1) ρ.2) (x1 : Int32) (x2 : Int32) (x3 : Int64) (x5 : Int64) (x7 : Int32) (x8 : Int32) (t0 : Int64) (r46 : (Mem × Int64 × Int32) → Option (Int32 × Mem)) (hr46 : ∀ y : Mem × Int64 × Int32, Sim Θ 11 ρ (y.1) (r46 y) (0, 0) 46 [(0, .ref (vO (VX g) + 0)), (1, .int x1), (2, .int x2), (3, .long x3), (5, .long y.2.1), (7, .int y.2.2)] []) : Sim Θ 11 ρ σ (jX0_plays_85 N σ x1 x2 x3 x5 x7 x8 t0 r46) (0, 0) 85 [(0, .ref (vO (VX g) + 0)), (1, .int x1), (2, .int x2), (3, .long x3), (5, .long x5), (7, .int x7), (8, .int x8)] [.long t0] := by
  have hz := hc.z
  have hr46c : ∀ (z0_ : Mem) (z1_ : Int64) (z2_ : Int32), Sim Θ 11 ρ (z0_) (r46 (z0_, z1_, z2_)) (0, 0) 46 [(0, .ref (vO (VX g) + 0)), (1, .int x1), (2, .int x2), (3, .long x3), (5, .long z1_), (7, .int z2_)] [] := fun z0_ z1_ z2_ => hr46 (z0_, z1_, z2_)
  unfold jX0_plays_85
  refine s_lstore (lv' := [(9, .long t0), (0, .ref (vO (VX g) + 0)), (1, .int x1), (2, .int x2), (3, .long x3), (5, .long x5), (7, .int x7), (8, .int x8)]) hz dX0_plays_85 (Nat.le_of_ble_eq_true rfl) rfl ?_
  refine s_aload_n hz dX0_plays_87 rfl 1 rfl ?_
  refine rX_g_X0_42_0 hc dX0_plays_88 ?_
  refine rX_g_X0_296_1 hc dX0_plays_91 ?_
  refine s_iconst (v := (1 : Int32)) hz dX0_plays_94 (by decide) ?_
  refine s_iload hz dX0_plays_95 6 rfl ?_
  refine s_iadd hz dX0_plays_97 ?_
  refine s_gb (fun h25 => ?_)
  refine rX_aa_19 hc h25 rfl dX0_plays_98 ?_
  refine s_iload_n hz dX0_plays_99 rfl 3 rfl ?_
  refine s_iload hz dX0_plays_100 7 rfl ?_
  refine s_gb (fun h27 => ?_)
  refine rX_stv_20 hc (inb_lt h25) h27 rfl dX0_plays_102 (fun σ26 => ?_)
  refine s_aload_n hz dX0_plays_103 rfl 1 rfl ?_
  refine rX_g_X0_42_0 hc dX0_plays_104 ?_
  refine rX_g_X0_296_1 hc dX0_plays_107 ?_
  refine s_iconst (v := (4 : Int32)) hz dX0_plays_110 (by decide) ?_
  refine s_iload hz dX0_plays_111 6 rfl ?_
  refine s_iadd hz dX0_plays_113 ?_
  refine s_gb (fun h28 => ?_)
  refine rX_aa_19 hc h28 rfl dX0_plays_114 ?_
  refine s_iload_n hz dX0_plays_115 rfl 3 rfl ?_
  refine s_lload hz dX0_plays_116 0 rfl ?_
  refine s_l2i hz dX0_plays_118 ?_
  refine s_gb (fun h30 => ?_)
  refine rX_stv_20 hc (inb_lt h28) h30 rfl dX0_plays_119 (fun σ29 => ?_)
  refine s_lload hz dX0_plays_120 5 rfl ?_
  refine s_lload hz dX0_plays_122 0 rfl ?_
  refine s_iload hz dX0_plays_124 7 rfl ?_
  refine s_i2l hz dX0_plays_126 ?_
  refine s_lmul hz dX0_plays_127 ?_
  refine s_lsub hz dX0_plays_128 ?_
  refine s_nmL (fun v31 => ?_)
  refine s_lstore (lv' := [(5, .long v31), (9, .long t0), (0, .ref (vO (VX g) + 0)), (1, .int x1), (2, .int x2), (3, .long x3), (7, .int x7), (8, .int x8)]) hz dX0_plays_129 (Nat.le_of_ble_eq_true rfl) rfl ?_
  refine s_iinc (v := (1 : Int32)) (lv' := [(7, .int (x7 + (1 : Int32))), (5, .long v31), (9, .long t0), (0, .ref (vO (VX g) + 0)), (1, .int x1), (2, .int x2), (3, .long x3), (8, .int x8)]) hz dX0_plays_131 6 rfl (by decide) (Nat.le_of_ble_eq_true rfl) rfl ?_
  refine s_goto (tgt := 46) hz dX0_plays_134 rfl ?_
  exact s_sub [3, 4, 5, 6, 1, 0] rfl (hr46c σ29 v31 (x7 + (1 : Int32)))
def bX0_plays_46 (N : Nat) (σ : Mem) (x1 : Int32) (x2 : Int32) (x3 : Int64) (r46 : (Mem × Int64 × Int32) → Option (Int32 × Mem)) (y46 : Mem × Int64 × Int32) : Option (Int32 × Mem) :=
  if (3 : Int32) ≤ y46.2.2 then
  ((fJ3_min_2 N y46.1 (99999999 : Int64) y46.2.1).bind (fun q9 => 
  (fJ3_max_2 N y46.1 (0 : Int64) q9).bind (fun q11 => 
  lt_ (pI y46.1 2 7 ((q11).toInt32)) (fun σ13 => 
  gb (inb x2 40) (
  lt_ (pI σ13 27 (ix x2) (gI σ13 2 7)) (fun σ14 => 
  lt_ (pI σ14 1 1 ((gI σ14 1 1) + (1 : Int32))) (fun σ16 => 
  lt_ (pI σ16 0 10 (0 : Int32)) (fun σ17 => 
  gb (inb x2 40) (
  some ((gI σ17 21 (ix x2)), σ17))))))))))
  else ((fX0_winnersOf N y46.1 ((4 : Int32) - y46.2.2) x1).bind (fun q19 => 
  if q19 = (0 : Int32) then
  (jX0_plays_85 N y46.1 x1 x2 x3 y46.2.1 y46.2.2 q19 (0 : Int64) r46)
  else ((fX0_shareOf N y46.1 x3 ((4 : Int32) - y46.2.2)).bind (fun q22 => 
  gb (nzL ((q19).toInt64)) (
  jX0_plays_85 N y46.1 x1 x2 x3 y46.2.1 y46.2.2 q19 (q22 / ((q19).toInt64)) r46)))))
set_option maxHeartbeats 4000000 in
theorem wbX0_plays_46 {Θ : ThT Mem} {g : GeoX} {N : Nat}  {ρ : Int32 × Mem} (σ : Mem) (hc : Cx Θ (VX g) cX0_plays 11 RX0 (rk 77 0 0) (some .int) [] false (oI ρ.1) ρ.2) (x1 : Int32) (x2 : Int32) (x3 : Int64) (r46 : (Mem × Int64 × Int32) → Option (Int32 × Mem)) (hr46 : ∀ y : Mem × Int64 × Int32, Sim Θ 11 ρ (y.1) (r46 y) (0, 0) 46 [(0, .ref (vO (VX g) + 0)), (1, .int x1), (2, .int x2), (3, .long x3), (5, .long y.2.1), (7, .int y.2.2)] []) : ∀ y46 : Mem × Int64 × Int32, Sim Θ 11 ρ (y46.1) (bX0_plays_46 N σ x1 x2 x3 r46 y46) (0, 0) 46 [(0, .ref (vO (VX g) + 0)), (1, .int x1), (2, .int x2), (3, .long x3), (5, .long y46.2.1), (7, .int y46.2.2)] [] := by
  intro y46
  have hz := hc.z
  have hr46c : ∀ (z0_ : Mem) (z1_ : Int64) (z2_ : Int32), Sim Θ 11 ρ (z0_) (r46 (z0_, z1_, z2_)) (0, 0) 46 [(0, .ref (vO (VX g) + 0)), (1, .int x1), (2, .int x2), (3, .long x3), (5, .long z1_), (7, .int z2_)] [] := fun z0_ z1_ z2_ => hr46 (z0_, z1_, z2_)
  unfold bX0_plays_46
  refine s_iload hz dX0_plays_46 5 rfl ?_
  refine s_iconst (v := (3 : Int32)) hz dX0_plays_48 (by decide) ?_
  refine s_icmp_ge (tgt := 137) hz dX0_plays_49 rfl (fun h8 => ?_) (fun h8 => ?_)
  · refine s_aload_n hz dX0_plays_137 rfl 0 rfl ?_
    refine rX_g_X0_42_0 hc dX0_plays_138 ?_
    refine rX_g_X0_286_1 hc dX0_plays_141 ?_
    refine s_bipush (v := (7 : Int32)) hz dX0_plays_144 (by decide) ?_
    refine s_lconst (v := (0 : Int64)) hz dX0_plays_146 (by decide) ?_
    refine s_ldc2 hz dX0_plays_147 q834 ?_
    refine s_lload hz dX0_plays_150 4 rfl ?_
    refine s_bind (fun q9 e10 => ?_)
    refine kX_X0_306 hc (cfJ3_min_2 e10) ⟨(Nat.le_of_ble_eq_true rfl), (Nat.le_of_ble_eq_true rfl)⟩ ⟨(Nat.le_of_ble_eq_true rfl), (Nat.le_of_ble_eq_true rfl)⟩ (Nat.le_of_ble_eq_true rfl) dX0_plays_152 ?_
    refine s_bind (fun q11 e12 => ?_)
    refine kX_X0_312 hc (cfJ3_max_2 e12) ⟨(Nat.le_of_ble_eq_true rfl), (Nat.le_of_ble_eq_true rfl)⟩ ⟨(Nat.le_of_ble_eq_true rfl), (Nat.le_of_ble_eq_true rfl)⟩ (Nat.le_of_ble_eq_true rfl) dX0_plays_155 ?_
    refine s_l2i hz dX0_plays_158 ?_
    refine rX_st_2 hc (j := 7) (by decide) (by decide) dX0_plays_159 (fun σ13 => ?_)
    refine s_aload_n hz dX0_plays_160 rfl 0 rfl ?_
    refine rX_g_X0_42_0 hc dX0_plays_161 ?_
    refine rX_g_X0_296_1 hc dX0_plays_164 ?_
    refine s_bipush (v := (7 : Int32)) hz dX0_plays_167 (by decide) ?_
    refine rX_aa_19 hc (j := 7) (by decide) (by decide) dX0_plays_169 ?_
    refine s_iload_n hz dX0_plays_170 rfl 2 rfl ?_
    refine s_aload_n hz dX0_plays_171 rfl 0 rfl ?_
    refine rX_g_X0_42_0 hc dX0_plays_172 ?_
    refine rX_g_X0_286_1 hc dX0_plays_175 ?_
    refine s_bipush (v := (7 : Int32)) hz dX0_plays_178 (by decide) ?_
    refine rX_ld_2 hc (j := 7) (by decide) (by decide) dX0_plays_180 ?_
    refine s_gb (fun h15 => ?_)
    refine rX_st_27 hc h15 rfl dX0_plays_181 (fun σ14 => ?_)
    refine s_aload_n hz dX0_plays_182 rfl 0 rfl ?_
    refine rX_g_X0_42_0 hc dX0_plays_183 ?_
    refine s_dup hz dX0_plays_186 rfl ?_
    refine rX_g_X0_185_1 hc dX0_plays_187 ?_
    refine s_iconst (v := (1 : Int32)) hz dX0_plays_190 (by decide) ?_
    refine s_iadd hz dX0_plays_191 ?_
    refine rX_p_X0_185_1 hc dX0_plays_192 (fun σ16 => ?_)
    refine s_aload_n hz dX0_plays_195 rfl 0 rfl ?_
    refine s_iconst (v := (0 : Int32)) hz dX0_plays_196 (by decide) ?_
    refine rX_p_X0_166_0 hc rfl rfl dX0_plays_197 (fun σ17 => ?_)
    refine s_aload_n hz dX0_plays_200 rfl 0 rfl ?_
    refine rX_g_X0_42_0 hc dX0_plays_201 ?_
    refine rX_g_X0_296_1 hc dX0_plays_204 ?_
    refine s_iconst (v := (1 : Int32)) hz dX0_plays_207 (by decide) ?_
    refine rX_aa_19 hc (j := 1) (by decide) (by decide) dX0_plays_208 ?_
    refine s_iload_n hz dX0_plays_209 rfl 2 rfl ?_
    refine s_gb (fun h18 => ?_)
    refine rX_ld_21 hc h18 rfl dX0_plays_210 ?_
    exact s_iretM hc dX0_plays_211 (Nat.le_of_ble_eq_true rfl) (Nat.le_of_ble_eq_true rfl)
  · refine s_aload_n hz dX0_plays_52 rfl 0 rfl ?_
    refine s_iconst (v := (4 : Int32)) hz dX0_plays_53 (by decide) ?_
    refine s_iload hz dX0_plays_54 5 rfl ?_
    refine s_isub hz dX0_plays_56 ?_
    refine s_iload_n hz dX0_plays_57 rfl 1 rfl ?_
    refine s_bind (fun q19 e20 => ?_)
    refine kX_X0_299 hc (cfX0_winnersOf e20) ⟨(Nat.le_of_ble_eq_true rfl), (Nat.le_of_ble_eq_true rfl)⟩ ⟨(Nat.le_of_ble_eq_true rfl), (Nat.le_of_ble_eq_true rfl)⟩ (Nat.le_of_ble_eq_true rfl) dX0_plays_58 ?_
    refine s_istore (lv' := [(8, .int q19), (0, .ref (vO (VX g) + 0)), (1, .int x1), (2, .int x2), (3, .long x3), (5, .long y46.2.1), (7, .int y46.2.2)]) hz dX0_plays_61 (Nat.le_of_ble_eq_true rfl) rfl ?_
    refine s_iload hz dX0_plays_63 0 rfl ?_
    refine s_if_ne (tgt := 72) hz dX0_plays_65 rfl (fun h21 => ?_) (fun h21 => ?_)
    · refine s_aload_n hz dX0_plays_72 rfl 1 rfl ?_
      refine s_lload_n hz dX0_plays_73 rfl 4 rfl ?_
      refine s_iconst (v := (4 : Int32)) hz dX0_plays_74 (by decide) ?_
      refine s_iload hz dX0_plays_75 6 rfl ?_
      refine s_isub hz dX0_plays_77 ?_
      refine s_bind (fun q22 e23 => ?_)
      refine kX_X0_302 hc (cfX0_shareOf e23) ⟨(Nat.le_of_ble_eq_true rfl), (Nat.le_of_ble_eq_true rfl)⟩ ⟨(Nat.le_of_ble_eq_true rfl), (Nat.le_of_ble_eq_true rfl)⟩ (Nat.le_of_ble_eq_true rfl) dX0_plays_78 ?_
      refine s_iload hz dX0_plays_81 0 rfl ?_
      refine s_i2l hz dX0_plays_83 ?_
      refine s_gb (fun h24 => ?_)
      refine s_ldiv hz dX0_plays_84 (nzL_ne h24) ?_
      exact s_sub [1, 2, 3, 4, 5, 6, 0] rfl (wjX0_plays_85 y46.1 hc x1 x2 x3 y46.2.1 y46.2.2 q19 (q22 / ((q19).toInt64)) r46 hr46)
    · refine s_lconst (v := (0 : Int64)) hz dX0_plays_68 (by decide) ?_
      refine s_goto (tgt := 85) hz dX0_plays_69 rfl ?_
      exact s_sub [1, 2, 3, 4, 5, 6, 0] rfl (wjX0_plays_85 y46.1 hc x1 x2 x3 y46.2.1 y46.2.2 q19 (0 : Int64) r46 hr46)
def fX0_plays (N : Nat) (σ : Mem) (x1 : Int32) : Option (Int32 × Mem) :=
  (fX0_findCrossed N σ).bind (fun q1 => 
  lt_ (gI q1.2 1 1) (fun v3 => 
  (fX0_potWith N q1.2 (((gI q1.2 2 7)).toInt64)).bind (fun q4 => 
  gb (inb v3 40) (
  lt_ (pI q1.2 20 (ix v3) x1) (fun σ6 => 
  lp (bX0_plays_46 N σ6 x1 v3 q4) N (σ6, q4, (0 : Int32)))))))
set_option maxHeartbeats 4000000 in
theorem wfX0_plays {Θ : ThT Mem} {g : GeoX} {N : Nat}  {ρ : Int32 × Mem} (σ : Mem) (x1 : Int32) (hc : Cx Θ (VX g) cX0_plays 11 RX0 (rk 77 0 0) (some .int) [] false (oI ρ.1) ρ.2) : Sim Θ 11 ρ σ (fX0_plays N σ x1) (0, 0) 0 [(0, .ref (vO (VX g) + 0)), (1, .int x1)] [] := by
  have hz := hc.z
  unfold fX0_plays
  refine s_aload_n hz dX0_plays_0 rfl 0 rfl ?_
  refine s_bind (fun q1 e2 => ?_)
  refine kX_X0_249 hc (cfX0_findCrossed e2) ⟨(Nat.le_of_ble_eq_true rfl), (Nat.le_of_ble_eq_true rfl)⟩ ⟨(Nat.le_of_ble_eq_true rfl), (Nat.le_of_ble_eq_true rfl)⟩ (Nat.le_of_ble_eq_true rfl) dX0_plays_1 ?_
  refine s_aload_n hz dX0_plays_4 rfl 0 rfl ?_
  refine rX_g_X0_42_0 hc dX0_plays_5 ?_
  refine rX_g_X0_185_1 hc dX0_plays_8 ?_
  refine s_nmI (fun v3 => ?_)
  refine s_istore_n (lv' := [(2, .int v3), (0, .ref (vO (VX g) + 0)), (1, .int x1)]) hz dX0_plays_11 rfl (Nat.le_of_ble_eq_true rfl) rfl ?_
  refine s_aload_n hz dX0_plays_12 rfl 1 rfl ?_
  refine s_aload_n hz dX0_plays_13 rfl 1 rfl ?_
  refine rX_g_X0_42_0 hc dX0_plays_14 ?_
  refine rX_g_X0_286_1 hc dX0_plays_17 ?_
  refine s_bipush (v := (7 : Int32)) hz dX0_plays_20 (by decide) ?_
  refine rX_ld_2 hc (j := 7) (by decide) (by decide) dX0_plays_22 ?_
  refine s_i2l hz dX0_plays_23 ?_
  refine s_bind (fun q4 e5 => ?_)
  refine kX_X0_292 hc (cfX0_potWith e5) ⟨(Nat.le_of_ble_eq_true rfl), (Nat.le_of_ble_eq_true rfl)⟩ ⟨(Nat.le_of_ble_eq_true rfl), (Nat.le_of_ble_eq_true rfl)⟩ (Nat.le_of_ble_eq_true rfl) dX0_plays_24 ?_
  refine s_lstore_n (lv' := [(3, .long q4), (2, .int v3), (0, .ref (vO (VX g) + 0)), (1, .int x1)]) hz dX0_plays_27 rfl (Nat.le_of_ble_eq_true rfl) rfl ?_
  refine s_lload_n hz dX0_plays_28 rfl 0 rfl ?_
  refine s_lstore (lv' := [(5, .long q4), (3, .long q4), (2, .int v3), (0, .ref (vO (VX g) + 0)), (1, .int x1)]) hz dX0_plays_29 (Nat.le_of_ble_eq_true rfl) rfl ?_
  refine s_aload_n hz dX0_plays_31 rfl 3 rfl ?_
  refine rX_g_X0_42_0 hc dX0_plays_32 ?_
  refine rX_g_X0_296_1 hc dX0_plays_35 ?_
  refine s_iconst (v := (0 : Int32)) hz dX0_plays_38 (by decide) ?_
  refine rX_aa_19 hc (j := 0) (by decide) (by decide) dX0_plays_39 ?_
  refine s_iload_n hz dX0_plays_40 rfl 2 rfl ?_
  refine s_iload_n hz dX0_plays_41 rfl 4 rfl ?_
  refine s_gb (fun h7 => ?_)
  refine rX_st_20 hc h7 rfl dX0_plays_42 (fun σ6 => ?_)
  refine s_iconst (v := (0 : Int32)) hz dX0_plays_43 (by decide) ?_
  refine s_istore (lv' := [(7, .int (0 : Int32)), (5, .long q4), (3, .long q4), (2, .int v3), (0, .ref (vO (VX g) + 0)), (1, .int x1)]) hz dX0_plays_44 (Nat.le_of_ble_eq_true rfl) rfl ?_
  exact s_sub [4, 5, 3, 2, 1, 0] rfl (s_lp (sg := fun y : Mem × Int64 × Int32 => y.1) (lvs := fun y : Mem × Int64 × Int32 => [(0, .ref (vO (VX g) + 0)), (1, .int x1), (2, .int v3), (3, .long q4), (5, .long y.2.1), (7, .int y.2.2)]) (fun rec hrec => wbX0_plays_46 σ6 hc x1 v3 q4  rec hrec) N (σ6, q4, (0 : Int32)))
theorem cfX0_plays {g : GeoX} {N : Nat}  {σ : Mem} {x1 : Int32} {ρ : Int32 × Mem} (hF : fX0_plays N σ x1 = some ρ) (l : Launch) : Ct (VX g) l yX0_plays cX0_plays 11 (some .int) (rk 77 0 0) [.ref (vO (VX g) + 0), .int x1] σ (oI ρ.1) ρ.2 :=
  Ct.of (by decide) (Nat.le_of_ble_eq_true rfl) (fun Θ hc ls hl => wfX0_plays σ x1 hc hF ls hl)
def fX0_lot (N : Nat) (σ : Mem)  : Option (Int32 × Mem) :=
  lt_ (pI σ 1 3 (((gI σ 1 3) * (1103515245 : Int32)) + (12345 : Int32))) (fun σ1 => 
  some (((((gI σ1 1 3)).toUInt32 >>> (((16 : Int32)).toUInt32 &&& Int32.toUInt32 31)).toInt32 - (((gI σ1 1 3)).toUInt32 >>> (((16 : Int32)).toUInt32 &&& Int32.toUInt32 31)).toInt32 / (12 : Int32) * (12 : Int32)), σ1))
set_option maxHeartbeats 4000000 in
theorem wfX0_lot {Θ : ThT Mem} {g : GeoX} {N : Nat}  {ρ : Int32 × Mem} (σ : Mem)  (hc : Cx Θ (VX g) cX0_lot 1 RX0 (rk 1 0 0) (some .int) [] false (oI ρ.1) ρ.2) : Sim Θ 1 ρ σ (fX0_lot N σ ) (0, 0) 0 [(0, .ref (vO (VX g) + 0))] [] := by
  have hz := hc.z
  unfold fX0_lot
  refine s_aload_n hz dX0_lot_0 rfl 0 rfl ?_
  refine rX_g_X0_42_0 hc dX0_lot_1 ?_
  refine s_aload_n hz dX0_lot_4 rfl 0 rfl ?_
  refine rX_g_X0_42_0 hc dX0_lot_5 ?_
  refine rX_g_X0_289_1 hc dX0_lot_8 ?_
  refine s_ldcw hz dX0_lot_11 q847 ?_
  refine s_imul hz dX0_lot_14 ?_
  refine s_sipush (v := (12345 : Int32)) hz dX0_lot_15 (by decide) ?_
  refine s_iadd hz dX0_lot_18 ?_
  refine rX_p_X0_289_1 hc dX0_lot_19 (fun σ1 => ?_)
  refine s_aload_n hz dX0_lot_22 rfl 0 rfl ?_
  refine rX_g_X0_42_0 hc dX0_lot_23 ?_
  refine rX_g_X0_289_1 hc dX0_lot_26 ?_
  refine s_bipush (v := (16 : Int32)) hz dX0_lot_29 (by decide) ?_
  refine s_iushr hz dX0_lot_31 ?_
  refine s_bipush (v := (12 : Int32)) hz dX0_lot_32 (by decide) ?_
  refine s_irem hz dX0_lot_34 (by decide) ?_
  exact s_iretM hc dX0_lot_35 (Nat.le_of_ble_eq_true rfl) (Nat.le_of_ble_eq_true rfl)
theorem cfX0_lot {g : GeoX} {N : Nat}  {σ : Mem}  {ρ : Int32 × Mem} (hF : fX0_lot N σ  = some ρ) (l : Launch) : Ct (VX g) l yX0_lot cX0_lot 1 (some .int) (rk 1 0 0) [.ref (vO (VX g) + 0)] σ (oI ρ.1) ρ.2 :=
  Ct.of (by decide) (Nat.le_of_ble_eq_true rfl) (fun Θ hc ls hl => wfX0_lot σ  hc hF ls hl)
theorem kX_X0_319 {γ : Type} {Θ : ThT Mem} {g : GeoX} {cc : ByteArray} {nL : Nat} {rm : Room} {ret : Option FieldType} {hs : List (Nat × Nat × Nat × Nat)} {ini : Bool} {O : Outcome} {σ' : Mem} {ρ : γ} {σ : Mem} {F : Option γ} {cs : Nat × Nat} {pc : Nat} {lv : List (Nat × Value)} {st : List Value} (hc : Cx Θ (VX g) cc nL RX0 rm ret hs ini O σ') {σ1 : Mem} {x1 : Int32} {r : Int32} {rmc : Room} (hM : ∀ l : Launch, Ct (VX g) l yX0_plays cX0_plays 11 (some .int) rmc [.ref (vO (VX g) + 0), .int x1] σ (oI r) σ1) (hR : rmc.frames + 1 ≤ rm.frames ∧ 8 + (11 + 11) + rmc.locals ≤ rm.locals) (hf : cs.1 + rmc.cells ≤ rm.cells ∧ cs.2 + rmc.slots ≤ rm.slots) (hrest : (st.map fun v => v.category).sum ≤ 8) (hd : decode cc pc = .ok (.invokevirtual 319, 3)) (kk : Sim Θ nL ρ σ1 F (cs.1 + rmc.cells, cs.2 + rmc.slots) (pc + 3) lv (.int r :: st)) : Sim Θ nL ρ σ F cs pc lv (.int x1 :: .ref (vO (VX g) + 0) :: st) := s_callVo hc (a := 0) (As := [.int x1]) (rest := st) (n := 1) (ci := 0) (q := (RX0, TX0, 19)) hM (lw_V q848 q850 qs16 q62 q851) (by decide +kernel) rfl (Ob.fix (Nat.le_of_ble_eq_true rfl) rfl) rfl rfl hrest hR hf hd kk
theorem kX_X0_316 {γ : Type} {Θ : ThT Mem} {g : GeoX} {cc : ByteArray} {nL : Nat} {rm : Room} {ret : Option FieldType} {hs : List (Nat × Nat × Nat × Nat)} {ini : Bool} {O : Outcome} {σ' : Mem} {ρ : γ} {σ : Mem} {F : Option γ} {cs : Nat × Nat} {pc : Nat} {lv : List (Nat × Value)} {st : List Value} (hc : Cx Θ (VX g) cc nL RX0 rm ret hs ini O σ') {σ1 : Mem}  {r : Int32} {rmc : Room} (hM : ∀ l : Launch, Ct (VX g) l yX0_lot cX0_lot 1 (some .int) rmc [.ref (vO (VX g) + 0)] σ (oI r) σ1) (hR : rmc.frames + 1 ≤ rm.frames ∧ 8 + (1 + 11) + rmc.locals ≤ rm.locals) (hf : cs.1 + rmc.cells ≤ rm.cells ∧ cs.2 + rmc.slots ≤ rm.slots) (hrest : (st.map fun v => v.category).sum ≤ 8) (hd : decode cc pc = .ok (.invokevirtual 316, 3)) (kk : Sim Θ nL ρ σ1 F (cs.1 + rmc.cells, cs.2 + rmc.slots) (pc + 3) lv (.int r :: st)) : Sim Θ nL ρ σ F cs pc lv (.ref (vO (VX g) + 0) :: st) := s_callVo hc (a := 0) (As := []) (rest := st) (n := 0) (ci := 0) (q := (RX0, TX0, 19)) hM (lw_V q843 q845 qs15 q62 q846) (by decide +kernel) rfl (Ob.fix (Nat.le_of_ble_eq_true rfl) rfl) rfl rfl hrest hR hf hd kk
def bX0_week_23 (N : Nat) (σ : Mem)  (r23 : (Mem × Int32) → Option (Int32 × Mem)) (y23 : Mem × Int32) : Option (Int32 × Mem) :=
  (fJ0_bitCount N y23.1 y23.2).bind (fun q7 => 
  if (4 : Int32) ≤ q7 then
  ((fX0_plays N y23.1 y23.2).bind (fun q10 => 
  some (y23.2, q10.2)))
  else ((fX0_lot N y23.1).bind (fun q12 => 
  lt_ (y23.2 ||| ((1 : Int32) <<< (q12.1 &&& 31))) (fun v14 => 
  r23 (q12.2, v14)))))
set_option maxHeartbeats 4000000 in
theorem wbX0_week_23 {Θ : ThT Mem} {g : GeoX} {N : Nat}  {ρ : Int32 × Mem} (σ : Mem) (hc : Cx Θ (VX g) cX0_week 2 RX0 (rk 78 1 7) (some .int) [(0, 50, 51, 1)] false (oI ρ.1) ρ.2)  (r23 : (Mem × Int32) → Option (Int32 × Mem)) (hr23 : ∀ y : Mem × Int32, Sim Θ 2 ρ (y.1) (r23 y) (1, 7) 23 [(0, .ref (vO (VX g) + 0)), (1, .int y.2)] []) : ∀ y23 : Mem × Int32, Sim Θ 2 ρ (y23.1) (bX0_week_23 N σ  r23 y23) (1, 7) 23 [(0, .ref (vO (VX g) + 0)), (1, .int y23.2)] [] := by
  intro y23
  have hz := hc.z
  have hr23c : ∀ (z0_ : Mem) (z1_ : Int32), Sim Θ 2 ρ (z0_) (r23 (z0_, z1_)) (1, 7) 23 [(0, .ref (vO (VX g) + 0)), (1, .int z1_)] [] := fun z0_ z1_ => hr23 (z0_, z1_)
  unfold bX0_week_23
  refine s_iload_n hz dX0_week_23 rfl 1 rfl ?_
  refine s_bind (fun q7 e8 => ?_)
  refine kX_X0_105 hc (cfJ0_bitCount e8) ⟨(Nat.le_of_ble_eq_true rfl), (Nat.le_of_ble_eq_true rfl)⟩ ⟨(Nat.le_of_ble_eq_true rfl), (Nat.le_of_ble_eq_true rfl)⟩ (Nat.le_of_ble_eq_true rfl) dX0_week_24 ?_
  refine s_iconst (v := (4 : Int32)) hz dX0_week_27 (by decide) ?_
  refine s_icmp_ge (tgt := 43) hz dX0_week_28 rfl (fun h9 => ?_) (fun h9 => ?_)
  · refine s_aload_n hz dX0_week_43 rfl 0 rfl ?_
    refine s_iload_n hz dX0_week_44 rfl 1 rfl ?_
    refine s_bind (fun q10 e11 => ?_)
    refine kX_X0_319 hc (cfX0_plays e11) ⟨(Nat.le_of_ble_eq_true rfl), (Nat.le_of_ble_eq_true rfl)⟩ ⟨(Nat.le_of_ble_eq_true rfl), (Nat.le_of_ble_eq_true rfl)⟩ (Nat.le_of_ble_eq_true rfl) dX0_week_45 ?_
    refine s_pop hz dX0_week_48 rfl ?_
    refine s_iload_n hz dX0_week_49 rfl 1 rfl ?_
    exact s_iretM hc dX0_week_50 (Nat.le_of_ble_eq_true rfl) (Nat.le_of_ble_eq_true rfl)
  · refine s_iload_n hz dX0_week_31 rfl 1 rfl ?_
    refine s_iconst (v := (1 : Int32)) hz dX0_week_32 (by decide) ?_
    refine s_aload_n hz dX0_week_33 rfl 0 rfl ?_
    refine s_bind (fun q12 e13 => ?_)
    refine kX_X0_316 hc (cfX0_lot e13) ⟨(Nat.le_of_ble_eq_true rfl), (Nat.le_of_ble_eq_true rfl)⟩ ⟨(Nat.le_of_ble_eq_true rfl), (Nat.le_of_ble_eq_true rfl)⟩ (Nat.le_of_ble_eq_true rfl) dX0_week_34 ?_
    refine s_ishl hz dX0_week_37 ?_
    refine s_ior hz dX0_week_38 ?_
    refine s_nmI (fun v14 => ?_)
    refine s_istore_n (lv' := [(1, .int v14), (0, .ref (vO (VX g) + 0))]) hz dX0_week_39 rfl (Nat.le_of_ble_eq_true rfl) rfl ?_
    refine s_goto (tgt := 23) hz dX0_week_40 rfl ?_
    exact s_sub [1, 0] rfl (hr23c q12.2 v14)
def fX0_week (N : Nat) (σ : Mem)  : Option (Int32 × Mem) :=
  (fX0_need N σ (if (40 : Int32) ≤ (gI σ 1 1) then (0 : Int32) else (1 : Int32)) (1 : Int32)).bind (fun q4 => cT2 q4 (fun v1 σ3 => 
  lp (bX0_week_23 N σ3) N (σ3, (0 : Int32))) (fun b2 σ3 => 
  gb (isC σ3 b2 5) (
  (fX0_finds N σ3 b2).bind (fun q15 => 
  some (q15.1, q15.2)))))
set_option maxHeartbeats 4000000 in
theorem wfX0_week {Θ : ThT Mem} {g : GeoX} {N : Nat}  {ρ : Int32 × Mem} (σ : Mem)  (hc : Cx Θ (VX g) cX0_week 2 RX0 (rk 78 1 7) (some .int) [(0, 50, 51, 1)] false (oI ρ.1) ρ.2) : Sim Θ 2 ρ σ (fX0_week N σ ) (0, 0) 0 [(0, .ref (vO (VX g) + 0))] [] := by
  have hz := hc.z
  unfold fX0_week
  refine s_aload_n hz dX0_week_0 rfl 0 rfl ?_
  refine rX_g_X0_42_0 hc dX0_week_1 ?_
  refine rX_g_X0_185_1 hc dX0_week_4 ?_
  refine s_bipush (v := (40 : Int32)) hz dX0_week_7 (by decide) ?_
  refine s_dia (J := 17) (v := .int (if (40 : Int32) ≤ (gI σ 1 1) then (0 : Int32) else (1 : Int32))) (st := []) (fun _ hj17 => ?_) ?_
  · refine s_icmp_ge_ (tgt := 16) hz dX0_week_9 rfl (fun h18 => ?_) (fun h18 => ?_)
    · refine s_iconst (v := (0 : Int32)) hz dX0_week_16 (by decide) ?_
      rw [if_pos h18] at hj17
      exact hj17
    · refine s_iconst (v := (1 : Int32)) hz dX0_week_12 (by decide) ?_
      refine s_goto (tgt := 17) hz dX0_week_13 rfl ?_
      rw [if_neg h18] at hj17
      exact hj17
  refine s_iconst (v := (1 : Int32)) hz dX0_week_17 (by decide) ?_
  refine s_bind (fun q4 e5 => ?_)
  rcases q4 with ⟨v1 | b2, σ3⟩
  · refine kX_X0_119 hc (cfX0_need e5) ⟨(Nat.le_of_ble_eq_true rfl), (Nat.le_of_ble_eq_true rfl)⟩ ⟨(Nat.le_of_ble_eq_true rfl), (Nat.le_of_ble_eq_true rfl)⟩ (Nat.le_of_ble_eq_true rfl) dX0_week_18 (s_c2 ?_)
    refine s_iconst (v := (0 : Int32)) hz dX0_week_21 (by decide) ?_
    refine s_istore_n (lv' := [(1, .int (0 : Int32)), (0, .ref (vO (VX g) + 0))]) hz dX0_week_22 rfl (Nat.le_of_ble_eq_true rfl) rfl ?_
    exact s_sub [1, 0] rfl (s_lp (sg := fun y : Mem × Int32 => y.1) (lvs := fun y : Mem × Int32 => [(0, .ref (vO (VX g) + 0)), (1, .int y.2)]) (fun rec hrec => wbX0_week_23 σ3 hc   rec hrec) N (σ3, (0 : Int32)))
  · refine s_gb (fun h6 => ?_)
    refine kX_X0_119_h hc (cfX0_need e5) ⟨(Nat.le_of_ble_eq_true rfl), (Nat.le_of_ble_eq_true rfl)⟩ ⟨(Nat.le_of_ble_eq_true rfl), (Nat.le_of_ble_eq_true rfl)⟩ (Nat.le_of_ble_eq_true rfl) dX0_week_18 (i := 0) rfl rfl (by decide) (by decide) (q := (RX6, TX6, 7)) rfl q273 (isC_ob h6) ?_
    refine s_astore_n (lv' := [(1, .ref (vO (VX g) + b2)), (0, .ref (vO (VX g) + 0))]) hz dX0_week_51 rfl (Nat.le_of_ble_eq_true rfl) rfl ?_
    refine s_aload_n hz dX0_week_52 rfl 1 rfl ?_
    refine s_aload_n hz dX0_week_53 rfl 0 rfl ?_
    refine s_bind (fun q15 e16 => ?_)
    refine kX_X0_145 hc (cfX0_finds e16) ⟨(Nat.le_of_ble_eq_true rfl), (Nat.le_of_ble_eq_true rfl)⟩ ⟨(Nat.le_of_ble_eq_true rfl), (Nat.le_of_ble_eq_true rfl)⟩ (Nat.le_of_ble_eq_true rfl) dX0_week_54 ?_
    exact s_iretM hc dX0_week_57 (Nat.le_of_ble_eq_true rfl) (Nat.le_of_ble_eq_true rfl)
theorem cfX0_week {g : GeoX} {N : Nat}  {σ : Mem}  {ρ : Int32 × Mem} (hF : fX0_week N σ  = some ρ) (l : Launch) : CtW (wsW_ yX0_week cX0_week 2 (some .int) [(0, 50, 51, 1)]) (VX g) l yX0_week (rk 78 1 7) [.ref (vO (VX g) + 0)] σ (oI ρ.1) ρ.2 :=
  CtW.ofH (by decide) (Nat.le_of_ble_eq_true rfl) (fun Θ hc ls hl => wfX0_week σ  hc hF ls hl)
def fX0_told (N : Nat) (σ : Mem) (x1 : Int32) : Option (Int32 × Mem) :=
  (fX0_isRow N σ x1).bind (fun q1 => 
  (fX0_need N σ q1 (0 : Int32)).bind (fun q6 => cT2 q6 (fun v3 σ5 => 
  (fX0_need N σ5 (if (40 : Int32) ≤ (gI σ5 1 1) then (0 : Int32) else (1 : Int32)) (1 : Int32)).bind (fun q12 => cT2 q12 (fun v9 σ11 => 
  (fX0_plays N σ11 x1).bind (fun q15 => 
  some (q15.1, q15.2))) (fun b10 σ11 => 
  gb (isC σ11 b10 5) (
  (fX0_finds N σ11 b10).bind (fun q17 => 
  some (q17.1, q17.2)))))) (fun b4 σ5 => 
  gb (isC σ5 b4 5) (
  (fX0_finds N σ5 b4).bind (fun q21 => 
  some (q21.1, q21.2))))))
set_option maxHeartbeats 4000000 in
theorem wfX0_told {Θ : ThT Mem} {g : GeoX} {N : Nat}  {ρ : Int32 × Mem} (σ : Mem) (x1 : Int32) (hc : Cx Θ (VX g) cX0_told 3 RX0 (rk 78 2 14) (some .int) [(0, 34, 35, 1)] false (oI ρ.1) ρ.2) : Sim Θ 3 ρ σ (fX0_told N σ x1) (0, 0) 0 [(0, .ref (vO (VX g) + 0)), (1, .int x1)] [] := by
  have hz := hc.z
  unfold fX0_told
  refine s_iload_n hz dX0_told_0 rfl 1 rfl ?_
  refine s_bind (fun q1 e2 => ?_)
  refine kX_X0_138 hc (cfX0_isRow e2) ⟨(Nat.le_of_ble_eq_true rfl), (Nat.le_of_ble_eq_true rfl)⟩ ⟨(Nat.le_of_ble_eq_true rfl), (Nat.le_of_ble_eq_true rfl)⟩ (Nat.le_of_ble_eq_true rfl) dX0_told_1 ?_
  refine s_iconst (v := (0 : Int32)) hz dX0_told_4 (by decide) ?_
  refine s_bind (fun q6 e7 => ?_)
  rcases q6 with ⟨v3 | b4, σ5⟩
  · refine kX_X0_119 hc (cfX0_need e7) ⟨(Nat.le_of_ble_eq_true rfl), (Nat.le_of_ble_eq_true rfl)⟩ ⟨(Nat.le_of_ble_eq_true rfl), (Nat.le_of_ble_eq_true rfl)⟩ (Nat.le_of_ble_eq_true rfl) dX0_told_5 (s_c2 ?_)
    refine s_aload_n hz dX0_told_8 rfl 0 rfl ?_
    refine rX_g_X0_42_0 hc dX0_told_9 ?_
    refine rX_g_X0_185_1 hc dX0_told_12 ?_
    refine s_bipush (v := (40 : Int32)) hz dX0_told_15 (by decide) ?_
    refine s_dia (J := 25) (v := .int (if (40 : Int32) ≤ (gI σ5 1 1) then (0 : Int32) else (1 : Int32))) (st := []) (fun _ hj19 => ?_) ?_
    · refine s_icmp_ge_ (tgt := 24) hz dX0_told_17 rfl (fun h20 => ?_) (fun h20 => ?_)
      · refine s_iconst (v := (0 : Int32)) hz dX0_told_24 (by decide) ?_
        rw [if_pos h20] at hj19
        exact hj19
      · refine s_iconst (v := (1 : Int32)) hz dX0_told_20 (by decide) ?_
        refine s_goto (tgt := 25) hz dX0_told_21 rfl ?_
        rw [if_neg h20] at hj19
        exact hj19
    refine s_iconst (v := (1 : Int32)) hz dX0_told_25 (by decide) ?_
    refine s_bind (fun q12 e13 => ?_)
    rcases q12 with ⟨v9 | b10, σ11⟩
    · refine kX_X0_119 hc (cfX0_need e13) ⟨(Nat.le_of_ble_eq_true rfl), (Nat.le_of_ble_eq_true rfl)⟩ ⟨(Nat.le_of_ble_eq_true rfl), (Nat.le_of_ble_eq_true rfl)⟩ (Nat.le_of_ble_eq_true rfl) dX0_told_26 (s_c2 ?_)
      refine s_aload_n hz dX0_told_29 rfl 0 rfl ?_
      refine s_iload_n hz dX0_told_30 rfl 1 rfl ?_
      refine s_bind (fun q15 e16 => ?_)
      refine kX_X0_319 hc (cfX0_plays e16) ⟨(Nat.le_of_ble_eq_true rfl), (Nat.le_of_ble_eq_true rfl)⟩ ⟨(Nat.le_of_ble_eq_true rfl), (Nat.le_of_ble_eq_true rfl)⟩ (Nat.le_of_ble_eq_true rfl) dX0_told_31 ?_
      exact s_iretM hc dX0_told_34 (Nat.le_of_ble_eq_true rfl) (Nat.le_of_ble_eq_true rfl)
    · refine s_gb (fun h14 => ?_)
      refine kX_X0_119_h hc (cfX0_need e13) ⟨(Nat.le_of_ble_eq_true rfl), (Nat.le_of_ble_eq_true rfl)⟩ ⟨(Nat.le_of_ble_eq_true rfl), (Nat.le_of_ble_eq_true rfl)⟩ (Nat.le_of_ble_eq_true rfl) dX0_told_26 (i := 0) rfl rfl (by decide) (by decide) (q := (RX6, TX6, 7)) rfl q273 (isC_ob h14) ?_
      refine s_astore_n (lv' := [(2, .ref (vO (VX g) + b10)), (0, .ref (vO (VX g) + 0)), (1, .int x1)]) hz dX0_told_35 rfl (Nat.le_of_ble_eq_true rfl) rfl ?_
      refine s_aload_n hz dX0_told_36 rfl 1 rfl ?_
      refine s_aload_n hz dX0_told_37 rfl 0 rfl ?_
      refine s_bind (fun q17 e18 => ?_)
      refine kX_X0_145 hc (cfX0_finds e18) ⟨(Nat.le_of_ble_eq_true rfl), (Nat.le_of_ble_eq_true rfl)⟩ ⟨(Nat.le_of_ble_eq_true rfl), (Nat.le_of_ble_eq_true rfl)⟩ (Nat.le_of_ble_eq_true rfl) dX0_told_38 ?_
      exact s_iretM hc dX0_told_41 (Nat.le_of_ble_eq_true rfl) (Nat.le_of_ble_eq_true rfl)
  · refine s_gb (fun h8 => ?_)
    refine kX_X0_119_h hc (cfX0_need e7) ⟨(Nat.le_of_ble_eq_true rfl), (Nat.le_of_ble_eq_true rfl)⟩ ⟨(Nat.le_of_ble_eq_true rfl), (Nat.le_of_ble_eq_true rfl)⟩ (Nat.le_of_ble_eq_true rfl) dX0_told_5 (i := 0) rfl rfl (by decide) (by decide) (q := (RX6, TX6, 7)) rfl q273 (isC_ob h8) ?_
    refine s_astore_n (lv' := [(2, .ref (vO (VX g) + b4)), (0, .ref (vO (VX g) + 0)), (1, .int x1)]) hz dX0_told_35 rfl (Nat.le_of_ble_eq_true rfl) rfl ?_
    refine s_aload_n hz dX0_told_36 rfl 1 rfl ?_
    refine s_aload_n hz dX0_told_37 rfl 0 rfl ?_
    refine s_bind (fun q21 e22 => ?_)
    refine kX_X0_145 hc (cfX0_finds e22) ⟨(Nat.le_of_ble_eq_true rfl), (Nat.le_of_ble_eq_true rfl)⟩ ⟨(Nat.le_of_ble_eq_true rfl), (Nat.le_of_ble_eq_true rfl)⟩ (Nat.le_of_ble_eq_true rfl) dX0_told_38 ?_
    exact s_iretM hc dX0_told_41 (Nat.le_of_ble_eq_true rfl) (Nat.le_of_ble_eq_true rfl)
theorem cfX0_told {g : GeoX} {N : Nat}  {σ : Mem} {x1 : Int32} {ρ : Int32 × Mem} (hF : fX0_told N σ x1 = some ρ) (l : Launch) : CtW (wsW_ yX0_told cX0_told 3 (some .int) [(0, 34, 35, 1)]) (VX g) l yX0_told (rk 78 2 14) [.ref (vO (VX g) + 0), .int x1] σ (oI ρ.1) ρ.2 :=
  CtW.ofH (by decide) (Nat.le_of_ble_eq_true rfl) (fun Θ hc ls hl => wfX0_told σ x1 hc hF ls hl)
theorem rX_ldv_20 {own : String} {γ : Type} {Θ : ThT Mem} {g : GeoX} {cc : ByteArray} {nL : Nat} {rm : Room} {ret : Option FieldType} {hs : List (Nat × Nat × Nat × Nat)} {ini : Bool} {O : Outcome} {σ' : Mem} {ρ : γ} {σ : Mem} {F : Option γ} {cs : Nat × Nat} {pc : Nat} {lv : List (Nat × Value)} {st : List Value} (hc : Cx Θ (VX g) cc nL own rm ret hs ini O σ') {k : Nat} (hk : k < 8) {i : Int32} {j : Nat} (hin : inb i 40 = true) (hj : ix i = j) (hd : decode cc pc = .ok (.iaload, 1)) (kk : Sim Θ nL ρ σ F cs (pc + 1) lv (.int (gI σ (20 + k) j) :: st)) : Sim Θ nL ρ σ F cs pc lv (.int i :: .ref (vO (VX g) + (20 + k)) :: st) := s_iald hc (k := 20 + k) (t := 0) (n := 40) (YXk_20 g k hk) (YX_20 g.1 _ _ _ k hk) rfl hin hj hd kk
def jX0_book_36 (N : Nat) (σ : Mem) (x1 : Int32) (x2 : Int32) (t0 : Int32)  : Option (Int32 × Mem) :=
  (fX0_need N σ t0 (0 : Int32)).bind (fun q7 => cT2 q7 (fun v4 σ6 => 
  gb (inb x2 8) (
  gb (inb x1 40) (
  some ((gI σ6 (20 + ix x2) (ix x1)), σ6)))) (fun b5 σ6 => 
  gb (isC σ6 b5 5) (
  (fX0_finds N σ6 b5).bind (fun q12 => 
  some (q12.1, q12.2)))))
set_option maxHeartbeats 4000000 in
theorem wjX0_book_36 {Θ : ThT Mem} {g : GeoX} {N : Nat}  {ρ : Int32 × Mem} (σ : Mem) (hc : Cx Θ (VX g) cX0_book 4 RX0 (rk 5 1 7) (some .int) [(0, 51, 52, 1)] false (oI ρ.1) ρ.2) (x1 : Int32) (x2 : Int32) (t0 : Int32)  : Sim Θ 4 ρ σ (jX0_book_36 N σ x1 x2 t0 ) (0, 0) 36 [(0, .ref (vO (VX g) + 0)), (1, .int x1), (2, .int x2)] [.int t0] := by
  have hz := hc.z
  unfold jX0_book_36
  refine s_iconst (v := (0 : Int32)) hz dX0_book_36 (by decide) ?_
  refine s_bind (fun q7 e8 => ?_)
  rcases q7 with ⟨v4 | b5, σ6⟩
  · refine kX_X0_119 hc (cfX0_need e8) ⟨(Nat.le_of_ble_eq_true rfl), (Nat.le_of_ble_eq_true rfl)⟩ ⟨(Nat.le_of_ble_eq_true rfl), (Nat.le_of_ble_eq_true rfl)⟩ (Nat.le_of_ble_eq_true rfl) dX0_book_37 (s_c2 ?_)
    refine s_aload_n hz dX0_book_40 rfl 0 rfl ?_
    refine rX_g_X0_42_0 hc dX0_book_41 ?_
    refine rX_g_X0_296_1 hc dX0_book_44 ?_
    refine s_iload_n hz dX0_book_47 rfl 2 rfl ?_
    refine s_gb (fun h10 => ?_)
    refine rX_aa_19 hc h10 rfl dX0_book_48 ?_
    refine s_iload_n hz dX0_book_49 rfl 1 rfl ?_
    refine s_gb (fun h11 => ?_)
    refine rX_ldv_20 hc (inb_lt h10) h11 rfl dX0_book_50 ?_
    exact s_iretM hc dX0_book_51 (Nat.le_of_ble_eq_true rfl) (Nat.le_of_ble_eq_true rfl)
  · refine s_gb (fun h9 => ?_)
    refine kX_X0_119_h hc (cfX0_need e8) ⟨(Nat.le_of_ble_eq_true rfl), (Nat.le_of_ble_eq_true rfl)⟩ ⟨(Nat.le_of_ble_eq_true rfl), (Nat.le_of_ble_eq_true rfl)⟩ (Nat.le_of_ble_eq_true rfl) dX0_book_37 (i := 0) rfl rfl (by decide) (by decide) (q := (RX6, TX6, 7)) rfl q273 (isC_ob h9) ?_
    refine s_astore_n (lv' := [(3, .ref (vO (VX g) + b5)), (0, .ref (vO (VX g) + 0)), (1, .int x1), (2, .int x2)]) hz dX0_book_52 rfl (Nat.le_of_ble_eq_true rfl) rfl ?_
    refine s_aload_n hz dX0_book_53 rfl 1 rfl ?_
    refine s_aload_n hz dX0_book_54 rfl 0 rfl ?_
    refine s_bind (fun q12 e13 => ?_)
    refine kX_X0_145 hc (cfX0_finds e13) ⟨(Nat.le_of_ble_eq_true rfl), (Nat.le_of_ble_eq_true rfl)⟩ ⟨(Nat.le_of_ble_eq_true rfl), (Nat.le_of_ble_eq_true rfl)⟩ (Nat.le_of_ble_eq_true rfl) dX0_book_55 ?_
    exact s_iretM hc dX0_book_58 (Nat.le_of_ble_eq_true rfl) (Nat.le_of_ble_eq_true rfl)
def fX0_book (N : Nat) (σ : Mem) (x1 : Int32) (x2 : Int32) : Option (Int32 × Mem) :=
  (fX0_in N σ ((x1).toInt64) (0 : Int64) ((((gI σ 1 1) - (1 : Int32))).toInt64)).bind (fun q1 => 
  if q1 = (0 : Int32) then
  (jX0_book_36 N σ x1 x2 (0 : Int32))
  else ((fX0_in N σ ((x2).toInt64) (0 : Int64) (7 : Int64)).bind (fun q14 => 
  (fX0_need N σ (if q14 = (0 : Int32) then (0 : Int32) else (1 : Int32)) (0 : Int32)).bind (fun q19 => cT2 q19 (fun v16 σ18 => 
  gb (inb x2 8) (
  gb (inb x1 40) (
  some ((gI σ18 (20 + ix x2) (ix x1)), σ18)))) (fun b17 σ18 => 
  gb (isC σ18 b17 5) (
  (fX0_finds N σ18 b17).bind (fun q24 => 
  some (q24.1, q24.2))))))))
set_option maxHeartbeats 4000000 in
theorem wfX0_book {Θ : ThT Mem} {g : GeoX} {N : Nat}  {ρ : Int32 × Mem} (σ : Mem) (x1 : Int32) (x2 : Int32) (hc : Cx Θ (VX g) cX0_book 4 RX0 (rk 5 1 7) (some .int) [(0, 51, 52, 1)] false (oI ρ.1) ρ.2) : Sim Θ 4 ρ σ (fX0_book N σ x1 x2) (0, 0) 0 [(0, .ref (vO (VX g) + 0)), (1, .int x1), (2, .int x2)] [] := by
  have hz := hc.z
  unfold fX0_book
  refine s_iload_n hz dX0_book_0 rfl 1 rfl ?_
  refine s_i2l hz dX0_book_1 ?_
  refine s_lconst (v := (0 : Int64)) hz dX0_book_2 (by decide) ?_
  refine s_aload_n hz dX0_book_3 rfl 0 rfl ?_
  refine rX_g_X0_42_0 hc dX0_book_4 ?_
  refine rX_g_X0_185_1 hc dX0_book_7 ?_
  refine s_iconst (v := (1 : Int32)) hz dX0_book_10 (by decide) ?_
  refine s_isub hz dX0_book_11 ?_
  refine s_i2l hz dX0_book_12 ?_
  refine s_bind (fun q1 e2 => ?_)
  refine kX_X0_125 hc (cfX0_in e2) ⟨(Nat.le_of_ble_eq_true rfl), (Nat.le_of_ble_eq_true rfl)⟩ ⟨(Nat.le_of_ble_eq_true rfl), (Nat.le_of_ble_eq_true rfl)⟩ (Nat.le_of_ble_eq_true rfl) dX0_book_13 ?_
  refine s_if_eq (tgt := 35) hz dX0_book_16 rfl (fun h3 => ?_) (fun h3 => ?_)
  · refine s_iconst (v := (0 : Int32)) hz dX0_book_35 (by decide) ?_
    exact s_sub [0, 1, 2] rfl (wjX0_book_36 σ hc x1 x2 (0 : Int32) )
  · refine s_iload_n hz dX0_book_19 rfl 2 rfl ?_
    refine s_i2l hz dX0_book_20 ?_
    refine s_lconst (v := (0 : Int64)) hz dX0_book_21 (by decide) ?_
    refine s_ldc2 hz dX0_book_22 q372 ?_
    refine s_bind (fun q14 e15 => ?_)
    refine kX_X0_125 hc (cfX0_in e15) ⟨(Nat.le_of_ble_eq_true rfl), (Nat.le_of_ble_eq_true rfl)⟩ ⟨(Nat.le_of_ble_eq_true rfl), (Nat.le_of_ble_eq_true rfl)⟩ (Nat.le_of_ble_eq_true rfl) dX0_book_25 ?_
    refine s_dia (J := 36) (v := .int (if q14 = (0 : Int32) then (0 : Int32) else (1 : Int32))) (st := []) (fun _ hj26 => ?_) ?_
    · refine s_if_eq_ (tgt := 35) hz dX0_book_28 rfl (fun h27 => ?_) (fun h27 => ?_)
      · refine s_iconst (v := (0 : Int32)) hz dX0_book_35 (by decide) ?_
        rw [if_pos h27] at hj26
        exact hj26
      · refine s_iconst (v := (1 : Int32)) hz dX0_book_31 (by decide) ?_
        refine s_goto (tgt := 36) hz dX0_book_32 rfl ?_
        rw [if_neg h27] at hj26
        exact hj26
    refine s_iconst (v := (0 : Int32)) hz dX0_book_36 (by decide) ?_
    refine s_bind (fun q19 e20 => ?_)
    rcases q19 with ⟨v16 | b17, σ18⟩
    · refine kX_X0_119 hc (cfX0_need e20) ⟨(Nat.le_of_ble_eq_true rfl), (Nat.le_of_ble_eq_true rfl)⟩ ⟨(Nat.le_of_ble_eq_true rfl), (Nat.le_of_ble_eq_true rfl)⟩ (Nat.le_of_ble_eq_true rfl) dX0_book_37 (s_c2 ?_)
      refine s_aload_n hz dX0_book_40 rfl 0 rfl ?_
      refine rX_g_X0_42_0 hc dX0_book_41 ?_
      refine rX_g_X0_296_1 hc dX0_book_44 ?_
      refine s_iload_n hz dX0_book_47 rfl 2 rfl ?_
      refine s_gb (fun h22 => ?_)
      refine rX_aa_19 hc h22 rfl dX0_book_48 ?_
      refine s_iload_n hz dX0_book_49 rfl 1 rfl ?_
      refine s_gb (fun h23 => ?_)
      refine rX_ldv_20 hc (inb_lt h22) h23 rfl dX0_book_50 ?_
      exact s_iretM hc dX0_book_51 (Nat.le_of_ble_eq_true rfl) (Nat.le_of_ble_eq_true rfl)
    · refine s_gb (fun h21 => ?_)
      refine kX_X0_119_h hc (cfX0_need e20) ⟨(Nat.le_of_ble_eq_true rfl), (Nat.le_of_ble_eq_true rfl)⟩ ⟨(Nat.le_of_ble_eq_true rfl), (Nat.le_of_ble_eq_true rfl)⟩ (Nat.le_of_ble_eq_true rfl) dX0_book_37 (i := 0) rfl rfl (by decide) (by decide) (q := (RX6, TX6, 7)) rfl q273 (isC_ob h21) ?_
      refine s_astore_n (lv' := [(3, .ref (vO (VX g) + b17)), (0, .ref (vO (VX g) + 0)), (1, .int x1), (2, .int x2)]) hz dX0_book_52 rfl (Nat.le_of_ble_eq_true rfl) rfl ?_
      refine s_aload_n hz dX0_book_53 rfl 1 rfl ?_
      refine s_aload_n hz dX0_book_54 rfl 0 rfl ?_
      refine s_bind (fun q24 e25 => ?_)
      refine kX_X0_145 hc (cfX0_finds e25) ⟨(Nat.le_of_ble_eq_true rfl), (Nat.le_of_ble_eq_true rfl)⟩ ⟨(Nat.le_of_ble_eq_true rfl), (Nat.le_of_ble_eq_true rfl)⟩ (Nat.le_of_ble_eq_true rfl) dX0_book_55 ?_
      exact s_iretM hc dX0_book_58 (Nat.le_of_ble_eq_true rfl) (Nat.le_of_ble_eq_true rfl)
theorem cfX0_book {g : GeoX} {N : Nat}  {σ : Mem} {x1 : Int32} {x2 : Int32} {ρ : Int32 × Mem} (hF : fX0_book N σ x1 x2 = some ρ) (l : Launch) : CtW (wsW_ yX0_book cX0_book 4 (some .int) [(0, 51, 52, 1)]) (VX g) l yX0_book (rk 5 1 7) [.ref (vO (VX g) + 0), .int x1, .int x2] σ (oI ρ.1) ρ.2 :=
  CtW.ofH (by decide) (Nat.le_of_ble_eq_true rfl) (fun Θ hc ls hl => wfX0_book σ x1 x2 hc hF ls hl)
def fX0_now (N : Nat) (σ : Mem)  : Option (Int32 × Mem) :=
  (fX0_findCrossed N σ).bind (fun q1 => 
  (fX0_potWith N q1.2 (((gI q1.2 2 7)).toInt64)).bind (fun q3 => 
  some (((q3).toInt32), q1.2)))
set_option maxHeartbeats 4000000 in
theorem wfX0_now {Θ : ThT Mem} {g : GeoX} {N : Nat}  {ρ : Int32 × Mem} (σ : Mem)  (hc : Cx Θ (VX g) cX0_now 1 RX0 (rk 77 0 0) (some .int) [] false (oI ρ.1) ρ.2) : Sim Θ 1 ρ σ (fX0_now N σ ) (0, 0) 0 [(0, .ref (vO (VX g) + 0))] [] := by
  have hz := hc.z
  unfold fX0_now
  refine s_aload_n hz dX0_now_0 rfl 0 rfl ?_
  refine s_bind (fun q1 e2 => ?_)
  refine kX_X0_249 hc (cfX0_findCrossed e2) ⟨(Nat.le_of_ble_eq_true rfl), (Nat.le_of_ble_eq_true rfl)⟩ ⟨(Nat.le_of_ble_eq_true rfl), (Nat.le_of_ble_eq_true rfl)⟩ (Nat.le_of_ble_eq_true rfl) dX0_now_1 ?_
  refine s_aload_n hz dX0_now_4 rfl 0 rfl ?_
  refine s_aload_n hz dX0_now_5 rfl 0 rfl ?_
  refine rX_g_X0_42_0 hc dX0_now_6 ?_
  refine rX_g_X0_286_1 hc dX0_now_9 ?_
  refine s_bipush (v := (7 : Int32)) hz dX0_now_12 (by decide) ?_
  refine rX_ld_2 hc (j := 7) (by decide) (by decide) dX0_now_14 ?_
  refine s_i2l hz dX0_now_15 ?_
  refine s_bind (fun q3 e4 => ?_)
  refine kX_X0_292 hc (cfX0_potWith e4) ⟨(Nat.le_of_ble_eq_true rfl), (Nat.le_of_ble_eq_true rfl)⟩ ⟨(Nat.le_of_ble_eq_true rfl), (Nat.le_of_ble_eq_true rfl)⟩ (Nat.le_of_ble_eq_true rfl) dX0_now_16 ?_
  refine s_l2i hz dX0_now_19 ?_
  exact s_iretM hc dX0_now_20 (Nat.le_of_ble_eq_true rfl) (Nat.le_of_ble_eq_true rfl)
theorem cfX0_now {g : GeoX} {N : Nat}  {σ : Mem}  {ρ : Int32 × Mem} (hF : fX0_now N σ  = some ρ) (l : Launch) : Ct (VX g) l yX0_now cX0_now 1 (some .int) (rk 77 0 0) [.ref (vO (VX g) + 0)] σ (oI ρ.1) ρ.2 :=
  Ct.of (by decide) (Nat.le_of_ble_eq_true rfl) (fun Θ hc ls hl => wfX0_now σ  hc hF ls hl)
def fX0_taxed (N : Nat) (σ : Mem) (x1 : Int64) : Option (Int64) :=
  lt_ (x1 - (((gI σ 2 6)).toInt64)) (fun v1 => 
  if v1 ≤ (0 : Int64) then
  (some x1)
  else (some (x1 - ((v1 * (((gI σ 2 5)).toInt64)) / (100 : Int64)))))
set_option maxHeartbeats 4000000 in
theorem wfX0_taxed {Θ : ThT Mem} {g : GeoX} {N : Nat}  {ρ : Int64} (σ : Mem) (x1 : Int64) (hc : Cx Θ (VX g) cX0_taxed 5 RX0 (rk 1 0 0) (some .long) [] false (oL ρ) σ) : Sim Θ 5 ρ σ (fX0_taxed N σ x1) (0, 0) 0 [(0, .ref (vO (VX g) + 0)), (1, .long x1)] [] := by
  have hz := hc.z
  unfold fX0_taxed
  refine s_lload_n hz dX0_taxed_0 rfl 1 rfl ?_
  refine s_aload_n hz dX0_taxed_1 rfl 0 rfl ?_
  refine rX_g_X0_42_0 hc dX0_taxed_2 ?_
  refine rX_g_X0_286_1 hc dX0_taxed_5 ?_
  refine s_bipush (v := (6 : Int32)) hz dX0_taxed_8 (by decide) ?_
  refine rX_ld_2 hc (j := 6) (by decide) (by decide) dX0_taxed_10 ?_
  refine s_i2l hz dX0_taxed_11 ?_
  refine s_lsub hz dX0_taxed_12 ?_
  refine s_nmL (fun v1 => ?_)
  refine s_lstore_n (lv' := [(3, .long v1), (0, .ref (vO (VX g) + 0)), (1, .long x1)]) hz dX0_taxed_13 rfl (Nat.le_of_ble_eq_true rfl) rfl ?_
  refine s_lload_n hz dX0_taxed_14 rfl 0 rfl ?_
  refine s_lconst (v := (0 : Int64)) hz dX0_taxed_15 (by decide) ?_
  refine s_lcmp_le (tgt := 41) hz dX0_taxed_16 dX0_taxed_17 rfl (fun h2 => ?_) (fun h2 => ?_)
  · refine s_lload_n hz dX0_taxed_41 rfl 2 rfl ?_
    exact s_lret hc dX0_taxed_42 (Nat.le_of_ble_eq_true rfl) (Nat.le_of_ble_eq_true rfl)
  · refine s_lload_n hz dX0_taxed_20 rfl 2 rfl ?_
    refine s_lload_n hz dX0_taxed_21 rfl 0 rfl ?_
    refine s_aload_n hz dX0_taxed_22 rfl 1 rfl ?_
    refine rX_g_X0_42_0 hc dX0_taxed_23 ?_
    refine rX_g_X0_286_1 hc dX0_taxed_26 ?_
    refine s_iconst (v := (5 : Int32)) hz dX0_taxed_29 (by decide) ?_
    refine rX_ld_2 hc (j := 5) (by decide) (by decide) dX0_taxed_30 ?_
    refine s_i2l hz dX0_taxed_31 ?_
    refine s_lmul hz dX0_taxed_32 ?_
    refine s_ldc2 hz dX0_taxed_33 q832 ?_
    refine s_ldiv hz dX0_taxed_36 (by decide) ?_
    refine s_lsub hz dX0_taxed_37 ?_
    refine s_goto (tgt := 42) hz dX0_taxed_38 rfl ?_
    exact s_lret hc dX0_taxed_42 (Nat.le_of_ble_eq_true rfl) (Nat.le_of_ble_eq_true rfl)
theorem cfX0_taxed {g : GeoX} {N : Nat}  {σ : Mem} {x1 : Int64} {ρ : Int64} (hF : fX0_taxed N σ x1 = some ρ) (l : Launch) : Ct (VX g) l yX0_taxed cX0_taxed 5 (some .long) (rk 1 0 0) [.ref (vO (VX g) + 0), .long x1] σ (oL ρ) σ :=
  Ct.of (by decide) (Nat.le_of_ble_eq_true rfl) (fun Θ hc ls hl => wfX0_taxed σ x1 hc hF ls hl)
theorem kX_X0_322 {γ : Type} {Θ : ThT Mem} {g : GeoX} {cc : ByteArray} {nL : Nat} {rm : Room} {ret : Option FieldType} {hs : List (Nat × Nat × Nat × Nat)} {ini : Bool} {O : Outcome} {σ' : Mem} {ρ : γ} {σ : Mem} {F : Option γ} {cs : Nat × Nat} {pc : Nat} {lv : List (Nat × Value)} {st : List Value} (hc : Cx Θ (VX g) cc nL RX0 rm ret hs ini O σ') {σ1 : Mem} {x1 : Int64} {r : Int64} {rmc : Room} (hM : ∀ l : Launch, Ct (VX g) l yX0_taxed cX0_taxed 5 (some .long) rmc [.ref (vO (VX g) + 0), .long x1] σ (oL r) σ1) (hR : rmc.frames + 1 ≤ rm.frames ∧ 8 + (5 + 11) + rmc.locals ≤ rm.locals) (hf : cs.1 + rmc.cells ≤ rm.cells ∧ cs.2 + rmc.slots ≤ rm.slots) (hrest : (st.map fun v => v.category).sum ≤ 8) (hd : decode cc pc = .ok (.invokevirtual 322, 3)) (kk : Sim Θ nL ρ σ1 F (cs.1 + rmc.cells, cs.2 + rmc.slots) (pc + 3) lv (.long r :: st)) : Sim Θ nL ρ σ F cs pc lv (.long x1 :: .ref (vO (VX g) + 0) :: st) := s_callVo hc (a := 0) (As := [.long x1]) (rest := st) (n := 1) (ci := 0) (q := (RX0, TX0, 19)) hM (lw_V q897 q899 qs22 q62 q900) (by decide +kernel) rfl (Ob.fix (Nat.le_of_ble_eq_true rfl) rfl) rfl rfl hrest hR hf hd kk
def bX0_worthOf_6 (N : Nat) (σ : Mem) (x1 : Int32) (x2 : Int64) (r6 : (Int64 × Int32) → Option (Int32)) (y6 : Int64 × Int32) : Option (Int32) :=
  if (495 : Int32) ≤ y6.2 then
  (some (((y6.1 / (495 : Int64))).toInt32))
  else (gb (inb x1 495) (
  gb (inb y6.2 495) (
  (fX0_rank N σ (gI σ 62 (ix x1)) (gI σ 62 (ix y6.2))).bind (fun q4 => 
  if q4 ≤ (1 : Int32) then
  (r6 (y6.1, (y6.2 + (1 : Int32))))
  else ((fX0_shareOf N σ x2 q4).bind (fun q7 => 
  gb (inb q4 5) (
  gb (inb y6.2 495) (
  gb (nzL ((((gI σ (70 + ix q4) (ix y6.2)) + (1 : Int32))).toInt64)) (
  (fX0_taxed N σ (q7 / ((((gI σ (70 + ix q4) (ix y6.2)) + (1 : Int32))).toInt64))).bind (fun q12 => 
  lt_ (y6.1 + q12) (fun v14 => 
  r6 (v14, (y6.2 + (1 : Int32))))))))))))))
set_option maxHeartbeats 4000000 in
theorem wbX0_worthOf_6 {Θ : ThT Mem} {g : GeoX} {N : Nat}  {ρ : Int32} (σ : Mem) (hc : Cx Θ (VX g) cX0_worthOf 8 RX0 (rk 3 0 0) (some .int) [] false (oI ρ) σ) (x1 : Int32) (x2 : Int64) (r6 : (Int64 × Int32) → Option (Int32)) (hr6 : ∀ y : Int64 × Int32, Sim Θ 8 ρ (σ) (r6 y) (0, 0) 6 [(0, .ref (vO (VX g) + 0)), (1, .int x1), (2, .long x2), (4, .long y.1), (6, .int y.2)] []) : ∀ y6 : Int64 × Int32, Sim Θ 8 ρ (σ) (bX0_worthOf_6 N σ x1 x2 r6 y6) (0, 0) 6 [(0, .ref (vO (VX g) + 0)), (1, .int x1), (2, .long x2), (4, .long y6.1), (6, .int y6.2)] [] := by
  intro y6
  have hz := hc.z
  have hr6c : ∀ (z0_ : Int64) (z1_ : Int32), Sim Θ 8 ρ (σ) (r6 (z0_, z1_)) (0, 0) 6 [(0, .ref (vO (VX g) + 0)), (1, .int x1), (2, .long x2), (4, .long z0_), (6, .int z1_)] [] := fun z0_ z1_ => hr6 (z0_, z1_)
  unfold bX0_worthOf_6
  refine s_iload hz dX0_worthOf_6 4 rfl ?_
  refine s_sipush (v := (495 : Int32)) hz dX0_worthOf_8 (by decide) ?_
  refine s_icmp_ge (tgt := 74) hz dX0_worthOf_11 rfl (fun h1 => ?_) (fun h1 => ?_)
  · refine s_lload hz dX0_worthOf_74 3 rfl ?_
    refine s_ldc2 hz dX0_worthOf_76 q901 ?_
    refine s_ldiv hz dX0_worthOf_79 (by decide) ?_
    refine s_l2i hz dX0_worthOf_80 ?_
    exact s_iret hc dX0_worthOf_81 (Nat.le_of_ble_eq_true rfl) (Nat.le_of_ble_eq_true rfl)
  · refine s_aload_n hz dX0_worthOf_14 rfl 0 rfl ?_
    refine rX_g_X0_67_0 hc dX0_worthOf_15 ?_
    refine s_iload_n hz dX0_worthOf_18 rfl 1 rfl ?_
    refine s_gb (fun h2 => ?_)
    refine rX_ld_62 hc h2 rfl dX0_worthOf_19 ?_
    refine s_aload_n hz dX0_worthOf_20 rfl 0 rfl ?_
    refine rX_g_X0_67_0 hc dX0_worthOf_21 ?_
    refine s_iload hz dX0_worthOf_24 4 rfl ?_
    refine s_gb (fun h3 => ?_)
    refine rX_ld_62 hc h3 rfl dX0_worthOf_26 ?_
    refine s_bind (fun q4 e5 => ?_)
    refine kX_X0_245 hc (cfX0_rank e5) ⟨(Nat.le_of_ble_eq_true rfl), (Nat.le_of_ble_eq_true rfl)⟩ ⟨(Nat.le_of_ble_eq_true rfl), (Nat.le_of_ble_eq_true rfl)⟩ (Nat.le_of_ble_eq_true rfl) dX0_worthOf_27 ?_
    refine s_istore (lv' := [(7, .int q4), (0, .ref (vO (VX g) + 0)), (1, .int x1), (2, .long x2), (4, .long y6.1), (6, .int y6.2)]) hz dX0_worthOf_30 (Nat.le_of_ble_eq_true rfl) rfl ?_
    refine s_iload hz dX0_worthOf_32 0 rfl ?_
    refine s_iconst (v := (1 : Int32)) hz dX0_worthOf_34 (by decide) ?_
    refine s_icmp_le (tgt := 68) hz dX0_worthOf_35 rfl (fun h6 => ?_) (fun h6 => ?_)
    · refine s_iinc (v := (1 : Int32)) (lv' := [(6, .int (y6.2 + (1 : Int32))), (7, .int q4), (0, .ref (vO (VX g) + 0)), (1, .int x1), (2, .long x2), (4, .long y6.1)]) hz dX0_worthOf_68 5 rfl (by decide) (Nat.le_of_ble_eq_true rfl) rfl ?_
      refine s_goto (tgt := 6) hz dX0_worthOf_71 rfl ?_
      exact s_sub [2, 3, 4, 5, 0] rfl (hr6c y6.1 (y6.2 + (1 : Int32)))
    · refine s_lload hz dX0_worthOf_38 4 rfl ?_
      refine s_aload_n hz dX0_worthOf_40 rfl 1 rfl ?_
      refine s_aload_n hz dX0_worthOf_41 rfl 1 rfl ?_
      refine s_lload_n hz dX0_worthOf_42 rfl 3 rfl ?_
      refine s_iload hz dX0_worthOf_43 0 rfl ?_
      refine s_bind (fun q7 e8 => ?_)
      refine kX_X0_302 hc (cfX0_shareOf e8) ⟨(Nat.le_of_ble_eq_true rfl), (Nat.le_of_ble_eq_true rfl)⟩ ⟨(Nat.le_of_ble_eq_true rfl), (Nat.le_of_ble_eq_true rfl)⟩ (Nat.le_of_ble_eq_true rfl) dX0_worthOf_45 ?_
      refine s_aload_n hz dX0_worthOf_48 rfl 1 rfl ?_
      refine rX_g_X0_95_0 hc dX0_worthOf_49 ?_
      refine s_iload hz dX0_worthOf_52 0 rfl ?_
      refine s_gb (fun h9 => ?_)
      refine rX_aa_69 hc h9 rfl dX0_worthOf_54 ?_
      refine s_iload hz dX0_worthOf_55 5 rfl ?_
      refine s_gb (fun h10 => ?_)
      refine rX_ldv_70 hc (inb_lt h9) h10 rfl dX0_worthOf_57 ?_
      refine s_iconst (v := (1 : Int32)) hz dX0_worthOf_58 (by decide) ?_
      refine s_iadd hz dX0_worthOf_59 ?_
      refine s_i2l hz dX0_worthOf_60 ?_
      refine s_gb (fun h11 => ?_)
      refine s_ldiv hz dX0_worthOf_61 (nzL_ne h11) ?_
      refine s_bind (fun q12 e13 => ?_)
      refine kX_X0_322 hc (cfX0_taxed e13) ⟨(Nat.le_of_ble_eq_true rfl), (Nat.le_of_ble_eq_true rfl)⟩ ⟨(Nat.le_of_ble_eq_true rfl), (Nat.le_of_ble_eq_true rfl)⟩ (Nat.le_of_ble_eq_true rfl) dX0_worthOf_62 ?_
      refine s_ladd hz dX0_worthOf_65 ?_
      refine s_nmL (fun v14 => ?_)
      refine s_lstore (lv' := [(4, .long v14), (7, .int q4), (0, .ref (vO (VX g) + 0)), (1, .int x1), (2, .long x2), (6, .int y6.2)]) hz dX0_worthOf_66 (Nat.le_of_ble_eq_true rfl) rfl ?_
      refine s_iinc (v := (1 : Int32)) (lv' := [(6, .int (y6.2 + (1 : Int32))), (4, .long v14), (7, .int q4), (0, .ref (vO (VX g) + 0)), (1, .int x1), (2, .long x2)]) hz dX0_worthOf_68 5 rfl (by decide) (Nat.le_of_ble_eq_true rfl) rfl ?_
      refine s_goto (tgt := 6) hz dX0_worthOf_71 rfl ?_
      exact s_sub [3, 4, 5, 1, 0] rfl (hr6c v14 (y6.2 + (1 : Int32)))
def fX0_worthOf (N : Nat) (σ : Mem) (x1 : Int32) (x2 : Int64) : Option (Int32) :=
  lp (bX0_worthOf_6 N σ x1 x2) N ((0 : Int64), (0 : Int32))
set_option maxHeartbeats 4000000 in
theorem wfX0_worthOf {Θ : ThT Mem} {g : GeoX} {N : Nat}  {ρ : Int32} (σ : Mem) (x1 : Int32) (x2 : Int64) (hc : Cx Θ (VX g) cX0_worthOf 8 RX0 (rk 3 0 0) (some .int) [] false (oI ρ) σ) : Sim Θ 8 ρ σ (fX0_worthOf N σ x1 x2) (0, 0) 0 [(0, .ref (vO (VX g) + 0)), (1, .int x1), (2, .long x2)] [] := by
  have hz := hc.z
  unfold fX0_worthOf
  refine s_lconst (v := (0 : Int64)) hz dX0_worthOf_0 (by decide) ?_
  refine s_lstore (lv' := [(4, .long (0 : Int64)), (0, .ref (vO (VX g) + 0)), (1, .int x1), (2, .long x2)]) hz dX0_worthOf_1 (Nat.le_of_ble_eq_true rfl) rfl ?_
  refine s_iconst (v := (0 : Int32)) hz dX0_worthOf_3 (by decide) ?_
  refine s_istore (lv' := [(6, .int (0 : Int32)), (4, .long (0 : Int64)), (0, .ref (vO (VX g) + 0)), (1, .int x1), (2, .long x2)]) hz dX0_worthOf_4 (Nat.le_of_ble_eq_true rfl) rfl ?_
  exact s_sub [2, 3, 4, 1, 0] rfl (s_lp (sg := fun y : Int64 × Int32 => σ) (lvs := fun y : Int64 × Int32 => [(0, .ref (vO (VX g) + 0)), (1, .int x1), (2, .long x2), (4, .long y.1), (6, .int y.2)]) (fun rec hrec => wbX0_worthOf_6 σ hc x1 x2  rec hrec) N ((0 : Int64), (0 : Int32)))
theorem cfX0_worthOf {g : GeoX} {N : Nat}  {σ : Mem} {x1 : Int32} {x2 : Int64} {ρ : Int32} (hF : fX0_worthOf N σ x1 x2 = some ρ) (l : Launch) : Ct (VX g) l yX0_worthOf cX0_worthOf 8 (some .int) (rk 3 0 0) [.ref (vO (VX g) + 0), .int x1, .long x2] σ (oI ρ) σ :=
  Ct.of (by decide) (Nat.le_of_ble_eq_true rfl) (fun Θ hc ls hl => wfX0_worthOf σ x1 x2 hc hF ls hl)
theorem kX_X0_327 {γ : Type} {Θ : ThT Mem} {g : GeoX} {cc : ByteArray} {nL : Nat} {rm : Room} {ret : Option FieldType} {hs : List (Nat × Nat × Nat × Nat)} {ini : Bool} {O : Outcome} {σ' : Mem} {ρ : γ} {σ : Mem} {F : Option γ} {cs : Nat × Nat} {pc : Nat} {lv : List (Nat × Value)} {st : List Value} (hc : Cx Θ (VX g) cc nL RX0 rm ret hs ini O σ') {σ1 : Mem}  {rmc : Room} (hM : ∀ l : Launch, Ct (VX g) l yX0_findWinners cX0_findWinners 3 none rmc [.ref (vO (VX g) + 0)] σ oV σ1) (hR : rmc.frames + 1 ≤ rm.frames ∧ 8 + (3 + 11) + rmc.locals ≤ rm.locals) (hf : cs.1 + rmc.cells ≤ rm.cells ∧ cs.2 + rmc.slots ≤ rm.slots) (hrest : (st.map fun v => v.category).sum ≤ 8) (hd : decode cc pc = .ok (.invokevirtual 327, 3)) (kk : Sim Θ nL ρ σ1 F (cs.1 + rmc.cells, cs.2 + rmc.slots) (pc + 3) lv (st)) : Sim Θ nL ρ σ F cs pc lv (.ref (vO (VX g) + 0) :: st) := s_callVo hc (a := 0) (As := []) (rest := st) (n := 0) (ci := 0) (q := (RX0, TX0, 19)) hM (lw_V q889 q891 qs20 q62 q892) (by decide +kernel) rfl (Ob.fix (Nat.le_of_ble_eq_true rfl) rfl) rfl rfl hrest hR hf hd kk
theorem kX_X0_330 {γ : Type} {Θ : ThT Mem} {g : GeoX} {cc : ByteArray} {nL : Nat} {rm : Room} {ret : Option FieldType} {hs : List (Nat × Nat × Nat × Nat)} {ini : Bool} {O : Outcome} {σ' : Mem} {ρ : γ} {σ : Mem} {F : Option γ} {cs : Nat × Nat} {pc : Nat} {lv : List (Nat × Value)} {st : List Value} (hc : Cx Θ (VX g) cc nL RX0 rm ret hs ini O σ') {σ1 : Mem} {x1 : Int32} {x2 : Int64} {r : Int32} {rmc : Room} (hM : ∀ l : Launch, Ct (VX g) l yX0_worthOf cX0_worthOf 8 (some .int) rmc [.ref (vO (VX g) + 0), .int x1, .long x2] σ (oI r) σ1) (hR : rmc.frames + 1 ≤ rm.frames ∧ 8 + (8 + 11) + rmc.locals ≤ rm.locals) (hf : cs.1 + rmc.cells ≤ rm.cells ∧ cs.2 + rmc.slots ≤ rm.slots) (hrest : (st.map fun v => v.category).sum ≤ 8) (hd : decode cc pc = .ok (.invokevirtual 330, 3)) (kk : Sim Θ nL ρ σ1 F (cs.1 + rmc.cells, cs.2 + rmc.slots) (pc + 3) lv (.int r :: st)) : Sim Θ nL ρ σ F cs pc lv (.long x2 :: .int x1 :: .ref (vO (VX g) + 0) :: st) := s_callVo hc (a := 0) (As := [.int x1, .long x2]) (rest := st) (n := 2) (ci := 0) (q := (RX0, TX0, 19)) hM (lw_V q893 q895 qs21 q62 q896) (by decide +kernel) rfl (Ob.fix (Nat.le_of_ble_eq_true rfl) rfl) rfl rfl hrest hR hf hd kk
def fX0_worth (N : Nat) (σ : Mem) (x1 : Int32) : Option (Int32 × Mem) :=
  (fX0_isPlace N σ x1).bind (fun q1 => 
  (fX0_need N σ q1 (0 : Int32)).bind (fun q6 => cT2 q6 (fun v3 σ5 => 
  (fX0_findWinners N σ5).bind (fun q9 => 
  (fX0_potWith N q9.2 (((gI q9.2 2 7)).toInt64)).bind (fun q11 => 
  (fX0_worthOf N q9.2 x1 q11).bind (fun q13 => 
  some (q13, q9.2))))) (fun b4 σ5 => 
  gb (isC σ5 b4 5) (
  (fX0_finds N σ5 b4).bind (fun q15 => 
  some (q15.1, q15.2))))))
set_option maxHeartbeats 4000000 in
theorem wfX0_worth {Θ : ThT Mem} {g : GeoX} {N : Nat}  {ρ : Int32 × Mem} (σ : Mem) (x1 : Int32) (hc : Cx Θ (VX g) cX0_worth 3 RX0 (rk 78 1 7) (some .int) [(0, 32, 33, 1)] false (oI ρ.1) ρ.2) : Sim Θ 3 ρ σ (fX0_worth N σ x1) (0, 0) 0 [(0, .ref (vO (VX g) + 0)), (1, .int x1)] [] := by
  have hz := hc.z
  unfold fX0_worth
  refine s_iload_n hz dX0_worth_0 rfl 1 rfl ?_
  refine s_bind (fun q1 e2 => ?_)
  refine kX_X0_149 hc (cfX0_isPlace e2) ⟨(Nat.le_of_ble_eq_true rfl), (Nat.le_of_ble_eq_true rfl)⟩ ⟨(Nat.le_of_ble_eq_true rfl), (Nat.le_of_ble_eq_true rfl)⟩ (Nat.le_of_ble_eq_true rfl) dX0_worth_1 ?_
  refine s_iconst (v := (0 : Int32)) hz dX0_worth_4 (by decide) ?_
  refine s_bind (fun q6 e7 => ?_)
  rcases q6 with ⟨v3 | b4, σ5⟩
  · refine kX_X0_119 hc (cfX0_need e7) ⟨(Nat.le_of_ble_eq_true rfl), (Nat.le_of_ble_eq_true rfl)⟩ ⟨(Nat.le_of_ble_eq_true rfl), (Nat.le_of_ble_eq_true rfl)⟩ (Nat.le_of_ble_eq_true rfl) dX0_worth_5 (s_c2 ?_)
    refine s_aload_n hz dX0_worth_8 rfl 0 rfl ?_
    refine s_bind (fun q9 e10 => ?_)
    refine kX_X0_327 hc (cfX0_findWinners e10) ⟨(Nat.le_of_ble_eq_true rfl), (Nat.le_of_ble_eq_true rfl)⟩ ⟨(Nat.le_of_ble_eq_true rfl), (Nat.le_of_ble_eq_true rfl)⟩ (Nat.le_of_ble_eq_true rfl) dX0_worth_9 ?_
    refine s_aload_n hz dX0_worth_12 rfl 0 rfl ?_
    refine s_iload_n hz dX0_worth_13 rfl 1 rfl ?_
    refine s_aload_n hz dX0_worth_14 rfl 0 rfl ?_
    refine s_aload_n hz dX0_worth_15 rfl 0 rfl ?_
    refine rX_g_X0_42_0 hc dX0_worth_16 ?_
    refine rX_g_X0_286_1 hc dX0_worth_19 ?_
    refine s_bipush (v := (7 : Int32)) hz dX0_worth_22 (by decide) ?_
    refine rX_ld_2 hc (j := 7) (by decide) (by decide) dX0_worth_24 ?_
    refine s_i2l hz dX0_worth_25 ?_
    refine s_bind (fun q11 e12 => ?_)
    refine kX_X0_292 hc (cfX0_potWith e12) ⟨(Nat.le_of_ble_eq_true rfl), (Nat.le_of_ble_eq_true rfl)⟩ ⟨(Nat.le_of_ble_eq_true rfl), (Nat.le_of_ble_eq_true rfl)⟩ (Nat.le_of_ble_eq_true rfl) dX0_worth_26 ?_
    refine s_bind (fun q13 e14 => ?_)
    refine kX_X0_330 hc (cfX0_worthOf e14) ⟨(Nat.le_of_ble_eq_true rfl), (Nat.le_of_ble_eq_true rfl)⟩ ⟨(Nat.le_of_ble_eq_true rfl), (Nat.le_of_ble_eq_true rfl)⟩ (Nat.le_of_ble_eq_true rfl) dX0_worth_29 ?_
    exact s_iretM hc dX0_worth_32 (Nat.le_of_ble_eq_true rfl) (Nat.le_of_ble_eq_true rfl)
  · refine s_gb (fun h8 => ?_)
    refine kX_X0_119_h hc (cfX0_need e7) ⟨(Nat.le_of_ble_eq_true rfl), (Nat.le_of_ble_eq_true rfl)⟩ ⟨(Nat.le_of_ble_eq_true rfl), (Nat.le_of_ble_eq_true rfl)⟩ (Nat.le_of_ble_eq_true rfl) dX0_worth_5 (i := 0) rfl rfl (by decide) (by decide) (q := (RX6, TX6, 7)) rfl q273 (isC_ob h8) ?_
    refine s_astore_n (lv' := [(2, .ref (vO (VX g) + b4)), (0, .ref (vO (VX g) + 0)), (1, .int x1)]) hz dX0_worth_33 rfl (Nat.le_of_ble_eq_true rfl) rfl ?_
    refine s_aload_n hz dX0_worth_34 rfl 1 rfl ?_
    refine s_aload_n hz dX0_worth_35 rfl 0 rfl ?_
    refine s_bind (fun q15 e16 => ?_)
    refine kX_X0_145 hc (cfX0_finds e16) ⟨(Nat.le_of_ble_eq_true rfl), (Nat.le_of_ble_eq_true rfl)⟩ ⟨(Nat.le_of_ble_eq_true rfl), (Nat.le_of_ble_eq_true rfl)⟩ (Nat.le_of_ble_eq_true rfl) dX0_worth_36 ?_
    exact s_iretM hc dX0_worth_39 (Nat.le_of_ble_eq_true rfl) (Nat.le_of_ble_eq_true rfl)
theorem cfX0_worth {g : GeoX} {N : Nat}  {σ : Mem} {x1 : Int32} {ρ : Int32 × Mem} (hF : fX0_worth N σ x1 = some ρ) (l : Launch) : CtW (wsW_ yX0_worth cX0_worth 3 (some .int) [(0, 32, 33, 1)]) (VX g) l yX0_worth (rk 78 1 7) [.ref (vO (VX g) + 0), .int x1] σ (oI ρ.1) ρ.2 :=
  CtW.ofH (by decide) (Nat.le_of_ble_eq_true rfl) (fun Θ hc ls hl => wfX0_worth σ x1 hc hF ls hl)
def bX0_best_45 (N : Nat) (σ : Mem) (x1 : Int32) (x2 : Int64) (r45 : (Int32 × Int32 × Int32) → Option (Int32 × Mem)) (y45 : Int32 × Int32 × Int32) : Option (Int32 × Mem) :=
  if (495 : Int32) ≤ y45.2.2 then
  (some ((if x1 = (0 : Int32) then y45.1 else y45.2.1), σ))
  else ((fX0_worthOf N σ y45.2.2 x2).bind (fun q18 => 
  if y45.2.1 < q18 then
  (r45 (y45.2.2, q18, (y45.2.2 + (1 : Int32))))
  else (r45 (y45.1, y45.2.1, (y45.2.2 + (1 : Int32))))))
set_option maxHeartbeats 4000000 in
theorem wbX0_best_45 {Θ : ThT Mem} {g : GeoX} {N : Nat}  {ρ : Int32 × Mem} (σ : Mem) (hc : Cx Θ (VX g) cX0_best 8 RX0 (rk 78 1 7) (some .int) [(0, 97, 98, 1)] false (oI ρ.1) ρ.2) (x1 : Int32) (x2 : Int64) (r45 : (Int32 × Int32 × Int32) → Option (Int32 × Mem)) (hr45 : ∀ y : Int32 × Int32 × Int32, Sim Θ 8 ρ (σ) (r45 y) (1, 7) 45 [(0, .ref (vO (VX g) + 0)), (1, .int x1), (2, .long x2), (4, .int y.1), (5, .int y.2.1), (6, .int y.2.2)] []) : ∀ y45 : Int32 × Int32 × Int32, Sim Θ 8 ρ (σ) (bX0_best_45 N σ x1 x2 r45 y45) (1, 7) 45 [(0, .ref (vO (VX g) + 0)), (1, .int x1), (2, .long x2), (4, .int y45.1), (5, .int y45.2.1), (6, .int y45.2.2)] [] := by
  intro y45
  have hz := hc.z
  have hr45c : ∀ (z0_ : Int32) (z1_ : Int32) (z2_ : Int32), Sim Θ 8 ρ (σ) (r45 (z0_, z1_, z2_)) (1, 7) 45 [(0, .ref (vO (VX g) + 0)), (1, .int x1), (2, .long x2), (4, .int z0_), (5, .int z1_), (6, .int z2_)] [] := fun z0_ z1_ z2_ => hr45 (z0_, z1_, z2_)
  unfold bX0_best_45
  refine s_iload hz dX0_best_45 5 rfl ?_
  refine s_sipush (v := (495 : Int32)) hz dX0_best_47 (by decide) ?_
  refine s_icmp_ge (tgt := 86) hz dX0_best_50 rfl (fun h15 => ?_) (fun h15 => ?_)
  · refine s_iload_n hz dX0_best_86 rfl 1 rfl ?_
    refine s_dia (J := 97) (v := .int (if x1 = (0 : Int32) then y45.1 else y45.2.1)) (st := []) (fun _ hj16 => ?_) ?_
    · refine s_if_ne_ (tgt := 95) hz dX0_best_87 rfl (fun h17 => ?_) (fun h17 => ?_)
      · refine s_iload hz dX0_best_95 4 rfl ?_
        rw [if_neg h17] at hj16
        exact hj16
      · refine s_iload hz dX0_best_90 3 rfl ?_
        refine s_goto (tgt := 97) hz dX0_best_92 rfl ?_
        rw [if_pos h17] at hj16
        exact hj16
    exact s_iretM hc dX0_best_97 (Nat.le_of_ble_eq_true rfl) (Nat.le_of_ble_eq_true rfl)
  · refine s_aload_n hz dX0_best_53 rfl 0 rfl ?_
    refine s_iload hz dX0_best_54 5 rfl ?_
    refine s_lload_n hz dX0_best_56 rfl 2 rfl ?_
    refine s_bind (fun q18 e19 => ?_)
    refine kX_X0_330 hc (cfX0_worthOf e19) ⟨(Nat.le_of_ble_eq_true rfl), (Nat.le_of_ble_eq_true rfl)⟩ ⟨(Nat.le_of_ble_eq_true rfl), (Nat.le_of_ble_eq_true rfl)⟩ (Nat.le_of_ble_eq_true rfl) dX0_best_57 ?_
    refine s_istore (lv' := [(7, .int q18), (0, .ref (vO (VX g) + 0)), (1, .int x1), (2, .long x2), (4, .int y45.1), (5, .int y45.2.1), (6, .int y45.2.2)]) hz dX0_best_60 (Nat.le_of_ble_eq_true rfl) rfl ?_
    refine s_iload hz dX0_best_62 0 rfl ?_
    refine s_iload hz dX0_best_64 5 rfl ?_
    refine s_icmp_gt (tgt := 72) hz dX0_best_66 rfl (fun h20 => ?_) (fun h20 => ?_)
    · refine s_iload hz dX0_best_72 6 rfl ?_
      refine s_istore (lv' := [(4, .int y45.2.2), (7, .int q18), (0, .ref (vO (VX g) + 0)), (1, .int x1), (2, .long x2), (5, .int y45.2.1), (6, .int y45.2.2)]) hz dX0_best_74 (Nat.le_of_ble_eq_true rfl) rfl ?_
      refine s_iload hz dX0_best_76 1 rfl ?_
      refine s_istore (lv' := [(5, .int q18), (4, .int y45.2.2), (7, .int q18), (0, .ref (vO (VX g) + 0)), (1, .int x1), (2, .long x2), (6, .int y45.2.2)]) hz dX0_best_78 (Nat.le_of_ble_eq_true rfl) rfl ?_
      refine s_iinc (v := (1 : Int32)) (lv' := [(6, .int (y45.2.2 + (1 : Int32))), (5, .int q18), (4, .int y45.2.2), (7, .int q18), (0, .ref (vO (VX g) + 0)), (1, .int x1), (2, .long x2)]) hz dX0_best_80 6 rfl (by decide) (Nat.le_of_ble_eq_true rfl) rfl ?_
      refine s_goto (tgt := 45) hz dX0_best_83 rfl ?_
      exact s_sub [4, 5, 6, 2, 1, 0] rfl (hr45c y45.2.2 q18 (y45.2.2 + (1 : Int32)))
    · refine s_goto (tgt := 80) hz dX0_best_69 rfl ?_
      refine s_iinc (v := (1 : Int32)) (lv' := [(6, .int (y45.2.2 + (1 : Int32))), (7, .int q18), (0, .ref (vO (VX g) + 0)), (1, .int x1), (2, .long x2), (4, .int y45.1), (5, .int y45.2.1)]) hz dX0_best_80 6 rfl (by decide) (Nat.le_of_ble_eq_true rfl) rfl ?_
      refine s_goto (tgt := 45) hz dX0_best_83 rfl ?_
      exact s_sub [2, 3, 4, 5, 6, 0] rfl (hr45c y45.1 y45.2.1 (y45.2.2 + (1 : Int32)))
def fX0_best (N : Nat) (σ : Mem) (x1 : Int32) : Option (Int32 × Mem) :=
  (fX0_in N σ ((x1).toInt64) (0 : Int64) (1 : Int64)).bind (fun q1 => 
  (fX0_need N σ q1 (0 : Int32)).bind (fun q6 => cT2 q6 (fun v3 σ5 => 
  (fX0_findWinners N σ5).bind (fun q9 => 
  (fX0_potWith N q9.2 (((gI q9.2 2 7)).toInt64)).bind (fun q11 => 
  (fX0_worthOf N q9.2 (0 : Int32) q11).bind (fun q13 => 
  lp (bX0_best_45 N q9.2 x1 q11) N ((0 : Int32), q13, (1 : Int32)))))) (fun b4 σ5 => 
  gb (isC σ5 b4 5) (
  (fX0_finds N σ5 b4).bind (fun q21 => 
  some (q21.1, q21.2))))))
set_option maxHeartbeats 4000000 in
theorem wfX0_best {Θ : ThT Mem} {g : GeoX} {N : Nat}  {ρ : Int32 × Mem} (σ : Mem) (x1 : Int32) (hc : Cx Θ (VX g) cX0_best 8 RX0 (rk 78 1 7) (some .int) [(0, 97, 98, 1)] false (oI ρ.1) ρ.2) : Sim Θ 8 ρ σ (fX0_best N σ x1) (0, 0) 0 [(0, .ref (vO (VX g) + 0)), (1, .int x1)] [] := by
  have hz := hc.z
  unfold fX0_best
  refine s_iload_n hz dX0_best_0 rfl 1 rfl ?_
  refine s_i2l hz dX0_best_1 ?_
  refine s_lconst (v := (0 : Int64)) hz dX0_best_2 (by decide) ?_
  refine s_lconst (v := (1 : Int64)) hz dX0_best_3 (by decide) ?_
  refine s_bind (fun q1 e2 => ?_)
  refine kX_X0_125 hc (cfX0_in e2) ⟨(Nat.le_of_ble_eq_true rfl), (Nat.le_of_ble_eq_true rfl)⟩ ⟨(Nat.le_of_ble_eq_true rfl), (Nat.le_of_ble_eq_true rfl)⟩ (Nat.le_of_ble_eq_true rfl) dX0_best_4 ?_
  refine s_iconst (v := (0 : Int32)) hz dX0_best_7 (by decide) ?_
  refine s_bind (fun q6 e7 => ?_)
  rcases q6 with ⟨v3 | b4, σ5⟩
  · refine kX_X0_119 hc (cfX0_need e7) ⟨(Nat.le_of_ble_eq_true rfl), (Nat.le_of_ble_eq_true rfl)⟩ ⟨(Nat.le_of_ble_eq_true rfl), (Nat.le_of_ble_eq_true rfl)⟩ (Nat.le_of_ble_eq_true rfl) dX0_best_8 (s_c2 ?_)
    refine s_aload_n hz dX0_best_11 rfl 0 rfl ?_
    refine s_bind (fun q9 e10 => ?_)
    refine kX_X0_327 hc (cfX0_findWinners e10) ⟨(Nat.le_of_ble_eq_true rfl), (Nat.le_of_ble_eq_true rfl)⟩ ⟨(Nat.le_of_ble_eq_true rfl), (Nat.le_of_ble_eq_true rfl)⟩ (Nat.le_of_ble_eq_true rfl) dX0_best_12 ?_
    refine s_aload_n hz dX0_best_15 rfl 0 rfl ?_
    refine s_aload_n hz dX0_best_16 rfl 0 rfl ?_
    refine rX_g_X0_42_0 hc dX0_best_17 ?_
    refine rX_g_X0_286_1 hc dX0_best_20 ?_
    refine s_bipush (v := (7 : Int32)) hz dX0_best_23 (by decide) ?_
    refine rX_ld_2 hc (j := 7) (by decide) (by decide) dX0_best_25 ?_
    refine s_i2l hz dX0_best_26 ?_
    refine s_bind (fun q11 e12 => ?_)
    refine kX_X0_292 hc (cfX0_potWith e12) ⟨(Nat.le_of_ble_eq_true rfl), (Nat.le_of_ble_eq_true rfl)⟩ ⟨(Nat.le_of_ble_eq_true rfl), (Nat.le_of_ble_eq_true rfl)⟩ (Nat.le_of_ble_eq_true rfl) dX0_best_27 ?_
    refine s_lstore_n (lv' := [(2, .long q11), (0, .ref (vO (VX g) + 0)), (1, .int x1)]) hz dX0_best_30 rfl (Nat.le_of_ble_eq_true rfl) rfl ?_
    refine s_iconst (v := (0 : Int32)) hz dX0_best_31 (by decide) ?_
    refine s_istore (lv' := [(4, .int (0 : Int32)), (2, .long q11), (0, .ref (vO (VX g) + 0)), (1, .int x1)]) hz dX0_best_32 (Nat.le_of_ble_eq_true rfl) rfl ?_
    refine s_aload_n hz dX0_best_34 rfl 2 rfl ?_
    refine s_iconst (v := (0 : Int32)) hz dX0_best_35 (by decide) ?_
    refine s_lload_n hz dX0_best_36 rfl 1 rfl ?_
    refine s_bind (fun q13 e14 => ?_)
    refine kX_X0_330 hc (cfX0_worthOf e14) ⟨(Nat.le_of_ble_eq_true rfl), (Nat.le_of_ble_eq_true rfl)⟩ ⟨(Nat.le_of_ble_eq_true rfl), (Nat.le_of_ble_eq_true rfl)⟩ (Nat.le_of_ble_eq_true rfl) dX0_best_37 ?_
    refine s_istore (lv' := [(5, .int q13), (4, .int (0 : Int32)), (2, .long q11), (0, .ref (vO (VX g) + 0)), (1, .int x1)]) hz dX0_best_40 (Nat.le_of_ble_eq_true rfl) rfl ?_
    refine s_iconst (v := (1 : Int32)) hz dX0_best_42 (by decide) ?_
    refine s_istore (lv' := [(6, .int (1 : Int32)), (5, .int q13), (4, .int (0 : Int32)), (2, .long q11), (0, .ref (vO (VX g) + 0)), (1, .int x1)]) hz dX0_best_43 (Nat.le_of_ble_eq_true rfl) rfl ?_
    exact s_sub [4, 5, 3, 2, 1, 0] rfl (s_lp (sg := fun y : Int32 × Int32 × Int32 => q9.2) (lvs := fun y : Int32 × Int32 × Int32 => [(0, .ref (vO (VX g) + 0)), (1, .int x1), (2, .long q11), (4, .int y.1), (5, .int y.2.1), (6, .int y.2.2)]) (fun rec hrec => wbX0_best_45 q9.2 hc x1 q11  rec hrec) N ((0 : Int32), q13, (1 : Int32)))
  · refine s_gb (fun h8 => ?_)
    refine kX_X0_119_h hc (cfX0_need e7) ⟨(Nat.le_of_ble_eq_true rfl), (Nat.le_of_ble_eq_true rfl)⟩ ⟨(Nat.le_of_ble_eq_true rfl), (Nat.le_of_ble_eq_true rfl)⟩ (Nat.le_of_ble_eq_true rfl) dX0_best_8 (i := 0) rfl rfl (by decide) (by decide) (q := (RX6, TX6, 7)) rfl q273 (isC_ob h8) ?_
    refine s_astore_n (lv' := [(2, .ref (vO (VX g) + b4)), (0, .ref (vO (VX g) + 0)), (1, .int x1)]) hz dX0_best_98 rfl (Nat.le_of_ble_eq_true rfl) rfl ?_
    refine s_aload_n hz dX0_best_99 rfl 1 rfl ?_
    refine s_aload_n hz dX0_best_100 rfl 0 rfl ?_
    refine s_bind (fun q21 e22 => ?_)
    refine kX_X0_145 hc (cfX0_finds e22) ⟨(Nat.le_of_ble_eq_true rfl), (Nat.le_of_ble_eq_true rfl)⟩ ⟨(Nat.le_of_ble_eq_true rfl), (Nat.le_of_ble_eq_true rfl)⟩ (Nat.le_of_ble_eq_true rfl) dX0_best_101 ?_
    exact s_iretM hc dX0_best_104 (Nat.le_of_ble_eq_true rfl) (Nat.le_of_ble_eq_true rfl)
theorem cfX0_best {g : GeoX} {N : Nat}  {σ : Mem} {x1 : Int32} {ρ : Int32 × Mem} (hF : fX0_best N σ x1 = some ρ) (l : Launch) : CtW (wsW_ yX0_best cX0_best 8 (some .int) [(0, 97, 98, 1)]) (VX g) l yX0_best (rk 78 1 7) [.ref (vO (VX g) + 0), .int x1] σ (oI ρ.1) ρ.2 :=
  CtW.ofH (by decide) (Nat.le_of_ble_eq_true rfl) (fun Θ hc ls hl => wfX0_best σ x1 hc hF ls hl)
theorem kX_X0_334 {γ : Type} {Θ : ThT Mem} {g : GeoX} {cc : ByteArray} {nL : Nat} {rm : Room} {ret : Option FieldType} {hs : List (Nat × Nat × Nat × Nat)} {ini : Bool} {O : Outcome} {σ' : Mem} {ρ : γ} {σ : Mem} {F : Option γ} {cs : Nat × Nat} {pc : Nat} {lv : List (Nat × Value)} {st : List Value} (hc : Cx Θ (VX g) cc nL RX0 rm ret hs ini O σ') {σ1 : Mem} {x0 : Int32} {r : Int32} {rmc : Room} (hM : ∀ l : Launch, Ct (VX g) l yX0_orNone cX0_orNone 1 (some .int) rmc [.int x0] σ (oI r) σ1) (hR : rmc.frames + 1 ≤ rm.frames ∧ 8 + (1 + 11) + rmc.locals ≤ rm.locals) (hf : cs.1 + rmc.cells ≤ rm.cells ∧ cs.2 + rmc.slots ≤ rm.slots) (hrest : (st.map fun v => v.category).sum ≤ 8) (hd : decode cc pc = .ok (.invokestatic 334, 3)) (kk : Sim Θ nL ρ σ1 F (cs.1 + rmc.cells, cs.2 + rmc.slots) (pc + 3) lv (.int r :: st)) : Sim Θ nL ρ σ F cs pc lv (.int x0 :: st) := s_callS hc (As := [.int x0]) (rest := st) (n := 1) hM (lw_S q910 q911 q62 q912) (by decide +kernel) rfl rfl hrest hR hf hd kk
theorem kX_X0_334_h {γ : Type} {Θ : ThT Mem} {g : GeoX} {cc : ByteArray} {nL : Nat} {rm : Room} {ret : Option FieldType} {hs : List (Nat × Nat × Nat × Nat)} {ini : Bool} {O : Outcome} {σ' : Mem} {ρ : γ} {σ : Mem} {F : Option γ} {cs : Nat × Nat} {pc : Nat} {lv : List (Nat × Value)} {st : List Value} (hc : Cx Θ (VX g) cc nL RX0 rm ret hs ini O σ') {σ1 : Mem} {x0 : Int32} {b i s0 e0 hp ct ci : Nat} {q : vw_C} {rmc : Room} (hM : ∀ l : Launch, Ct (VX g) l yX0_orNone cX0_orNone 1 (some .int) rmc [.int x0] σ (.threw (vO (VX g) + b)) σ1) (hR : rmc.frames + 1 ≤ rm.frames ∧ 8 + (1 + 11) + rmc.locals ≤ rm.locals) (hf : cs.1 + rmc.cells ≤ rm.cells ∧ cs.2 + rmc.slots ≤ rm.slots) (hrest : (st.map fun v => v.category).sum ≤ 8) (hd : decode cc pc = .ok (.invokestatic 334, 3)) (hi : hs[i]? = some (s0, e0, hp, ct)) (hpre : ((hs.take i).all fun q => !(decide (q.1 ≤ pc) && decide (pc < q.2.1))) = true) (hin : s0 ≤ pc ∧ pc < e0) (h0 : ct ≠ 0) (hcl : (vCl (VX g))[ci]? = some q) (hlink : Cond.classLink RX0 ct q.1 ∈ lw_all) (hob : Ob (VX g) σ1 b ci) (kk : Sim Θ nL ρ σ1 F (cs.1 + rmc.cells, cs.2 + rmc.slots) hp lv [.ref (vO (VX g) + b)]) : Sim Θ nL ρ σ F cs pc lv (.int x0 :: st) := s_callSh hc (As := [.int x0]) (rest := st) (n := 1) hM (lw_S q910 q911 q62 q912) (by decide +kernel) rfl rfl hrest hR hf hd hi hpre hin h0 hcl hlink hob kk
theorem kX_X0_334_t {β : Type} {Θ : ThT Mem} {g : GeoX} {cc : ByteArray} {nL : Nat} {rm : Room} {ret : Option FieldType} {hs : List (Nat × Nat × Nat × Nat)} {ini : Bool} {fo : β → Outcome} {ρ : (β ⊕ Nat) × Mem} {σ : Mem} {cs : Nat × Nat} {pc : Nat} {lv : List (Nat × Value)} {st : List Value} (hc : Cx Θ (VX g) cc nL RX0 rm ret hs ini (oT fo ρ.1 (vO (VX g))) ρ.2) {σ1 : Mem} {x0 : Int32} {b : Nat} {rmc : Room} (hM : ∀ l : Launch, Ct (VX g) l yX0_orNone cX0_orNone 1 (some .int) rmc [.int x0] σ (.threw (vO (VX g) + b)) σ1) (hR : rmc.frames + 1 ≤ rm.frames ∧ 8 + (1 + 11) + rmc.locals ≤ rm.locals) (hf : cs.1 + rmc.cells ≤ rm.cells ∧ cs.2 + rmc.slots ≤ rm.slots) (hrest : (st.map fun v => v.category).sum ≤ 8) (hd : decode cc pc = .ok (.invokestatic 334, 3)) (hout : (hs.all fun q => !(decide (q.1 ≤ pc) && decide (pc < q.2.1))) = true) : Sim Θ nL ρ σ (some (.inr b, σ1)) cs pc lv (.int x0 :: st) := s_callSt hc (As := [.int x0]) (rest := st) (n := 1) hM (lw_S q910 q911 q62 q912) (by decide +kernel) rfl rfl hrest hR hf hd hout
def bX0_alone_24 (N : Nat) (σ : Mem) (x1 : Int32) (r24 : (Int32 × Int32 × Int32) → Option (Int32 × Mem)) (y24 : Int32 × Int32 × Int32) : Option (Int32 × Mem) :=
  if y24.2.2 < (0 : Int32) then
  (if x1 = (0 : Int32) then
  (some (y24.1, σ))
  else ((fX0_orNone N σ y24.2.1).bind (fun q16 => cT2 q16 (fun v13 σ15 => 
  some (v13, σ15)) (fun b14 σ15 => 
  gb (isC σ15 b14 5) (
  (fX0_finds N σ15 b14).bind (fun q19 => 
  some (q19.1, q19.2)))))))
  else (gb (inb y24.2.2 495) (
  if (gI σ 68 (ix y24.2.2)) = (0 : Int32) then
  (r24 ((y24.1 + (1 : Int32)), y24.2.2, (y24.2.2 + (-1 : Int32))))
  else (r24 (y24.1, y24.2.1, (y24.2.2 + (-1 : Int32))))))
set_option maxHeartbeats 4000000 in
theorem wbX0_alone_24 {Θ : ThT Mem} {g : GeoX} {N : Nat}  {ρ : Int32 × Mem} (σ : Mem) (hc : Cx Θ (VX g) cX0_alone 5 RX0 (rk 77 2 14) (some .int) [(0, 66, 67, 1)] false (oI ρ.1) ρ.2) (x1 : Int32) (r24 : (Int32 × Int32 × Int32) → Option (Int32 × Mem)) (hr24 : ∀ y : Int32 × Int32 × Int32, Sim Θ 5 ρ (σ) (r24 y) (1, 7) 24 [(0, .ref (vO (VX g) + 0)), (1, .int x1), (2, .int y.1), (3, .int y.2.1), (4, .int y.2.2)] []) : ∀ y24 : Int32 × Int32 × Int32, Sim Θ 5 ρ (σ) (bX0_alone_24 N σ x1 r24 y24) (1, 7) 24 [(0, .ref (vO (VX g) + 0)), (1, .int x1), (2, .int y24.1), (3, .int y24.2.1), (4, .int y24.2.2)] [] := by
  intro y24
  have hz := hc.z
  have hr24c : ∀ (z0_ : Int32) (z1_ : Int32) (z2_ : Int32), Sim Θ 5 ρ (σ) (r24 (z0_, z1_, z2_)) (1, 7) 24 [(0, .ref (vO (VX g) + 0)), (1, .int x1), (2, .int z0_), (3, .int z1_), (4, .int z2_)] [] := fun z0_ z1_ z2_ => hr24 (z0_, z1_, z2_)
  unfold bX0_alone_24
  refine s_iload hz dX0_alone_24 4 rfl ?_
  refine s_if_lt (tgt := 54) hz dX0_alone_26 rfl (fun h11 => ?_) (fun h11 => ?_)
  · refine s_iload_n hz dX0_alone_54 rfl 1 rfl ?_
    refine s_if_ne (tgt := 62) hz dX0_alone_55 rfl (fun h12 => ?_) (fun h12 => ?_)
    · refine s_iload_n hz dX0_alone_62 rfl 3 rfl ?_
      refine s_bind (fun q16 e17 => ?_)
      rcases q16 with ⟨v13 | b14, σ15⟩
      · refine kX_X0_334 hc (cfX0_orNone e17) ⟨(Nat.le_of_ble_eq_true rfl), (Nat.le_of_ble_eq_true rfl)⟩ ⟨(Nat.le_of_ble_eq_true rfl), (Nat.le_of_ble_eq_true rfl)⟩ (Nat.le_of_ble_eq_true rfl) dX0_alone_63 (s_c2 ?_)
        exact s_iretM hc dX0_alone_66 (Nat.le_of_ble_eq_true rfl) (Nat.le_of_ble_eq_true rfl)
      · refine s_gb (fun h18 => ?_)
        refine kX_X0_334_h hc (cfX0_orNone e17) ⟨(Nat.le_of_ble_eq_true rfl), (Nat.le_of_ble_eq_true rfl)⟩ ⟨(Nat.le_of_ble_eq_true rfl), (Nat.le_of_ble_eq_true rfl)⟩ (Nat.le_of_ble_eq_true rfl) dX0_alone_63 (i := 0) rfl rfl (by decide) (by decide) (q := (RX6, TX6, 7)) rfl q273 (isC_ob h18) ?_
        refine s_astore_n (lv' := [(2, .ref (vO (VX g) + b14)), (0, .ref (vO (VX g) + 0)), (1, .int x1), (3, .int y24.2.1), (4, .int y24.2.2)]) hz dX0_alone_67 rfl (Nat.le_of_ble_eq_true rfl) rfl ?_
        refine s_aload_n hz dX0_alone_68 rfl 1 rfl ?_
        refine s_aload_n hz dX0_alone_69 rfl 0 rfl ?_
        refine s_bind (fun q19 e20 => ?_)
        refine kX_X0_145 hc (cfX0_finds e20) ⟨(Nat.le_of_ble_eq_true rfl), (Nat.le_of_ble_eq_true rfl)⟩ ⟨(Nat.le_of_ble_eq_true rfl), (Nat.le_of_ble_eq_true rfl)⟩ (Nat.le_of_ble_eq_true rfl) dX0_alone_70 ?_
        exact s_iretM hc dX0_alone_73 (Nat.le_of_ble_eq_true rfl) (Nat.le_of_ble_eq_true rfl)
    · refine s_iload_n hz dX0_alone_58 rfl 2 rfl ?_
      refine s_goto (tgt := 66) hz dX0_alone_59 rfl ?_
      exact s_iretM hc dX0_alone_66 (Nat.le_of_ble_eq_true rfl) (Nat.le_of_ble_eq_true rfl)
  · refine s_aload_n hz dX0_alone_29 rfl 0 rfl ?_
    refine rX_g_X0_90_0 hc dX0_alone_30 ?_
    refine s_iload hz dX0_alone_33 4 rfl ?_
    refine s_gb (fun h21 => ?_)
    refine rX_ld_68 hc h21 rfl dX0_alone_35 ?_
    refine s_if_eq (tgt := 42) hz dX0_alone_36 rfl (fun h22 => ?_) (fun h22 => ?_)
    · refine s_iinc (v := (1 : Int32)) (lv' := [(2, .int (y24.1 + (1 : Int32))), (0, .ref (vO (VX g) + 0)), (1, .int x1), (3, .int y24.2.1), (4, .int y24.2.2)]) hz dX0_alone_42 2 rfl (by decide) (Nat.le_of_ble_eq_true rfl) rfl ?_
      refine s_iload hz dX0_alone_45 4 rfl ?_
      refine s_istore_n (lv' := [(3, .int y24.2.2), (2, .int (y24.1 + (1 : Int32))), (0, .ref (vO (VX g) + 0)), (1, .int x1), (4, .int y24.2.2)]) hz dX0_alone_47 rfl (Nat.le_of_ble_eq_true rfl) rfl ?_
      refine s_iinc (v := (-1 : Int32)) (lv' := [(4, .int (y24.2.2 + (-1 : Int32))), (3, .int y24.2.2), (2, .int (y24.1 + (1 : Int32))), (0, .ref (vO (VX g) + 0)), (1, .int x1)]) hz dX0_alone_48 4 rfl (by decide) (Nat.le_of_ble_eq_true rfl) rfl ?_
      refine s_goto (tgt := 24) hz dX0_alone_51 rfl ?_
      exact s_sub [3, 4, 2, 1, 0] rfl (hr24c (y24.1 + (1 : Int32)) y24.2.2 (y24.2.2 + (-1 : Int32)))
    · refine s_goto (tgt := 48) hz dX0_alone_39 rfl ?_
      refine s_iinc (v := (-1 : Int32)) (lv' := [(4, .int (y24.2.2 + (-1 : Int32))), (0, .ref (vO (VX g) + 0)), (1, .int x1), (2, .int y24.1), (3, .int y24.2.1)]) hz dX0_alone_48 4 rfl (by decide) (Nat.le_of_ble_eq_true rfl) rfl ?_
      refine s_goto (tgt := 24) hz dX0_alone_51 rfl ?_
      exact s_sub [1, 2, 3, 4, 0] rfl (hr24c y24.1 y24.2.1 (y24.2.2 + (-1 : Int32)))
def fX0_alone (N : Nat) (σ : Mem) (x1 : Int32) : Option (Int32 × Mem) :=
  (fX0_in N σ ((x1).toInt64) (0 : Int64) (1 : Int64)).bind (fun q1 => 
  (fX0_need N σ q1 (0 : Int32)).bind (fun q6 => cT2 q6 (fun v3 σ5 => 
  (fX0_findCrossed N σ5).bind (fun q9 => 
  lp (bX0_alone_24 N q9.2 x1) N ((0 : Int32), (-1 : Int32), (494 : Int32)))) (fun b4 σ5 => 
  gb (isC σ5 b4 5) (
  (fX0_finds N σ5 b4).bind (fun q23 => 
  some (q23.1, q23.2))))))
set_option maxHeartbeats 4000000 in
theorem wfX0_alone {Θ : ThT Mem} {g : GeoX} {N : Nat}  {ρ : Int32 × Mem} (σ : Mem) (x1 : Int32) (hc : Cx Θ (VX g) cX0_alone 5 RX0 (rk 77 2 14) (some .int) [(0, 66, 67, 1)] false (oI ρ.1) ρ.2) : Sim Θ 5 ρ σ (fX0_alone N σ x1) (0, 0) 0 [(0, .ref (vO (VX g) + 0)), (1, .int x1)] [] := by
  have hz := hc.z
  unfold fX0_alone
  refine s_iload_n hz dX0_alone_0 rfl 1 rfl ?_
  refine s_i2l hz dX0_alone_1 ?_
  refine s_lconst (v := (0 : Int64)) hz dX0_alone_2 (by decide) ?_
  refine s_lconst (v := (1 : Int64)) hz dX0_alone_3 (by decide) ?_
  refine s_bind (fun q1 e2 => ?_)
  refine kX_X0_125 hc (cfX0_in e2) ⟨(Nat.le_of_ble_eq_true rfl), (Nat.le_of_ble_eq_true rfl)⟩ ⟨(Nat.le_of_ble_eq_true rfl), (Nat.le_of_ble_eq_true rfl)⟩ (Nat.le_of_ble_eq_true rfl) dX0_alone_4 ?_
  refine s_iconst (v := (0 : Int32)) hz dX0_alone_7 (by decide) ?_
  refine s_bind (fun q6 e7 => ?_)
  rcases q6 with ⟨v3 | b4, σ5⟩
  · refine kX_X0_119 hc (cfX0_need e7) ⟨(Nat.le_of_ble_eq_true rfl), (Nat.le_of_ble_eq_true rfl)⟩ ⟨(Nat.le_of_ble_eq_true rfl), (Nat.le_of_ble_eq_true rfl)⟩ (Nat.le_of_ble_eq_true rfl) dX0_alone_8 (s_c2 ?_)
    refine s_aload_n hz dX0_alone_11 rfl 0 rfl ?_
    refine s_bind (fun q9 e10 => ?_)
    refine kX_X0_249 hc (cfX0_findCrossed e10) ⟨(Nat.le_of_ble_eq_true rfl), (Nat.le_of_ble_eq_true rfl)⟩ ⟨(Nat.le_of_ble_eq_true rfl), (Nat.le_of_ble_eq_true rfl)⟩ (Nat.le_of_ble_eq_true rfl) dX0_alone_12 ?_
    refine s_iconst (v := (0 : Int32)) hz dX0_alone_15 (by decide) ?_
    refine s_istore_n (lv' := [(2, .int (0 : Int32)), (0, .ref (vO (VX g) + 0)), (1, .int x1)]) hz dX0_alone_16 rfl (Nat.le_of_ble_eq_true rfl) rfl ?_
    refine s_iconst (v := (-1 : Int32)) hz dX0_alone_17 (by decide) ?_
    refine s_istore_n (lv' := [(3, .int (-1 : Int32)), (2, .int (0 : Int32)), (0, .ref (vO (VX g) + 0)), (1, .int x1)]) hz dX0_alone_18 rfl (Nat.le_of_ble_eq_true rfl) rfl ?_
    refine s_sipush (v := (494 : Int32)) hz dX0_alone_19 (by decide) ?_
    refine s_istore (lv' := [(4, .int (494 : Int32)), (3, .int (-1 : Int32)), (2, .int (0 : Int32)), (0, .ref (vO (VX g) + 0)), (1, .int x1)]) hz dX0_alone_22 (Nat.le_of_ble_eq_true rfl) rfl ?_
    exact s_sub [3, 4, 2, 1, 0] rfl (s_lp (sg := fun y : Int32 × Int32 × Int32 => q9.2) (lvs := fun y : Int32 × Int32 × Int32 => [(0, .ref (vO (VX g) + 0)), (1, .int x1), (2, .int y.1), (3, .int y.2.1), (4, .int y.2.2)]) (fun rec hrec => wbX0_alone_24 q9.2 hc x1  rec hrec) N ((0 : Int32), (-1 : Int32), (494 : Int32)))
  · refine s_gb (fun h8 => ?_)
    refine kX_X0_119_h hc (cfX0_need e7) ⟨(Nat.le_of_ble_eq_true rfl), (Nat.le_of_ble_eq_true rfl)⟩ ⟨(Nat.le_of_ble_eq_true rfl), (Nat.le_of_ble_eq_true rfl)⟩ (Nat.le_of_ble_eq_true rfl) dX0_alone_8 (i := 0) rfl rfl (by decide) (by decide) (q := (RX6, TX6, 7)) rfl q273 (isC_ob h8) ?_
    refine s_astore_n (lv' := [(2, .ref (vO (VX g) + b4)), (0, .ref (vO (VX g) + 0)), (1, .int x1)]) hz dX0_alone_67 rfl (Nat.le_of_ble_eq_true rfl) rfl ?_
    refine s_aload_n hz dX0_alone_68 rfl 1 rfl ?_
    refine s_aload_n hz dX0_alone_69 rfl 0 rfl ?_
    refine s_bind (fun q23 e24 => ?_)
    refine kX_X0_145 hc (cfX0_finds e24) ⟨(Nat.le_of_ble_eq_true rfl), (Nat.le_of_ble_eq_true rfl)⟩ ⟨(Nat.le_of_ble_eq_true rfl), (Nat.le_of_ble_eq_true rfl)⟩ (Nat.le_of_ble_eq_true rfl) dX0_alone_70 ?_
    exact s_iretM hc dX0_alone_73 (Nat.le_of_ble_eq_true rfl) (Nat.le_of_ble_eq_true rfl)
theorem cfX0_alone {g : GeoX} {N : Nat}  {σ : Mem} {x1 : Int32} {ρ : Int32 × Mem} (hF : fX0_alone N σ x1 = some ρ) (l : Launch) : CtW (wsW_ yX0_alone cX0_alone 5 (some .int) [(0, 66, 67, 1)]) (VX g) l yX0_alone (rk 77 2 14) [.ref (vO (VX g) + 0), .int x1] σ (oI ρ.1) ρ.2 :=
  CtW.ofH (by decide) (Nat.le_of_ble_eq_true rfl) (fun Θ hc ls hl => wfX0_alone σ x1 hc hF ls hl)
def bX0_line_51 (N : Nat) (σ : Mem) (x1 : Int32) (r51 : (Int32 × Int32) → Option (Int32 × Mem)) (y51 : Int32 × Int32) : Option (Int32 × Mem) :=
  if y51.2 ≤ y51.1 then
  (some (y51.1, σ))
  else (lt_ (y51.1 + ((y51.2 - y51.1) / (2 : Int32))) (fun v22 => 
  (fX0_potWith N σ ((v22).toInt64)).bind (fun q23 => 
  (fX0_worthOf N σ x1 q23).bind (fun q25 => 
  if q25 < (gI σ 2 0) then
  (lt_ (v22 + (1 : Int32)) (fun v28 => 
  r51 (v28, y51.2)))
  else (r51 (y51.1, v22))))))
set_option maxHeartbeats 4000000 in
theorem wbX0_line_51 {Θ : ThT Mem} {g : GeoX} {N : Nat}  {ρ : Int32 × Mem} (σ : Mem) (hc : Cx Θ (VX g) cX0_line 5 RX0 (rk 78 2 14) (some .int) [(0, 104, 105, 1)] false (oI ρ.1) ρ.2) (x1 : Int32) (r51 : (Int32 × Int32) → Option (Int32 × Mem)) (hr51 : ∀ y : Int32 × Int32, Sim Θ 5 ρ (σ) (r51 y) (2, 14) 51 [(0, .ref (vO (VX g) + 0)), (1, .int x1), (2, .int y.1), (3, .int y.2)] []) : ∀ y51 : Int32 × Int32, Sim Θ 5 ρ (σ) (bX0_line_51 N σ x1 r51 y51) (2, 14) 51 [(0, .ref (vO (VX g) + 0)), (1, .int x1), (2, .int y51.1), (3, .int y51.2)] [] := by
  intro y51
  have hz := hc.z
  have hr51c : ∀ (z0_ : Int32) (z1_ : Int32), Sim Θ 5 ρ (σ) (r51 (z0_, z1_)) (2, 14) 51 [(0, .ref (vO (VX g) + 0)), (1, .int x1), (2, .int z0_), (3, .int z1_)] [] := fun z0_ z1_ => hr51 (z0_, z1_)
  unfold bX0_line_51
  refine s_iload_n hz dX0_line_51 rfl 2 rfl ?_
  refine s_iload_n hz dX0_line_52 rfl 3 rfl ?_
  refine s_icmp_ge (tgt := 103) hz dX0_line_53 rfl (fun h21 => ?_) (fun h21 => ?_)
  · refine s_iload_n hz dX0_line_103 rfl 2 rfl ?_
    exact s_iretM hc dX0_line_104 (Nat.le_of_ble_eq_true rfl) (Nat.le_of_ble_eq_true rfl)
  · refine s_iload_n hz dX0_line_56 rfl 2 rfl ?_
    refine s_iload_n hz dX0_line_57 rfl 3 rfl ?_
    refine s_iload_n hz dX0_line_58 rfl 2 rfl ?_
    refine s_isub hz dX0_line_59 ?_
    refine s_iconst (v := (2 : Int32)) hz dX0_line_60 (by decide) ?_
    refine s_idiv hz dX0_line_61 (by decide) ?_
    refine s_iadd hz dX0_line_62 ?_
    refine s_nmI (fun v22 => ?_)
    refine s_istore (lv' := [(4, .int v22), (0, .ref (vO (VX g) + 0)), (1, .int x1), (2, .int y51.1), (3, .int y51.2)]) hz dX0_line_63 (Nat.le_of_ble_eq_true rfl) rfl ?_
    refine s_aload_n hz dX0_line_65 rfl 1 rfl ?_
    refine s_iload_n hz dX0_line_66 rfl 2 rfl ?_
    refine s_aload_n hz dX0_line_67 rfl 1 rfl ?_
    refine s_iload hz dX0_line_68 0 rfl ?_
    refine s_i2l hz dX0_line_70 ?_
    refine s_bind (fun q23 e24 => ?_)
    refine kX_X0_292 hc (cfX0_potWith e24) ⟨(Nat.le_of_ble_eq_true rfl), (Nat.le_of_ble_eq_true rfl)⟩ ⟨(Nat.le_of_ble_eq_true rfl), (Nat.le_of_ble_eq_true rfl)⟩ (Nat.le_of_ble_eq_true rfl) dX0_line_71 ?_
    refine s_bind (fun q25 e26 => ?_)
    refine kX_X0_330 hc (cfX0_worthOf e26) ⟨(Nat.le_of_ble_eq_true rfl), (Nat.le_of_ble_eq_true rfl)⟩ ⟨(Nat.le_of_ble_eq_true rfl), (Nat.le_of_ble_eq_true rfl)⟩ (Nat.le_of_ble_eq_true rfl) dX0_line_74 ?_
    refine s_aload_n hz dX0_line_77 rfl 1 rfl ?_
    refine rX_g_X0_42_0 hc dX0_line_78 ?_
    refine rX_g_X0_286_1 hc dX0_line_81 ?_
    refine s_iconst (v := (0 : Int32)) hz dX0_line_84 (by decide) ?_
    refine rX_ld_2 hc (j := 0) (by decide) (by decide) dX0_line_85 ?_
    refine s_icmp_lt (tgt := 95) hz dX0_line_86 rfl (fun h27 => ?_) (fun h27 => ?_)
    · refine s_iload hz dX0_line_95 0 rfl ?_
      refine s_iconst (v := (1 : Int32)) hz dX0_line_97 (by decide) ?_
      refine s_iadd hz dX0_line_98 ?_
      refine s_nmI (fun v28 => ?_)
      refine s_istore_n (lv' := [(2, .int v28), (4, .int v22), (0, .ref (vO (VX g) + 0)), (1, .int x1), (3, .int y51.2)]) hz dX0_line_99 rfl (Nat.le_of_ble_eq_true rfl) rfl ?_
      refine s_goto (tgt := 51) hz dX0_line_100 rfl ?_
      exact s_sub [2, 3, 0, 4] rfl (hr51c v28 y51.2)
    · refine s_iload hz dX0_line_89 0 rfl ?_
      refine s_istore_n (lv' := [(3, .int v22), (4, .int v22), (0, .ref (vO (VX g) + 0)), (1, .int x1), (2, .int y51.1)]) hz dX0_line_91 rfl (Nat.le_of_ble_eq_true rfl) rfl ?_
      refine s_goto (tgt := 100) hz dX0_line_92 rfl ?_
      refine s_goto (tgt := 51) hz dX0_line_100 rfl ?_
      exact s_sub [2, 3, 4, 0] rfl (hr51c y51.1 v22)
def fX0_line (N : Nat) (σ : Mem) (x1 : Int32) : Option (Int32 × Mem) :=
  (fX0_isPlace N σ x1).bind (fun q1 => 
  (fX0_need N σ q1 (0 : Int32)).bind (fun q6 => cT2 q6 (fun v3 σ5 => 
  (fX0_findWinners N σ5).bind (fun q9 => 
  (fX0_potWith N q9.2 (99999999 : Int64)).bind (fun q11 => 
  (fX0_worthOf N q9.2 x1 q11).bind (fun q13 => 
  (fX0_need N q9.2 (if q13 < (gI q9.2 2 0) then (0 : Int32) else (1 : Int32)) (3 : Int32)).bind (fun q18 => cT2 q18 (fun v15 σ17 => 
  lp (bX0_line_51 N σ17 x1) N ((0 : Int32), (99999999 : Int32))) (fun b16 σ17 => 
  gb (isC σ17 b16 5) (
  (fX0_finds N σ17 b16).bind (fun q29 => 
  some (q29.1, q29.2))))))))) (fun b4 σ5 => 
  gb (isC σ5 b4 5) (
  (fX0_finds N σ5 b4).bind (fun q33 => 
  some (q33.1, q33.2))))))
set_option maxHeartbeats 4000000 in
theorem wfX0_line {Θ : ThT Mem} {g : GeoX} {N : Nat}  {ρ : Int32 × Mem} (σ : Mem) (x1 : Int32) (hc : Cx Θ (VX g) cX0_line 5 RX0 (rk 78 2 14) (some .int) [(0, 104, 105, 1)] false (oI ρ.1) ρ.2) : Sim Θ 5 ρ σ (fX0_line N σ x1) (0, 0) 0 [(0, .ref (vO (VX g) + 0)), (1, .int x1)] [] := by
  have hz := hc.z
  unfold fX0_line
  refine s_iload_n hz dX0_line_0 rfl 1 rfl ?_
  refine s_bind (fun q1 e2 => ?_)
  refine kX_X0_149 hc (cfX0_isPlace e2) ⟨(Nat.le_of_ble_eq_true rfl), (Nat.le_of_ble_eq_true rfl)⟩ ⟨(Nat.le_of_ble_eq_true rfl), (Nat.le_of_ble_eq_true rfl)⟩ (Nat.le_of_ble_eq_true rfl) dX0_line_1 ?_
  refine s_iconst (v := (0 : Int32)) hz dX0_line_4 (by decide) ?_
  refine s_bind (fun q6 e7 => ?_)
  rcases q6 with ⟨v3 | b4, σ5⟩
  · refine kX_X0_119 hc (cfX0_need e7) ⟨(Nat.le_of_ble_eq_true rfl), (Nat.le_of_ble_eq_true rfl)⟩ ⟨(Nat.le_of_ble_eq_true rfl), (Nat.le_of_ble_eq_true rfl)⟩ (Nat.le_of_ble_eq_true rfl) dX0_line_5 (s_c2 ?_)
    refine s_aload_n hz dX0_line_8 rfl 0 rfl ?_
    refine s_bind (fun q9 e10 => ?_)
    refine kX_X0_327 hc (cfX0_findWinners e10) ⟨(Nat.le_of_ble_eq_true rfl), (Nat.le_of_ble_eq_true rfl)⟩ ⟨(Nat.le_of_ble_eq_true rfl), (Nat.le_of_ble_eq_true rfl)⟩ (Nat.le_of_ble_eq_true rfl) dX0_line_9 ?_
    refine s_aload_n hz dX0_line_12 rfl 0 rfl ?_
    refine s_iload_n hz dX0_line_13 rfl 1 rfl ?_
    refine s_aload_n hz dX0_line_14 rfl 0 rfl ?_
    refine s_ldc2 hz dX0_line_15 q834 ?_
    refine s_bind (fun q11 e12 => ?_)
    refine kX_X0_292 hc (cfX0_potWith e12) ⟨(Nat.le_of_ble_eq_true rfl), (Nat.le_of_ble_eq_true rfl)⟩ ⟨(Nat.le_of_ble_eq_true rfl), (Nat.le_of_ble_eq_true rfl)⟩ (Nat.le_of_ble_eq_true rfl) dX0_line_18 ?_
    refine s_bind (fun q13 e14 => ?_)
    refine kX_X0_330 hc (cfX0_worthOf e14) ⟨(Nat.le_of_ble_eq_true rfl), (Nat.le_of_ble_eq_true rfl)⟩ ⟨(Nat.le_of_ble_eq_true rfl), (Nat.le_of_ble_eq_true rfl)⟩ (Nat.le_of_ble_eq_true rfl) dX0_line_21 ?_
    refine s_aload_n hz dX0_line_24 rfl 0 rfl ?_
    refine rX_g_X0_42_0 hc dX0_line_25 ?_
    refine rX_g_X0_286_1 hc dX0_line_28 ?_
    refine s_iconst (v := (0 : Int32)) hz dX0_line_31 (by decide) ?_
    refine rX_ld_2 hc (j := 0) (by decide) (by decide) dX0_line_32 ?_
    refine s_dia (J := 41) (v := .int (if q13 < (gI q9.2 2 0) then (0 : Int32) else (1 : Int32))) (st := []) (fun _ hj31 => ?_) ?_
    · refine s_icmp_lt_ (tgt := 40) hz dX0_line_33 rfl (fun h32 => ?_) (fun h32 => ?_)
      · refine s_iconst (v := (0 : Int32)) hz dX0_line_40 (by decide) ?_
        rw [if_pos h32] at hj31
        exact hj31
      · refine s_iconst (v := (1 : Int32)) hz dX0_line_36 (by decide) ?_
        refine s_goto (tgt := 41) hz dX0_line_37 rfl ?_
        rw [if_neg h32] at hj31
        exact hj31
    refine s_iconst (v := (3 : Int32)) hz dX0_line_41 (by decide) ?_
    refine s_bind (fun q18 e19 => ?_)
    rcases q18 with ⟨v15 | b16, σ17⟩
    · refine kX_X0_119 hc (cfX0_need e19) ⟨(Nat.le_of_ble_eq_true rfl), (Nat.le_of_ble_eq_true rfl)⟩ ⟨(Nat.le_of_ble_eq_true rfl), (Nat.le_of_ble_eq_true rfl)⟩ (Nat.le_of_ble_eq_true rfl) dX0_line_42 (s_c2 ?_)
      refine s_iconst (v := (0 : Int32)) hz dX0_line_45 (by decide) ?_
      refine s_istore_n (lv' := [(2, .int (0 : Int32)), (0, .ref (vO (VX g) + 0)), (1, .int x1)]) hz dX0_line_46 rfl (Nat.le_of_ble_eq_true rfl) rfl ?_
      refine s_ldcw hz dX0_line_47 q917 ?_
      refine s_istore_n (lv' := [(3, .int (99999999 : Int32)), (2, .int (0 : Int32)), (0, .ref (vO (VX g) + 0)), (1, .int x1)]) hz dX0_line_50 rfl (Nat.le_of_ble_eq_true rfl) rfl ?_
      exact s_sub [2, 3, 1, 0] rfl (s_lp (sg := fun y : Int32 × Int32 => σ17) (lvs := fun y : Int32 × Int32 => [(0, .ref (vO (VX g) + 0)), (1, .int x1), (2, .int y.1), (3, .int y.2)]) (fun rec hrec => wbX0_line_51 σ17 hc x1  rec hrec) N ((0 : Int32), (99999999 : Int32)))
    · refine s_gb (fun h20 => ?_)
      refine kX_X0_119_h hc (cfX0_need e19) ⟨(Nat.le_of_ble_eq_true rfl), (Nat.le_of_ble_eq_true rfl)⟩ ⟨(Nat.le_of_ble_eq_true rfl), (Nat.le_of_ble_eq_true rfl)⟩ (Nat.le_of_ble_eq_true rfl) dX0_line_42 (i := 0) rfl rfl (by decide) (by decide) (q := (RX6, TX6, 7)) rfl q273 (isC_ob h20) ?_
      refine s_astore_n (lv' := [(2, .ref (vO (VX g) + b16)), (0, .ref (vO (VX g) + 0)), (1, .int x1)]) hz dX0_line_105 rfl (Nat.le_of_ble_eq_true rfl) rfl ?_
      refine s_aload_n hz dX0_line_106 rfl 1 rfl ?_
      refine s_aload_n hz dX0_line_107 rfl 0 rfl ?_
      refine s_bind (fun q29 e30 => ?_)
      refine kX_X0_145 hc (cfX0_finds e30) ⟨(Nat.le_of_ble_eq_true rfl), (Nat.le_of_ble_eq_true rfl)⟩ ⟨(Nat.le_of_ble_eq_true rfl), (Nat.le_of_ble_eq_true rfl)⟩ (Nat.le_of_ble_eq_true rfl) dX0_line_108 ?_
      exact s_iretM hc dX0_line_111 (Nat.le_of_ble_eq_true rfl) (Nat.le_of_ble_eq_true rfl)
  · refine s_gb (fun h8 => ?_)
    refine kX_X0_119_h hc (cfX0_need e7) ⟨(Nat.le_of_ble_eq_true rfl), (Nat.le_of_ble_eq_true rfl)⟩ ⟨(Nat.le_of_ble_eq_true rfl), (Nat.le_of_ble_eq_true rfl)⟩ (Nat.le_of_ble_eq_true rfl) dX0_line_5 (i := 0) rfl rfl (by decide) (by decide) (q := (RX6, TX6, 7)) rfl q273 (isC_ob h8) ?_
    refine s_astore_n (lv' := [(2, .ref (vO (VX g) + b4)), (0, .ref (vO (VX g) + 0)), (1, .int x1)]) hz dX0_line_105 rfl (Nat.le_of_ble_eq_true rfl) rfl ?_
    refine s_aload_n hz dX0_line_106 rfl 1 rfl ?_
    refine s_aload_n hz dX0_line_107 rfl 0 rfl ?_
    refine s_bind (fun q33 e34 => ?_)
    refine kX_X0_145 hc (cfX0_finds e34) ⟨(Nat.le_of_ble_eq_true rfl), (Nat.le_of_ble_eq_true rfl)⟩ ⟨(Nat.le_of_ble_eq_true rfl), (Nat.le_of_ble_eq_true rfl)⟩ (Nat.le_of_ble_eq_true rfl) dX0_line_108 ?_
    exact s_iretM hc dX0_line_111 (Nat.le_of_ble_eq_true rfl) (Nat.le_of_ble_eq_true rfl)
theorem cfX0_line {g : GeoX} {N : Nat}  {σ : Mem} {x1 : Int32} {ρ : Int32 × Mem} (hF : fX0_line N σ x1 = some ρ) (l : Launch) : CtW (wsW_ yX0_line cX0_line 5 (some .int) [(0, 104, 105, 1)]) (VX g) l yX0_line (rk 78 2 14) [.ref (vO (VX g) + 0), .int x1] σ (oI ρ.1) ρ.2 :=
  CtW.ofH (by decide) (Nat.le_of_ble_eq_true rfl) (fun Θ hc ls hl => wfX0_line σ x1 hc hF ls hl)
theorem rX_g_X0_98_0 {γ : Type} {Θ : ThT Mem} {g : GeoX} {cc : ByteArray} {nL : Nat} {rm : Room} {ret : Option FieldType} {hs : List (Nat × Nat × Nat × Nat)} {ini : Bool} {O : Outcome} {σ' : Mem} {ρ : γ} {σ : Mem} {F : Option γ} {cs : Nat × Nat} {pc : Nat} {lv : List (Nat × Value)} {st : List Value} (hc : Cx Θ (VX g) cc nL RX0 rm ret hs ini O σ') (hd : decode cc pc = .ok (.getfield 98, 3)) (kk : Sim Θ nL ρ σ F cs (pc + 3) lv (.ref (vO (VX g) + 75) :: st)) : Sim Θ nL ρ σ F cs pc lv (.ref (vO (VX g) + 0) :: st) := s_get hc (C := RX0) (T := TX0) (N := 19) (ci := 0) (k := 0) in_X0 (Nat.le_of_ble_eq_true rfl) rfl rfl 17 (Nat.le_of_ble_eq_true rfl) q227 (fun _ _ _ _ h => h) rfl hd kk
theorem rX_st_75 {own : String} {γ : Type} {Θ : ThT Mem} {g : GeoX} {cc : ByteArray} {nL : Nat} {rm : Room} {ret : Option FieldType} {hs : List (Nat × Nat × Nat × Nat)} {ini : Bool} {O : Outcome} {σ' : Mem} {ρ : γ} {σ : Mem} {cs : Nat × Nat} {pc : Nat} {lv : List (Nat × Value)} {st : List Value} (hc : Cx Θ (VX g) cc nL own rm ret hs ini O σ') {K : Mem → Option γ} {i x : Int32} {j : Nat} (hin : inb i 495 = true) (hj : ix i = j) (hd : decode cc pc = .ok (.iastore, 1)) (kk : ∀ σ1 : Mem, Sim Θ nL ρ σ1 (K σ1) cs (pc + 1) lv st) : Sim Θ nL ρ σ (lt_ (pI σ 75 j x) K) cs pc lv (.int x :: .int i :: .ref (vO (VX g) + 75) :: st) := s_iast hc (k := 75) (t := 0) (n := 495) (Nat.le_of_ble_eq_true rfl) (fun _ => rfl) rfl hin hj hd kk
theorem rX_g_X0_101_0 {γ : Type} {Θ : ThT Mem} {g : GeoX} {cc : ByteArray} {nL : Nat} {rm : Room} {ret : Option FieldType} {hs : List (Nat × Nat × Nat × Nat)} {ini : Bool} {O : Outcome} {σ' : Mem} {ρ : γ} {σ : Mem} {F : Option γ} {cs : Nat × Nat} {pc : Nat} {lv : List (Nat × Value)} {st : List Value} (hc : Cx Θ (VX g) cc nL RX0 rm ret hs ini O σ') (hd : decode cc pc = .ok (.getfield 101, 3)) (kk : Sim Θ nL ρ σ F cs (pc + 3) lv (.ref (vO (VX g) + 76) :: st)) : Sim Θ nL ρ σ F cs pc lv (.ref (vO (VX g) + 0) :: st) := s_get hc (C := RX0) (T := TX0) (N := 19) (ci := 0) (k := 0) in_X0 (Nat.le_of_ble_eq_true rfl) rfl rfl 18 (Nat.le_of_ble_eq_true rfl) q228 (fun _ _ _ _ h => h) rfl hd kk
theorem rX_st_76 {own : String} {γ : Type} {Θ : ThT Mem} {g : GeoX} {cc : ByteArray} {nL : Nat} {rm : Room} {ret : Option FieldType} {hs : List (Nat × Nat × Nat × Nat)} {ini : Bool} {O : Outcome} {σ' : Mem} {ρ : γ} {σ : Mem} {cs : Nat × Nat} {pc : Nat} {lv : List (Nat × Value)} {st : List Value} (hc : Cx Θ (VX g) cc nL own rm ret hs ini O σ') {K : Mem → Option γ} {i x : Int32} {j : Nat} (hin : inb i 495 = true) (hj : ix i = j) (hn : narrow .boolean (.int x) = .int x) (hd : decode cc pc = .ok (.bastore, 1)) (kk : ∀ σ1 : Mem, Sim Θ nL ρ σ1 (K σ1) cs (pc + 1) lv st) : Sim Θ nL ρ σ (lt_ (pI σ 76 j x) K) cs pc lv (.int x :: .int i :: .ref (vO (VX g) + 76) :: st) := s_zast hc (k := 76) (t := 2) (n := 495) (Nat.le_of_ble_eq_true rfl) (fun _ => rfl) rfl hin hj hn hd kk
def bX0_begins_6 (N : Nat) (σ : Mem)  (r6 : (Mem × Int32) → Option (Unit × Mem)) (y6 : Mem × Int32) : Option (Unit × Mem) :=
  if (495 : Int32) ≤ y6.2 then
  (some ((), y6.1))
  else (gb (inb y6.2 495) (
  gb (inb y6.2 495) (
  lt_ (pI y6.1 75 (ix y6.2) (gI y6.1 68 (ix y6.2))) (fun σ5 => 
  gb (inb y6.2 495) (
  lt_ (pI σ5 76 (ix y6.2) (0 : Int32)) (fun σ7 => 
  r6 (σ7, (y6.2 + (1 : Int32)))))))))
set_option maxHeartbeats 4000000 in
theorem wbX0_begins_6 {Θ : ThT Mem} {g : GeoX} {N : Nat}  {ρ : Unit × Mem} (σ : Mem) (hc : Cx Θ (VX g) cX0_begins 2 RX0 (rk 77 0 0) none [] false (oV) ρ.2)  (r6 : (Mem × Int32) → Option (Unit × Mem)) (hr6 : ∀ y : Mem × Int32, Sim Θ 2 ρ (y.1) (r6 y) (0, 0) 6 [(0, .ref (vO (VX g) + 0)), (1, .int y.2)] []) : ∀ y6 : Mem × Int32, Sim Θ 2 ρ (y6.1) (bX0_begins_6 N σ  r6 y6) (0, 0) 6 [(0, .ref (vO (VX g) + 0)), (1, .int y6.2)] [] := by
  intro y6
  have hz := hc.z
  have hr6c : ∀ (z0_ : Mem) (z1_ : Int32), Sim Θ 2 ρ (z0_) (r6 (z0_, z1_)) (0, 0) 6 [(0, .ref (vO (VX g) + 0)), (1, .int z1_)] [] := fun z0_ z1_ => hr6 (z0_, z1_)
  unfold bX0_begins_6
  refine s_iload_n hz dX0_begins_6 rfl 1 rfl ?_
  refine s_sipush (v := (495 : Int32)) hz dX0_begins_7 (by decide) ?_
  refine s_icmp_ge (tgt := 38) hz dX0_begins_10 rfl (fun h3 => ?_) (fun h3 => ?_)
  · exact s_vretM hc dX0_begins_38 (Nat.le_of_ble_eq_true rfl) (Nat.le_of_ble_eq_true rfl)
  · refine s_aload_n hz dX0_begins_13 rfl 0 rfl ?_
    refine rX_g_X0_98_0 hc dX0_begins_14 ?_
    refine s_iload_n hz dX0_begins_17 rfl 1 rfl ?_
    refine s_aload_n hz dX0_begins_18 rfl 0 rfl ?_
    refine rX_g_X0_90_0 hc dX0_begins_19 ?_
    refine s_iload_n hz dX0_begins_22 rfl 1 rfl ?_
    refine s_gb (fun h4 => ?_)
    refine rX_ld_68 hc h4 rfl dX0_begins_23 ?_
    refine s_gb (fun h6 => ?_)
    refine rX_st_75 hc h6 rfl dX0_begins_24 (fun σ5 => ?_)
    refine s_aload_n hz dX0_begins_25 rfl 0 rfl ?_
    refine rX_g_X0_101_0 hc dX0_begins_26 ?_
    refine s_iload_n hz dX0_begins_29 rfl 1 rfl ?_
    refine s_iconst (v := (0 : Int32)) hz dX0_begins_30 (by decide) ?_
    refine s_gb (fun h8 => ?_)
    refine rX_st_76 hc h8 rfl rfl dX0_begins_31 (fun σ7 => ?_)
    refine s_iinc (v := (1 : Int32)) (lv' := [(1, .int (y6.2 + (1 : Int32))), (0, .ref (vO (VX g) + 0))]) hz dX0_begins_32 1 rfl (by decide) (Nat.le_of_ble_eq_true rfl) rfl ?_
    refine s_goto (tgt := 6) hz dX0_begins_35 rfl ?_
    exact s_sub [1, 0] rfl (hr6c σ7 (y6.2 + (1 : Int32)))
def fX0_begins (N : Nat) (σ : Mem)  : Option (Unit × Mem) :=
  (fX0_findCrossed N σ).bind (fun q1 => 
  lp (bX0_begins_6 N q1.2) N (q1.2, (0 : Int32)))
set_option maxHeartbeats 4000000 in
theorem wfX0_begins {Θ : ThT Mem} {g : GeoX} {N : Nat}  {ρ : Unit × Mem} (σ : Mem)  (hc : Cx Θ (VX g) cX0_begins 2 RX0 (rk 77 0 0) none [] false (oV) ρ.2) : Sim Θ 2 ρ σ (fX0_begins N σ ) (0, 0) 0 [(0, .ref (vO (VX g) + 0))] [] := by
  have hz := hc.z
  unfold fX0_begins
  refine s_aload_n hz dX0_begins_0 rfl 0 rfl ?_
  refine s_bind (fun q1 e2 => ?_)
  refine kX_X0_249 hc (cfX0_findCrossed e2) ⟨(Nat.le_of_ble_eq_true rfl), (Nat.le_of_ble_eq_true rfl)⟩ ⟨(Nat.le_of_ble_eq_true rfl), (Nat.le_of_ble_eq_true rfl)⟩ (Nat.le_of_ble_eq_true rfl) dX0_begins_1 ?_
  refine s_iconst (v := (0 : Int32)) hz dX0_begins_4 (by decide) ?_
  refine s_istore_n (lv' := [(1, .int (0 : Int32)), (0, .ref (vO (VX g) + 0))]) hz dX0_begins_5 rfl (Nat.le_of_ble_eq_true rfl) rfl ?_
  exact s_sub [1, 0] rfl (s_lp (sg := fun y : Mem × Int32 => y.1) (lvs := fun y : Mem × Int32 => [(0, .ref (vO (VX g) + 0)), (1, .int y.2)]) (fun rec hrec => wbX0_begins_6 q1.2 hc   rec hrec) N (q1.2, (0 : Int32)))
theorem cfX0_begins {g : GeoX} {N : Nat}  {σ : Mem}  {ρ : Unit × Mem} (hF : fX0_begins N σ  = some ρ) (l : Launch) : Ct (VX g) l yX0_begins cX0_begins 2 none (rk 77 0 0) [.ref (vO (VX g) + 0)] σ (oV) ρ.2 :=
  Ct.of (by decide) (Nat.le_of_ble_eq_true rfl) (fun Θ hc ls hl => wfX0_begins σ  hc hF ls hl)
theorem rX_ld_75 {own : String} {γ : Type} {Θ : ThT Mem} {g : GeoX} {cc : ByteArray} {nL : Nat} {rm : Room} {ret : Option FieldType} {hs : List (Nat × Nat × Nat × Nat)} {ini : Bool} {O : Outcome} {σ' : Mem} {ρ : γ} {σ : Mem} {F : Option γ} {cs : Nat × Nat} {pc : Nat} {lv : List (Nat × Value)} {st : List Value} (hc : Cx Θ (VX g) cc nL own rm ret hs ini O σ') {i : Int32} {j : Nat} (hin : inb i 495 = true) (hj : ix i = j) (hd : decode cc pc = .ok (.iaload, 1)) (kk : Sim Θ nL ρ σ F cs (pc + 1) lv (.int (gI σ 75 j) :: st)) : Sim Θ nL ρ σ F cs pc lv (.int i :: .ref (vO (VX g) + 75) :: st) := s_iald hc (k := 75) (t := 0) (n := 495) (Nat.le_of_ble_eq_true rfl) rfl rfl hin hj hd kk
theorem rX_ld_76 {own : String} {γ : Type} {Θ : ThT Mem} {g : GeoX} {cc : ByteArray} {nL : Nat} {rm : Room} {ret : Option FieldType} {hs : List (Nat × Nat × Nat × Nat)} {ini : Bool} {O : Outcome} {σ' : Mem} {ρ : γ} {σ : Mem} {F : Option γ} {cs : Nat × Nat} {pc : Nat} {lv : List (Nat × Value)} {st : List Value} (hc : Cx Θ (VX g) cc nL own rm ret hs ini O σ') {i : Int32} {j : Nat} (hin : inb i 495 = true) (hj : ix i = j) (hd : decode cc pc = .ok (.baload, 1)) (kk : Sim Θ nL ρ σ F cs (pc + 1) lv (.int (gI σ 76 j) :: st)) : Sim Θ nL ρ σ F cs pc lv (.int i :: .ref (vO (VX g) + 76) :: st) := s_zald hc (k := 76) (t := 2) (n := 495) (Nat.le_of_ble_eq_true rfl) rfl rfl hin hj hd kk
def jX0_leastOf_24 (N : Nat) (σ : Mem) (x1 : Int32) (x2 : Int32) (x3 : Int32) (r4 : (Int32 × Int32) → Option (Int32)) : Option (Int32) :=
  if x2 < (0 : Int32) then
  (r4 (x3, (x3 + (1 : Int32))))
  else (gb (inb x3 495) (
  gb (inb x2 495) (
  if (gI σ 75 (ix x2)) ≤ (gI σ 75 (ix x3)) then
  (r4 (x2, (x3 + (1 : Int32))))
  else (r4 (x3, (x3 + (1 : Int32)))))))
set_option maxHeartbeats 4000000 in
theorem wjX0_leastOf_24 {Θ : ThT Mem} {g : GeoX} {N : Nat}  {ρ : Int32} (σ : Mem) (hc : Cx Θ (VX g) cX0_leastOf 4 RX0 (rk 1 0 0) (some .int) [] false (oI ρ) σ) (x1 : Int32) (x2 : Int32) (x3 : Int32) (r4 : (Int32 × Int32) → Option (Int32)) (hr4 : ∀ y : Int32 × Int32, Sim Θ 4 ρ (σ) (r4 y) (0, 0) 4 [(0, .ref (vO (VX g) + 0)), (1, .int x1), (2, .int y.1), (3, .int y.2)] []) : Sim Θ 4 ρ σ (jX0_leastOf_24 N σ x1 x2 x3 r4) (0, 0) 24 [(0, .ref (vO (VX g) + 0)), (1, .int x1), (2, .int x2), (3, .int x3)] [] := by
  have hz := hc.z
  have hr4c : ∀ (z0_ : Int32) (z1_ : Int32), Sim Θ 4 ρ (σ) (r4 (z0_, z1_)) (0, 0) 4 [(0, .ref (vO (VX g) + 0)), (1, .int x1), (2, .int z0_), (3, .int z1_)] [] := fun z0_ z1_ => hr4 (z0_, z1_)
  unfold jX0_leastOf_24
  refine s_iload_n hz dX0_leastOf_24 rfl 2 rfl ?_
  refine s_if_lt (tgt := 43) hz dX0_leastOf_25 rfl (fun h3 => ?_) (fun h3 => ?_)
  · refine s_iload_n hz dX0_leastOf_43 rfl 3 rfl ?_
    refine s_istore_n (lv' := [(2, .int x3), (0, .ref (vO (VX g) + 0)), (1, .int x1), (3, .int x3)]) hz dX0_leastOf_44 rfl (Nat.le_of_ble_eq_true rfl) rfl ?_
    refine s_iinc (v := (1 : Int32)) (lv' := [(3, .int (x3 + (1 : Int32))), (2, .int x3), (0, .ref (vO (VX g) + 0)), (1, .int x1)]) hz dX0_leastOf_45 3 rfl (by decide) (Nat.le_of_ble_eq_true rfl) rfl ?_
    refine s_goto (tgt := 4) hz dX0_leastOf_48 rfl ?_
    exact s_sub [2, 3, 1, 0] rfl (hr4c x3 (x3 + (1 : Int32)))
  · refine s_aload_n hz dX0_leastOf_28 rfl 0 rfl ?_
    refine rX_g_X0_98_0 hc dX0_leastOf_29 ?_
    refine s_iload_n hz dX0_leastOf_32 rfl 3 rfl ?_
    refine s_gb (fun h4 => ?_)
    refine rX_ld_75 hc h4 rfl dX0_leastOf_33 ?_
    refine s_aload_n hz dX0_leastOf_34 rfl 0 rfl ?_
    refine rX_g_X0_98_0 hc dX0_leastOf_35 ?_
    refine s_iload_n hz dX0_leastOf_38 rfl 2 rfl ?_
    refine s_gb (fun h5 => ?_)
    refine rX_ld_75 hc h5 rfl dX0_leastOf_39 ?_
    refine s_icmp_ge (tgt := 45) hz dX0_leastOf_40 rfl (fun h6 => ?_) (fun h6 => ?_)
    · refine s_iinc (v := (1 : Int32)) (lv' := [(3, .int (x3 + (1 : Int32))), (0, .ref (vO (VX g) + 0)), (1, .int x1), (2, .int x2)]) hz dX0_leastOf_45 3 rfl (by decide) (Nat.le_of_ble_eq_true rfl) rfl ?_
      refine s_goto (tgt := 4) hz dX0_leastOf_48 rfl ?_
      exact s_sub [1, 2, 3, 0] rfl (hr4c x2 (x3 + (1 : Int32)))
    · refine s_iload_n hz dX0_leastOf_43 rfl 3 rfl ?_
      refine s_istore_n (lv' := [(2, .int x3), (0, .ref (vO (VX g) + 0)), (1, .int x1), (3, .int x3)]) hz dX0_leastOf_44 rfl (Nat.le_of_ble_eq_true rfl) rfl ?_
      refine s_iinc (v := (1 : Int32)) (lv' := [(3, .int (x3 + (1 : Int32))), (2, .int x3), (0, .ref (vO (VX g) + 0)), (1, .int x1)]) hz dX0_leastOf_45 3 rfl (by decide) (Nat.le_of_ble_eq_true rfl) rfl ?_
      refine s_goto (tgt := 4) hz dX0_leastOf_48 rfl ?_
      exact s_sub [2, 3, 1, 0] rfl (hr4c x3 (x3 + (1 : Int32)))
def bX0_leastOf_4 (N : Nat) (σ : Mem) (x1 : Int32) (r4 : (Int32 × Int32) → Option (Int32)) (y4 : Int32 × Int32) : Option (Int32) :=
  if (495 : Int32) ≤ y4.2 then
  (some y4.1)
  else (if x1 = (0 : Int32) then
  (jX0_leastOf_24 N σ x1 y4.1 y4.2 r4)
  else (gb (inb y4.2 495) (
  if (gI σ 76 (ix y4.2)) = (0 : Int32) then
  (jX0_leastOf_24 N σ x1 y4.1 y4.2 r4)
  else (r4 (y4.1, (y4.2 + (1 : Int32)))))))
set_option maxHeartbeats 4000000 in
theorem wbX0_leastOf_4 {Θ : ThT Mem} {g : GeoX} {N : Nat}  {ρ : Int32} (σ : Mem) (hc : Cx Θ (VX g) cX0_leastOf 4 RX0 (rk 1 0 0) (some .int) [] false (oI ρ) σ) (x1 : Int32) (r4 : (Int32 × Int32) → Option (Int32)) (hr4 : ∀ y : Int32 × Int32, Sim Θ 4 ρ (σ) (r4 y) (0, 0) 4 [(0, .ref (vO (VX g) + 0)), (1, .int x1), (2, .int y.1), (3, .int y.2)] []) : ∀ y4 : Int32 × Int32, Sim Θ 4 ρ (σ) (bX0_leastOf_4 N σ x1 r4 y4) (0, 0) 4 [(0, .ref (vO (VX g) + 0)), (1, .int x1), (2, .int y4.1), (3, .int y4.2)] [] := by
  intro y4
  have hz := hc.z
  have hr4c : ∀ (z0_ : Int32) (z1_ : Int32), Sim Θ 4 ρ (σ) (r4 (z0_, z1_)) (0, 0) 4 [(0, .ref (vO (VX g) + 0)), (1, .int x1), (2, .int z0_), (3, .int z1_)] [] := fun z0_ z1_ => hr4 (z0_, z1_)
  unfold bX0_leastOf_4
  refine s_iload_n hz dX0_leastOf_4 rfl 3 rfl ?_
  refine s_sipush (v := (495 : Int32)) hz dX0_leastOf_5 (by decide) ?_
  refine s_icmp_ge (tgt := 51) hz dX0_leastOf_8 rfl (fun h1 => ?_) (fun h1 => ?_)
  · refine s_iload_n hz dX0_leastOf_51 rfl 2 rfl ?_
    exact s_iret hc dX0_leastOf_52 (Nat.le_of_ble_eq_true rfl) (Nat.le_of_ble_eq_true rfl)
  · refine s_iload_n hz dX0_leastOf_11 rfl 1 rfl ?_
    refine s_if_eq (tgt := 24) hz dX0_leastOf_12 rfl (fun h2 => ?_) (fun h2 => ?_)
    · exact s_sub [0, 1, 2, 3] rfl (wjX0_leastOf_24 σ hc x1 y4.1 y4.2 r4 hr4)
    · refine s_aload_n hz dX0_leastOf_15 rfl 0 rfl ?_
      refine rX_g_X0_101_0 hc dX0_leastOf_16 ?_
      refine s_iload_n hz dX0_leastOf_19 rfl 3 rfl ?_
      refine s_gb (fun h7 => ?_)
      refine rX_ld_76 hc h7 rfl dX0_leastOf_20 ?_
      refine s_if_ne (tgt := 45) hz dX0_leastOf_21 rfl (fun h8 => ?_) (fun h8 => ?_)
      · refine s_iinc (v := (1 : Int32)) (lv' := [(3, .int (y4.2 + (1 : Int32))), (0, .ref (vO (VX g) + 0)), (1, .int x1), (2, .int y4.1)]) hz dX0_leastOf_45 3 rfl (by decide) (Nat.le_of_ble_eq_true rfl) rfl ?_
        refine s_goto (tgt := 4) hz dX0_leastOf_48 rfl ?_
        exact s_sub [1, 2, 3, 0] rfl (hr4c y4.1 (y4.2 + (1 : Int32)))
      · exact s_sub [0, 1, 2, 3] rfl (wjX0_leastOf_24 σ hc x1 y4.1 y4.2 r4 hr4)
def fX0_leastOf (N : Nat) (σ : Mem) (x1 : Int32) : Option (Int32) :=
  lp (bX0_leastOf_4 N σ x1) N ((-1 : Int32), (0 : Int32))
set_option maxHeartbeats 4000000 in
theorem wfX0_leastOf {Θ : ThT Mem} {g : GeoX} {N : Nat}  {ρ : Int32} (σ : Mem) (x1 : Int32) (hc : Cx Θ (VX g) cX0_leastOf 4 RX0 (rk 1 0 0) (some .int) [] false (oI ρ) σ) : Sim Θ 4 ρ σ (fX0_leastOf N σ x1) (0, 0) 0 [(0, .ref (vO (VX g) + 0)), (1, .int x1)] [] := by
  have hz := hc.z
  unfold fX0_leastOf
  refine s_iconst (v := (-1 : Int32)) hz dX0_leastOf_0 (by decide) ?_
  refine s_istore_n (lv' := [(2, .int (-1 : Int32)), (0, .ref (vO (VX g) + 0)), (1, .int x1)]) hz dX0_leastOf_1 rfl (Nat.le_of_ble_eq_true rfl) rfl ?_
  refine s_iconst (v := (0 : Int32)) hz dX0_leastOf_2 (by decide) ?_
  refine s_istore_n (lv' := [(3, .int (0 : Int32)), (2, .int (-1 : Int32)), (0, .ref (vO (VX g) + 0)), (1, .int x1)]) hz dX0_leastOf_3 rfl (Nat.le_of_ble_eq_true rfl) rfl ?_
  exact s_sub [2, 3, 1, 0] rfl (s_lp (sg := fun y : Int32 × Int32 => σ) (lvs := fun y : Int32 × Int32 => [(0, .ref (vO (VX g) + 0)), (1, .int x1), (2, .int y.1), (3, .int y.2)]) (fun rec hrec => wbX0_leastOf_4 σ hc x1  rec hrec) N ((-1 : Int32), (0 : Int32)))
theorem cfX0_leastOf {g : GeoX} {N : Nat}  {σ : Mem} {x1 : Int32} {ρ : Int32} (hF : fX0_leastOf N σ x1 = some ρ) (l : Launch) : Ct (VX g) l yX0_leastOf cX0_leastOf 4 (some .int) (rk 1 0 0) [.ref (vO (VX g) + 0), .int x1] σ (oI ρ) σ :=
  Ct.of (by decide) (Nat.le_of_ble_eq_true rfl) (fun Θ hc ls hl => wfX0_leastOf σ x1 hc hF ls hl)
theorem kX_X0_338 {γ : Type} {Θ : ThT Mem} {g : GeoX} {cc : ByteArray} {nL : Nat} {rm : Room} {ret : Option FieldType} {hs : List (Nat × Nat × Nat × Nat)} {ini : Bool} {O : Outcome} {σ' : Mem} {ρ : γ} {σ : Mem} {F : Option γ} {cs : Nat × Nat} {pc : Nat} {lv : List (Nat × Value)} {st : List Value} (hc : Cx Θ (VX g) cc nL RX0 rm ret hs ini O σ') {σ1 : Mem}  {rmc : Room} (hM : ∀ l : Launch, Ct (VX g) l yX0_begins cX0_begins 2 none rmc [.ref (vO (VX g) + 0)] σ oV σ1) (hR : rmc.frames + 1 ≤ rm.frames ∧ 8 + (2 + 11) + rmc.locals ≤ rm.locals) (hf : cs.1 + rmc.cells ≤ rm.cells ∧ cs.2 + rmc.slots ≤ rm.slots) (hrest : (st.map fun v => v.category).sum ≤ 8) (hd : decode cc pc = .ok (.invokevirtual 338, 3)) (kk : Sim Θ nL ρ σ1 F (cs.1 + rmc.cells, cs.2 + rmc.slots) (pc + 3) lv (st)) : Sim Θ nL ρ σ F cs pc lv (.ref (vO (VX g) + 0) :: st) := s_callVo hc (a := 0) (As := []) (rest := st) (n := 0) (ci := 0) (q := (RX0, TX0, 19)) hM (lw_V q922 q924 qs23 q62 q925) (by decide +kernel) rfl (Ob.fix (Nat.le_of_ble_eq_true rfl) rfl) rfl rfl hrest hR hf hd kk
theorem kX_X0_341 {γ : Type} {Θ : ThT Mem} {g : GeoX} {cc : ByteArray} {nL : Nat} {rm : Room} {ret : Option FieldType} {hs : List (Nat × Nat × Nat × Nat)} {ini : Bool} {O : Outcome} {σ' : Mem} {ρ : γ} {σ : Mem} {F : Option γ} {cs : Nat × Nat} {pc : Nat} {lv : List (Nat × Value)} {st : List Value} (hc : Cx Θ (VX g) cc nL RX0 rm ret hs ini O σ') {σ1 : Mem} {x1 : Int32} {r : Int32} {rmc : Room} (hM : ∀ l : Launch, Ct (VX g) l yX0_leastOf cX0_leastOf 4 (some .int) rmc [.ref (vO (VX g) + 0), .int x1] σ (oI r) σ1) (hR : rmc.frames + 1 ≤ rm.frames ∧ 8 + (4 + 11) + rmc.locals ≤ rm.locals) (hf : cs.1 + rmc.cells ≤ rm.cells ∧ cs.2 + rmc.slots ≤ rm.slots) (hrest : (st.map fun v => v.category).sum ≤ 8) (hd : decode cc pc = .ok (.invokevirtual 341, 3)) (kk : Sim Θ nL ρ σ1 F (cs.1 + rmc.cells, cs.2 + rmc.slots) (pc + 3) lv (.int r :: st)) : Sim Θ nL ρ σ F cs pc lv (.int x1 :: .ref (vO (VX g) + 0) :: st) := s_callVo hc (a := 0) (As := [.int x1]) (rest := st) (n := 1) (ci := 0) (q := (RX0, TX0, 19)) hM (lw_V q926 q928 qs24 q62 q929) (by decide +kernel) rfl (Ob.fix (Nat.le_of_ble_eq_true rfl) rfl) rfl rfl hrest hR hf hd kk
def bX0_house_155 (N : Nat) (σ : Mem) (x1 : Int32) (x2 : Int64) (x6 : Nat) (x7 : Int32) (r72 : (Mem × Int64 × Int32) → Option (Int64 × Mem)) (r155 : (Int64 × Int32) → Option (Int64 × Mem)) (y155 : Int64 × Int32) : Option (Int64 × Mem) :=
  if (4 : Int32) < y155.2 then
  (r72 (σ, y155.1, (x7 + (1 : Int32))))
  else ((aI 0 σ x6 y155.2).bind (fun v21 => 
  if v21 ≤ (0 : Int32) then
  (r155 (y155.1, (y155.2 + (1 : Int32))))
  else ((aI 0 σ x6 y155.2).bind (fun v24 => 
  (fX0_shareOf N σ x2 y155.2).bind (fun q26 => 
  gb (inb y155.2 5) (
  gb (inb x7 495) (
  (aI 0 σ x6 y155.2).bind (fun v30 => 
  gb (nzL ((((gI σ (70 + ix y155.2) (ix x7)) + v30)).toInt64)) (
  (fX0_taxed N σ (q26 / ((((gI σ (70 + ix y155.2) (ix x7)) + v30)).toInt64))).bind (fun q33 => 
  lt_ (y155.1 + (((v24).toInt64) * q33)) (fun v35 => 
  r155 (v35, (y155.2 + (1 : Int32))))))))))))))
set_option maxHeartbeats 4000000 in
theorem wbX0_house_155 {Θ : ThT Mem} {g : GeoX} {N : Nat}  {ρ : Int64 × Mem} (σ : Mem) (hc : Cx Θ (VX g) cX0_house 9 RX0 (rk 78 2 12) (some .long) [(0, 242, 243, 1)] false (oL ρ.1) ρ.2) (x1 : Int32) (x2 : Int64) (x6 : Nat) (x7 : Int32) (r72 : (Mem × Int64 × Int32) → Option (Int64 × Mem)) (hr72 : ∀ y : Mem × Int64 × Int32, Sim Θ 9 ρ (y.1) (r72 y) (2, 12) 72 [(0, .ref (vO (VX g) + 0)), (1, .int x1), (2, .long x2), (4, .long y.2.1), (6, .ref (vO (VX g) + x6)), (7, .int y.2.2)] []) (r155 : (Int64 × Int32) → Option (Int64 × Mem)) (hr155 : ∀ y : Int64 × Int32, Sim Θ 9 ρ (σ) (r155 y) (2, 12) 155 [(0, .ref (vO (VX g) + 0)), (1, .int x1), (2, .long x2), (4, .long y.1), (6, .ref (vO (VX g) + x6)), (7, .int x7), (8, .int y.2)] []) : ∀ y155 : Int64 × Int32, Sim Θ 9 ρ (σ) (bX0_house_155 N σ x1 x2 x6 x7 r72 r155 y155) (2, 12) 155 [(0, .ref (vO (VX g) + 0)), (1, .int x1), (2, .long x2), (4, .long y155.1), (6, .ref (vO (VX g) + x6)), (7, .int x7), (8, .int y155.2)] [] := by
  intro y155
  have hz := hc.z
  have hr72c : ∀ (z0_ : Mem) (z1_ : Int64) (z2_ : Int32), Sim Θ 9 ρ (z0_) (r72 (z0_, z1_, z2_)) (2, 12) 72 [(0, .ref (vO (VX g) + 0)), (1, .int x1), (2, .long x2), (4, .long z1_), (6, .ref (vO (VX g) + x6)), (7, .int z2_)] [] := fun z0_ z1_ z2_ => hr72 (z0_, z1_, z2_)
  have hr155c : ∀ (z0_ : Int64) (z1_ : Int32), Sim Θ 9 ρ (σ) (r155 (z0_, z1_)) (2, 12) 155 [(0, .ref (vO (VX g) + 0)), (1, .int x1), (2, .long x2), (4, .long z0_), (6, .ref (vO (VX g) + x6)), (7, .int x7), (8, .int z1_)] [] := fun z0_ z1_ => hr155 (z0_, z1_)
  unfold bX0_house_155
  refine s_iload hz dX0_house_155 6 rfl ?_
  refine s_iconst (v := (4 : Int32)) hz dX0_house_157 (by decide) ?_
  refine s_icmp_gt (tgt := 216) hz dX0_house_158 rfl (fun h20 => ?_) (fun h20 => ?_)
  · refine s_iinc (v := (1 : Int32)) (lv' := [(7, .int (x7 + (1 : Int32))), (0, .ref (vO (VX g) + 0)), (1, .int x1), (2, .long x2), (4, .long y155.1), (6, .ref (vO (VX g) + x6)), (8, .int y155.2)]) hz dX0_house_216 5 rfl (by decide) (Nat.le_of_ble_eq_true rfl) rfl ?_
    refine s_goto (tgt := 72) hz dX0_house_219 rfl ?_
    exact s_sub [1, 2, 3, 4, 5, 0] rfl (hr72c σ y155.1 (x7 + (1 : Int32)))
  · refine s_aload hz dX0_house_161 4 rfl ?_
    refine s_iload hz dX0_house_163 6 rfl ?_
    refine s_bind (fun v21 e22 => ?_)
    refine s_diald hc e22 (t := 0) rfl dX0_house_165 ?_
    refine s_if_le (tgt := 210) hz dX0_house_166 rfl (fun h23 => ?_) (fun h23 => ?_)
    · refine s_iinc (v := (1 : Int32)) (lv' := [(8, .int (y155.2 + (1 : Int32))), (0, .ref (vO (VX g) + 0)), (1, .int x1), (2, .long x2), (4, .long y155.1), (6, .ref (vO (VX g) + x6)), (7, .int x7)]) hz dX0_house_210 6 rfl (by decide) (Nat.le_of_ble_eq_true rfl) rfl ?_
      refine s_goto (tgt := 155) hz dX0_house_213 rfl ?_
      exact s_sub [1, 2, 3, 4, 5, 6, 0] rfl (hr155c y155.1 (y155.2 + (1 : Int32)))
    · refine s_lload hz dX0_house_169 3 rfl ?_
      refine s_aload hz dX0_house_171 4 rfl ?_
      refine s_iload hz dX0_house_173 6 rfl ?_
      refine s_bind (fun v24 e25 => ?_)
      refine s_diald hc e25 (t := 0) rfl dX0_house_175 ?_
      refine s_i2l hz dX0_house_176 ?_
      refine s_aload_n hz dX0_house_177 rfl 0 rfl ?_
      refine s_aload_n hz dX0_house_178 rfl 0 rfl ?_
      refine s_lload_n hz dX0_house_179 rfl 2 rfl ?_
      refine s_iload hz dX0_house_180 6 rfl ?_
      refine s_bind (fun q26 e27 => ?_)
      refine kX_X0_302 hc (cfX0_shareOf e27) ⟨(Nat.le_of_ble_eq_true rfl), (Nat.le_of_ble_eq_true rfl)⟩ ⟨(Nat.le_of_ble_eq_true rfl), (Nat.le_of_ble_eq_true rfl)⟩ (Nat.le_of_ble_eq_true rfl) dX0_house_182 ?_
      refine s_aload_n hz dX0_house_185 rfl 0 rfl ?_
      refine rX_g_X0_95_0 hc dX0_house_186 ?_
      refine s_iload hz dX0_house_189 6 rfl ?_
      refine s_gb (fun h28 => ?_)
      refine rX_aa_69 hc h28 rfl dX0_house_191 ?_
      refine s_iload hz dX0_house_192 5 rfl ?_
      refine s_gb (fun h29 => ?_)
      refine rX_ldv_70 hc (inb_lt h28) h29 rfl dX0_house_194 ?_
      refine s_aload hz dX0_house_195 4 rfl ?_
      refine s_iload hz dX0_house_197 6 rfl ?_
      refine s_bind (fun v30 e31 => ?_)
      refine s_diald hc e31 (t := 0) rfl dX0_house_199 ?_
      refine s_iadd hz dX0_house_200 ?_
      refine s_i2l hz dX0_house_201 ?_
      refine s_gb (fun h32 => ?_)
      refine s_ldiv hz dX0_house_202 (nzL_ne h32) ?_
      refine s_bind (fun q33 e34 => ?_)
      refine kX_X0_322 hc (cfX0_taxed e34) ⟨(Nat.le_of_ble_eq_true rfl), (Nat.le_of_ble_eq_true rfl)⟩ ⟨(Nat.le_of_ble_eq_true rfl), (Nat.le_of_ble_eq_true rfl)⟩ (Nat.le_of_ble_eq_true rfl) dX0_house_203 ?_
      refine s_lmul hz dX0_house_206 ?_
      refine s_ladd hz dX0_house_207 ?_
      refine s_nmL (fun v35 => ?_)
      refine s_lstore (lv' := [(4, .long v35), (0, .ref (vO (VX g) + 0)), (1, .int x1), (2, .long x2), (6, .ref (vO (VX g) + x6)), (7, .int x7), (8, .int y155.2)]) hz dX0_house_208 (Nat.le_of_ble_eq_true rfl) rfl ?_
      refine s_iinc (v := (1 : Int32)) (lv' := [(8, .int (y155.2 + (1 : Int32))), (4, .long v35), (0, .ref (vO (VX g) + 0)), (1, .int x1), (2, .long x2), (6, .ref (vO (VX g) + x6)), (7, .int x7)]) hz dX0_house_210 6 rfl (by decide) (Nat.le_of_ble_eq_true rfl) rfl ?_
      refine s_goto (tgt := 155) hz dX0_house_213 rfl ?_
      exact s_sub [2, 3, 4, 1, 5, 6, 0] rfl (hr155c v35 (y155.2 + (1 : Int32)))
def bX0_house_104 (N : Nat) (σ : Mem) (x1 : Int32) (x2 : Int64) (x4 : Int64) (x6 : Nat) (x7 : Int32) (r72 : (Mem × Int64 × Int32) → Option (Int64 × Mem)) (r104 : (Mem × Int32) → Option (Int64 × Mem)) (y104 : Mem × Int32) : Option (Int64 × Mem) :=
  if (495 : Int32) ≤ y104.2 then
  (lp (bX0_house_155 N y104.1 x1 x2 x6 x7 r72) N (x4, (2 : Int32)))
  else (gb (inb y104.2 495) (
  if (gI y104.1 76 (ix y104.2)) = (0 : Int32) then
  (r104 (y104.1, (y104.2 + (1 : Int32))))
  else (gb (inb y104.2 495) (
  gb (inb x7 495) (
  (fX0_rank N y104.1 (gI y104.1 62 (ix y104.2)) (gI y104.1 62 (ix x7))).bind (fun q40 => 
  (aI 0 y104.1 x6 q40).bind (fun v42 => 
  (uI 0 y104.1 x6 q40 (v42 + (1 : Int32))).bind (fun σ44 => 
  r104 (σ44, (y104.2 + (1 : Int32)))))))))))
set_option maxHeartbeats 4000000 in
theorem wbX0_house_104 {Θ : ThT Mem} {g : GeoX} {N : Nat}  {ρ : Int64 × Mem} (σ : Mem) (hc : Cx Θ (VX g) cX0_house 9 RX0 (rk 78 2 12) (some .long) [(0, 242, 243, 1)] false (oL ρ.1) ρ.2) (x1 : Int32) (x2 : Int64) (x4 : Int64) (x6 : Nat) (x7 : Int32) (r72 : (Mem × Int64 × Int32) → Option (Int64 × Mem)) (hr72 : ∀ y : Mem × Int64 × Int32, Sim Θ 9 ρ (y.1) (r72 y) (2, 12) 72 [(0, .ref (vO (VX g) + 0)), (1, .int x1), (2, .long x2), (4, .long y.2.1), (6, .ref (vO (VX g) + x6)), (7, .int y.2.2)] []) (r104 : (Mem × Int32) → Option (Int64 × Mem)) (hr104 : ∀ y : Mem × Int32, Sim Θ 9 ρ (y.1) (r104 y) (2, 12) 104 [(0, .ref (vO (VX g) + 0)), (1, .int x1), (2, .long x2), (4, .long x4), (6, .ref (vO (VX g) + x6)), (7, .int x7), (8, .int y.2)] []) : ∀ y104 : Mem × Int32, Sim Θ 9 ρ (y104.1) (bX0_house_104 N σ x1 x2 x4 x6 x7 r72 r104 y104) (2, 12) 104 [(0, .ref (vO (VX g) + 0)), (1, .int x1), (2, .long x2), (4, .long x4), (6, .ref (vO (VX g) + x6)), (7, .int x7), (8, .int y104.2)] [] := by
  intro y104
  have hz := hc.z
  have hr72c : ∀ (z0_ : Mem) (z1_ : Int64) (z2_ : Int32), Sim Θ 9 ρ (z0_) (r72 (z0_, z1_, z2_)) (2, 12) 72 [(0, .ref (vO (VX g) + 0)), (1, .int x1), (2, .long x2), (4, .long z1_), (6, .ref (vO (VX g) + x6)), (7, .int z2_)] [] := fun z0_ z1_ z2_ => hr72 (z0_, z1_, z2_)
  have hr104c : ∀ (z0_ : Mem) (z1_ : Int32), Sim Θ 9 ρ (z0_) (r104 (z0_, z1_)) (2, 12) 104 [(0, .ref (vO (VX g) + 0)), (1, .int x1), (2, .long x2), (4, .long x4), (6, .ref (vO (VX g) + x6)), (7, .int x7), (8, .int z1_)] [] := fun z0_ z1_ => hr104 (z0_, z1_)
  unfold bX0_house_104
  refine s_iload hz dX0_house_104 6 rfl ?_
  refine s_sipush (v := (495 : Int32)) hz dX0_house_106 (by decide) ?_
  refine s_icmp_ge (tgt := 152) hz dX0_house_109 rfl (fun h19 => ?_) (fun h19 => ?_)
  · refine s_iconst (v := (2 : Int32)) hz dX0_house_152 (by decide) ?_
    refine s_istore (lv' := [(8, .int (2 : Int32)), (0, .ref (vO (VX g) + 0)), (1, .int x1), (2, .long x2), (4, .long x4), (6, .ref (vO (VX g) + x6)), (7, .int x7)]) hz dX0_house_153 (Nat.le_of_ble_eq_true rfl) rfl ?_
    exact s_sub [1, 2, 3, 4, 5, 6, 0] rfl (s_lp (sg := fun y : Int64 × Int32 => y104.1) (lvs := fun y : Int64 × Int32 => [(0, .ref (vO (VX g) + 0)), (1, .int x1), (2, .long x2), (4, .long y.1), (6, .ref (vO (VX g) + x6)), (7, .int x7), (8, .int y.2)]) (fun rec hrec => wbX0_house_155 y104.1 hc x1 x2 x6 x7 (r72) hr72 rec hrec) N (x4, (2 : Int32)))
  · refine s_aload_n hz dX0_house_112 rfl 0 rfl ?_
    refine rX_g_X0_101_0 hc dX0_house_113 ?_
    refine s_iload hz dX0_house_116 6 rfl ?_
    refine s_gb (fun h36 => ?_)
    refine rX_ld_76 hc h36 rfl dX0_house_118 ?_
    refine s_if_eq (tgt := 146) hz dX0_house_119 rfl (fun h37 => ?_) (fun h37 => ?_)
    · refine s_iinc (v := (1 : Int32)) (lv' := [(8, .int (y104.2 + (1 : Int32))), (0, .ref (vO (VX g) + 0)), (1, .int x1), (2, .long x2), (4, .long x4), (6, .ref (vO (VX g) + x6)), (7, .int x7)]) hz dX0_house_146 6 rfl (by decide) (Nat.le_of_ble_eq_true rfl) rfl ?_
      refine s_goto (tgt := 104) hz dX0_house_149 rfl ?_
      exact s_sub [1, 2, 3, 4, 5, 6, 0] rfl (hr104c y104.1 (y104.2 + (1 : Int32)))
    · refine s_aload hz dX0_house_122 4 rfl ?_
      refine s_aload_n hz dX0_house_124 rfl 0 rfl ?_
      refine rX_g_X0_67_0 hc dX0_house_125 ?_
      refine s_iload hz dX0_house_128 6 rfl ?_
      refine s_gb (fun h38 => ?_)
      refine rX_ld_62 hc h38 rfl dX0_house_130 ?_
      refine s_aload_n hz dX0_house_131 rfl 0 rfl ?_
      refine rX_g_X0_67_0 hc dX0_house_132 ?_
      refine s_iload hz dX0_house_135 5 rfl ?_
      refine s_gb (fun h39 => ?_)
      refine rX_ld_62 hc h39 rfl dX0_house_137 ?_
      refine s_bind (fun q40 e41 => ?_)
      refine kX_X0_245 hc (cfX0_rank e41) ⟨(Nat.le_of_ble_eq_true rfl), (Nat.le_of_ble_eq_true rfl)⟩ ⟨(Nat.le_of_ble_eq_true rfl), (Nat.le_of_ble_eq_true rfl)⟩ (Nat.le_of_ble_eq_true rfl) dX0_house_138 ?_
      refine s_dup2 hz dX0_house_141 rfl rfl ?_
      refine s_bind (fun v42 e43 => ?_)
      refine s_diald hc e43 (t := 0) rfl dX0_house_142 ?_
      refine s_iconst (v := (1 : Int32)) hz dX0_house_143 (by decide) ?_
      refine s_iadd hz dX0_house_144 ?_
      refine s_bind (fun σ44 e45 => ?_)
      refine s_diast hc e45 (t := 0) rfl dX0_house_145 ?_
      refine s_iinc (v := (1 : Int32)) (lv' := [(8, .int (y104.2 + (1 : Int32))), (0, .ref (vO (VX g) + 0)), (1, .int x1), (2, .long x2), (4, .long x4), (6, .ref (vO (VX g) + x6)), (7, .int x7)]) hz dX0_house_146 6 rfl (by decide) (Nat.le_of_ble_eq_true rfl) rfl ?_
      refine s_goto (tgt := 104) hz dX0_house_149 rfl ?_
      exact s_sub [1, 2, 3, 4, 5, 6, 0] rfl (hr104c σ44 (y104.2 + (1 : Int32)))
def bX0_house_83 (N : Nat) (σ : Mem) (x1 : Int32) (x2 : Int64) (x4 : Int64) (x6 : Nat) (x7 : Int32) (r72 : (Mem × Int64 × Int32) → Option (Int64 × Mem)) (r83 : (Mem × Int32) → Option (Int64 × Mem)) (y83 : Mem × Int32) : Option (Int64 × Mem) :=
  if (4 : Int32) < y83.2 then
  (lp (bX0_house_104 N y83.1 x1 x2 x4 x6 x7 r72) N (y83.1, (0 : Int32)))
  else ((uI 0 y83.1 x6 y83.2 (0 : Int32)).bind (fun σ46 => 
  r83 (σ46, (y83.2 + (1 : Int32)))))
set_option maxHeartbeats 4000000 in
theorem wbX0_house_83 {Θ : ThT Mem} {g : GeoX} {N : Nat}  {ρ : Int64 × Mem} (σ : Mem) (hc : Cx Θ (VX g) cX0_house 9 RX0 (rk 78 2 12) (some .long) [(0, 242, 243, 1)] false (oL ρ.1) ρ.2) (x1 : Int32) (x2 : Int64) (x4 : Int64) (x6 : Nat) (x7 : Int32) (r72 : (Mem × Int64 × Int32) → Option (Int64 × Mem)) (hr72 : ∀ y : Mem × Int64 × Int32, Sim Θ 9 ρ (y.1) (r72 y) (2, 12) 72 [(0, .ref (vO (VX g) + 0)), (1, .int x1), (2, .long x2), (4, .long y.2.1), (6, .ref (vO (VX g) + x6)), (7, .int y.2.2)] []) (r83 : (Mem × Int32) → Option (Int64 × Mem)) (hr83 : ∀ y : Mem × Int32, Sim Θ 9 ρ (y.1) (r83 y) (2, 12) 83 [(0, .ref (vO (VX g) + 0)), (1, .int x1), (2, .long x2), (4, .long x4), (6, .ref (vO (VX g) + x6)), (7, .int x7), (8, .int y.2)] []) : ∀ y83 : Mem × Int32, Sim Θ 9 ρ (y83.1) (bX0_house_83 N σ x1 x2 x4 x6 x7 r72 r83 y83) (2, 12) 83 [(0, .ref (vO (VX g) + 0)), (1, .int x1), (2, .long x2), (4, .long x4), (6, .ref (vO (VX g) + x6)), (7, .int x7), (8, .int y83.2)] [] := by
  intro y83
  have hz := hc.z
  have hr72c : ∀ (z0_ : Mem) (z1_ : Int64) (z2_ : Int32), Sim Θ 9 ρ (z0_) (r72 (z0_, z1_, z2_)) (2, 12) 72 [(0, .ref (vO (VX g) + 0)), (1, .int x1), (2, .long x2), (4, .long z1_), (6, .ref (vO (VX g) + x6)), (7, .int z2_)] [] := fun z0_ z1_ z2_ => hr72 (z0_, z1_, z2_)
  have hr83c : ∀ (z0_ : Mem) (z1_ : Int32), Sim Θ 9 ρ (z0_) (r83 (z0_, z1_)) (2, 12) 83 [(0, .ref (vO (VX g) + 0)), (1, .int x1), (2, .long x2), (4, .long x4), (6, .ref (vO (VX g) + x6)), (7, .int x7), (8, .int z1_)] [] := fun z0_ z1_ => hr83 (z0_, z1_)
  unfold bX0_house_83
  refine s_iload hz dX0_house_83 6 rfl ?_
  refine s_iconst (v := (4 : Int32)) hz dX0_house_85 (by decide) ?_
  refine s_icmp_gt (tgt := 101) hz dX0_house_86 rfl (fun h18 => ?_) (fun h18 => ?_)
  · refine s_iconst (v := (0 : Int32)) hz dX0_house_101 (by decide) ?_
    refine s_istore (lv' := [(8, .int (0 : Int32)), (0, .ref (vO (VX g) + 0)), (1, .int x1), (2, .long x2), (4, .long x4), (6, .ref (vO (VX g) + x6)), (7, .int x7)]) hz dX0_house_102 (Nat.le_of_ble_eq_true rfl) rfl ?_
    exact s_sub [1, 2, 3, 4, 5, 6, 0] rfl (s_lp (sg := fun y : Mem × Int32 => y.1) (lvs := fun y : Mem × Int32 => [(0, .ref (vO (VX g) + 0)), (1, .int x1), (2, .long x2), (4, .long x4), (6, .ref (vO (VX g) + x6)), (7, .int x7), (8, .int y.2)]) (fun rec hrec => wbX0_house_104 y83.1 hc x1 x2 x4 x6 x7 (r72) hr72 rec hrec) N (y83.1, (0 : Int32)))
  · refine s_aload hz dX0_house_89 4 rfl ?_
    refine s_iload hz dX0_house_91 6 rfl ?_
    refine s_iconst (v := (0 : Int32)) hz dX0_house_93 (by decide) ?_
    refine s_bind (fun σ46 e47 => ?_)
    refine s_diast hc e47 (t := 0) rfl dX0_house_94 ?_
    refine s_iinc (v := (1 : Int32)) (lv' := [(8, .int (y83.2 + (1 : Int32))), (0, .ref (vO (VX g) + 0)), (1, .int x1), (2, .long x2), (4, .long x4), (6, .ref (vO (VX g) + x6)), (7, .int x7)]) hz dX0_house_95 6 rfl (by decide) (Nat.le_of_ble_eq_true rfl) rfl ?_
    refine s_goto (tgt := 83) hz dX0_house_98 rfl ?_
    exact s_sub [1, 2, 3, 4, 5, 6, 0] rfl (hr83c σ46 (y83.2 + (1 : Int32)))
def bX0_house_72 (N : Nat) (σ : Mem) (x1 : Int32) (x2 : Int64) (x6 : Nat) (r72 : (Mem × Int64 × Int32) → Option (Int64 × Mem)) (y72 : Mem × Int64 × Int32) : Option (Int64 × Mem) :=
  if (495 : Int32) ≤ y72.2.2 then
  (some (((y72.2.1 / (495 : Int64)) - (((x1).toInt64) * (((gI y72.1 2 0)).toInt64))), y72.1))
  else (lp (bX0_house_83 N y72.1 x1 x2 y72.2.1 x6 y72.2.2 r72) N (y72.1, (0 : Int32)))
set_option maxHeartbeats 4000000 in
theorem wbX0_house_72 {Θ : ThT Mem} {g : GeoX} {N : Nat}  {ρ : Int64 × Mem} (σ : Mem) (hc : Cx Θ (VX g) cX0_house 9 RX0 (rk 78 2 12) (some .long) [(0, 242, 243, 1)] false (oL ρ.1) ρ.2) (x1 : Int32) (x2 : Int64) (x6 : Nat) (r72 : (Mem × Int64 × Int32) → Option (Int64 × Mem)) (hr72 : ∀ y : Mem × Int64 × Int32, Sim Θ 9 ρ (y.1) (r72 y) (2, 12) 72 [(0, .ref (vO (VX g) + 0)), (1, .int x1), (2, .long x2), (4, .long y.2.1), (6, .ref (vO (VX g) + x6)), (7, .int y.2.2)] []) : ∀ y72 : Mem × Int64 × Int32, Sim Θ 9 ρ (y72.1) (bX0_house_72 N σ x1 x2 x6 r72 y72) (2, 12) 72 [(0, .ref (vO (VX g) + 0)), (1, .int x1), (2, .long x2), (4, .long y72.2.1), (6, .ref (vO (VX g) + x6)), (7, .int y72.2.2)] [] := by
  intro y72
  have hz := hc.z
  have hr72c : ∀ (z0_ : Mem) (z1_ : Int64) (z2_ : Int32), Sim Θ 9 ρ (z0_) (r72 (z0_, z1_, z2_)) (2, 12) 72 [(0, .ref (vO (VX g) + 0)), (1, .int x1), (2, .long x2), (4, .long z1_), (6, .ref (vO (VX g) + x6)), (7, .int z2_)] [] := fun z0_ z1_ z2_ => hr72 (z0_, z1_, z2_)
  unfold bX0_house_72
  refine s_iload hz dX0_house_72 5 rfl ?_
  refine s_sipush (v := (495 : Int32)) hz dX0_house_74 (by decide) ?_
  refine s_icmp_ge (tgt := 222) hz dX0_house_77 rfl (fun h17 => ?_) (fun h17 => ?_)
  · refine s_lload hz dX0_house_222 3 rfl ?_
    refine s_ldc2 hz dX0_house_224 q901 ?_
    refine s_ldiv hz dX0_house_227 (by decide) ?_
    refine s_iload_n hz dX0_house_228 rfl 1 rfl ?_
    refine s_i2l hz dX0_house_229 ?_
    refine s_aload_n hz dX0_house_230 rfl 0 rfl ?_
    refine rX_g_X0_42_0 hc dX0_house_231 ?_
    refine rX_g_X0_286_1 hc dX0_house_234 ?_
    refine s_iconst (v := (0 : Int32)) hz dX0_house_237 (by decide) ?_
    refine rX_ld_2 hc (j := 0) (by decide) (by decide) dX0_house_238 ?_
    refine s_i2l hz dX0_house_239 ?_
    refine s_lmul hz dX0_house_240 ?_
    refine s_lsub hz dX0_house_241 ?_
    exact s_lretM hc dX0_house_242 (Nat.le_of_ble_eq_true rfl) (Nat.le_of_ble_eq_true rfl)
  · refine s_iconst (v := (0 : Int32)) hz dX0_house_80 (by decide) ?_
    refine s_istore (lv' := [(8, .int (0 : Int32)), (0, .ref (vO (VX g) + 0)), (1, .int x1), (2, .long x2), (4, .long y72.2.1), (6, .ref (vO (VX g) + x6)), (7, .int y72.2.2)]) hz dX0_house_81 (Nat.le_of_ble_eq_true rfl) rfl ?_
    exact s_sub [1, 2, 3, 4, 5, 6, 0] rfl (s_lp (sg := fun y : Mem × Int32 => y.1) (lvs := fun y : Mem × Int32 => [(0, .ref (vO (VX g) + 0)), (1, .int x1), (2, .long x2), (4, .long y72.2.1), (6, .ref (vO (VX g) + x6)), (7, .int y72.2.2), (8, .int y.2)]) (fun rec hrec => wbX0_house_83 y72.1 hc x1 x2 y72.2.1 x6 y72.2.2 (r72) hr72 rec hrec) N (y72.1, (0 : Int32)))
def bX0_house_23 (N : Nat) (σ : Mem) (x1 : Int32) (r23 : (Mem × Int32) → Option (Int64 × Mem)) (y23 : Mem × Int32) : Option (Int64 × Mem) :=
  if x1 ≤ y23.2 then
  ((fX0_potWith N y23.1 (((gI y23.1 2 7)).toInt64)).bind (fun q14 => 
  lt_ (nC y23.1 (.inl (0, ix (5 : Int32), .inl (fun _ => 0)))) (fun σ16 => 
  lp (bX0_house_72 N σ16 x1 q14 (gN y23.1)) N (σ16, (0 : Int64), (0 : Int32)))))
  else ((fX0_leastOf N y23.1 (1 : Int32)).bind (fun q48 => 
  gb (inb q48 495) (
  lt_ (pI y23.1 76 (ix q48) (1 : Int32)) (fun σ50 => 
  r23 (σ50, (y23.2 + (1 : Int32)))))))
set_option maxHeartbeats 4000000 in
theorem wbX0_house_23 {Θ : ThT Mem} {g : GeoX} {N : Nat}  {ρ : Int64 × Mem} (σ : Mem) (hc : Cx Θ (VX g) cX0_house 9 RX0 (rk 78 2 12) (some .long) [(0, 242, 243, 1)] false (oL ρ.1) ρ.2) (x1 : Int32) (r23 : (Mem × Int32) → Option (Int64 × Mem)) (hr23 : ∀ y : Mem × Int32, Sim Θ 9 ρ (y.1) (r23 y) (1, 7) 23 [(0, .ref (vO (VX g) + 0)), (1, .int x1), (2, .int y.2)] []) : ∀ y23 : Mem × Int32, Sim Θ 9 ρ (y23.1) (bX0_house_23 N σ x1 r23 y23) (1, 7) 23 [(0, .ref (vO (VX g) + 0)), (1, .int x1), (2, .int y23.2)] [] := by
  intro y23
  have hz := hc.z
  have hr23c : ∀ (z0_ : Mem) (z1_ : Int32), Sim Θ 9 ρ (z0_) (r23 (z0_, z1_)) (1, 7) 23 [(0, .ref (vO (VX g) + 0)), (1, .int x1), (2, .int z1_)] [] := fun z0_ z1_ => hr23 (z0_, z1_)
  unfold bX0_house_23
  refine s_iload_n hz dX0_house_23 rfl 2 rfl ?_
  refine s_iload_n hz dX0_house_24 rfl 1 rfl ?_
  refine s_icmp_ge (tgt := 45) hz dX0_house_25 rfl (fun h13 => ?_) (fun h13 => ?_)
  · refine s_aload_n hz dX0_house_45 rfl 0 rfl ?_
    refine s_aload_n hz dX0_house_46 rfl 0 rfl ?_
    refine rX_g_X0_42_0 hc dX0_house_47 ?_
    refine rX_g_X0_286_1 hc dX0_house_50 ?_
    refine s_bipush (v := (7 : Int32)) hz dX0_house_53 (by decide) ?_
    refine rX_ld_2 hc (j := 7) (by decide) (by decide) dX0_house_55 ?_
    refine s_i2l hz dX0_house_56 ?_
    refine s_bind (fun q14 e15 => ?_)
    refine kX_X0_292 hc (cfX0_potWith e15) ⟨(Nat.le_of_ble_eq_true rfl), (Nat.le_of_ble_eq_true rfl)⟩ ⟨(Nat.le_of_ble_eq_true rfl), (Nat.le_of_ble_eq_true rfl)⟩ (Nat.le_of_ble_eq_true rfl) dX0_house_57 ?_
    refine s_lstore_n (lv' := [(2, .long q14), (0, .ref (vO (VX g) + 0)), (1, .int x1)]) hz dX0_house_60 rfl (Nat.le_of_ble_eq_true rfl) rfl ?_
    refine s_lconst (v := (0 : Int64)) hz dX0_house_61 (by decide) ?_
    refine s_lstore (lv' := [(4, .long (0 : Int64)), (2, .long q14), (0, .ref (vO (VX g) + 0)), (1, .int x1)]) hz dX0_house_62 (Nat.le_of_ble_eq_true rfl) rfl ?_
    refine s_iconst (v := (5 : Int32)) hz dX0_house_64 (by decide) ?_
    refine s_newarr hc (B := 5) (t := 0) (ty := .int) (by decide) (by decide) rfl rfl (fun _ => by simp) (fun _ _ => rfl) (by decide) q117 ⟨(Nat.le_of_ble_eq_true rfl), (Nat.le_of_ble_eq_true rfl)⟩ dX0_house_65 (fun σ16 => ?_)
    refine s_astore (lv' := [(6, .ref (vO (VX g) + (gN y23.1))), (4, .long (0 : Int64)), (2, .long q14), (0, .ref (vO (VX g) + 0)), (1, .int x1)]) hz dX0_house_67 (Nat.le_of_ble_eq_true rfl) rfl ?_
    refine s_iconst (v := (0 : Int32)) hz dX0_house_69 (by decide) ?_
    refine s_istore (lv' := [(7, .int (0 : Int32)), (6, .ref (vO (VX g) + (gN y23.1))), (4, .long (0 : Int64)), (2, .long q14), (0, .ref (vO (VX g) + 0)), (1, .int x1)]) hz dX0_house_70 (Nat.le_of_ble_eq_true rfl) rfl ?_
    exact s_sub [4, 5, 3, 2, 1, 0] rfl (s_lp (sg := fun y : Mem × Int64 × Int32 => y.1) (lvs := fun y : Mem × Int64 × Int32 => [(0, .ref (vO (VX g) + 0)), (1, .int x1), (2, .long q14), (4, .long y.2.1), (6, .ref (vO (VX g) + (gN y23.1))), (7, .int y.2.2)]) (fun rec hrec => wbX0_house_72 σ16 hc x1 q14 (gN y23.1)  rec hrec) N (σ16, (0 : Int64), (0 : Int32)))
  · refine s_aload_n hz dX0_house_28 rfl 0 rfl ?_
    refine rX_g_X0_101_0 hc dX0_house_29 ?_
    refine s_aload_n hz dX0_house_32 rfl 0 rfl ?_
    refine s_iconst (v := (1 : Int32)) hz dX0_house_33 (by decide) ?_
    refine s_bind (fun q48 e49 => ?_)
    refine kX_X0_341 hc (cfX0_leastOf e49) ⟨(Nat.le_of_ble_eq_true rfl), (Nat.le_of_ble_eq_true rfl)⟩ ⟨(Nat.le_of_ble_eq_true rfl), (Nat.le_of_ble_eq_true rfl)⟩ (Nat.le_of_ble_eq_true rfl) dX0_house_34 ?_
    refine s_iconst (v := (1 : Int32)) hz dX0_house_37 (by decide) ?_
    refine s_gb (fun h51 => ?_)
    refine rX_st_76 hc h51 rfl rfl dX0_house_38 (fun σ50 => ?_)
    refine s_iinc (v := (1 : Int32)) (lv' := [(2, .int (y23.2 + (1 : Int32))), (0, .ref (vO (VX g) + 0)), (1, .int x1)]) hz dX0_house_39 2 rfl (by decide) (Nat.le_of_ble_eq_true rfl) rfl ?_
    refine s_goto (tgt := 23) hz dX0_house_42 rfl ?_
    exact s_sub [1, 2, 0] rfl (hr23c σ50 (y23.2 + (1 : Int32)))
def fX0_house (N : Nat) (σ : Mem) (x1 : Int32) : Option (Int64 × Mem) :=
  (fX0_in N σ ((x1).toInt64) (1 : Int64) (495 : Int64)).bind (fun q1 => 
  (fX0_need N σ q1 (0 : Int32)).bind (fun q6 => cT2 q6 (fun v3 σ5 => 
  (fX0_findWinners N σ5).bind (fun q9 => 
  (fX0_begins N q9.2).bind (fun q11 => 
  lp (bX0_house_23 N q11.2 x1) N (q11.2, (0 : Int32))))) (fun b4 σ5 => 
  gb (isC σ5 b4 5) (
  (fX0_finds N σ5 b4).bind (fun q52 => 
  some (((q52.1).toInt64), q52.2))))))
set_option maxHeartbeats 4000000 in
theorem wfX0_house {Θ : ThT Mem} {g : GeoX} {N : Nat}  {ρ : Int64 × Mem} (σ : Mem) (x1 : Int32) (hc : Cx Θ (VX g) cX0_house 9 RX0 (rk 78 2 12) (some .long) [(0, 242, 243, 1)] false (oL ρ.1) ρ.2) : Sim Θ 9 ρ σ (fX0_house N σ x1) (0, 0) 0 [(0, .ref (vO (VX g) + 0)), (1, .int x1)] [] := by
  have hz := hc.z
  unfold fX0_house
  refine s_iload_n hz dX0_house_0 rfl 1 rfl ?_
  refine s_i2l hz dX0_house_1 ?_
  refine s_lconst (v := (1 : Int64)) hz dX0_house_2 (by decide) ?_
  refine s_ldc2 hz dX0_house_3 q901 ?_
  refine s_bind (fun q1 e2 => ?_)
  refine kX_X0_125 hc (cfX0_in e2) ⟨(Nat.le_of_ble_eq_true rfl), (Nat.le_of_ble_eq_true rfl)⟩ ⟨(Nat.le_of_ble_eq_true rfl), (Nat.le_of_ble_eq_true rfl)⟩ (Nat.le_of_ble_eq_true rfl) dX0_house_6 ?_
  refine s_iconst (v := (0 : Int32)) hz dX0_house_9 (by decide) ?_
  refine s_bind (fun q6 e7 => ?_)
  rcases q6 with ⟨v3 | b4, σ5⟩
  · refine kX_X0_119 hc (cfX0_need e7) ⟨(Nat.le_of_ble_eq_true rfl), (Nat.le_of_ble_eq_true rfl)⟩ ⟨(Nat.le_of_ble_eq_true rfl), (Nat.le_of_ble_eq_true rfl)⟩ (Nat.le_of_ble_eq_true rfl) dX0_house_10 (s_c2 ?_)
    refine s_aload_n hz dX0_house_13 rfl 0 rfl ?_
    refine s_bind (fun q9 e10 => ?_)
    refine kX_X0_327 hc (cfX0_findWinners e10) ⟨(Nat.le_of_ble_eq_true rfl), (Nat.le_of_ble_eq_true rfl)⟩ ⟨(Nat.le_of_ble_eq_true rfl), (Nat.le_of_ble_eq_true rfl)⟩ (Nat.le_of_ble_eq_true rfl) dX0_house_14 ?_
    refine s_aload_n hz dX0_house_17 rfl 0 rfl ?_
    refine s_bind (fun q11 e12 => ?_)
    refine kX_X0_338 hc (cfX0_begins e12) ⟨(Nat.le_of_ble_eq_true rfl), (Nat.le_of_ble_eq_true rfl)⟩ ⟨(Nat.le_of_ble_eq_true rfl), (Nat.le_of_ble_eq_true rfl)⟩ (Nat.le_of_ble_eq_true rfl) dX0_house_18 ?_
    refine s_iconst (v := (0 : Int32)) hz dX0_house_21 (by decide) ?_
    refine s_istore_n (lv' := [(2, .int (0 : Int32)), (0, .ref (vO (VX g) + 0)), (1, .int x1)]) hz dX0_house_22 rfl (Nat.le_of_ble_eq_true rfl) rfl ?_
    exact s_sub [1, 2, 0] rfl (s_lp (sg := fun y : Mem × Int32 => y.1) (lvs := fun y : Mem × Int32 => [(0, .ref (vO (VX g) + 0)), (1, .int x1), (2, .int y.2)]) (fun rec hrec => wbX0_house_23 q11.2 hc x1  rec hrec) N (q11.2, (0 : Int32)))
  · refine s_gb (fun h8 => ?_)
    refine kX_X0_119_h hc (cfX0_need e7) ⟨(Nat.le_of_ble_eq_true rfl), (Nat.le_of_ble_eq_true rfl)⟩ ⟨(Nat.le_of_ble_eq_true rfl), (Nat.le_of_ble_eq_true rfl)⟩ (Nat.le_of_ble_eq_true rfl) dX0_house_10 (i := 0) rfl rfl (by decide) (by decide) (q := (RX6, TX6, 7)) rfl q273 (isC_ob h8) ?_
    refine s_astore_n (lv' := [(2, .ref (vO (VX g) + b4)), (0, .ref (vO (VX g) + 0)), (1, .int x1)]) hz dX0_house_243 rfl (Nat.le_of_ble_eq_true rfl) rfl ?_
    refine s_aload_n hz dX0_house_244 rfl 1 rfl ?_
    refine s_aload_n hz dX0_house_245 rfl 0 rfl ?_
    refine s_bind (fun q52 e53 => ?_)
    refine kX_X0_145 hc (cfX0_finds e53) ⟨(Nat.le_of_ble_eq_true rfl), (Nat.le_of_ble_eq_true rfl)⟩ ⟨(Nat.le_of_ble_eq_true rfl), (Nat.le_of_ble_eq_true rfl)⟩ (Nat.le_of_ble_eq_true rfl) dX0_house_246 ?_
    refine s_i2l hz dX0_house_249 ?_
    exact s_lretM hc dX0_house_250 (Nat.le_of_ble_eq_true rfl) (Nat.le_of_ble_eq_true rfl)
theorem cfX0_house {g : GeoX} {N : Nat}  {σ : Mem} {x1 : Int32} {ρ : Int64 × Mem} (hF : fX0_house N σ x1 = some ρ) (l : Launch) : CtW (wsW_ yX0_house cX0_house 9 (some .long) [(0, 242, 243, 1)]) (VX g) l yX0_house (rk 78 2 12) [.ref (vO (VX g) + 0), .int x1] σ (oL ρ.1) ρ.2 :=
  CtW.ofH (by decide) (Nat.le_of_ble_eq_true rfl) (fun Θ hc ls hl => wfX0_house σ x1 hc hF ls hl)
def bX0_seek_40 (N : Nat) (σ : Mem) (x1 : Int32) (x2 : Int32) (r40 : (Mem × Int32 × Int32) → Option (Int32 × Mem)) (y40 : Mem × Int32 × Int32) : Option (Int32 × Mem) :=
  if x1 ≤ y40.2.2 then
  (if x2 = (0 : Int32) then
  ((fX0_leastOf N y40.1 (0 : Int32)).bind (fun q14 => 
  gb (inb q14 495) (
  some ((gI y40.1 75 (ix q14)), y40.1))))
  else (some (y40.2.1, y40.1)))
  else ((fX0_leastOf N y40.1 (0 : Int32)).bind (fun q17 => 
  gb (inb q17 495) (
  lt_ (y40.2.1 + (if (gI y40.1 76 (ix q17)) = (0 : Int32) then (1 : Int32) else (0 : Int32))) (fun v20 => 
  gb (inb q17 495) (
  lt_ (pI y40.1 76 (ix q17) (1 : Int32)) (fun σ21 => 
  gb (inb q17 495) (
  gb (inb q17 495) (
  lt_ (pI σ21 75 (ix q17) ((gI σ21 75 (ix q17)) + (1 : Int32))) (fun σ24 => 
  r40 (σ24, v20, (y40.2.2 + (1 : Int32))))))))))))
set_option maxHeartbeats 4000000 in
theorem wbX0_seek_40 {Θ : ThT Mem} {g : GeoX} {N : Nat}  {ρ : Int32 × Mem} (σ : Mem) (hc : Cx Θ (VX g) cX0_seek 6 RX0 (rk 78 1 7) (some .int) [(0, 114, 115, 1)] false (oI ρ.1) ρ.2) (x1 : Int32) (x2 : Int32) (r40 : (Mem × Int32 × Int32) → Option (Int32 × Mem)) (hr40 : ∀ y : Mem × Int32 × Int32, Sim Θ 6 ρ (y.1) (r40 y) (1, 7) 40 [(0, .ref (vO (VX g) + 0)), (1, .int x1), (2, .int x2), (3, .int y.2.1), (4, .int y.2.2)] []) : ∀ y40 : Mem × Int32 × Int32, Sim Θ 6 ρ (y40.1) (bX0_seek_40 N σ x1 x2 r40 y40) (1, 7) 40 [(0, .ref (vO (VX g) + 0)), (1, .int x1), (2, .int x2), (3, .int y40.2.1), (4, .int y40.2.2)] [] := by
  intro y40
  have hz := hc.z
  have hr40c : ∀ (z0_ : Mem) (z1_ : Int32) (z2_ : Int32), Sim Θ 6 ρ (z0_) (r40 (z0_, z1_, z2_)) (1, 7) 40 [(0, .ref (vO (VX g) + 0)), (1, .int x1), (2, .int x2), (3, .int z1_), (4, .int z2_)] [] := fun z0_ z1_ z2_ => hr40 (z0_, z1_, z2_)
  unfold bX0_seek_40
  refine s_iload hz dX0_seek_40 4 rfl ?_
  refine s_iload_n hz dX0_seek_42 rfl 1 rfl ?_
  refine s_icmp_ge (tgt := 96) hz dX0_seek_43 rfl (fun h12 => ?_) (fun h12 => ?_)
  · refine s_iload_n hz dX0_seek_96 rfl 2 rfl ?_
    refine s_if_ne (tgt := 113) hz dX0_seek_97 rfl (fun h13 => ?_) (fun h13 => ?_)
    · refine s_iload_n hz dX0_seek_113 rfl 3 rfl ?_
      exact s_iretM hc dX0_seek_114 (Nat.le_of_ble_eq_true rfl) (Nat.le_of_ble_eq_true rfl)
    · refine s_aload_n hz dX0_seek_100 rfl 0 rfl ?_
      refine rX_g_X0_98_0 hc dX0_seek_101 ?_
      refine s_aload_n hz dX0_seek_104 rfl 0 rfl ?_
      refine s_iconst (v := (0 : Int32)) hz dX0_seek_105 (by decide) ?_
      refine s_bind (fun q14 e15 => ?_)
      refine kX_X0_341 hc (cfX0_leastOf e15) ⟨(Nat.le_of_ble_eq_true rfl), (Nat.le_of_ble_eq_true rfl)⟩ ⟨(Nat.le_of_ble_eq_true rfl), (Nat.le_of_ble_eq_true rfl)⟩ (Nat.le_of_ble_eq_true rfl) dX0_seek_106 ?_
      refine s_gb (fun h16 => ?_)
      refine rX_ld_75 hc h16 rfl dX0_seek_109 ?_
      refine s_goto (tgt := 114) hz dX0_seek_110 rfl ?_
      exact s_iretM hc dX0_seek_114 (Nat.le_of_ble_eq_true rfl) (Nat.le_of_ble_eq_true rfl)
  · refine s_aload_n hz dX0_seek_46 rfl 0 rfl ?_
    refine s_iconst (v := (0 : Int32)) hz dX0_seek_47 (by decide) ?_
    refine s_bind (fun q17 e18 => ?_)
    refine kX_X0_341 hc (cfX0_leastOf e18) ⟨(Nat.le_of_ble_eq_true rfl), (Nat.le_of_ble_eq_true rfl)⟩ ⟨(Nat.le_of_ble_eq_true rfl), (Nat.le_of_ble_eq_true rfl)⟩ (Nat.le_of_ble_eq_true rfl) dX0_seek_48 ?_
    refine s_istore (lv' := [(5, .int q17), (0, .ref (vO (VX g) + 0)), (1, .int x1), (2, .int x2), (3, .int y40.2.1), (4, .int y40.2.2)]) hz dX0_seek_51 (Nat.le_of_ble_eq_true rfl) rfl ?_
    refine s_iload_n hz dX0_seek_53 rfl 4 rfl ?_
    refine s_aload_n hz dX0_seek_54 rfl 1 rfl ?_
    refine rX_g_X0_101_0 hc dX0_seek_55 ?_
    refine s_iload hz dX0_seek_58 0 rfl ?_
    refine s_gb (fun h19 => ?_)
    refine rX_ld_76 hc h19 rfl dX0_seek_60 ?_
    refine s_dia (J := 69) (v := .int (if (gI y40.1 76 (ix q17)) = (0 : Int32) then (1 : Int32) else (0 : Int32))) (st := [.int y40.2.1]) (fun _ hj26 => ?_) ?_
    · refine s_if_eq_ (tgt := 68) hz dX0_seek_61 rfl (fun h27 => ?_) (fun h27 => ?_)
      · refine s_iconst (v := (1 : Int32)) hz dX0_seek_68 (by decide) ?_
        rw [if_pos h27] at hj26
        exact hj26
      · refine s_iconst (v := (0 : Int32)) hz dX0_seek_64 (by decide) ?_
        refine s_goto (tgt := 69) hz dX0_seek_65 rfl ?_
        rw [if_neg h27] at hj26
        exact hj26
    refine s_iadd hz dX0_seek_69 ?_
    refine s_nmI (fun v20 => ?_)
    refine s_istore_n (lv' := [(3, .int v20), (5, .int q17), (0, .ref (vO (VX g) + 0)), (1, .int x1), (2, .int x2), (4, .int y40.2.2)]) hz dX0_seek_70 rfl (Nat.le_of_ble_eq_true rfl) rfl ?_
    refine s_aload_n hz dX0_seek_71 rfl 2 rfl ?_
    refine rX_g_X0_101_0 hc dX0_seek_72 ?_
    refine s_iload hz dX0_seek_75 1 rfl ?_
    refine s_iconst (v := (1 : Int32)) hz dX0_seek_77 (by decide) ?_
    refine s_gb (fun h22 => ?_)
    refine rX_st_76 hc h22 rfl rfl dX0_seek_78 (fun σ21 => ?_)
    refine s_aload_n hz dX0_seek_79 rfl 2 rfl ?_
    refine rX_g_X0_98_0 hc dX0_seek_80 ?_
    refine s_iload hz dX0_seek_83 1 rfl ?_
    refine s_dup2 hz dX0_seek_85 rfl rfl ?_
    refine s_gb (fun h23 => ?_)
    refine rX_ld_75 hc h23 rfl dX0_seek_86 ?_
    refine s_iconst (v := (1 : Int32)) hz dX0_seek_87 (by decide) ?_
    refine s_iadd hz dX0_seek_88 ?_
    refine s_gb (fun h25 => ?_)
    refine rX_st_75 hc h25 rfl dX0_seek_89 (fun σ24 => ?_)
    refine s_iinc (v := (1 : Int32)) (lv' := [(4, .int (y40.2.2 + (1 : Int32))), (3, .int v20), (5, .int q17), (0, .ref (vO (VX g) + 0)), (1, .int x1), (2, .int x2)]) hz dX0_seek_90 5 rfl (by decide) (Nat.le_of_ble_eq_true rfl) rfl ?_
    refine s_goto (tgt := 40) hz dX0_seek_93 rfl ?_
    exact s_sub [3, 4, 5, 1, 0] rfl (hr40c σ24 v20 (y40.2.2 + (1 : Int32)))
def fX0_seek (N : Nat) (σ : Mem) (x1 : Int32) (x2 : Int32) : Option (Int32 × Mem) :=
  (fX0_in N σ ((x1).toInt64) (1 : Int64) (200 : Int64)).bind (fun q1 => 
  if q1 = (0 : Int32) then
  ((fX0_need N σ (0 : Int32) (0 : Int32)).bind (fun q7 => cT2 q7 (fun v4 σ6 => 
  (fX0_begins N σ6).bind (fun q10 => 
  lp (bX0_seek_40 N q10.2 x1 x2) N (q10.2, (0 : Int32), (0 : Int32)))) (fun b5 σ6 => 
  gb (isC σ6 b5 5) (
  (fX0_finds N σ6 b5).bind (fun q28 => 
  some (q28.1, q28.2))))))
  else ((fX0_in N σ ((x2).toInt64) (0 : Int64) (1 : Int64)).bind (fun q30 => 
  (fX0_need N σ (if q30 = (0 : Int32) then (0 : Int32) else (1 : Int32)) (0 : Int32)).bind (fun q35 => cT2 q35 (fun v32 σ34 => 
  (fX0_begins N σ34).bind (fun q38 => 
  lp (bX0_seek_40 N q38.2 x1 x2) N (q38.2, (0 : Int32), (0 : Int32)))) (fun b33 σ34 => 
  gb (isC σ34 b33 5) (
  (fX0_finds N σ34 b33).bind (fun q40 => 
  some (q40.1, q40.2))))))))
set_option maxHeartbeats 4000000 in
theorem wfX0_seek {Θ : ThT Mem} {g : GeoX} {N : Nat}  {ρ : Int32 × Mem} (σ : Mem) (x1 : Int32) (x2 : Int32) (hc : Cx Θ (VX g) cX0_seek 6 RX0 (rk 78 1 7) (some .int) [(0, 114, 115, 1)] false (oI ρ.1) ρ.2) : Sim Θ 6 ρ σ (fX0_seek N σ x1 x2) (0, 0) 0 [(0, .ref (vO (VX g) + 0)), (1, .int x1), (2, .int x2)] [] := by
  have hz := hc.z
  unfold fX0_seek
  refine s_iload_n hz dX0_seek_0 rfl 1 rfl ?_
  refine s_i2l hz dX0_seek_1 ?_
  refine s_lconst (v := (1 : Int64)) hz dX0_seek_2 (by decide) ?_
  refine s_ldc2 hz dX0_seek_3 q934 ?_
  refine s_bind (fun q1 e2 => ?_)
  refine kX_X0_125 hc (cfX0_in e2) ⟨(Nat.le_of_ble_eq_true rfl), (Nat.le_of_ble_eq_true rfl)⟩ ⟨(Nat.le_of_ble_eq_true rfl), (Nat.le_of_ble_eq_true rfl)⟩ (Nat.le_of_ble_eq_true rfl) dX0_seek_6 ?_
  refine s_if_eq (tgt := 26) hz dX0_seek_9 rfl (fun h3 => ?_) (fun h3 => ?_)
  · refine s_iconst (v := (0 : Int32)) hz dX0_seek_26 (by decide) ?_
    refine s_iconst (v := (0 : Int32)) hz dX0_seek_27 (by decide) ?_
    refine s_bind (fun q7 e8 => ?_)
    rcases q7 with ⟨v4 | b5, σ6⟩
    · refine kX_X0_119 hc (cfX0_need e8) ⟨(Nat.le_of_ble_eq_true rfl), (Nat.le_of_ble_eq_true rfl)⟩ ⟨(Nat.le_of_ble_eq_true rfl), (Nat.le_of_ble_eq_true rfl)⟩ (Nat.le_of_ble_eq_true rfl) dX0_seek_28 (s_c2 ?_)
      refine s_aload_n hz dX0_seek_31 rfl 0 rfl ?_
      refine s_bind (fun q10 e11 => ?_)
      refine kX_X0_338 hc (cfX0_begins e11) ⟨(Nat.le_of_ble_eq_true rfl), (Nat.le_of_ble_eq_true rfl)⟩ ⟨(Nat.le_of_ble_eq_true rfl), (Nat.le_of_ble_eq_true rfl)⟩ (Nat.le_of_ble_eq_true rfl) dX0_seek_32 ?_
      refine s_iconst (v := (0 : Int32)) hz dX0_seek_35 (by decide) ?_
      refine s_istore_n (lv' := [(3, .int (0 : Int32)), (0, .ref (vO (VX g) + 0)), (1, .int x1), (2, .int x2)]) hz dX0_seek_36 rfl (Nat.le_of_ble_eq_true rfl) rfl ?_
      refine s_iconst (v := (0 : Int32)) hz dX0_seek_37 (by decide) ?_
      refine s_istore (lv' := [(4, .int (0 : Int32)), (3, .int (0 : Int32)), (0, .ref (vO (VX g) + 0)), (1, .int x1), (2, .int x2)]) hz dX0_seek_38 (Nat.le_of_ble_eq_true rfl) rfl ?_
      exact s_sub [2, 3, 4, 1, 0] rfl (s_lp (sg := fun y : Mem × Int32 × Int32 => y.1) (lvs := fun y : Mem × Int32 × Int32 => [(0, .ref (vO (VX g) + 0)), (1, .int x1), (2, .int x2), (3, .int y.2.1), (4, .int y.2.2)]) (fun rec hrec => wbX0_seek_40 q10.2 hc x1 x2  rec hrec) N (q10.2, (0 : Int32), (0 : Int32)))
    · refine s_gb (fun h9 => ?_)
      refine kX_X0_119_h hc (cfX0_need e8) ⟨(Nat.le_of_ble_eq_true rfl), (Nat.le_of_ble_eq_true rfl)⟩ ⟨(Nat.le_of_ble_eq_true rfl), (Nat.le_of_ble_eq_true rfl)⟩ (Nat.le_of_ble_eq_true rfl) dX0_seek_28 (i := 0) rfl rfl (by decide) (by decide) (q := (RX6, TX6, 7)) rfl q273 (isC_ob h9) ?_
      refine s_astore_n (lv' := [(3, .ref (vO (VX g) + b5)), (0, .ref (vO (VX g) + 0)), (1, .int x1), (2, .int x2)]) hz dX0_seek_115 rfl (Nat.le_of_ble_eq_true rfl) rfl ?_
      refine s_aload_n hz dX0_seek_116 rfl 1 rfl ?_
      refine s_aload_n hz dX0_seek_117 rfl 0 rfl ?_
      refine s_bind (fun q28 e29 => ?_)
      refine kX_X0_145 hc (cfX0_finds e29) ⟨(Nat.le_of_ble_eq_true rfl), (Nat.le_of_ble_eq_true rfl)⟩ ⟨(Nat.le_of_ble_eq_true rfl), (Nat.le_of_ble_eq_true rfl)⟩ (Nat.le_of_ble_eq_true rfl) dX0_seek_118 ?_
      exact s_iretM hc dX0_seek_121 (Nat.le_of_ble_eq_true rfl) (Nat.le_of_ble_eq_true rfl)
  · refine s_iload_n hz dX0_seek_12 rfl 2 rfl ?_
    refine s_i2l hz dX0_seek_13 ?_
    refine s_lconst (v := (0 : Int64)) hz dX0_seek_14 (by decide) ?_
    refine s_lconst (v := (1 : Int64)) hz dX0_seek_15 (by decide) ?_
    refine s_bind (fun q30 e31 => ?_)
    refine kX_X0_125 hc (cfX0_in e31) ⟨(Nat.le_of_ble_eq_true rfl), (Nat.le_of_ble_eq_true rfl)⟩ ⟨(Nat.le_of_ble_eq_true rfl), (Nat.le_of_ble_eq_true rfl)⟩ (Nat.le_of_ble_eq_true rfl) dX0_seek_16 ?_
    refine s_dia (J := 27) (v := .int (if q30 = (0 : Int32) then (0 : Int32) else (1 : Int32))) (st := []) (fun _ hj42 => ?_) ?_
    · refine s_if_eq_ (tgt := 26) hz dX0_seek_19 rfl (fun h43 => ?_) (fun h43 => ?_)
      · refine s_iconst (v := (0 : Int32)) hz dX0_seek_26 (by decide) ?_
        rw [if_pos h43] at hj42
        exact hj42
      · refine s_iconst (v := (1 : Int32)) hz dX0_seek_22 (by decide) ?_
        refine s_goto (tgt := 27) hz dX0_seek_23 rfl ?_
        rw [if_neg h43] at hj42
        exact hj42
    refine s_iconst (v := (0 : Int32)) hz dX0_seek_27 (by decide) ?_
    refine s_bind (fun q35 e36 => ?_)
    rcases q35 with ⟨v32 | b33, σ34⟩
    · refine kX_X0_119 hc (cfX0_need e36) ⟨(Nat.le_of_ble_eq_true rfl), (Nat.le_of_ble_eq_true rfl)⟩ ⟨(Nat.le_of_ble_eq_true rfl), (Nat.le_of_ble_eq_true rfl)⟩ (Nat.le_of_ble_eq_true rfl) dX0_seek_28 (s_c2 ?_)
      refine s_aload_n hz dX0_seek_31 rfl 0 rfl ?_
      refine s_bind (fun q38 e39 => ?_)
      refine kX_X0_338 hc (cfX0_begins e39) ⟨(Nat.le_of_ble_eq_true rfl), (Nat.le_of_ble_eq_true rfl)⟩ ⟨(Nat.le_of_ble_eq_true rfl), (Nat.le_of_ble_eq_true rfl)⟩ (Nat.le_of_ble_eq_true rfl) dX0_seek_32 ?_
      refine s_iconst (v := (0 : Int32)) hz dX0_seek_35 (by decide) ?_
      refine s_istore_n (lv' := [(3, .int (0 : Int32)), (0, .ref (vO (VX g) + 0)), (1, .int x1), (2, .int x2)]) hz dX0_seek_36 rfl (Nat.le_of_ble_eq_true rfl) rfl ?_
      refine s_iconst (v := (0 : Int32)) hz dX0_seek_37 (by decide) ?_
      refine s_istore (lv' := [(4, .int (0 : Int32)), (3, .int (0 : Int32)), (0, .ref (vO (VX g) + 0)), (1, .int x1), (2, .int x2)]) hz dX0_seek_38 (Nat.le_of_ble_eq_true rfl) rfl ?_
      exact s_sub [2, 3, 4, 1, 0] rfl (s_lp (sg := fun y : Mem × Int32 × Int32 => y.1) (lvs := fun y : Mem × Int32 × Int32 => [(0, .ref (vO (VX g) + 0)), (1, .int x1), (2, .int x2), (3, .int y.2.1), (4, .int y.2.2)]) (fun rec hrec => wbX0_seek_40 q38.2 hc x1 x2  rec hrec) N (q38.2, (0 : Int32), (0 : Int32)))
    · refine s_gb (fun h37 => ?_)
      refine kX_X0_119_h hc (cfX0_need e36) ⟨(Nat.le_of_ble_eq_true rfl), (Nat.le_of_ble_eq_true rfl)⟩ ⟨(Nat.le_of_ble_eq_true rfl), (Nat.le_of_ble_eq_true rfl)⟩ (Nat.le_of_ble_eq_true rfl) dX0_seek_28 (i := 0) rfl rfl (by decide) (by decide) (q := (RX6, TX6, 7)) rfl q273 (isC_ob h37) ?_
      refine s_astore_n (lv' := [(3, .ref (vO (VX g) + b33)), (0, .ref (vO (VX g) + 0)), (1, .int x1), (2, .int x2)]) hz dX0_seek_115 rfl (Nat.le_of_ble_eq_true rfl) rfl ?_
      refine s_aload_n hz dX0_seek_116 rfl 1 rfl ?_
      refine s_aload_n hz dX0_seek_117 rfl 0 rfl ?_
      refine s_bind (fun q40 e41 => ?_)
      refine kX_X0_145 hc (cfX0_finds e41) ⟨(Nat.le_of_ble_eq_true rfl), (Nat.le_of_ble_eq_true rfl)⟩ ⟨(Nat.le_of_ble_eq_true rfl), (Nat.le_of_ble_eq_true rfl)⟩ (Nat.le_of_ble_eq_true rfl) dX0_seek_118 ?_
      exact s_iretM hc dX0_seek_121 (Nat.le_of_ble_eq_true rfl) (Nat.le_of_ble_eq_true rfl)
theorem cfX0_seek {g : GeoX} {N : Nat}  {σ : Mem} {x1 : Int32} {x2 : Int32} {ρ : Int32 × Mem} (hF : fX0_seek N σ x1 x2 = some ρ) (l : Launch) : CtW (wsW_ yX0_seek cX0_seek 6 (some .int) [(0, 114, 115, 1)]) (VX g) l yX0_seek (rk 78 1 7) [.ref (vO (VX g) + 0), .int x1, .int x2] σ (oI ρ.1) ρ.2 :=
  CtW.ofH (by decide) (Nat.le_of_ble_eq_true rfl) (fun Θ hc ls hl => wfX0_seek σ x1 x2 hc hF ls hl)
def fX0_shares (N : Nat) (σ : Mem) (x1 : Int32) : Option (Int32 × Mem) :=
  (fX0_isPlace N σ x1).bind (fun q1 => 
  (fX0_need N σ q1 (0 : Int32)).bind (fun q6 => cT2 q6 (fun v3 σ5 => 
  (fX0_findCrossed N σ5).bind (fun q9 => 
  gb (inb x1 495) (
  some ((gI q9.2 68 (ix x1)), q9.2)))) (fun b4 σ5 => 
  gb (isC σ5 b4 5) (
  (fX0_finds N σ5 b4).bind (fun q12 => 
  some (q12.1, q12.2))))))
set_option maxHeartbeats 4000000 in
theorem wfX0_shares {Θ : ThT Mem} {g : GeoX} {N : Nat}  {ρ : Int32 × Mem} (σ : Mem) (x1 : Int32) (hc : Cx Θ (VX g) cX0_shares 3 RX0 (rk 77 1 7) (some .int) [(0, 18, 19, 1)] false (oI ρ.1) ρ.2) : Sim Θ 3 ρ σ (fX0_shares N σ x1) (0, 0) 0 [(0, .ref (vO (VX g) + 0)), (1, .int x1)] [] := by
  have hz := hc.z
  unfold fX0_shares
  refine s_iload_n hz dX0_shares_0 rfl 1 rfl ?_
  refine s_bind (fun q1 e2 => ?_)
  refine kX_X0_149 hc (cfX0_isPlace e2) ⟨(Nat.le_of_ble_eq_true rfl), (Nat.le_of_ble_eq_true rfl)⟩ ⟨(Nat.le_of_ble_eq_true rfl), (Nat.le_of_ble_eq_true rfl)⟩ (Nat.le_of_ble_eq_true rfl) dX0_shares_1 ?_
  refine s_iconst (v := (0 : Int32)) hz dX0_shares_4 (by decide) ?_
  refine s_bind (fun q6 e7 => ?_)
  rcases q6 with ⟨v3 | b4, σ5⟩
  · refine kX_X0_119 hc (cfX0_need e7) ⟨(Nat.le_of_ble_eq_true rfl), (Nat.le_of_ble_eq_true rfl)⟩ ⟨(Nat.le_of_ble_eq_true rfl), (Nat.le_of_ble_eq_true rfl)⟩ (Nat.le_of_ble_eq_true rfl) dX0_shares_5 (s_c2 ?_)
    refine s_aload_n hz dX0_shares_8 rfl 0 rfl ?_
    refine s_bind (fun q9 e10 => ?_)
    refine kX_X0_249 hc (cfX0_findCrossed e10) ⟨(Nat.le_of_ble_eq_true rfl), (Nat.le_of_ble_eq_true rfl)⟩ ⟨(Nat.le_of_ble_eq_true rfl), (Nat.le_of_ble_eq_true rfl)⟩ (Nat.le_of_ble_eq_true rfl) dX0_shares_9 ?_
    refine s_aload_n hz dX0_shares_12 rfl 0 rfl ?_
    refine rX_g_X0_90_0 hc dX0_shares_13 ?_
    refine s_iload_n hz dX0_shares_16 rfl 1 rfl ?_
    refine s_gb (fun h11 => ?_)
    refine rX_ld_68 hc h11 rfl dX0_shares_17 ?_
    exact s_iretM hc dX0_shares_18 (Nat.le_of_ble_eq_true rfl) (Nat.le_of_ble_eq_true rfl)
  · refine s_gb (fun h8 => ?_)
    refine kX_X0_119_h hc (cfX0_need e7) ⟨(Nat.le_of_ble_eq_true rfl), (Nat.le_of_ble_eq_true rfl)⟩ ⟨(Nat.le_of_ble_eq_true rfl), (Nat.le_of_ble_eq_true rfl)⟩ (Nat.le_of_ble_eq_true rfl) dX0_shares_5 (i := 0) rfl rfl (by decide) (by decide) (q := (RX6, TX6, 7)) rfl q273 (isC_ob h8) ?_
    refine s_astore_n (lv' := [(2, .ref (vO (VX g) + b4)), (0, .ref (vO (VX g) + 0)), (1, .int x1)]) hz dX0_shares_19 rfl (Nat.le_of_ble_eq_true rfl) rfl ?_
    refine s_aload_n hz dX0_shares_20 rfl 1 rfl ?_
    refine s_aload_n hz dX0_shares_21 rfl 0 rfl ?_
    refine s_bind (fun q12 e13 => ?_)
    refine kX_X0_145 hc (cfX0_finds e13) ⟨(Nat.le_of_ble_eq_true rfl), (Nat.le_of_ble_eq_true rfl)⟩ ⟨(Nat.le_of_ble_eq_true rfl), (Nat.le_of_ble_eq_true rfl)⟩ (Nat.le_of_ble_eq_true rfl) dX0_shares_22 ?_
    exact s_iretM hc dX0_shares_25 (Nat.le_of_ble_eq_true rfl) (Nat.le_of_ble_eq_true rfl)
theorem cfX0_shares {g : GeoX} {N : Nat}  {σ : Mem} {x1 : Int32} {ρ : Int32 × Mem} (hF : fX0_shares N σ x1 = some ρ) (l : Launch) : CtW (wsW_ yX0_shares cX0_shares 3 (some .int) [(0, 18, 19, 1)]) (VX g) l yX0_shares (rk 77 1 7) [.ref (vO (VX g) + 0), .int x1] σ (oI ρ.1) ρ.2 :=
  CtW.ofH (by decide) (Nat.le_of_ble_eq_true rfl) (fun Θ hc ls hl => wfX0_shares σ x1 hc hF ls hl)
theorem kX_X0_349 {γ : Type} {Θ : ThT Mem} {g : GeoX} {cc : ByteArray} {nL : Nat} {rm : Room} {ret : Option FieldType} {hs : List (Nat × Nat × Nat × Nat)} {ini : Bool} {O : Outcome} {σ' : Mem} {ρ : γ} {σ : Mem} {F : Option γ} {cs : Nat × Nat} {pc : Nat} {lv : List (Nat × Value)} {st : List Value} (hc : Cx Θ (VX g) cc nL RX0 rm ret hs ini O σ') {σ1 : Mem} {x0 : Int32} {x1 : Int32} {r : Int32} {rmc : Room} (hM : ∀ l : Launch, Ct (VX g) l yX0_has cX0_has 2 (some .boolean) rmc [.int x0, .int x1] σ (oI r) σ1) (hR : rmc.frames + 1 ≤ rm.frames ∧ 8 + (2 + 11) + rmc.locals ≤ rm.locals) (hf : cs.1 + rmc.cells ≤ rm.cells ∧ cs.2 + rmc.slots ≤ rm.slots) (hrest : (st.map fun v => v.category).sum ≤ 8) (hd : decode cc pc = .ok (.invokestatic 349, 3)) (kk : Sim Θ nL ρ σ1 F (cs.1 + rmc.cells, cs.2 + rmc.slots) (pc + 3) lv (.int r :: st)) : Sim Θ nL ρ σ F cs pc lv (.int x1 :: .int x0 :: st) := s_callS hc (As := [.int x0, .int x1]) (rest := st) (n := 2) hM (lw_S q947 q555 q62 q556) (by decide +kernel) rfl rfl hrest hR hf hd kk
def bX0_cameOf_4 (N : Nat) (σ : Mem) (x1 : Int32) (r4 : (Int32 × Int32) → Option (Int32)) (y4 : Int32 × Int32) : Option (Int32) :=
  if (gI σ 1 1) ≤ y4.2 then
  (some y4.1)
  else (gb (inb y4.2 40) (
  (fX0_has N σ (gI σ 20 (ix y4.2)) x1).bind (fun q3 => 
  if q3 = (0 : Int32) then
  (r4 (y4.1, (y4.2 + (1 : Int32))))
  else (r4 ((y4.1 + (1 : Int32)), (y4.2 + (1 : Int32)))))))
set_option maxHeartbeats 4000000 in
theorem wbX0_cameOf_4 {Θ : ThT Mem} {g : GeoX} {N : Nat}  {ρ : Int32} (σ : Mem) (hc : Cx Θ (VX g) cX0_cameOf 4 RX0 (rk 2 0 0) (some .int) [] false (oI ρ) σ) (x1 : Int32) (r4 : (Int32 × Int32) → Option (Int32)) (hr4 : ∀ y : Int32 × Int32, Sim Θ 4 ρ (σ) (r4 y) (0, 0) 4 [(0, .ref (vO (VX g) + 0)), (1, .int x1), (2, .int y.1), (3, .int y.2)] []) : ∀ y4 : Int32 × Int32, Sim Θ 4 ρ (σ) (bX0_cameOf_4 N σ x1 r4 y4) (0, 0) 4 [(0, .ref (vO (VX g) + 0)), (1, .int x1), (2, .int y4.1), (3, .int y4.2)] [] := by
  intro y4
  have hz := hc.z
  have hr4c : ∀ (z0_ : Int32) (z1_ : Int32), Sim Θ 4 ρ (σ) (r4 (z0_, z1_)) (0, 0) 4 [(0, .ref (vO (VX g) + 0)), (1, .int x1), (2, .int z0_), (3, .int z1_)] [] := fun z0_ z1_ => hr4 (z0_, z1_)
  unfold bX0_cameOf_4
  refine s_iload_n hz dX0_cameOf_4 rfl 3 rfl ?_
  refine s_aload_n hz dX0_cameOf_5 rfl 0 rfl ?_
  refine rX_g_X0_42_0 hc dX0_cameOf_6 ?_
  refine rX_g_X0_185_1 hc dX0_cameOf_9 ?_
  refine s_icmp_ge (tgt := 42) hz dX0_cameOf_12 rfl (fun h1 => ?_) (fun h1 => ?_)
  · refine s_iload_n hz dX0_cameOf_42 rfl 2 rfl ?_
    exact s_iret hc dX0_cameOf_43 (Nat.le_of_ble_eq_true rfl) (Nat.le_of_ble_eq_true rfl)
  · refine s_aload_n hz dX0_cameOf_15 rfl 0 rfl ?_
    refine rX_g_X0_42_0 hc dX0_cameOf_16 ?_
    refine rX_g_X0_296_1 hc dX0_cameOf_19 ?_
    refine s_iconst (v := (0 : Int32)) hz dX0_cameOf_22 (by decide) ?_
    refine rX_aa_19 hc (j := 0) (by decide) (by decide) dX0_cameOf_23 ?_
    refine s_iload_n hz dX0_cameOf_24 rfl 3 rfl ?_
    refine s_gb (fun h2 => ?_)
    refine rX_ld_20 hc h2 rfl dX0_cameOf_25 ?_
    refine s_iload_n hz dX0_cameOf_26 rfl 1 rfl ?_
    refine s_bind (fun q3 e4 => ?_)
    refine kX_X0_349 hc (cfX0_has e4) ⟨(Nat.le_of_ble_eq_true rfl), (Nat.le_of_ble_eq_true rfl)⟩ ⟨(Nat.le_of_ble_eq_true rfl), (Nat.le_of_ble_eq_true rfl)⟩ (Nat.le_of_ble_eq_true rfl) dX0_cameOf_27 ?_
    refine s_if_eq (tgt := 36) hz dX0_cameOf_30 rfl (fun h5 => ?_) (fun h5 => ?_)
    · refine s_iinc (v := (1 : Int32)) (lv' := [(3, .int (y4.2 + (1 : Int32))), (0, .ref (vO (VX g) + 0)), (1, .int x1), (2, .int y4.1)]) hz dX0_cameOf_36 3 rfl (by decide) (Nat.le_of_ble_eq_true rfl) rfl ?_
      refine s_goto (tgt := 4) hz dX0_cameOf_39 rfl ?_
      exact s_sub [1, 2, 3, 0] rfl (hr4c y4.1 (y4.2 + (1 : Int32)))
    · refine s_iinc (v := (1 : Int32)) (lv' := [(2, .int (y4.1 + (1 : Int32))), (0, .ref (vO (VX g) + 0)), (1, .int x1), (3, .int y4.2)]) hz dX0_cameOf_33 2 rfl (by decide) (Nat.le_of_ble_eq_true rfl) rfl ?_
      refine s_iinc (v := (1 : Int32)) (lv' := [(3, .int (y4.2 + (1 : Int32))), (2, .int (y4.1 + (1 : Int32))), (0, .ref (vO (VX g) + 0)), (1, .int x1)]) hz dX0_cameOf_36 3 rfl (by decide) (Nat.le_of_ble_eq_true rfl) rfl ?_
      refine s_goto (tgt := 4) hz dX0_cameOf_39 rfl ?_
      exact s_sub [2, 3, 1, 0] rfl (hr4c (y4.1 + (1 : Int32)) (y4.2 + (1 : Int32)))
def fX0_cameOf (N : Nat) (σ : Mem) (x1 : Int32) : Option (Int32) :=
  lp (bX0_cameOf_4 N σ x1) N ((0 : Int32), (0 : Int32))
set_option maxHeartbeats 4000000 in
theorem wfX0_cameOf {Θ : ThT Mem} {g : GeoX} {N : Nat}  {ρ : Int32} (σ : Mem) (x1 : Int32) (hc : Cx Θ (VX g) cX0_cameOf 4 RX0 (rk 2 0 0) (some .int) [] false (oI ρ) σ) : Sim Θ 4 ρ σ (fX0_cameOf N σ x1) (0, 0) 0 [(0, .ref (vO (VX g) + 0)), (1, .int x1)] [] := by
  have hz := hc.z
  unfold fX0_cameOf
  refine s_iconst (v := (0 : Int32)) hz dX0_cameOf_0 (by decide) ?_
  refine s_istore_n (lv' := [(2, .int (0 : Int32)), (0, .ref (vO (VX g) + 0)), (1, .int x1)]) hz dX0_cameOf_1 rfl (Nat.le_of_ble_eq_true rfl) rfl ?_
  refine s_iconst (v := (0 : Int32)) hz dX0_cameOf_2 (by decide) ?_
  refine s_istore_n (lv' := [(3, .int (0 : Int32)), (2, .int (0 : Int32)), (0, .ref (vO (VX g) + 0)), (1, .int x1)]) hz dX0_cameOf_3 rfl (Nat.le_of_ble_eq_true rfl) rfl ?_
  exact s_sub [2, 3, 1, 0] rfl (s_lp (sg := fun y : Int32 × Int32 => σ) (lvs := fun y : Int32 × Int32 => [(0, .ref (vO (VX g) + 0)), (1, .int x1), (2, .int y.1), (3, .int y.2)]) (fun rec hrec => wbX0_cameOf_4 σ hc x1  rec hrec) N ((0 : Int32), (0 : Int32)))
theorem cfX0_cameOf {g : GeoX} {N : Nat}  {σ : Mem} {x1 : Int32} {ρ : Int32} (hF : fX0_cameOf N σ x1 = some ρ) (l : Launch) : Ct (VX g) l yX0_cameOf cX0_cameOf 4 (some .int) (rk 2 0 0) [.ref (vO (VX g) + 0), .int x1] σ (oI ρ) σ :=
  Ct.of (by decide) (Nat.le_of_ble_eq_true rfl) (fun Θ hc ls hl => wfX0_cameOf σ x1 hc hF ls hl)
theorem kX_X0_352 {γ : Type} {Θ : ThT Mem} {g : GeoX} {cc : ByteArray} {nL : Nat} {rm : Room} {ret : Option FieldType} {hs : List (Nat × Nat × Nat × Nat)} {ini : Bool} {O : Outcome} {σ' : Mem} {ρ : γ} {σ : Mem} {F : Option γ} {cs : Nat × Nat} {pc : Nat} {lv : List (Nat × Value)} {st : List Value} (hc : Cx Θ (VX g) cc nL RX0 rm ret hs ini O σ') {σ1 : Mem} {x0 : Int32} {r : Int32} {rmc : Room} (hM : ∀ l : Launch, Ct (VX g) l yX0_isNumber cX0_isNumber 1 (some .boolean) rmc [.int x0] σ (oI r) σ1) (hR : rmc.frames + 1 ≤ rm.frames ∧ 8 + (1 + 11) + rmc.locals ≤ rm.locals) (hf : cs.1 + rmc.cells ≤ rm.cells ∧ cs.2 + rmc.slots ≤ rm.slots) (hrest : (st.map fun v => v.category).sum ≤ 8) (hd : decode cc pc = .ok (.invokestatic 352, 3)) (kk : Sim Θ nL ρ σ1 F (cs.1 + rmc.cells, cs.2 + rmc.slots) (pc + 3) lv (.int r :: st)) : Sim Θ nL ρ σ F cs pc lv (.int x0 :: st) := s_callS hc (As := [.int x0]) (rest := st) (n := 1) hM (lw_S q943 q944 q62 q945) (by decide +kernel) rfl rfl hrest hR hf hd kk
def bX0_due_10 (N : Nat) (σ : Mem) (x1 : Int32) (r10 : Int32 → Option (Int32 × Mem)) (y10 : Int32) : Option (Int32 × Mem) :=
  if (gI σ 1 1) ≤ y10 then
  (some (y10, σ))
  else (gb (inb (((gI σ 1 1) - (1 : Int32)) - y10) 40) (
  (fX0_has N σ (gI σ 20 (ix (((gI σ 1 1) - (1 : Int32)) - y10))) x1).bind (fun q11 => 
  if q11 = (0 : Int32) then
  (r10 (y10 + (1 : Int32)))
  else (some (y10, σ)))))
set_option maxHeartbeats 4000000 in
theorem wbX0_due_10 {Θ : ThT Mem} {g : GeoX} {N : Nat}  {ρ : Int32 × Mem} (σ : Mem) (hc : Cx Θ (VX g) cX0_due 3 RX0 (rk 5 1 7) (some .int) [(0, 56, 57, 1)] false (oI ρ.1) ρ.2) (x1 : Int32) (r10 : Int32 → Option (Int32 × Mem)) (hr10 : ∀ y : Int32, Sim Θ 3 ρ (σ) (r10 y) (1, 7) 10 [(0, .ref (vO (VX g) + 0)), (1, .int x1), (2, .int y)] []) : ∀ y10 : Int32, Sim Θ 3 ρ (σ) (bX0_due_10 N σ x1 r10 y10) (1, 7) 10 [(0, .ref (vO (VX g) + 0)), (1, .int x1), (2, .int y10)] [] := by
  intro y10
  have hz := hc.z
  unfold bX0_due_10
  refine s_iload_n hz dX0_due_10 rfl 2 rfl ?_
  refine s_aload_n hz dX0_due_11 rfl 0 rfl ?_
  refine rX_g_X0_42_0 hc dX0_due_12 ?_
  refine rX_g_X0_185_1 hc dX0_due_15 ?_
  refine s_icmp_ge (tgt := 55) hz dX0_due_18 rfl (fun h9 => ?_) (fun h9 => ?_)
  · refine s_iload_n hz dX0_due_55 rfl 2 rfl ?_
    exact s_iretM hc dX0_due_56 (Nat.le_of_ble_eq_true rfl) (Nat.le_of_ble_eq_true rfl)
  · refine s_aload_n hz dX0_due_21 rfl 0 rfl ?_
    refine rX_g_X0_42_0 hc dX0_due_22 ?_
    refine rX_g_X0_296_1 hc dX0_due_25 ?_
    refine s_iconst (v := (0 : Int32)) hz dX0_due_28 (by decide) ?_
    refine rX_aa_19 hc (j := 0) (by decide) (by decide) dX0_due_29 ?_
    refine s_aload_n hz dX0_due_30 rfl 0 rfl ?_
    refine rX_g_X0_42_0 hc dX0_due_31 ?_
    refine rX_g_X0_185_1 hc dX0_due_34 ?_
    refine s_iconst (v := (1 : Int32)) hz dX0_due_37 (by decide) ?_
    refine s_isub hz dX0_due_38 ?_
    refine s_iload_n hz dX0_due_39 rfl 2 rfl ?_
    refine s_isub hz dX0_due_40 ?_
    refine s_gb (fun h10 => ?_)
    refine rX_ld_20 hc h10 rfl dX0_due_41 ?_
    refine s_iload_n hz dX0_due_42 rfl 1 rfl ?_
    refine s_bind (fun q11 e12 => ?_)
    refine kX_X0_349 hc (cfX0_has e12) ⟨(Nat.le_of_ble_eq_true rfl), (Nat.le_of_ble_eq_true rfl)⟩ ⟨(Nat.le_of_ble_eq_true rfl), (Nat.le_of_ble_eq_true rfl)⟩ (Nat.le_of_ble_eq_true rfl) dX0_due_43 ?_
    refine s_if_ne (tgt := 55) hz dX0_due_46 rfl (fun h13 => ?_) (fun h13 => ?_)
    · refine s_iload_n hz dX0_due_55 rfl 2 rfl ?_
      exact s_iretM hc dX0_due_56 (Nat.le_of_ble_eq_true rfl) (Nat.le_of_ble_eq_true rfl)
    · refine s_iinc (v := (1 : Int32)) (lv' := [(2, .int (y10 + (1 : Int32))), (0, .ref (vO (VX g) + 0)), (1, .int x1)]) hz dX0_due_49 2 rfl (by decide) (Nat.le_of_ble_eq_true rfl) rfl ?_
      refine s_goto (tgt := 10) hz dX0_due_52 rfl ?_
      exact s_sub [1, 2, 0] rfl (hr10 (y10 + (1 : Int32)))
def fX0_due (N : Nat) (σ : Mem) (x1 : Int32) : Option (Int32 × Mem) :=
  (fX0_isNumber N σ x1).bind (fun q1 => 
  (fX0_need N σ q1 (0 : Int32)).bind (fun q6 => cT2 q6 (fun v3 σ5 => 
  lp (bX0_due_10 N σ5 x1) N (0 : Int32)) (fun b4 σ5 => 
  gb (isC σ5 b4 5) (
  (fX0_finds N σ5 b4).bind (fun q14 => 
  some (q14.1, q14.2))))))
set_option maxHeartbeats 4000000 in
theorem wfX0_due {Θ : ThT Mem} {g : GeoX} {N : Nat}  {ρ : Int32 × Mem} (σ : Mem) (x1 : Int32) (hc : Cx Θ (VX g) cX0_due 3 RX0 (rk 5 1 7) (some .int) [(0, 56, 57, 1)] false (oI ρ.1) ρ.2) : Sim Θ 3 ρ σ (fX0_due N σ x1) (0, 0) 0 [(0, .ref (vO (VX g) + 0)), (1, .int x1)] [] := by
  have hz := hc.z
  unfold fX0_due
  refine s_iload_n hz dX0_due_0 rfl 1 rfl ?_
  refine s_bind (fun q1 e2 => ?_)
  refine kX_X0_352 hc (cfX0_isNumber e2) ⟨(Nat.le_of_ble_eq_true rfl), (Nat.le_of_ble_eq_true rfl)⟩ ⟨(Nat.le_of_ble_eq_true rfl), (Nat.le_of_ble_eq_true rfl)⟩ (Nat.le_of_ble_eq_true rfl) dX0_due_1 ?_
  refine s_iconst (v := (0 : Int32)) hz dX0_due_4 (by decide) ?_
  refine s_bind (fun q6 e7 => ?_)
  rcases q6 with ⟨v3 | b4, σ5⟩
  · refine kX_X0_119 hc (cfX0_need e7) ⟨(Nat.le_of_ble_eq_true rfl), (Nat.le_of_ble_eq_true rfl)⟩ ⟨(Nat.le_of_ble_eq_true rfl), (Nat.le_of_ble_eq_true rfl)⟩ (Nat.le_of_ble_eq_true rfl) dX0_due_5 (s_c2 ?_)
    refine s_iconst (v := (0 : Int32)) hz dX0_due_8 (by decide) ?_
    refine s_istore_n (lv' := [(2, .int (0 : Int32)), (0, .ref (vO (VX g) + 0)), (1, .int x1)]) hz dX0_due_9 rfl (Nat.le_of_ble_eq_true rfl) rfl ?_
    exact s_sub [1, 2, 0] rfl (s_lp (sg := fun y : Int32 => σ5) (lvs := fun y : Int32 => [(0, .ref (vO (VX g) + 0)), (1, .int x1), (2, .int y)]) (fun rec hrec => wbX0_due_10 σ5 hc x1  rec hrec) N (0 : Int32))
  · refine s_gb (fun h8 => ?_)
    refine kX_X0_119_h hc (cfX0_need e7) ⟨(Nat.le_of_ble_eq_true rfl), (Nat.le_of_ble_eq_true rfl)⟩ ⟨(Nat.le_of_ble_eq_true rfl), (Nat.le_of_ble_eq_true rfl)⟩ (Nat.le_of_ble_eq_true rfl) dX0_due_5 (i := 0) rfl rfl (by decide) (by decide) (q := (RX6, TX6, 7)) rfl q273 (isC_ob h8) ?_
    refine s_astore_n (lv' := [(2, .ref (vO (VX g) + b4)), (0, .ref (vO (VX g) + 0)), (1, .int x1)]) hz dX0_due_57 rfl (Nat.le_of_ble_eq_true rfl) rfl ?_
    refine s_aload_n hz dX0_due_58 rfl 1 rfl ?_
    refine s_aload_n hz dX0_due_59 rfl 0 rfl ?_
    refine s_bind (fun q14 e15 => ?_)
    refine kX_X0_145 hc (cfX0_finds e15) ⟨(Nat.le_of_ble_eq_true rfl), (Nat.le_of_ble_eq_true rfl)⟩ ⟨(Nat.le_of_ble_eq_true rfl), (Nat.le_of_ble_eq_true rfl)⟩ (Nat.le_of_ble_eq_true rfl) dX0_due_60 ?_
    exact s_iretM hc dX0_due_63 (Nat.le_of_ble_eq_true rfl) (Nat.le_of_ble_eq_true rfl)
theorem cfX0_due {g : GeoX} {N : Nat}  {σ : Mem} {x1 : Int32} {ρ : Int32 × Mem} (hF : fX0_due N σ x1 = some ρ) (l : Launch) : CtW (wsW_ yX0_due cX0_due 3 (some .int) [(0, 56, 57, 1)]) (VX g) l yX0_due (rk 5 1 7) [.ref (vO (VX g) + 0), .int x1] σ (oI ρ.1) ρ.2 :=
  CtW.ofH (by decide) (Nat.le_of_ble_eq_true rfl) (fun Θ hc ls hl => wfX0_due σ x1 hc hF ls hl)
theorem kX_X0_355 {γ : Type} {Θ : ThT Mem} {g : GeoX} {cc : ByteArray} {nL : Nat} {rm : Room} {ret : Option FieldType} {hs : List (Nat × Nat × Nat × Nat)} {ini : Bool} {O : Outcome} {σ' : Mem} {ρ : γ} {σ : Mem} {F : Option γ} {cs : Nat × Nat} {pc : Nat} {lv : List (Nat × Value)} {st : List Value} (hc : Cx Θ (VX g) cc nL RX0 rm ret hs ini O σ') {σ1 : Mem} {x1 : Int32} {r : Int32} {rmc : Room} (hM : ∀ l : Launch, Ct (VX g) l yX0_cameOf cX0_cameOf 4 (some .int) rmc [.ref (vO (VX g) + 0), .int x1] σ (oI r) σ1) (hR : rmc.frames + 1 ≤ rm.frames ∧ 8 + (4 + 11) + rmc.locals ≤ rm.locals) (hf : cs.1 + rmc.cells ≤ rm.cells ∧ cs.2 + rmc.slots ≤ rm.slots) (hrest : (st.map fun v => v.category).sum ≤ 8) (hd : decode cc pc = .ok (.invokevirtual 355, 3)) (kk : Sim Θ nL ρ σ1 F (cs.1 + rmc.cells, cs.2 + rmc.slots) (pc + 3) lv (.int r :: st)) : Sim Θ nL ρ σ F cs pc lv (.int x1 :: .ref (vO (VX g) + 0) :: st) := s_callVo hc (a := 0) (As := [.int x1]) (rest := st) (n := 1) (ci := 0) (q := (RX0, TX0, 19)) hM (lw_V q952 q954 qs25 q62 q955) (by decide +kernel) rfl (Ob.fix (Nat.le_of_ble_eq_true rfl) rfl) rfl rfl hrest hR hf hd kk
def fX0_came (N : Nat) (σ : Mem) (x1 : Int32) : Option (Int32 × Mem) :=
  (fX0_isNumber N σ x1).bind (fun q1 => 
  (fX0_need N σ q1 (0 : Int32)).bind (fun q6 => cT2 q6 (fun v3 σ5 => 
  (fX0_cameOf N σ5 x1).bind (fun q9 => 
  some (q9, σ5))) (fun b4 σ5 => 
  gb (isC σ5 b4 5) (
  (fX0_finds N σ5 b4).bind (fun q11 => 
  some (q11.1, q11.2))))))
set_option maxHeartbeats 4000000 in
theorem wfX0_came {Θ : ThT Mem} {g : GeoX} {N : Nat}  {ρ : Int32 × Mem} (σ : Mem) (x1 : Int32) (hc : Cx Θ (VX g) cX0_came 3 RX0 (rk 5 1 7) (some .int) [(0, 13, 14, 1)] false (oI ρ.1) ρ.2) : Sim Θ 3 ρ σ (fX0_came N σ x1) (0, 0) 0 [(0, .ref (vO (VX g) + 0)), (1, .int x1)] [] := by
  have hz := hc.z
  unfold fX0_came
  refine s_iload_n hz dX0_came_0 rfl 1 rfl ?_
  refine s_bind (fun q1 e2 => ?_)
  refine kX_X0_352 hc (cfX0_isNumber e2) ⟨(Nat.le_of_ble_eq_true rfl), (Nat.le_of_ble_eq_true rfl)⟩ ⟨(Nat.le_of_ble_eq_true rfl), (Nat.le_of_ble_eq_true rfl)⟩ (Nat.le_of_ble_eq_true rfl) dX0_came_1 ?_
  refine s_iconst (v := (0 : Int32)) hz dX0_came_4 (by decide) ?_
  refine s_bind (fun q6 e7 => ?_)
  rcases q6 with ⟨v3 | b4, σ5⟩
  · refine kX_X0_119 hc (cfX0_need e7) ⟨(Nat.le_of_ble_eq_true rfl), (Nat.le_of_ble_eq_true rfl)⟩ ⟨(Nat.le_of_ble_eq_true rfl), (Nat.le_of_ble_eq_true rfl)⟩ (Nat.le_of_ble_eq_true rfl) dX0_came_5 (s_c2 ?_)
    refine s_aload_n hz dX0_came_8 rfl 0 rfl ?_
    refine s_iload_n hz dX0_came_9 rfl 1 rfl ?_
    refine s_bind (fun q9 e10 => ?_)
    refine kX_X0_355 hc (cfX0_cameOf e10) ⟨(Nat.le_of_ble_eq_true rfl), (Nat.le_of_ble_eq_true rfl)⟩ ⟨(Nat.le_of_ble_eq_true rfl), (Nat.le_of_ble_eq_true rfl)⟩ (Nat.le_of_ble_eq_true rfl) dX0_came_10 ?_
    exact s_iretM hc dX0_came_13 (Nat.le_of_ble_eq_true rfl) (Nat.le_of_ble_eq_true rfl)
  · refine s_gb (fun h8 => ?_)
    refine kX_X0_119_h hc (cfX0_need e7) ⟨(Nat.le_of_ble_eq_true rfl), (Nat.le_of_ble_eq_true rfl)⟩ ⟨(Nat.le_of_ble_eq_true rfl), (Nat.le_of_ble_eq_true rfl)⟩ (Nat.le_of_ble_eq_true rfl) dX0_came_5 (i := 0) rfl rfl (by decide) (by decide) (q := (RX6, TX6, 7)) rfl q273 (isC_ob h8) ?_
    refine s_astore_n (lv' := [(2, .ref (vO (VX g) + b4)), (0, .ref (vO (VX g) + 0)), (1, .int x1)]) hz dX0_came_14 rfl (Nat.le_of_ble_eq_true rfl) rfl ?_
    refine s_aload_n hz dX0_came_15 rfl 1 rfl ?_
    refine s_aload_n hz dX0_came_16 rfl 0 rfl ?_
    refine s_bind (fun q11 e12 => ?_)
    refine kX_X0_145 hc (cfX0_finds e12) ⟨(Nat.le_of_ble_eq_true rfl), (Nat.le_of_ble_eq_true rfl)⟩ ⟨(Nat.le_of_ble_eq_true rfl), (Nat.le_of_ble_eq_true rfl)⟩ (Nat.le_of_ble_eq_true rfl) dX0_came_17 ?_
    exact s_iretM hc dX0_came_20 (Nat.le_of_ble_eq_true rfl) (Nat.le_of_ble_eq_true rfl)
theorem cfX0_came {g : GeoX} {N : Nat}  {σ : Mem} {x1 : Int32} {ρ : Int32 × Mem} (hF : fX0_came N σ x1 = some ρ) (l : Launch) : CtW (wsW_ yX0_came cX0_came 3 (some .int) [(0, 13, 14, 1)]) (VX g) l yX0_came (rk 5 1 7) [.ref (vO (VX g) + 0), .int x1] σ (oI ρ.1) ρ.2 :=
  CtW.ofH (by decide) (Nat.le_of_ble_eq_true rfl) (fun Θ hc ls hl => wfX0_came σ x1 hc hF ls hl)
def bX0_drum_4 (N : Nat) (σ : Mem)  (r4 : (Int64 × Int32) → Option (Int64)) (y4 : Int64 × Int32) : Option (Int64) :=
  if (12 : Int32) ≤ y4.2 then
  (some y4.1)
  else ((fX0_cameOf N σ y4.2).bind (fun q2 => 
  lt_ (((((12 : Int32) * q2) - ((4 : Int32) * (gI σ 1 1)))).toInt64) (fun v4 => 
  lt_ (y4.1 + (v4 * v4)) (fun v5 => 
  r4 (v5, (y4.2 + (1 : Int32)))))))
set_option maxHeartbeats 4000000 in
theorem wbX0_drum_4 {Θ : ThT Mem} {g : GeoX} {N : Nat}  {ρ : Int64} (σ : Mem) (hc : Cx Θ (VX g) cX0_drum 6 RX0 (rk 3 0 0) (some .long) [] false (oL ρ) σ)  (r4 : (Int64 × Int32) → Option (Int64)) (hr4 : ∀ y : Int64 × Int32, Sim Θ 6 ρ (σ) (r4 y) (0, 0) 4 [(0, .ref (vO (VX g) + 0)), (1, .long y.1), (3, .int y.2)] []) : ∀ y4 : Int64 × Int32, Sim Θ 6 ρ (σ) (bX0_drum_4 N σ  r4 y4) (0, 0) 4 [(0, .ref (vO (VX g) + 0)), (1, .long y4.1), (3, .int y4.2)] [] := by
  intro y4
  have hz := hc.z
  have hr4c : ∀ (z0_ : Int64) (z1_ : Int32), Sim Θ 6 ρ (σ) (r4 (z0_, z1_)) (0, 0) 4 [(0, .ref (vO (VX g) + 0)), (1, .long z0_), (3, .int z1_)] [] := fun z0_ z1_ => hr4 (z0_, z1_)
  unfold bX0_drum_4
  refine s_iload_n hz dX0_drum_4 rfl 2 rfl ?_
  refine s_bipush (v := (12 : Int32)) hz dX0_drum_5 (by decide) ?_
  refine s_icmp_ge (tgt := 45) hz dX0_drum_7 rfl (fun h1 => ?_) (fun h1 => ?_)
  · refine s_lload_n hz dX0_drum_45 rfl 1 rfl ?_
    exact s_lret hc dX0_drum_46 (Nat.le_of_ble_eq_true rfl) (Nat.le_of_ble_eq_true rfl)
  · refine s_bipush (v := (12 : Int32)) hz dX0_drum_10 (by decide) ?_
    refine s_aload_n hz dX0_drum_12 rfl 0 rfl ?_
    refine s_iload_n hz dX0_drum_13 rfl 2 rfl ?_
    refine s_bind (fun q2 e3 => ?_)
    refine kX_X0_355 hc (cfX0_cameOf e3) ⟨(Nat.le_of_ble_eq_true rfl), (Nat.le_of_ble_eq_true rfl)⟩ ⟨(Nat.le_of_ble_eq_true rfl), (Nat.le_of_ble_eq_true rfl)⟩ (Nat.le_of_ble_eq_true rfl) dX0_drum_14 ?_
    refine s_imul hz dX0_drum_17 ?_
    refine s_iconst (v := (4 : Int32)) hz dX0_drum_18 (by decide) ?_
    refine s_aload_n hz dX0_drum_19 rfl 0 rfl ?_
    refine rX_g_X0_42_0 hc dX0_drum_20 ?_
    refine rX_g_X0_185_1 hc dX0_drum_23 ?_
    refine s_imul hz dX0_drum_26 ?_
    refine s_isub hz dX0_drum_27 ?_
    refine s_i2l hz dX0_drum_28 ?_
    refine s_nmL (fun v4 => ?_)
    refine s_lstore (lv' := [(4, .long v4), (0, .ref (vO (VX g) + 0)), (1, .long y4.1), (3, .int y4.2)]) hz dX0_drum_29 (Nat.le_of_ble_eq_true rfl) rfl ?_
    refine s_lload_n hz dX0_drum_31 rfl 2 rfl ?_
    refine s_lload hz dX0_drum_32 0 rfl ?_
    refine s_lload hz dX0_drum_34 0 rfl ?_
    refine s_lmul hz dX0_drum_36 ?_
    refine s_ladd hz dX0_drum_37 ?_
    refine s_nmL (fun v5 => ?_)
    refine s_lstore_n (lv' := [(1, .long v5), (4, .long v4), (0, .ref (vO (VX g) + 0)), (3, .int y4.2)]) hz dX0_drum_38 rfl (Nat.le_of_ble_eq_true rfl) rfl ?_
    refine s_iinc (v := (1 : Int32)) (lv' := [(3, .int (y4.2 + (1 : Int32))), (1, .long v5), (4, .long v4), (0, .ref (vO (VX g) + 0))]) hz dX0_drum_39 3 rfl (by decide) (Nat.le_of_ble_eq_true rfl) rfl ?_
    refine s_goto (tgt := 4) hz dX0_drum_42 rfl ?_
    exact s_sub [3, 1, 0] rfl (hr4c v5 (y4.2 + (1 : Int32)))
def fX0_drum (N : Nat) (σ : Mem)  : Option (Int64) :=
  lp (bX0_drum_4 N σ) N ((0 : Int64), (0 : Int32))
set_option maxHeartbeats 4000000 in
theorem wfX0_drum {Θ : ThT Mem} {g : GeoX} {N : Nat}  {ρ : Int64} (σ : Mem)  (hc : Cx Θ (VX g) cX0_drum 6 RX0 (rk 3 0 0) (some .long) [] false (oL ρ) σ) : Sim Θ 6 ρ σ (fX0_drum N σ ) (0, 0) 0 [(0, .ref (vO (VX g) + 0))] [] := by
  have hz := hc.z
  unfold fX0_drum
  refine s_lconst (v := (0 : Int64)) hz dX0_drum_0 (by decide) ?_
  refine s_lstore_n (lv' := [(1, .long (0 : Int64)), (0, .ref (vO (VX g) + 0))]) hz dX0_drum_1 rfl (Nat.le_of_ble_eq_true rfl) rfl ?_
  refine s_iconst (v := (0 : Int32)) hz dX0_drum_2 (by decide) ?_
  refine s_istore_n (lv' := [(3, .int (0 : Int32)), (1, .long (0 : Int64)), (0, .ref (vO (VX g) + 0))]) hz dX0_drum_3 rfl (Nat.le_of_ble_eq_true rfl) rfl ?_
  exact s_sub [2, 1, 0] rfl (s_lp (sg := fun y : Int64 × Int32 => σ) (lvs := fun y : Int64 × Int32 => [(0, .ref (vO (VX g) + 0)), (1, .long y.1), (3, .int y.2)]) (fun rec hrec => wbX0_drum_4 σ hc   rec hrec) N ((0 : Int64), (0 : Int32)))
theorem cfX0_drum {g : GeoX} {N : Nat}  {σ : Mem}  {ρ : Int64} (hF : fX0_drum N σ  = some ρ) (l : Launch) : Ct (VX g) l yX0_drum cX0_drum 6 (some .long) (rk 3 0 0) [.ref (vO (VX g) + 0)] σ (oL ρ) σ :=
  Ct.of (by decide) (Nat.le_of_ble_eq_true rfl) (fun Θ hc ls hl => wfX0_drum σ  hc hF ls hl)
theorem rX_ld_23 {own : String} {γ : Type} {Θ : ThT Mem} {g : GeoX} {cc : ByteArray} {nL : Nat} {rm : Room} {ret : Option FieldType} {hs : List (Nat × Nat × Nat × Nat)} {ini : Bool} {O : Outcome} {σ' : Mem} {ρ : γ} {σ : Mem} {F : Option γ} {cs : Nat × Nat} {pc : Nat} {lv : List (Nat × Value)} {st : List Value} (hc : Cx Θ (VX g) cc nL own rm ret hs ini O σ') {i : Int32} {j : Nat} (hin : inb i 40 = true) (hj : ix i = j) (hd : decode cc pc = .ok (.iaload, 1)) (kk : Sim Θ nL ρ σ F cs (pc + 1) lv (.int (gI σ 23 j) :: st)) : Sim Θ nL ρ σ F cs pc lv (.int i :: .ref (vO (VX g) + 23) :: st) := s_iald hc (k := 23) (t := 0) (n := 40) (Nat.le_of_ble_eq_true rfl) rfl rfl hin hj hd kk
def bX0_felt_42 (N : Nat) (σ : Mem) (x1 : Int32) (x2 : Int32) (r42 : (Int64 × Int64 × Int32) → Option (Int32 × Mem)) (y42 : Int64 × Int64 × Int32) : Option (Int32 × Mem) :=
  if (gI σ 1 1) ≤ y42.2.2 then
  (gb (nzL ((x2).toInt64)) (
  gb (nzL ((((gI σ 1 1) - x2)).toInt64)) (
  some (((((y42.1 / ((x2).toInt64)) - (y42.2.1 / ((((gI σ 1 1) - x2)).toInt64)))).toInt32), σ))))
  else (gb (inb y42.2.2 40) (
  (fX0_has N σ (gI σ 20 (ix y42.2.2)) x1).bind (fun q23 => 
  if q23 = (0 : Int32) then
  (gb (inb y42.2.2 40) (
  lt_ (y42.2.1 + (((gI σ 23 (ix y42.2.2))).toInt64)) (fun v27 => 
  r42 (y42.1, v27, (y42.2.2 + (1 : Int32))))))
  else (gb (inb y42.2.2 40) (
  lt_ (y42.1 + (((gI σ 23 (ix y42.2.2))).toInt64)) (fun v29 => 
  r42 (v29, y42.2.1, (y42.2.2 + (1 : Int32)))))))))
set_option maxHeartbeats 4000000 in
theorem wbX0_felt_42 {Θ : ThT Mem} {g : GeoX} {N : Nat}  {ρ : Int32 × Mem} (σ : Mem) (hc : Cx Θ (VX g) cX0_felt 8 RX0 (rk 5 2 14) (some .int) [(0, 135, 136, 1)] false (oI ρ.1) ρ.2) (x1 : Int32) (x2 : Int32) (r42 : (Int64 × Int64 × Int32) → Option (Int32 × Mem)) (hr42 : ∀ y : Int64 × Int64 × Int32, Sim Θ 8 ρ (σ) (r42 y) (2, 14) 42 [(0, .ref (vO (VX g) + 0)), (1, .int x1), (2, .int x2), (3, .long y.1), (5, .long y.2.1), (7, .int y.2.2)] []) : ∀ y42 : Int64 × Int64 × Int32, Sim Θ 8 ρ (σ) (bX0_felt_42 N σ x1 x2 r42 y42) (2, 14) 42 [(0, .ref (vO (VX g) + 0)), (1, .int x1), (2, .int x2), (3, .long y42.1), (5, .long y42.2.1), (7, .int y42.2.2)] [] := by
  intro y42
  have hz := hc.z
  have hr42c : ∀ (z0_ : Int64) (z1_ : Int64) (z2_ : Int32), Sim Θ 8 ρ (σ) (r42 (z0_, z1_, z2_)) (2, 14) 42 [(0, .ref (vO (VX g) + 0)), (1, .int x1), (2, .int x2), (3, .long z0_), (5, .long z1_), (7, .int z2_)] [] := fun z0_ z1_ z2_ => hr42 (z0_, z1_, z2_)
  unfold bX0_felt_42
  refine s_iload hz dX0_felt_42 5 rfl ?_
  refine s_aload_n hz dX0_felt_44 rfl 0 rfl ?_
  refine rX_g_X0_42_0 hc dX0_felt_45 ?_
  refine rX_g_X0_185_1 hc dX0_felt_48 ?_
  refine s_icmp_ge (tgt := 116) hz dX0_felt_51 rfl (fun h19 => ?_) (fun h19 => ?_)
  · refine s_lload_n hz dX0_felt_116 rfl 3 rfl ?_
    refine s_iload_n hz dX0_felt_117 rfl 2 rfl ?_
    refine s_i2l hz dX0_felt_118 ?_
    refine s_gb (fun h20 => ?_)
    refine s_ldiv hz dX0_felt_119 (nzL_ne h20) ?_
    refine s_lload hz dX0_felt_120 4 rfl ?_
    refine s_aload_n hz dX0_felt_122 rfl 0 rfl ?_
    refine rX_g_X0_42_0 hc dX0_felt_123 ?_
    refine rX_g_X0_185_1 hc dX0_felt_126 ?_
    refine s_iload_n hz dX0_felt_129 rfl 2 rfl ?_
    refine s_isub hz dX0_felt_130 ?_
    refine s_i2l hz dX0_felt_131 ?_
    refine s_gb (fun h21 => ?_)
    refine s_ldiv hz dX0_felt_132 (nzL_ne h21) ?_
    refine s_lsub hz dX0_felt_133 ?_
    refine s_l2i hz dX0_felt_134 ?_
    exact s_iretM hc dX0_felt_135 (Nat.le_of_ble_eq_true rfl) (Nat.le_of_ble_eq_true rfl)
  · refine s_aload_n hz dX0_felt_54 rfl 0 rfl ?_
    refine rX_g_X0_42_0 hc dX0_felt_55 ?_
    refine rX_g_X0_296_1 hc dX0_felt_58 ?_
    refine s_iconst (v := (0 : Int32)) hz dX0_felt_61 (by decide) ?_
    refine rX_aa_19 hc (j := 0) (by decide) (by decide) dX0_felt_62 ?_
    refine s_iload hz dX0_felt_63 5 rfl ?_
    refine s_gb (fun h22 => ?_)
    refine rX_ld_20 hc h22 rfl dX0_felt_65 ?_
    refine s_iload_n hz dX0_felt_66 rfl 1 rfl ?_
    refine s_bind (fun q23 e24 => ?_)
    refine kX_X0_349 hc (cfX0_has e24) ⟨(Nat.le_of_ble_eq_true rfl), (Nat.le_of_ble_eq_true rfl)⟩ ⟨(Nat.le_of_ble_eq_true rfl), (Nat.le_of_ble_eq_true rfl)⟩ (Nat.le_of_ble_eq_true rfl) dX0_felt_67 ?_
    refine s_if_eq (tgt := 92) hz dX0_felt_70 rfl (fun h25 => ?_) (fun h25 => ?_)
    · refine s_lload hz dX0_felt_92 4 rfl ?_
      refine s_aload_n hz dX0_felt_94 rfl 0 rfl ?_
      refine rX_g_X0_42_0 hc dX0_felt_95 ?_
      refine rX_g_X0_296_1 hc dX0_felt_98 ?_
      refine s_iconst (v := (3 : Int32)) hz dX0_felt_101 (by decide) ?_
      refine rX_aa_19 hc (j := 3) (by decide) (by decide) dX0_felt_102 ?_
      refine s_iload hz dX0_felt_103 5 rfl ?_
      refine s_gb (fun h26 => ?_)
      refine rX_ld_23 hc h26 rfl dX0_felt_105 ?_
      refine s_i2l hz dX0_felt_106 ?_
      refine s_ladd hz dX0_felt_107 ?_
      refine s_nmL (fun v27 => ?_)
      refine s_lstore (lv' := [(5, .long v27), (0, .ref (vO (VX g) + 0)), (1, .int x1), (2, .int x2), (3, .long y42.1), (7, .int y42.2.2)]) hz dX0_felt_108 (Nat.le_of_ble_eq_true rfl) rfl ?_
      refine s_iinc (v := (1 : Int32)) (lv' := [(7, .int (y42.2.2 + (1 : Int32))), (5, .long v27), (0, .ref (vO (VX g) + 0)), (1, .int x1), (2, .int x2), (3, .long y42.1)]) hz dX0_felt_110 5 rfl (by decide) (Nat.le_of_ble_eq_true rfl) rfl ?_
      refine s_goto (tgt := 42) hz dX0_felt_113 rfl ?_
      exact s_sub [2, 3, 4, 5, 1, 0] rfl (hr42c y42.1 v27 (y42.2.2 + (1 : Int32)))
    · refine s_lload_n hz dX0_felt_73 rfl 3 rfl ?_
      refine s_aload_n hz dX0_felt_74 rfl 0 rfl ?_
      refine rX_g_X0_42_0 hc dX0_felt_75 ?_
      refine rX_g_X0_296_1 hc dX0_felt_78 ?_
      refine s_iconst (v := (3 : Int32)) hz dX0_felt_81 (by decide) ?_
      refine rX_aa_19 hc (j := 3) (by decide) (by decide) dX0_felt_82 ?_
      refine s_iload hz dX0_felt_83 5 rfl ?_
      refine s_gb (fun h28 => ?_)
      refine rX_ld_23 hc h28 rfl dX0_felt_85 ?_
      refine s_i2l hz dX0_felt_86 ?_
      refine s_ladd hz dX0_felt_87 ?_
      refine s_nmL (fun v29 => ?_)
      refine s_lstore_n (lv' := [(3, .long v29), (0, .ref (vO (VX g) + 0)), (1, .int x1), (2, .int x2), (5, .long y42.2.1), (7, .int y42.2.2)]) hz dX0_felt_88 rfl (Nat.le_of_ble_eq_true rfl) rfl ?_
      refine s_goto (tgt := 110) hz dX0_felt_89 rfl ?_
      refine s_iinc (v := (1 : Int32)) (lv' := [(7, .int (y42.2.2 + (1 : Int32))), (3, .long v29), (0, .ref (vO (VX g) + 0)), (1, .int x1), (2, .int x2), (5, .long y42.2.1)]) hz dX0_felt_110 5 rfl (by decide) (Nat.le_of_ble_eq_true rfl) rfl ?_
      refine s_goto (tgt := 42) hz dX0_felt_113 rfl ?_
      exact s_sub [2, 3, 4, 1, 5, 0] rfl (hr42c v29 y42.2.1 (y42.2.2 + (1 : Int32)))
def fX0_felt (N : Nat) (σ : Mem) (x1 : Int32) : Option (Int32 × Mem) :=
  (fX0_isNumber N σ x1).bind (fun q1 => 
  (fX0_need N σ q1 (0 : Int32)).bind (fun q6 => cT2 q6 (fun v3 σ5 => 
  (fX0_cameOf N σ5 x1).bind (fun q9 => 
  (fX0_in N σ5 ((q9).toInt64) (1 : Int64) ((((gI σ5 1 1) - (1 : Int32))).toInt64)).bind (fun q11 => 
  (fX0_need N σ5 q11 (3 : Int32)).bind (fun q16 => cT2 q16 (fun v13 σ15 => 
  lp (bX0_felt_42 N σ15 x1 q9) N ((0 : Int64), (0 : Int64), (0 : Int32))) (fun b14 σ15 => 
  gb (isC σ15 b14 5) (
  (fX0_finds N σ15 b14).bind (fun q30 => 
  some (q30.1, q30.2)))))))) (fun b4 σ5 => 
  gb (isC σ5 b4 5) (
  (fX0_finds N σ5 b4).bind (fun q32 => 
  some (q32.1, q32.2))))))
set_option maxHeartbeats 4000000 in
theorem wfX0_felt {Θ : ThT Mem} {g : GeoX} {N : Nat}  {ρ : Int32 × Mem} (σ : Mem) (x1 : Int32) (hc : Cx Θ (VX g) cX0_felt 8 RX0 (rk 5 2 14) (some .int) [(0, 135, 136, 1)] false (oI ρ.1) ρ.2) : Sim Θ 8 ρ σ (fX0_felt N σ x1) (0, 0) 0 [(0, .ref (vO (VX g) + 0)), (1, .int x1)] [] := by
  have hz := hc.z
  unfold fX0_felt
  refine s_iload_n hz dX0_felt_0 rfl 1 rfl ?_
  refine s_bind (fun q1 e2 => ?_)
  refine kX_X0_352 hc (cfX0_isNumber e2) ⟨(Nat.le_of_ble_eq_true rfl), (Nat.le_of_ble_eq_true rfl)⟩ ⟨(Nat.le_of_ble_eq_true rfl), (Nat.le_of_ble_eq_true rfl)⟩ (Nat.le_of_ble_eq_true rfl) dX0_felt_1 ?_
  refine s_iconst (v := (0 : Int32)) hz dX0_felt_4 (by decide) ?_
  refine s_bind (fun q6 e7 => ?_)
  rcases q6 with ⟨v3 | b4, σ5⟩
  · refine kX_X0_119 hc (cfX0_need e7) ⟨(Nat.le_of_ble_eq_true rfl), (Nat.le_of_ble_eq_true rfl)⟩ ⟨(Nat.le_of_ble_eq_true rfl), (Nat.le_of_ble_eq_true rfl)⟩ (Nat.le_of_ble_eq_true rfl) dX0_felt_5 (s_c2 ?_)
    refine s_aload_n hz dX0_felt_8 rfl 0 rfl ?_
    refine s_iload_n hz dX0_felt_9 rfl 1 rfl ?_
    refine s_bind (fun q9 e10 => ?_)
    refine kX_X0_355 hc (cfX0_cameOf e10) ⟨(Nat.le_of_ble_eq_true rfl), (Nat.le_of_ble_eq_true rfl)⟩ ⟨(Nat.le_of_ble_eq_true rfl), (Nat.le_of_ble_eq_true rfl)⟩ (Nat.le_of_ble_eq_true rfl) dX0_felt_10 ?_
    refine s_istore_n (lv' := [(2, .int q9), (0, .ref (vO (VX g) + 0)), (1, .int x1)]) hz dX0_felt_13 rfl (Nat.le_of_ble_eq_true rfl) rfl ?_
    refine s_iload_n hz dX0_felt_14 rfl 0 rfl ?_
    refine s_i2l hz dX0_felt_15 ?_
    refine s_lconst (v := (1 : Int64)) hz dX0_felt_16 (by decide) ?_
    refine s_aload_n hz dX0_felt_17 rfl 1 rfl ?_
    refine rX_g_X0_42_0 hc dX0_felt_18 ?_
    refine rX_g_X0_185_1 hc dX0_felt_21 ?_
    refine s_iconst (v := (1 : Int32)) hz dX0_felt_24 (by decide) ?_
    refine s_isub hz dX0_felt_25 ?_
    refine s_i2l hz dX0_felt_26 ?_
    refine s_bind (fun q11 e12 => ?_)
    refine kX_X0_125 hc (cfX0_in e12) ⟨(Nat.le_of_ble_eq_true rfl), (Nat.le_of_ble_eq_true rfl)⟩ ⟨(Nat.le_of_ble_eq_true rfl), (Nat.le_of_ble_eq_true rfl)⟩ (Nat.le_of_ble_eq_true rfl) dX0_felt_27 ?_
    refine s_iconst (v := (3 : Int32)) hz dX0_felt_30 (by decide) ?_
    refine s_bind (fun q16 e17 => ?_)
    rcases q16 with ⟨v13 | b14, σ15⟩
    · refine kX_X0_119 hc (cfX0_need e17) ⟨(Nat.le_of_ble_eq_true rfl), (Nat.le_of_ble_eq_true rfl)⟩ ⟨(Nat.le_of_ble_eq_true rfl), (Nat.le_of_ble_eq_true rfl)⟩ (Nat.le_of_ble_eq_true rfl) dX0_felt_31 (s_c2 ?_)
      refine s_lconst (v := (0 : Int64)) hz dX0_felt_34 (by decide) ?_
      refine s_lstore_n (lv' := [(3, .long (0 : Int64)), (2, .int q9), (0, .ref (vO (VX g) + 0)), (1, .int x1)]) hz dX0_felt_35 rfl (Nat.le_of_ble_eq_true rfl) rfl ?_
      refine s_lconst (v := (0 : Int64)) hz dX0_felt_36 (by decide) ?_
      refine s_lstore (lv' := [(5, .long (0 : Int64)), (3, .long (0 : Int64)), (2, .int q9), (0, .ref (vO (VX g) + 0)), (1, .int x1)]) hz dX0_felt_37 (Nat.le_of_ble_eq_true rfl) rfl ?_
      refine s_iconst (v := (0 : Int32)) hz dX0_felt_39 (by decide) ?_
      refine s_istore (lv' := [(7, .int (0 : Int32)), (5, .long (0 : Int64)), (3, .long (0 : Int64)), (2, .int q9), (0, .ref (vO (VX g) + 0)), (1, .int x1)]) hz dX0_felt_40 (Nat.le_of_ble_eq_true rfl) rfl ?_
      exact s_sub [4, 5, 3, 2, 1, 0] rfl (s_lp (sg := fun y : Int64 × Int64 × Int32 => σ15) (lvs := fun y : Int64 × Int64 × Int32 => [(0, .ref (vO (VX g) + 0)), (1, .int x1), (2, .int q9), (3, .long y.1), (5, .long y.2.1), (7, .int y.2.2)]) (fun rec hrec => wbX0_felt_42 σ15 hc x1 q9  rec hrec) N ((0 : Int64), (0 : Int64), (0 : Int32)))
    · refine s_gb (fun h18 => ?_)
      refine kX_X0_119_h hc (cfX0_need e17) ⟨(Nat.le_of_ble_eq_true rfl), (Nat.le_of_ble_eq_true rfl)⟩ ⟨(Nat.le_of_ble_eq_true rfl), (Nat.le_of_ble_eq_true rfl)⟩ (Nat.le_of_ble_eq_true rfl) dX0_felt_31 (i := 0) rfl rfl (by decide) (by decide) (q := (RX6, TX6, 7)) rfl q273 (isC_ob h18) ?_
      refine s_astore_n (lv' := [(2, .ref (vO (VX g) + b14)), (0, .ref (vO (VX g) + 0)), (1, .int x1)]) hz dX0_felt_136 rfl (Nat.le_of_ble_eq_true rfl) rfl ?_
      refine s_aload_n hz dX0_felt_137 rfl 1 rfl ?_
      refine s_aload_n hz dX0_felt_138 rfl 0 rfl ?_
      refine s_bind (fun q30 e31 => ?_)
      refine kX_X0_145 hc (cfX0_finds e31) ⟨(Nat.le_of_ble_eq_true rfl), (Nat.le_of_ble_eq_true rfl)⟩ ⟨(Nat.le_of_ble_eq_true rfl), (Nat.le_of_ble_eq_true rfl)⟩ (Nat.le_of_ble_eq_true rfl) dX0_felt_139 ?_
      exact s_iretM hc dX0_felt_142 (Nat.le_of_ble_eq_true rfl) (Nat.le_of_ble_eq_true rfl)
  · refine s_gb (fun h8 => ?_)
    refine kX_X0_119_h hc (cfX0_need e7) ⟨(Nat.le_of_ble_eq_true rfl), (Nat.le_of_ble_eq_true rfl)⟩ ⟨(Nat.le_of_ble_eq_true rfl), (Nat.le_of_ble_eq_true rfl)⟩ (Nat.le_of_ble_eq_true rfl) dX0_felt_5 (i := 0) rfl rfl (by decide) (by decide) (q := (RX6, TX6, 7)) rfl q273 (isC_ob h8) ?_
    refine s_astore_n (lv' := [(2, .ref (vO (VX g) + b4)), (0, .ref (vO (VX g) + 0)), (1, .int x1)]) hz dX0_felt_136 rfl (Nat.le_of_ble_eq_true rfl) rfl ?_
    refine s_aload_n hz dX0_felt_137 rfl 1 rfl ?_
    refine s_aload_n hz dX0_felt_138 rfl 0 rfl ?_
    refine s_bind (fun q32 e33 => ?_)
    refine kX_X0_145 hc (cfX0_finds e33) ⟨(Nat.le_of_ble_eq_true rfl), (Nat.le_of_ble_eq_true rfl)⟩ ⟨(Nat.le_of_ble_eq_true rfl), (Nat.le_of_ble_eq_true rfl)⟩ (Nat.le_of_ble_eq_true rfl) dX0_felt_139 ?_
    exact s_iretM hc dX0_felt_142 (Nat.le_of_ble_eq_true rfl) (Nat.le_of_ble_eq_true rfl)
theorem cfX0_felt {g : GeoX} {N : Nat}  {σ : Mem} {x1 : Int32} {ρ : Int32 × Mem} (hF : fX0_felt N σ x1 = some ρ) (l : Launch) : CtW (wsW_ yX0_felt cX0_felt 8 (some .int) [(0, 135, 136, 1)]) (VX g) l yX0_felt (rk 5 2 14) [.ref (vO (VX g) + 0), .int x1] σ (oI ρ.1) ρ.2 :=
  CtW.ofH (by decide) (Nat.le_of_ble_eq_true rfl) (fun Θ hc ls hl => wfX0_felt σ x1 hc hF ls hl)
theorem kX_X0_369 {γ : Type} {Θ : ThT Mem} {g : GeoX} {cc : ByteArray} {nL : Nat} {rm : Room} {ret : Option FieldType} {hs : List (Nat × Nat × Nat × Nat)} {ini : Bool} {O : Outcome} {σ' : Mem} {ρ : γ} {σ : Mem} {F : Option γ} {cs : Nat × Nat} {pc : Nat} {lv : List (Nat × Value)} {st : List Value} (hc : Cx Θ (VX g) cc nL RX0 rm ret hs ini O σ') {σ1 : Mem} {x0 : Nat} {x1 : Int32} {r : Int64} {rmc : Room} (hM : ∀ l : Launch, Ct (VX g) l yX0_get cX0_get 2 (some .long) rmc [.ref (vO (VX g) + x0), .int x1] σ (oL r) σ1) (hR : rmc.frames + 1 ≤ rm.frames ∧ 8 + (2 + 11) + rmc.locals ≤ rm.locals) (hf : cs.1 + rmc.cells ≤ rm.cells ∧ cs.2 + rmc.slots ≤ rm.slots) (hrest : (st.map fun v => v.category).sum ≤ 8) (hd : decode cc pc = .ok (.invokestatic 369, 3)) (kk : Sim Θ nL ρ σ1 F (cs.1 + rmc.cells, cs.2 + rmc.slots) (pc + 3) lv (.long r :: st)) : Sim Θ nL ρ σ F cs pc lv (.int x1 :: .ref (vO (VX g) + x0) :: st) := s_callS hc (As := [.ref (vO (VX g) + x0), .int x1]) (rest := st) (n := 2) hM (lw_S q982 q983 q62 q984) (by decide +kernel) rfl rfl hrest hR hf hd kk
def bX0_weeks_15 (N : Nat) (σ : Mem)  (r15 : (Mem × Int32 × Int32) → Option (Int32 × Mem)) (y15 : Mem × Int32 × Int32) : Option (Int32 × Mem) :=
  none
set_option maxHeartbeats 4000000 in
theorem wbX0_weeks_15 {Θ : ThT Mem} {g : GeoX} {N : Nat}  {ρ : Int32 × Mem} (σ : Mem) (hc : Cx Θ (VX g) cX0_weeks 7 RX0 (rk 78 2 14) (some .int) [(0, 86, 87, 1)] false (oI ρ.1) ρ.2)  (r15 : (Mem × Int32 × Int32) → Option (Int32 × Mem)) (hr15 : ∀ y : Mem × Int32 × Int32, Sim Θ 7 ρ (y.1) (r15 y) (2, 14) 15 [(0, .ref (vO (VX g) + 0)), (2, .null), (3, .int y.2.1), (4, .int y.2.2)] []) : ∀ y15 : Mem × Int32 × Int32, Sim Θ 7 ρ (y15.1) (bX0_weeks_15 N σ  r15 y15) (2, 14) 15 [(0, .ref (vO (VX g) + 0)), (2, .null), (3, .int y15.2.1), (4, .int y15.2.2)] [] := by
  intro y15
  have hz := hc.z
  have hr15c : ∀ (z0_ : Mem) (z1_ : Int32) (z2_ : Int32), Sim Θ 7 ρ (z0_) (r15 (z0_, z1_, z2_)) (2, 14) 15 [(0, .ref (vO (VX g) + 0)), (2, .null), (3, .int z1_), (4, .int z2_)] [] := fun z0_ z1_ z2_ => hr15 (z0_, z1_, z2_)
  unfold bX0_weeks_15
  refine s_iload hz dX0_weeks_15 3 rfl ?_
  refine s_aload_nN hz dX0_weeks_17 rfl 1 rfl ?_
  exact s_none
def bX0_weeks_15_v1 (N : Nat) (σ : Mem) (x2 : Nat) (r15 : (Mem × Int32 × Int32) → Option (Int32 × Mem)) (y15 : Mem × Int32 × Int32) : Option (Int32 × Mem) :=
  (fX0_length N y15.1 x2).bind (fun q14 => 
  if q14 ≤ y15.2.2 then
  (some (y15.2.1, y15.1))
  else (if (40 : Int32) ≤ (gI y15.1 1 1) then
  (some (y15.2.1, y15.1))
  else ((fX0_get N y15.1 x2 y15.2.2).bind (fun q18 => 
  (fX0_in N y15.1 q18 (0 : Int64) (4095 : Int64)).bind (fun q20 => 
  if q20 = (0 : Int32) then
  (r15 (y15.1, y15.2.1, (y15.2.2 + (1 : Int32))))
  else ((fX0_isRow N y15.1 ((q18).toInt32)).bind (fun q23 => 
  if q23 = (0 : Int32) then
  (r15 (y15.1, y15.2.1, (y15.2.2 + (1 : Int32))))
  else ((fX0_plays N y15.1 ((q18).toInt32)).bind (fun q26 => 
  r15 (q26.2, (y15.2.1 + (1 : Int32)), (y15.2.2 + (1 : Int32))))))))))))
set_option maxHeartbeats 4000000 in
theorem wbX0_weeks_15_v1 {Θ : ThT Mem} {g : GeoX} {N : Nat}  {ρ : Int32 × Mem} (σ : Mem) (hc : Cx Θ (VX g) cX0_weeks 7 RX0 (rk 78 2 14) (some .int) [(0, 86, 87, 1)] false (oI ρ.1) ρ.2) (x2 : Nat) (r15 : (Mem × Int32 × Int32) → Option (Int32 × Mem)) (hr15 : ∀ y : Mem × Int32 × Int32, Sim Θ 7 ρ (y.1) (r15 y) (2, 14) 15 [(0, .ref (vO (VX g) + 0)), (2, .ref (vO (VX g) + x2)), (3, .int y.2.1), (4, .int y.2.2)] []) : ∀ y15 : Mem × Int32 × Int32, Sim Θ 7 ρ (y15.1) (bX0_weeks_15_v1 N σ x2 r15 y15) (2, 14) 15 [(0, .ref (vO (VX g) + 0)), (2, .ref (vO (VX g) + x2)), (3, .int y15.2.1), (4, .int y15.2.2)] [] := by
  intro y15
  have hz := hc.z
  have hr15c : ∀ (z0_ : Mem) (z1_ : Int32) (z2_ : Int32), Sim Θ 7 ρ (z0_) (r15 (z0_, z1_, z2_)) (2, 14) 15 [(0, .ref (vO (VX g) + 0)), (2, .ref (vO (VX g) + x2)), (3, .int z1_), (4, .int z2_)] [] := fun z0_ z1_ z2_ => hr15 (z0_, z1_, z2_)
  unfold bX0_weeks_15_v1
  refine s_iload hz dX0_weeks_15 3 rfl ?_
  refine s_aload_n hz dX0_weeks_17 rfl 1 rfl ?_
  refine s_bind (fun q14 e15 => ?_)
  refine kX_X0_365 hc (cfX0_length e15) ⟨(Nat.le_of_ble_eq_true rfl), (Nat.le_of_ble_eq_true rfl)⟩ ⟨(Nat.le_of_ble_eq_true rfl), (Nat.le_of_ble_eq_true rfl)⟩ (Nat.le_of_ble_eq_true rfl) dX0_weeks_18 ?_
  refine s_icmp_ge (tgt := 85) hz dX0_weeks_21 rfl (fun h16 => ?_) (fun h16 => ?_)
  · refine s_iload_n hz dX0_weeks_85 rfl 2 rfl ?_
    exact s_iretM hc dX0_weeks_86 (Nat.le_of_ble_eq_true rfl) (Nat.le_of_ble_eq_true rfl)
  · refine s_aload_n hz dX0_weeks_24 rfl 0 rfl ?_
    refine rX_g_X0_42_0 hc dX0_weeks_25 ?_
    refine rX_g_X0_185_1 hc dX0_weeks_28 ?_
    refine s_bipush (v := (40 : Int32)) hz dX0_weeks_31 (by decide) ?_
    refine s_icmp_ge (tgt := 85) hz dX0_weeks_33 rfl (fun h17 => ?_) (fun h17 => ?_)
    · refine s_iload_n hz dX0_weeks_85 rfl 2 rfl ?_
      exact s_iretM hc dX0_weeks_86 (Nat.le_of_ble_eq_true rfl) (Nat.le_of_ble_eq_true rfl)
    · refine s_aload_n hz dX0_weeks_36 rfl 1 rfl ?_
      refine s_iload hz dX0_weeks_37 3 rfl ?_
      refine s_bind (fun q18 e19 => ?_)
      refine kX_X0_369 hc (cfX0_get e19) ⟨(Nat.le_of_ble_eq_true rfl), (Nat.le_of_ble_eq_true rfl)⟩ ⟨(Nat.le_of_ble_eq_true rfl), (Nat.le_of_ble_eq_true rfl)⟩ (Nat.le_of_ble_eq_true rfl) dX0_weeks_39 ?_
      refine s_lstore (lv' := [(5, .long q18), (0, .ref (vO (VX g) + 0)), (2, .ref (vO (VX g) + x2)), (3, .int y15.2.1), (4, .int y15.2.2)]) hz dX0_weeks_42 (Nat.le_of_ble_eq_true rfl) rfl ?_
      refine s_lload hz dX0_weeks_44 0 rfl ?_
      refine s_lconst (v := (0 : Int64)) hz dX0_weeks_46 (by decide) ?_
      refine s_ldc2 hz dX0_weeks_47 q277 ?_
      refine s_bind (fun q20 e21 => ?_)
      refine kX_X0_125 hc (cfX0_in e21) ⟨(Nat.le_of_ble_eq_true rfl), (Nat.le_of_ble_eq_true rfl)⟩ ⟨(Nat.le_of_ble_eq_true rfl), (Nat.le_of_ble_eq_true rfl)⟩ (Nat.le_of_ble_eq_true rfl) dX0_weeks_50 ?_
      refine s_if_eq (tgt := 79) hz dX0_weeks_53 rfl (fun h22 => ?_) (fun h22 => ?_)
      · refine s_iinc (v := (1 : Int32)) (lv' := [(4, .int (y15.2.2 + (1 : Int32))), (5, .long q18), (0, .ref (vO (VX g) + 0)), (2, .ref (vO (VX g) + x2)), (3, .int y15.2.1)]) hz dX0_weeks_79 4 rfl (by decide) (Nat.le_of_ble_eq_true rfl) rfl ?_
        refine s_goto (tgt := 15) hz dX0_weeks_82 rfl ?_
        exact s_sub [2, 3, 4, 0] rfl (hr15c y15.1 y15.2.1 (y15.2.2 + (1 : Int32)))
      · refine s_lload hz dX0_weeks_56 0 rfl ?_
        refine s_l2i hz dX0_weeks_58 ?_
        refine s_bind (fun q23 e24 => ?_)
        refine kX_X0_138 hc (cfX0_isRow e24) ⟨(Nat.le_of_ble_eq_true rfl), (Nat.le_of_ble_eq_true rfl)⟩ ⟨(Nat.le_of_ble_eq_true rfl), (Nat.le_of_ble_eq_true rfl)⟩ (Nat.le_of_ble_eq_true rfl) dX0_weeks_59 ?_
        refine s_if_ne (tgt := 68) hz dX0_weeks_62 rfl (fun h25 => ?_) (fun h25 => ?_)
        · refine s_aload_n hz dX0_weeks_68 rfl 1 rfl ?_
          refine s_lload hz dX0_weeks_69 0 rfl ?_
          refine s_l2i hz dX0_weeks_71 ?_
          refine s_bind (fun q26 e27 => ?_)
          refine kX_X0_319 hc (cfX0_plays e27) ⟨(Nat.le_of_ble_eq_true rfl), (Nat.le_of_ble_eq_true rfl)⟩ ⟨(Nat.le_of_ble_eq_true rfl), (Nat.le_of_ble_eq_true rfl)⟩ (Nat.le_of_ble_eq_true rfl) dX0_weeks_72 ?_
          refine s_pop hz dX0_weeks_75 rfl ?_
          refine s_iinc (v := (1 : Int32)) (lv' := [(3, .int (y15.2.1 + (1 : Int32))), (5, .long q18), (0, .ref (vO (VX g) + 0)), (2, .ref (vO (VX g) + x2)), (4, .int y15.2.2)]) hz dX0_weeks_76 3 rfl (by decide) (Nat.le_of_ble_eq_true rfl) rfl ?_
          refine s_iinc (v := (1 : Int32)) (lv' := [(4, .int (y15.2.2 + (1 : Int32))), (3, .int (y15.2.1 + (1 : Int32))), (5, .long q18), (0, .ref (vO (VX g) + 0)), (2, .ref (vO (VX g) + x2))]) hz dX0_weeks_79 4 rfl (by decide) (Nat.le_of_ble_eq_true rfl) rfl ?_
          refine s_goto (tgt := 15) hz dX0_weeks_82 rfl ?_
          exact s_sub [3, 4, 1, 0] rfl (hr15c q26.2 (y15.2.1 + (1 : Int32)) (y15.2.2 + (1 : Int32)))
        · refine s_goto (tgt := 79) hz dX0_weeks_65 rfl ?_
          refine s_iinc (v := (1 : Int32)) (lv' := [(4, .int (y15.2.2 + (1 : Int32))), (5, .long q18), (0, .ref (vO (VX g) + 0)), (2, .ref (vO (VX g) + x2)), (3, .int y15.2.1)]) hz dX0_weeks_79 4 rfl (by decide) (Nat.le_of_ble_eq_true rfl) rfl ?_
          refine s_goto (tgt := 15) hz dX0_weeks_82 rfl ?_
          exact s_sub [2, 3, 4, 0] rfl (hr15c y15.1 y15.2.1 (y15.2.2 + (1 : Int32)))
def fX0_weeks (N : Nat) (σ : Mem) (x1 : Int32) : Option (Int32 × Mem) :=
  (fX0_sheetAt N σ x1).bind (fun q4 => cT2 q4 (fun v1 σ3 => 
  (fX0_there N σ3 x1).bind (fun q10 => cT2 q10 (fun v7 σ9 => 
  mO v7
  (lp (bX0_weeks_15 N σ9) N (σ9, (0 : Int32), (0 : Int32))) (fun a13 => 
  lp (bX0_weeks_15_v1 N σ9 a13) N (σ9, (0 : Int32), (0 : Int32)))) (fun b8 σ9 => 
  gb (isC σ9 b8 5) (
  (fX0_finds N σ9 b8).bind (fun q28 => 
  some (q28.1, q28.2)))))) (fun b2 σ3 => 
  gb (isC σ3 b2 5) (
  (fX0_finds N σ3 b2).bind (fun q30 => 
  some (q30.1, q30.2)))))
set_option maxHeartbeats 4000000 in
theorem wfX0_weeks {Θ : ThT Mem} {g : GeoX} {N : Nat}  {ρ : Int32 × Mem} (σ : Mem) (x1 : Int32) (hc : Cx Θ (VX g) cX0_weeks 7 RX0 (rk 78 2 14) (some .int) [(0, 86, 87, 1)] false (oI ρ.1) ρ.2) : Sim Θ 7 ρ σ (fX0_weeks N σ x1) (0, 0) 0 [(0, .ref (vO (VX g) + 0)), (1, .int x1)] [] := by
  have hz := hc.z
  unfold fX0_weeks
  refine s_iload_n hz dX0_weeks_0 rfl 1 rfl ?_
  refine s_bind (fun q4 e5 => ?_)
  rcases q4 with ⟨v1 | b2, σ3⟩
  · refine kX_X0_358 hc (cfX0_sheetAt e5) ⟨(Nat.le_of_ble_eq_true rfl), (Nat.le_of_ble_eq_true rfl)⟩ ⟨(Nat.le_of_ble_eq_true rfl), (Nat.le_of_ble_eq_true rfl)⟩ (Nat.le_of_ble_eq_true rfl) dX0_weeks_1 (s_c2 ?_)
    refine s_aload_n hz dX0_weeks_4 rfl 0 rfl ?_
    refine s_iload_n hz dX0_weeks_5 rfl 1 rfl ?_
    refine s_bind (fun q10 e11 => ?_)
    rcases q10 with ⟨v7 | b8, σ9⟩
    · refine kX_X0_361 hc (cfX0_there e11) ⟨(Nat.le_of_ble_eq_true rfl), (Nat.le_of_ble_eq_true rfl)⟩ ⟨(Nat.le_of_ble_eq_true rfl), (Nat.le_of_ble_eq_true rfl)⟩ (Nat.le_of_ble_eq_true rfl) dX0_weeks_6 (s_c2 ?_)
      refine s_opt (fun _ => ?_) (fun a13 _ => ?_)
      · refine s_astore_nN (lv' := [(2, .null), (0, .ref (vO (VX g) + 0)), (1, .int x1)]) hz dX0_weeks_9 rfl (Nat.le_of_ble_eq_true rfl) rfl ?_
        refine s_iconst (v := (0 : Int32)) hz dX0_weeks_10 (by decide) ?_
        refine s_istore_n (lv' := [(3, .int (0 : Int32)), (2, .null), (0, .ref (vO (VX g) + 0)), (1, .int x1)]) hz dX0_weeks_11 rfl (Nat.le_of_ble_eq_true rfl) rfl ?_
        refine s_iconst (v := (0 : Int32)) hz dX0_weeks_12 (by decide) ?_
        refine s_istore (lv' := [(4, .int (0 : Int32)), (3, .int (0 : Int32)), (2, .null), (0, .ref (vO (VX g) + 0)), (1, .int x1)]) hz dX0_weeks_13 (Nat.le_of_ble_eq_true rfl) rfl ?_
        exact s_sub [3, 2, 1, 0] rfl (s_lp (sg := fun y : Mem × Int32 × Int32 => y.1) (lvs := fun y : Mem × Int32 × Int32 => [(0, .ref (vO (VX g) + 0)), (2, .null), (3, .int y.2.1), (4, .int y.2.2)]) (fun rec hrec => wbX0_weeks_15 σ9 hc   rec hrec) N (σ9, (0 : Int32), (0 : Int32)))
      · refine s_astore_n (lv' := [(2, .ref (vO (VX g) + a13)), (0, .ref (vO (VX g) + 0)), (1, .int x1)]) hz dX0_weeks_9 rfl (Nat.le_of_ble_eq_true rfl) rfl ?_
        refine s_iconst (v := (0 : Int32)) hz dX0_weeks_10 (by decide) ?_
        refine s_istore_n (lv' := [(3, .int (0 : Int32)), (2, .ref (vO (VX g) + a13)), (0, .ref (vO (VX g) + 0)), (1, .int x1)]) hz dX0_weeks_11 rfl (Nat.le_of_ble_eq_true rfl) rfl ?_
        refine s_iconst (v := (0 : Int32)) hz dX0_weeks_12 (by decide) ?_
        refine s_istore (lv' := [(4, .int (0 : Int32)), (3, .int (0 : Int32)), (2, .ref (vO (VX g) + a13)), (0, .ref (vO (VX g) + 0)), (1, .int x1)]) hz dX0_weeks_13 (Nat.le_of_ble_eq_true rfl) rfl ?_
        exact s_sub [3, 2, 1, 0] rfl (s_lp (sg := fun y : Mem × Int32 × Int32 => y.1) (lvs := fun y : Mem × Int32 × Int32 => [(0, .ref (vO (VX g) + 0)), (2, .ref (vO (VX g) + a13)), (3, .int y.2.1), (4, .int y.2.2)]) (fun rec hrec => wbX0_weeks_15_v1 σ9 hc a13  rec hrec) N (σ9, (0 : Int32), (0 : Int32)))
    · refine s_gb (fun h12 => ?_)
      refine kX_X0_361_h hc (cfX0_there e11) ⟨(Nat.le_of_ble_eq_true rfl), (Nat.le_of_ble_eq_true rfl)⟩ ⟨(Nat.le_of_ble_eq_true rfl), (Nat.le_of_ble_eq_true rfl)⟩ (Nat.le_of_ble_eq_true rfl) dX0_weeks_6 (i := 0) rfl rfl (by decide) (by decide) (q := (RX6, TX6, 7)) rfl q273 (isC_ob h12) ?_
      refine s_astore_n (lv' := [(2, .ref (vO (VX g) + b8)), (0, .ref (vO (VX g) + 0)), (1, .int x1)]) hz dX0_weeks_87 rfl (Nat.le_of_ble_eq_true rfl) rfl ?_
      refine s_aload_n hz dX0_weeks_88 rfl 1 rfl ?_
      refine s_aload_n hz dX0_weeks_89 rfl 0 rfl ?_
      refine s_bind (fun q28 e29 => ?_)
      refine kX_X0_145 hc (cfX0_finds e29) ⟨(Nat.le_of_ble_eq_true rfl), (Nat.le_of_ble_eq_true rfl)⟩ ⟨(Nat.le_of_ble_eq_true rfl), (Nat.le_of_ble_eq_true rfl)⟩ (Nat.le_of_ble_eq_true rfl) dX0_weeks_90 ?_
      exact s_iretM hc dX0_weeks_93 (Nat.le_of_ble_eq_true rfl) (Nat.le_of_ble_eq_true rfl)
  · refine s_gb (fun h6 => ?_)
    refine kX_X0_358_h hc (cfX0_sheetAt e5) ⟨(Nat.le_of_ble_eq_true rfl), (Nat.le_of_ble_eq_true rfl)⟩ ⟨(Nat.le_of_ble_eq_true rfl), (Nat.le_of_ble_eq_true rfl)⟩ (Nat.le_of_ble_eq_true rfl) dX0_weeks_1 (i := 0) rfl rfl (by decide) (by decide) (q := (RX6, TX6, 7)) rfl q273 (isC_ob h6) ?_
    refine s_astore_n (lv' := [(2, .ref (vO (VX g) + b2)), (0, .ref (vO (VX g) + 0)), (1, .int x1)]) hz dX0_weeks_87 rfl (Nat.le_of_ble_eq_true rfl) rfl ?_
    refine s_aload_n hz dX0_weeks_88 rfl 1 rfl ?_
    refine s_aload_n hz dX0_weeks_89 rfl 0 rfl ?_
    refine s_bind (fun q30 e31 => ?_)
    refine kX_X0_145 hc (cfX0_finds e31) ⟨(Nat.le_of_ble_eq_true rfl), (Nat.le_of_ble_eq_true rfl)⟩ ⟨(Nat.le_of_ble_eq_true rfl), (Nat.le_of_ble_eq_true rfl)⟩ (Nat.le_of_ble_eq_true rfl) dX0_weeks_90 ?_
    exact s_iretM hc dX0_weeks_93 (Nat.le_of_ble_eq_true rfl) (Nat.le_of_ble_eq_true rfl)
theorem cfX0_weeks {g : GeoX} {N : Nat}  {σ : Mem} {x1 : Int32} {ρ : Int32 × Mem} (hF : fX0_weeks N σ x1 = some ρ) (l : Launch) : CtW (wsW_ yX0_weeks cX0_weeks 7 (some .int) [(0, 86, 87, 1)]) (VX g) l yX0_weeks (rk 78 2 14) [.ref (vO (VX g) + 0), .int x1] σ (oI ρ.1) ρ.2 :=
  CtW.ofH (by decide) (Nat.le_of_ble_eq_true rfl) (fun Θ hc ls hl => wfX0_weeks σ x1 hc hF ls hl)
def bX0_read_12 (N : Nat) (σ : Mem)  (r12 : Int32 → Option ((Int32 ⊕ Nat) × Mem)) (y12 : Int32) : Option ((Int32 ⊕ Nat) × Mem) :=
  none
set_option maxHeartbeats 4000000 in
theorem wbX0_read_12 {Θ : ThT Mem} {g : GeoX} {N : Nat}  {ρ : (Int32 ⊕ Nat) × Mem} (σ : Mem) (hc : Cx Θ (VX g) cX0_read 4 RX0 (rk 6 2 14) (some .int) [(0, 55, 64, 1), (56, 63, 64, 1)] false (oT oI ρ.1 (vO (VX g))) ρ.2)  (r12 : Int32 → Option ((Int32 ⊕ Nat) × Mem)) (hr12 : ∀ y : Int32, Sim Θ 4 ρ (σ) (r12 y) (2, 14) 12 [(0, .ref (vO (VX g) + 0)), (2, .null), (3, .int y)] []) : ∀ y12 : Int32, Sim Θ 4 ρ (σ) (bX0_read_12 N σ  r12 y12) (2, 14) 12 [(0, .ref (vO (VX g) + 0)), (2, .null), (3, .int y12)] [] := by
  intro y12
  have hz := hc.z
  unfold bX0_read_12
  refine s_iload_n hz dX0_read_12 rfl 2 rfl ?_
  refine s_aload_nN hz dX0_read_13 rfl 1 rfl ?_
  exact s_none
def bX0_read_12_v1 (N : Nat) (σ : Mem) (x2 : Nat) (r12 : Int32 → Option ((Int32 ⊕ Nat) × Mem)) (y12 : Int32) : Option ((Int32 ⊕ Nat) × Mem) :=
  (fX0_length N σ x2).bind (fun q14 => 
  if q14 ≤ y12 then
  (some (.inl (0 : Int32), σ))
  else (if (gI σ 1 1) ≤ y12 then
  (some (.inl ((1 : Int32) + y12), σ))
  else ((fX0_get N σ x2 y12).bind (fun q18 => 
  gb (inb y12 40) (
  if q18 = (((gI σ 23 (ix y12))).toInt64) then
  (r12 (y12 + (1 : Int32)))
  else (some (.inl ((1 : Int32) + y12), σ)))))))
set_option maxHeartbeats 4000000 in
theorem wbX0_read_12_v1 {Θ : ThT Mem} {g : GeoX} {N : Nat}  {ρ : (Int32 ⊕ Nat) × Mem} (σ : Mem) (hc : Cx Θ (VX g) cX0_read 4 RX0 (rk 6 2 14) (some .int) [(0, 55, 64, 1), (56, 63, 64, 1)] false (oT oI ρ.1 (vO (VX g))) ρ.2) (x2 : Nat) (r12 : Int32 → Option ((Int32 ⊕ Nat) × Mem)) (hr12 : ∀ y : Int32, Sim Θ 4 ρ (σ) (r12 y) (2, 14) 12 [(0, .ref (vO (VX g) + 0)), (2, .ref (vO (VX g) + x2)), (3, .int y)] []) : ∀ y12 : Int32, Sim Θ 4 ρ (σ) (bX0_read_12_v1 N σ x2 r12 y12) (2, 14) 12 [(0, .ref (vO (VX g) + 0)), (2, .ref (vO (VX g) + x2)), (3, .int y12)] [] := by
  intro y12
  have hz := hc.z
  unfold bX0_read_12_v1
  refine s_iload_n hz dX0_read_12 rfl 2 rfl ?_
  refine s_aload_n hz dX0_read_13 rfl 1 rfl ?_
  refine s_bind (fun q14 e15 => ?_)
  refine kX_X0_365 hc (cfX0_length e15) ⟨(Nat.le_of_ble_eq_true rfl), (Nat.le_of_ble_eq_true rfl)⟩ ⟨(Nat.le_of_ble_eq_true rfl), (Nat.le_of_ble_eq_true rfl)⟩ (Nat.le_of_ble_eq_true rfl) dX0_read_14 ?_
  refine s_icmp_ge (tgt := 62) hz dX0_read_17 rfl (fun h16 => ?_) (fun h16 => ?_)
  · refine s_iconst (v := (0 : Int32)) hz dX0_read_62 (by decide) ?_
    exact s_iretT hc dX0_read_63 (Nat.le_of_ble_eq_true rfl) (Nat.le_of_ble_eq_true rfl)
  · refine s_iload_n hz dX0_read_20 rfl 2 rfl ?_
    refine s_aload_n hz dX0_read_21 rfl 0 rfl ?_
    refine rX_g_X0_42_0 hc dX0_read_22 ?_
    refine rX_g_X0_185_1 hc dX0_read_25 ?_
    refine s_icmp_ge (tgt := 52) hz dX0_read_28 rfl (fun h17 => ?_) (fun h17 => ?_)
    · refine s_iconst (v := (1 : Int32)) hz dX0_read_52 (by decide) ?_
      refine s_iload_n hz dX0_read_53 rfl 2 rfl ?_
      refine s_iadd hz dX0_read_54 ?_
      exact s_iretT hc dX0_read_55 (Nat.le_of_ble_eq_true rfl) (Nat.le_of_ble_eq_true rfl)
    · refine s_aload_n hz dX0_read_31 rfl 1 rfl ?_
      refine s_iload_n hz dX0_read_32 rfl 2 rfl ?_
      refine s_bind (fun q18 e19 => ?_)
      refine kX_X0_369 hc (cfX0_get e19) ⟨(Nat.le_of_ble_eq_true rfl), (Nat.le_of_ble_eq_true rfl)⟩ ⟨(Nat.le_of_ble_eq_true rfl), (Nat.le_of_ble_eq_true rfl)⟩ (Nat.le_of_ble_eq_true rfl) dX0_read_33 ?_
      refine s_aload_n hz dX0_read_36 rfl 0 rfl ?_
      refine rX_g_X0_42_0 hc dX0_read_37 ?_
      refine rX_g_X0_296_1 hc dX0_read_40 ?_
      refine s_iconst (v := (3 : Int32)) hz dX0_read_43 (by decide) ?_
      refine rX_aa_19 hc (j := 3) (by decide) (by decide) dX0_read_44 ?_
      refine s_iload_n hz dX0_read_45 rfl 2 rfl ?_
      refine s_gb (fun h20 => ?_)
      refine rX_ld_23 hc h20 rfl dX0_read_46 ?_
      refine s_i2l hz dX0_read_47 ?_
      refine s_lcmp_eq (tgt := 56) hz dX0_read_48 dX0_read_49 rfl (fun h21 => ?_) (fun h21 => ?_)
      · refine s_iinc (v := (1 : Int32)) (lv' := [(3, .int (y12 + (1 : Int32))), (0, .ref (vO (VX g) + 0)), (2, .ref (vO (VX g) + x2))]) hz dX0_read_56 2 rfl (by decide) (Nat.le_of_ble_eq_true rfl) rfl ?_
        refine s_goto (tgt := 12) hz dX0_read_59 rfl ?_
        exact s_sub [1, 2, 0] rfl (hr12 (y12 + (1 : Int32)))
      · refine s_iconst (v := (1 : Int32)) hz dX0_read_52 (by decide) ?_
        refine s_iload_n hz dX0_read_53 rfl 2 rfl ?_
        refine s_iadd hz dX0_read_54 ?_
        exact s_iretT hc dX0_read_55 (Nat.le_of_ble_eq_true rfl) (Nat.le_of_ble_eq_true rfl)
def fX0_read (N : Nat) (σ : Mem) (x1 : Int32) : Option ((Int32 ⊕ Nat) × Mem) :=
  (fX0_sheetAt N σ x1).bind (fun q4 => cT2 q4 (fun v1 σ3 => 
  (fX0_there N σ3 x1).bind (fun q10 => cT2 q10 (fun v7 σ9 => 
  mO v7
  (lp (bX0_read_12 N σ9) N (0 : Int32)) (fun a13 => 
  lp (bX0_read_12_v1 N σ9 a13) N (0 : Int32))) (fun b8 σ9 => 
  gb (isC σ9 b8 5) (
  (fX0_finds N σ9 b8).bind (fun q22 => 
  some (.inl q22.1, q22.2)))))) (fun b2 σ3 => 
  gb (isC σ3 b2 5) (
  (fX0_finds N σ3 b2).bind (fun q24 => 
  some (.inl q24.1, q24.2)))))
set_option maxHeartbeats 4000000 in
theorem wfX0_read {Θ : ThT Mem} {g : GeoX} {N : Nat}  {ρ : (Int32 ⊕ Nat) × Mem} (σ : Mem) (x1 : Int32) (hc : Cx Θ (VX g) cX0_read 4 RX0 (rk 6 2 14) (some .int) [(0, 55, 64, 1), (56, 63, 64, 1)] false (oT oI ρ.1 (vO (VX g))) ρ.2) : Sim Θ 4 ρ σ (fX0_read N σ x1) (0, 0) 0 [(0, .ref (vO (VX g) + 0)), (1, .int x1)] [] := by
  have hz := hc.z
  unfold fX0_read
  refine s_iload_n hz dX0_read_0 rfl 1 rfl ?_
  refine s_bind (fun q4 e5 => ?_)
  rcases q4 with ⟨v1 | b2, σ3⟩
  · refine kX_X0_358 hc (cfX0_sheetAt e5) ⟨(Nat.le_of_ble_eq_true rfl), (Nat.le_of_ble_eq_true rfl)⟩ ⟨(Nat.le_of_ble_eq_true rfl), (Nat.le_of_ble_eq_true rfl)⟩ (Nat.le_of_ble_eq_true rfl) dX0_read_1 (s_c2 ?_)
    refine s_aload_n hz dX0_read_4 rfl 0 rfl ?_
    refine s_iload_n hz dX0_read_5 rfl 1 rfl ?_
    refine s_bind (fun q10 e11 => ?_)
    rcases q10 with ⟨v7 | b8, σ9⟩
    · refine kX_X0_361 hc (cfX0_there e11) ⟨(Nat.le_of_ble_eq_true rfl), (Nat.le_of_ble_eq_true rfl)⟩ ⟨(Nat.le_of_ble_eq_true rfl), (Nat.le_of_ble_eq_true rfl)⟩ (Nat.le_of_ble_eq_true rfl) dX0_read_6 (s_c2 ?_)
      refine s_opt (fun _ => ?_) (fun a13 _ => ?_)
      · refine s_astore_nN (lv' := [(2, .null), (0, .ref (vO (VX g) + 0)), (1, .int x1)]) hz dX0_read_9 rfl (Nat.le_of_ble_eq_true rfl) rfl ?_
        refine s_iconst (v := (0 : Int32)) hz dX0_read_10 (by decide) ?_
        refine s_istore_n (lv' := [(3, .int (0 : Int32)), (2, .null), (0, .ref (vO (VX g) + 0)), (1, .int x1)]) hz dX0_read_11 rfl (Nat.le_of_ble_eq_true rfl) rfl ?_
        exact s_sub [2, 1, 0] rfl (s_lp (sg := fun y : Int32 => σ9) (lvs := fun y : Int32 => [(0, .ref (vO (VX g) + 0)), (2, .null), (3, .int y)]) (fun rec hrec => wbX0_read_12 σ9 hc   rec hrec) N (0 : Int32))
      · refine s_astore_n (lv' := [(2, .ref (vO (VX g) + a13)), (0, .ref (vO (VX g) + 0)), (1, .int x1)]) hz dX0_read_9 rfl (Nat.le_of_ble_eq_true rfl) rfl ?_
        refine s_iconst (v := (0 : Int32)) hz dX0_read_10 (by decide) ?_
        refine s_istore_n (lv' := [(3, .int (0 : Int32)), (2, .ref (vO (VX g) + a13)), (0, .ref (vO (VX g) + 0)), (1, .int x1)]) hz dX0_read_11 rfl (Nat.le_of_ble_eq_true rfl) rfl ?_
        exact s_sub [2, 1, 0] rfl (s_lp (sg := fun y : Int32 => σ9) (lvs := fun y : Int32 => [(0, .ref (vO (VX g) + 0)), (2, .ref (vO (VX g) + a13)), (3, .int y)]) (fun rec hrec => wbX0_read_12_v1 σ9 hc a13  rec hrec) N (0 : Int32))
    · refine s_gb (fun h12 => ?_)
      refine kX_X0_361_h hc (cfX0_there e11) ⟨(Nat.le_of_ble_eq_true rfl), (Nat.le_of_ble_eq_true rfl)⟩ ⟨(Nat.le_of_ble_eq_true rfl), (Nat.le_of_ble_eq_true rfl)⟩ (Nat.le_of_ble_eq_true rfl) dX0_read_6 (i := 0) rfl rfl (by decide) (by decide) (q := (RX6, TX6, 7)) rfl q273 (isC_ob h12) ?_
      refine s_astore_n (lv' := [(2, .ref (vO (VX g) + b8)), (0, .ref (vO (VX g) + 0)), (1, .int x1)]) hz dX0_read_64 rfl (Nat.le_of_ble_eq_true rfl) rfl ?_
      refine s_aload_n hz dX0_read_65 rfl 1 rfl ?_
      refine s_aload_n hz dX0_read_66 rfl 0 rfl ?_
      refine s_bind (fun q22 e23 => ?_)
      refine kX_X0_145 hc (cfX0_finds e23) ⟨(Nat.le_of_ble_eq_true rfl), (Nat.le_of_ble_eq_true rfl)⟩ ⟨(Nat.le_of_ble_eq_true rfl), (Nat.le_of_ble_eq_true rfl)⟩ (Nat.le_of_ble_eq_true rfl) dX0_read_67 ?_
      exact s_iretT hc dX0_read_70 (Nat.le_of_ble_eq_true rfl) (Nat.le_of_ble_eq_true rfl)
  · refine s_gb (fun h6 => ?_)
    refine kX_X0_358_h hc (cfX0_sheetAt e5) ⟨(Nat.le_of_ble_eq_true rfl), (Nat.le_of_ble_eq_true rfl)⟩ ⟨(Nat.le_of_ble_eq_true rfl), (Nat.le_of_ble_eq_true rfl)⟩ (Nat.le_of_ble_eq_true rfl) dX0_read_1 (i := 0) rfl rfl (by decide) (by decide) (q := (RX6, TX6, 7)) rfl q273 (isC_ob h6) ?_
    refine s_astore_n (lv' := [(2, .ref (vO (VX g) + b2)), (0, .ref (vO (VX g) + 0)), (1, .int x1)]) hz dX0_read_64 rfl (Nat.le_of_ble_eq_true rfl) rfl ?_
    refine s_aload_n hz dX0_read_65 rfl 1 rfl ?_
    refine s_aload_n hz dX0_read_66 rfl 0 rfl ?_
    refine s_bind (fun q24 e25 => ?_)
    refine kX_X0_145 hc (cfX0_finds e25) ⟨(Nat.le_of_ble_eq_true rfl), (Nat.le_of_ble_eq_true rfl)⟩ ⟨(Nat.le_of_ble_eq_true rfl), (Nat.le_of_ble_eq_true rfl)⟩ (Nat.le_of_ble_eq_true rfl) dX0_read_67 ?_
    exact s_iretT hc dX0_read_70 (Nat.le_of_ble_eq_true rfl) (Nat.le_of_ble_eq_true rfl)
theorem cfX0_read {g : GeoX} {N : Nat}  {σ : Mem} {x1 : Int32} {ρ : (Int32 ⊕ Nat) × Mem} (hF : fX0_read N σ x1 = some ρ) (l : Launch) : CtW (wsW_ yX0_read cX0_read 4 (some .int) [(0, 55, 64, 1), (56, 63, 64, 1)]) (VX g) l yX0_read (rk 6 2 14) [.ref (vO (VX g) + 0), .int x1] σ (oT oI ρ.1 (vO (VX g))) ρ.2 :=
  CtW.ofH (by decide) (Nat.le_of_ble_eq_true rfl) (fun Θ hc ls hl => wfX0_read σ x1 hc hF ls hl)
theorem kX_X0_380 {γ : Type} {Θ : ThT Mem} {g : GeoX} {cc : ByteArray} {nL : Nat} {rm : Room} {ret : Option FieldType} {hs : List (Nat × Nat × Nat × Nat)} {ini : Bool} {O : Outcome} {σ' : Mem} {ρ : γ} {σ : Mem} {F : Option γ} {cs : Nat × Nat} {pc : Nat} {lv : List (Nat × Value)} {st : List Value} (hc : Cx Θ (VX g) cc nL RX0 rm ret hs ini O σ') {σ1 : Mem} {x0 : Int32} {x1 : Int32} {r : Option Nat} {rmc : Room} (hM : ∀ l : Launch, Ct (VX g) l yX0_made cX0_made 2 (some (.object "java/lang/Object")) rmc [.int x0, .int x1] σ (oR (vO (VX g)) r) σ1) (hR : rmc.frames + 1 ≤ rm.frames ∧ 8 + (2 + 11) + rmc.locals ≤ rm.locals) (hf : cs.1 + rmc.cells ≤ rm.cells ∧ cs.2 + rmc.slots ≤ rm.slots) (hrest : (st.map fun v => v.category).sum ≤ 8) (hd : decode cc pc = .ok (.invokestatic 380, 3)) (kk : Sim Θ nL ρ σ1 F (cs.1 + rmc.cells, cs.2 + rmc.slots) (pc + 3) lv (va_rf (r.map (vO (VX g) + ·)) :: st)) : Sim Θ nL ρ σ F cs pc lv (.int x1 :: .int x0 :: st) := s_callS hc (As := [.int x0, .int x1]) (rest := st) (n := 2) hM (lw_S q993 q994 q62 q995) (by decide +kernel) rfl rfl hrest hR hf hd kk
theorem rX_pvn_X0_162_57 {γ : Type} {Θ : ThT Mem} {g : GeoX} {cc : ByteArray} {nL : Nat} {rm : Room} {ret : Option FieldType} {hs : List (Nat × Nat × Nat × Nat)} {ini : Bool} {O : Outcome} {σ' : Mem} {ρ : γ} {σ : Mem} {cs : Nat × Nat} {pc : Nat} {lv : List (Nat × Value)} {st : List Value} (hc : Cx Θ (VX g) cc nL RX0 rm ret hs ini O σ') {K : Mem → Option γ} {j : Nat} (hj : j < 4) (hd : decode cc pc = .ok (.putfield 162, 3)) (kk : ∀ σ1 : Mem, Sim Θ nL ρ σ1 (K σ1) cs (pc + 3) lv st) : Sim Θ nL ρ σ (lt_ (pR σ (57 + j) 0 none) K) cs pc lv (.null :: .ref (vO (VX g) + (57 + j)) :: st) := s_put hc (C := RX2) (T := TX2) (N := 1) (ci := 2) (k := (57 + j)) (v := .null) (σ1 := pR σ (57 + j) 0 none) in_X2 tyX2_ok nmX2 (YXk_57 g j hj) (YX_57 g.1 _ _ _ j hj) rfl 0 (Nat.le_of_ble_eq_true rfl) q113 (fun _ _ _ _ h => h) rfl (ty := .object "java/lang/Object") (by decide +kernel) rfl rfl (Nat.zero_lt_one) (by first | rfl | (show YX g.1 _ _ _ _ = _; rw [YX_57 g.1 _ _ _ j hj]; simp [pR, va_rf] <;> rfl)) (pR_ne σ (57 + j) 0 none) rfl hd (kk _)
theorem rX_pvr_X0_162_57 {γ : Type} {Θ : ThT Mem} {g : GeoX} {cc : ByteArray} {nL : Nat} {rm : Room} {ret : Option FieldType} {hs : List (Nat × Nat × Nat × Nat)} {ini : Bool} {O : Outcome} {σ' : Mem} {ρ : γ} {σ : Mem} {cs : Nat × Nat} {pc : Nat} {lv : List (Nat × Value)} {st : List Value} (hc : Cx Θ (VX g) cc nL RX0 rm ret hs ini O σ') {K : Mem → Option γ} {a : Nat} {j : Nat} (hj : j < 4) (hd : decode cc pc = .ok (.putfield 162, 3)) (kk : ∀ σ1 : Mem, Sim Θ nL ρ σ1 (K σ1) cs (pc + 3) lv st) : Sim Θ nL ρ σ (lt_ (pR σ (57 + j) 0 (some a)) K) cs pc lv (.ref (vO (VX g) + a) :: .ref (vO (VX g) + (57 + j)) :: st) := s_put hc (C := RX2) (T := TX2) (N := 1) (ci := 2) (k := (57 + j)) (v := .ref (vO (VX g) + a)) (σ1 := pR σ (57 + j) 0 (some a)) in_X2 tyX2_ok nmX2 (YXk_57 g j hj) (YX_57 g.1 _ _ _ j hj) rfl 0 (Nat.le_of_ble_eq_true rfl) q113 (fun _ _ _ _ h => h) rfl (ty := .object "java/lang/Object") (by decide +kernel) rfl rfl (Nat.zero_lt_one) (by first | rfl | (show YX g.1 _ _ _ _ = _; rw [YX_57 g.1 _ _ _ j hj]; simp [pR, va_rf] <;> rfl)) (pR_ne σ (57 + j) 0 (some a)) rfl hd (kk _)
def fX0_sheet (N : Nat) (σ : Mem) (x1 : Int32) (x2 : Int32) (x3 : Int32) : Option (Int32 × Mem) :=
  (fX0_sheetAt N σ x1).bind (fun q4 => cT2 q4 (fun v1 σ3 => 
  (fX0_need N σ3 (if x2 = (0 : Int32) then (1 : Int32) else (if x2 = (8 : Int32) then (1 : Int32) else (if x2 = (16 : Int32) then (1 : Int32) else (if x2 = (64 : Int32) then (1 : Int32) else (0 : Int32))))) (0 : Int32)).bind (fun q10 => cT2 q10 (fun v7 σ9 => 
  (fX0_need N σ9 (if x3 < (0 : Int32) then (0 : Int32) else (1 : Int32)) (6 : Int32)).bind (fun q16 => cT2 q16 (fun v13 σ15 => 
  (fX0_need N σ15 (if (40 : Int32) < x3 then (0 : Int32) else (1 : Int32)) (0 : Int32)).bind (fun q22 => cT2 q22 (fun v19 σ21 => 
  gb (inb x1 4) (
  (fX0_made N σ21 x2 x3).bind (fun q26 => 
  mO q26.1
  (lt_ (pR q26.2 (57 + ix x1) 0 (none)) (fun σ29 => 
  some ((if x2 = (0 : Int32) then (0 : Int32) else x3), σ29))) (fun a28 => 
  lt_ (pR q26.2 (57 + ix x1) 0 (some a28)) (fun σ32 => 
  some ((if x2 = (0 : Int32) then (0 : Int32) else x3), σ32)))))) (fun b20 σ21 => 
  gb (isC σ21 b20 5) (
  (fX0_finds N σ21 b20).bind (fun q35 => 
  some (q35.1, q35.2)))))) (fun b14 σ15 => 
  gb (isC σ15 b14 5) (
  (fX0_finds N σ15 b14).bind (fun q39 => 
  some (q39.1, q39.2)))))) (fun b8 σ9 => 
  gb (isC σ9 b8 5) (
  (fX0_finds N σ9 b8).bind (fun q43 => 
  some (q43.1, q43.2)))))) (fun b2 σ3 => 
  gb (isC σ3 b2 5) (
  (fX0_finds N σ3 b2).bind (fun q50 => 
  some (q50.1, q50.2)))))
set_option maxHeartbeats 4000000 in
theorem wfX0_sheet {Θ : ThT Mem} {g : GeoX} {N : Nat}  {ρ : Int32 × Mem} (σ : Mem) (x1 : Int32) (x2 : Int32) (x3 : Int32) (hc : Cx Θ (VX g) cX0_sheet 5 RX0 (rk 6 5 68) (some .int) [(0, 87, 88, 1)] false (oI ρ.1) ρ.2) : Sim Θ 5 ρ σ (fX0_sheet N σ x1 x2 x3) (0, 0) 0 [(0, .ref (vO (VX g) + 0)), (1, .int x1), (2, .int x2), (3, .int x3)] [] := by
  have hz := hc.z
  unfold fX0_sheet
  refine s_iload_n hz dX0_sheet_0 rfl 1 rfl ?_
  refine s_bind (fun q4 e5 => ?_)
  rcases q4 with ⟨v1 | b2, σ3⟩
  · refine kX_X0_358 hc (cfX0_sheetAt e5) ⟨(Nat.le_of_ble_eq_true rfl), (Nat.le_of_ble_eq_true rfl)⟩ ⟨(Nat.le_of_ble_eq_true rfl), (Nat.le_of_ble_eq_true rfl)⟩ (Nat.le_of_ble_eq_true rfl) dX0_sheet_1 (s_c2 ?_)
    refine s_iload_n hz dX0_sheet_4 rfl 2 rfl ?_
    refine s_dia (J := 31) (v := .int (if x2 = (0 : Int32) then (1 : Int32) else (if x2 = (8 : Int32) then (1 : Int32) else (if x2 = (16 : Int32) then (1 : Int32) else (if x2 = (64 : Int32) then (1 : Int32) else (0 : Int32)))))) (st := []) (fun _ hj45 => ?_) ?_
    · refine s_if_eq_ (tgt := 26) hz dX0_sheet_5 rfl (fun h46 => ?_) (fun h46 => ?_)
      · refine s_iconst (v := (1 : Int32)) hz dX0_sheet_26 (by decide) ?_
        refine s_goto (tgt := 31) hz dX0_sheet_27 rfl ?_
        rw [if_pos h46] at hj45
        exact hj45
      · refine s_iload_n hz dX0_sheet_8 rfl 2 rfl ?_
        refine s_bipush (v := (8 : Int32)) hz dX0_sheet_9 (by decide) ?_
        refine s_icmp_eq_ (tgt := 26) hz dX0_sheet_11 rfl (fun h47 => ?_) (fun h47 => ?_)
        · refine s_iconst (v := (1 : Int32)) hz dX0_sheet_26 (by decide) ?_
          refine s_goto (tgt := 31) hz dX0_sheet_27 rfl ?_
          rw [if_neg h46, if_pos h47] at hj45
          exact hj45
        · refine s_iload_n hz dX0_sheet_14 rfl 2 rfl ?_
          refine s_bipush (v := (16 : Int32)) hz dX0_sheet_15 (by decide) ?_
          refine s_icmp_eq_ (tgt := 26) hz dX0_sheet_17 rfl (fun h48 => ?_) (fun h48 => ?_)
          · refine s_iconst (v := (1 : Int32)) hz dX0_sheet_26 (by decide) ?_
            refine s_goto (tgt := 31) hz dX0_sheet_27 rfl ?_
            rw [if_neg h46, if_neg h47, if_pos h48] at hj45
            exact hj45
          · refine s_iload_n hz dX0_sheet_20 rfl 2 rfl ?_
            refine s_bipush (v := (64 : Int32)) hz dX0_sheet_21 (by decide) ?_
            refine s_icmp_ne_ (tgt := 30) hz dX0_sheet_23 rfl (fun h49 => ?_) (fun h49 => ?_)
            · refine s_iconst (v := (0 : Int32)) hz dX0_sheet_30 (by decide) ?_
              rw [if_neg h46, if_neg h47, if_neg h48, if_neg h49] at hj45
              exact hj45
            · refine s_iconst (v := (1 : Int32)) hz dX0_sheet_26 (by decide) ?_
              refine s_goto (tgt := 31) hz dX0_sheet_27 rfl ?_
              rw [if_neg h46, if_neg h47, if_neg h48, if_pos h49] at hj45
              exact hj45
    refine s_iconst (v := (0 : Int32)) hz dX0_sheet_31 (by decide) ?_
    refine s_bind (fun q10 e11 => ?_)
    rcases q10 with ⟨v7 | b8, σ9⟩
    · refine kX_X0_119 hc (cfX0_need e11) ⟨(Nat.le_of_ble_eq_true rfl), (Nat.le_of_ble_eq_true rfl)⟩ ⟨(Nat.le_of_ble_eq_true rfl), (Nat.le_of_ble_eq_true rfl)⟩ (Nat.le_of_ble_eq_true rfl) dX0_sheet_32 (s_c2 ?_)
      refine s_iload_n hz dX0_sheet_35 rfl 3 rfl ?_
      refine s_dia (J := 44) (v := .int (if x3 < (0 : Int32) then (0 : Int32) else (1 : Int32))) (st := []) (fun _ hj41 => ?_) ?_
      · refine s_if_lt_ (tgt := 43) hz dX0_sheet_36 rfl (fun h42 => ?_) (fun h42 => ?_)
        · refine s_iconst (v := (0 : Int32)) hz dX0_sheet_43 (by decide) ?_
          rw [if_pos h42] at hj41
          exact hj41
        · refine s_iconst (v := (1 : Int32)) hz dX0_sheet_39 (by decide) ?_
          refine s_goto (tgt := 44) hz dX0_sheet_40 rfl ?_
          rw [if_neg h42] at hj41
          exact hj41
      refine s_bipush (v := (6 : Int32)) hz dX0_sheet_44 (by decide) ?_
      refine s_bind (fun q16 e17 => ?_)
      rcases q16 with ⟨v13 | b14, σ15⟩
      · refine kX_X0_119 hc (cfX0_need e17) ⟨(Nat.le_of_ble_eq_true rfl), (Nat.le_of_ble_eq_true rfl)⟩ ⟨(Nat.le_of_ble_eq_true rfl), (Nat.le_of_ble_eq_true rfl)⟩ (Nat.le_of_ble_eq_true rfl) dX0_sheet_46 (s_c2 ?_)
        refine s_iload_n hz dX0_sheet_49 rfl 3 rfl ?_
        refine s_bipush (v := (40 : Int32)) hz dX0_sheet_50 (by decide) ?_
        refine s_dia (J := 60) (v := .int (if (40 : Int32) < x3 then (0 : Int32) else (1 : Int32))) (st := []) (fun _ hj37 => ?_) ?_
        · refine s_icmp_gt_ (tgt := 59) hz dX0_sheet_52 rfl (fun h38 => ?_) (fun h38 => ?_)
          · refine s_iconst (v := (0 : Int32)) hz dX0_sheet_59 (by decide) ?_
            rw [if_pos h38] at hj37
            exact hj37
          · refine s_iconst (v := (1 : Int32)) hz dX0_sheet_55 (by decide) ?_
            refine s_goto (tgt := 60) hz dX0_sheet_56 rfl ?_
            rw [if_neg h38] at hj37
            exact hj37
        refine s_iconst (v := (0 : Int32)) hz dX0_sheet_60 (by decide) ?_
        refine s_bind (fun q22 e23 => ?_)
        rcases q22 with ⟨v19 | b20, σ21⟩
        · refine kX_X0_119 hc (cfX0_need e23) ⟨(Nat.le_of_ble_eq_true rfl), (Nat.le_of_ble_eq_true rfl)⟩ ⟨(Nat.le_of_ble_eq_true rfl), (Nat.le_of_ble_eq_true rfl)⟩ (Nat.le_of_ble_eq_true rfl) dX0_sheet_61 (s_c2 ?_)
          refine s_aload_n hz dX0_sheet_64 rfl 0 rfl ?_
          refine rX_g_X0_59_0 hc dX0_sheet_65 ?_
          refine s_iload_n hz dX0_sheet_68 rfl 1 rfl ?_
          refine s_gb (fun h25 => ?_)
          refine rX_aa_56 hc h25 rfl dX0_sheet_69 ?_
          refine s_iload_n hz dX0_sheet_70 rfl 2 rfl ?_
          refine s_iload_n hz dX0_sheet_71 rfl 3 rfl ?_
          refine s_bind (fun q26 e27 => ?_)
          refine kX_X0_380 hc (cfX0_made e27) ⟨(Nat.le_of_ble_eq_true rfl), (Nat.le_of_ble_eq_true rfl)⟩ ⟨(Nat.le_of_ble_eq_true rfl), (Nat.le_of_ble_eq_true rfl)⟩ (Nat.le_of_ble_eq_true rfl) dX0_sheet_72 ?_
          refine s_opt (fun _ => ?_) (fun a28 _ => ?_)
          · refine rX_pvn_X0_162_57 hc (inb_lt h25) dX0_sheet_75 (fun σ29 => ?_)
            refine s_iload_n hz dX0_sheet_78 rfl 2 rfl ?_
            refine s_dia (J := 87) (v := .int (if x2 = (0 : Int32) then (0 : Int32) else x3)) (st := []) (fun _ hj30 => ?_) ?_
            · refine s_if_ne_ (tgt := 86) hz dX0_sheet_79 rfl (fun h31 => ?_) (fun h31 => ?_)
              · refine s_iload_n hz dX0_sheet_86 rfl 3 rfl ?_
                rw [if_neg h31] at hj30
                exact hj30
              · refine s_iconst (v := (0 : Int32)) hz dX0_sheet_82 (by decide) ?_
                refine s_goto (tgt := 87) hz dX0_sheet_83 rfl ?_
                rw [if_pos h31] at hj30
                exact hj30
            exact s_iretM hc dX0_sheet_87 (Nat.le_of_ble_eq_true rfl) (Nat.le_of_ble_eq_true rfl)
          · refine rX_pvr_X0_162_57 hc (inb_lt h25) dX0_sheet_75 (fun σ32 => ?_)
            refine s_iload_n hz dX0_sheet_78 rfl 2 rfl ?_
            refine s_dia (J := 87) (v := .int (if x2 = (0 : Int32) then (0 : Int32) else x3)) (st := []) (fun _ hj33 => ?_) ?_
            · refine s_if_ne_ (tgt := 86) hz dX0_sheet_79 rfl (fun h34 => ?_) (fun h34 => ?_)
              · refine s_iload_n hz dX0_sheet_86 rfl 3 rfl ?_
                rw [if_neg h34] at hj33
                exact hj33
              · refine s_iconst (v := (0 : Int32)) hz dX0_sheet_82 (by decide) ?_
                refine s_goto (tgt := 87) hz dX0_sheet_83 rfl ?_
                rw [if_pos h34] at hj33
                exact hj33
            exact s_iretM hc dX0_sheet_87 (Nat.le_of_ble_eq_true rfl) (Nat.le_of_ble_eq_true rfl)
        · refine s_gb (fun h24 => ?_)
          refine kX_X0_119_h hc (cfX0_need e23) ⟨(Nat.le_of_ble_eq_true rfl), (Nat.le_of_ble_eq_true rfl)⟩ ⟨(Nat.le_of_ble_eq_true rfl), (Nat.le_of_ble_eq_true rfl)⟩ (Nat.le_of_ble_eq_true rfl) dX0_sheet_61 (i := 0) rfl rfl (by decide) (by decide) (q := (RX6, TX6, 7)) rfl q273 (isC_ob h24) ?_
          refine s_astore (lv' := [(4, .ref (vO (VX g) + b20)), (0, .ref (vO (VX g) + 0)), (1, .int x1), (2, .int x2), (3, .int x3)]) hz dX0_sheet_88 (Nat.le_of_ble_eq_true rfl) rfl ?_
          refine s_aload_n hz dX0_sheet_90 rfl 1 rfl ?_
          refine s_aload hz dX0_sheet_91 0 rfl ?_
          refine s_bind (fun q35 e36 => ?_)
          refine kX_X0_145 hc (cfX0_finds e36) ⟨(Nat.le_of_ble_eq_true rfl), (Nat.le_of_ble_eq_true rfl)⟩ ⟨(Nat.le_of_ble_eq_true rfl), (Nat.le_of_ble_eq_true rfl)⟩ (Nat.le_of_ble_eq_true rfl) dX0_sheet_93 ?_
          exact s_iretM hc dX0_sheet_96 (Nat.le_of_ble_eq_true rfl) (Nat.le_of_ble_eq_true rfl)
      · refine s_gb (fun h18 => ?_)
        refine kX_X0_119_h hc (cfX0_need e17) ⟨(Nat.le_of_ble_eq_true rfl), (Nat.le_of_ble_eq_true rfl)⟩ ⟨(Nat.le_of_ble_eq_true rfl), (Nat.le_of_ble_eq_true rfl)⟩ (Nat.le_of_ble_eq_true rfl) dX0_sheet_46 (i := 0) rfl rfl (by decide) (by decide) (q := (RX6, TX6, 7)) rfl q273 (isC_ob h18) ?_
        refine s_astore (lv' := [(4, .ref (vO (VX g) + b14)), (0, .ref (vO (VX g) + 0)), (1, .int x1), (2, .int x2), (3, .int x3)]) hz dX0_sheet_88 (Nat.le_of_ble_eq_true rfl) rfl ?_
        refine s_aload_n hz dX0_sheet_90 rfl 1 rfl ?_
        refine s_aload hz dX0_sheet_91 0 rfl ?_
        refine s_bind (fun q39 e40 => ?_)
        refine kX_X0_145 hc (cfX0_finds e40) ⟨(Nat.le_of_ble_eq_true rfl), (Nat.le_of_ble_eq_true rfl)⟩ ⟨(Nat.le_of_ble_eq_true rfl), (Nat.le_of_ble_eq_true rfl)⟩ (Nat.le_of_ble_eq_true rfl) dX0_sheet_93 ?_
        exact s_iretM hc dX0_sheet_96 (Nat.le_of_ble_eq_true rfl) (Nat.le_of_ble_eq_true rfl)
    · refine s_gb (fun h12 => ?_)
      refine kX_X0_119_h hc (cfX0_need e11) ⟨(Nat.le_of_ble_eq_true rfl), (Nat.le_of_ble_eq_true rfl)⟩ ⟨(Nat.le_of_ble_eq_true rfl), (Nat.le_of_ble_eq_true rfl)⟩ (Nat.le_of_ble_eq_true rfl) dX0_sheet_32 (i := 0) rfl rfl (by decide) (by decide) (q := (RX6, TX6, 7)) rfl q273 (isC_ob h12) ?_
      refine s_astore (lv' := [(4, .ref (vO (VX g) + b8)), (0, .ref (vO (VX g) + 0)), (1, .int x1), (2, .int x2), (3, .int x3)]) hz dX0_sheet_88 (Nat.le_of_ble_eq_true rfl) rfl ?_
      refine s_aload_n hz dX0_sheet_90 rfl 1 rfl ?_
      refine s_aload hz dX0_sheet_91 0 rfl ?_
      refine s_bind (fun q43 e44 => ?_)
      refine kX_X0_145 hc (cfX0_finds e44) ⟨(Nat.le_of_ble_eq_true rfl), (Nat.le_of_ble_eq_true rfl)⟩ ⟨(Nat.le_of_ble_eq_true rfl), (Nat.le_of_ble_eq_true rfl)⟩ (Nat.le_of_ble_eq_true rfl) dX0_sheet_93 ?_
      exact s_iretM hc dX0_sheet_96 (Nat.le_of_ble_eq_true rfl) (Nat.le_of_ble_eq_true rfl)
  · refine s_gb (fun h6 => ?_)
    refine kX_X0_358_h hc (cfX0_sheetAt e5) ⟨(Nat.le_of_ble_eq_true rfl), (Nat.le_of_ble_eq_true rfl)⟩ ⟨(Nat.le_of_ble_eq_true rfl), (Nat.le_of_ble_eq_true rfl)⟩ (Nat.le_of_ble_eq_true rfl) dX0_sheet_1 (i := 0) rfl rfl (by decide) (by decide) (q := (RX6, TX6, 7)) rfl q273 (isC_ob h6) ?_
    refine s_astore (lv' := [(4, .ref (vO (VX g) + b2)), (0, .ref (vO (VX g) + 0)), (1, .int x1), (2, .int x2), (3, .int x3)]) hz dX0_sheet_88 (Nat.le_of_ble_eq_true rfl) rfl ?_
    refine s_aload_n hz dX0_sheet_90 rfl 1 rfl ?_
    refine s_aload hz dX0_sheet_91 0 rfl ?_
    refine s_bind (fun q50 e51 => ?_)
    refine kX_X0_145 hc (cfX0_finds e51) ⟨(Nat.le_of_ble_eq_true rfl), (Nat.le_of_ble_eq_true rfl)⟩ ⟨(Nat.le_of_ble_eq_true rfl), (Nat.le_of_ble_eq_true rfl)⟩ (Nat.le_of_ble_eq_true rfl) dX0_sheet_93 ?_
    exact s_iretM hc dX0_sheet_96 (Nat.le_of_ble_eq_true rfl) (Nat.le_of_ble_eq_true rfl)
theorem cfX0_sheet {g : GeoX} {N : Nat}  {σ : Mem} {x1 : Int32} {x2 : Int32} {x3 : Int32} {ρ : Int32 × Mem} (hF : fX0_sheet N σ x1 x2 x3 = some ρ) (l : Launch) : CtW (wsW_ yX0_sheet cX0_sheet 5 (some .int) [(0, 87, 88, 1)]) (VX g) l yX0_sheet (rk 6 5 68) [.ref (vO (VX g) + 0), .int x1, .int x2, .int x3] σ (oI ρ.1) ρ.2 :=
  CtW.ofH (by decide) (Nat.le_of_ble_eq_true rfl) (fun Θ hc ls hl => wfX0_sheet σ x1 x2 x3 hc hF ls hl)
theorem kX_X0_384 {γ : Type} {Θ : ThT Mem} {g : GeoX} {cc : ByteArray} {nL : Nat} {rm : Room} {ret : Option FieldType} {hs : List (Nat × Nat × Nat × Nat)} {ini : Bool} {O : Outcome} {σ' : Mem} {ρ : γ} {σ : Mem} {F : Option γ} {cs : Nat × Nat} {pc : Nat} {lv : List (Nat × Value)} {st : List Value} (hc : Cx Θ (VX g) cc nL RX0 rm ret hs ini O σ') {σ1 : Mem} {x1 : Int32} {x2 : Int32} {r : Option Nat} {rmc : Room} (hM : ∀ l : Launch, Ct (VX g) l yX0_numberAt cX0_numberAt 4 (some (.object "java/lang/Object")) rmc [.ref (vO (VX g) + 0), .int x1, .int x2] σ (oR (vO (VX g)) r) σ1) (hR : rmc.frames + 1 ≤ rm.frames ∧ 8 + (4 + 11) + rmc.locals ≤ rm.locals) (hf : cs.1 + rmc.cells ≤ rm.cells ∧ cs.2 + rmc.slots ≤ rm.slots) (hrest : (st.map fun v => v.category).sum ≤ 8) (hd : decode cc pc = .ok (.invokevirtual 384, 3)) (kk : Sim Θ nL ρ σ1 F (cs.1 + rmc.cells, cs.2 + rmc.slots) (pc + 3) lv (va_rf (r.map (vO (VX g) + ·)) :: st)) : Sim Θ nL ρ σ F cs pc lv (.int x2 :: .int x1 :: .ref (vO (VX g) + 0) :: st) := s_callVo hc (a := 0) (As := [.int x1, .int x2]) (rest := st) (n := 2) (ci := 0) (q := (RX0, TX0, 19)) hM (lw_V q1002 q1004 qs27 q62 q1005) (by decide +kernel) rfl (Ob.fix (Nat.le_of_ble_eq_true rfl) rfl) rfl rfl hrest hR hf hd kk
theorem kX_X0_384_h {γ : Type} {Θ : ThT Mem} {g : GeoX} {cc : ByteArray} {nL : Nat} {rm : Room} {ret : Option FieldType} {hs : List (Nat × Nat × Nat × Nat)} {ini : Bool} {O : Outcome} {σ' : Mem} {ρ : γ} {σ : Mem} {F : Option γ} {cs : Nat × Nat} {pc : Nat} {lv : List (Nat × Value)} {st : List Value} (hc : Cx Θ (VX g) cc nL RX0 rm ret hs ini O σ') {σ1 : Mem} {x1 : Int32} {x2 : Int32} {b i s0 e0 hp ct ci : Nat} {q : vw_C} {rmc : Room} (hM : ∀ l : Launch, Ct (VX g) l yX0_numberAt cX0_numberAt 4 (some (.object "java/lang/Object")) rmc [.ref (vO (VX g) + 0), .int x1, .int x2] σ (.threw (vO (VX g) + b)) σ1) (hR : rmc.frames + 1 ≤ rm.frames ∧ 8 + (4 + 11) + rmc.locals ≤ rm.locals) (hf : cs.1 + rmc.cells ≤ rm.cells ∧ cs.2 + rmc.slots ≤ rm.slots) (hrest : (st.map fun v => v.category).sum ≤ 8) (hd : decode cc pc = .ok (.invokevirtual 384, 3)) (hi : hs[i]? = some (s0, e0, hp, ct)) (hpre : ((hs.take i).all fun q => !(decide (q.1 ≤ pc) && decide (pc < q.2.1))) = true) (hin : s0 ≤ pc ∧ pc < e0) (h0 : ct ≠ 0) (hcl : (vCl (VX g))[ci]? = some q) (hlink : Cond.classLink RX0 ct q.1 ∈ lw_all) (hob : Ob (VX g) σ1 b ci) (kk : Sim Θ nL ρ σ1 F (cs.1 + rmc.cells, cs.2 + rmc.slots) hp lv [.ref (vO (VX g) + b)]) : Sim Θ nL ρ σ F cs pc lv (.int x2 :: .int x1 :: .ref (vO (VX g) + 0) :: st) := s_callVh hc (a := 0) (As := [.int x1, .int x2]) (rest := st) (n := 2) (cj := 0) (q' := (RX0, TX0, 19)) hM (lw_V q1002 q1004 qs27 q62 q1005) (by decide +kernel) rfl (Ob.fix (Nat.le_of_ble_eq_true rfl) rfl) rfl rfl hrest hR hf hd hi hpre hin h0 hcl hlink hob kk
theorem kX_X0_384_t {β : Type} {Θ : ThT Mem} {g : GeoX} {cc : ByteArray} {nL : Nat} {rm : Room} {ret : Option FieldType} {hs : List (Nat × Nat × Nat × Nat)} {ini : Bool} {fo : β → Outcome} {ρ : (β ⊕ Nat) × Mem} {σ : Mem} {cs : Nat × Nat} {pc : Nat} {lv : List (Nat × Value)} {st : List Value} (hc : Cx Θ (VX g) cc nL RX0 rm ret hs ini (oT fo ρ.1 (vO (VX g))) ρ.2) {σ1 : Mem} {x1 : Int32} {x2 : Int32} {b : Nat} {rmc : Room} (hM : ∀ l : Launch, Ct (VX g) l yX0_numberAt cX0_numberAt 4 (some (.object "java/lang/Object")) rmc [.ref (vO (VX g) + 0), .int x1, .int x2] σ (.threw (vO (VX g) + b)) σ1) (hR : rmc.frames + 1 ≤ rm.frames ∧ 8 + (4 + 11) + rmc.locals ≤ rm.locals) (hf : cs.1 + rmc.cells ≤ rm.cells ∧ cs.2 + rmc.slots ≤ rm.slots) (hrest : (st.map fun v => v.category).sum ≤ 8) (hd : decode cc pc = .ok (.invokevirtual 384, 3)) (hout : (hs.all fun q => !(decide (q.1 ≤ pc) && decide (pc < q.2.1))) = true) : Sim Θ nL ρ σ (some (.inr b, σ1)) cs pc lv (.int x2 :: .int x1 :: .ref (vO (VX g) + 0) :: st) := s_callVt hc (a := 0) (As := [.int x1, .int x2]) (rest := st) (n := 2) (cj := 0) (q' := (RX0, TX0, 19)) hM (lw_V q1002 q1004 qs27 q62 q1005) (by decide +kernel) rfl (Ob.fix (Nat.le_of_ble_eq_true rfl) rfl) rfl rfl hrest hR hf hd hout
theorem kX_X0_387 {γ : Type} {Θ : ThT Mem} {g : GeoX} {cc : ByteArray} {nL : Nat} {rm : Room} {ret : Option FieldType} {hs : List (Nat × Nat × Nat × Nat)} {ini : Bool} {O : Outcome} {σ' : Mem} {ρ : γ} {σ : Mem} {F : Option γ} {cs : Nat × Nat} {pc : Nat} {lv : List (Nat × Value)} {st : List Value} (hc : Cx Θ (VX g) cc nL RX0 rm ret hs ini O σ') {σ1 : Mem} {x0 : Nat} {x1 : Int32} {x2 : Int64} {rmc : Room} (hM : ∀ l : Launch, Ct (VX g) l yX0_put cX0_put 4 none rmc [.ref (vO (VX g) + x0), .int x1, .long x2] σ oV σ1) (hR : rmc.frames + 1 ≤ rm.frames ∧ 8 + (4 + 11) + rmc.locals ≤ rm.locals) (hf : cs.1 + rmc.cells ≤ rm.cells ∧ cs.2 + rmc.slots ≤ rm.slots) (hrest : (st.map fun v => v.category).sum ≤ 8) (hd : decode cc pc = .ok (.invokestatic 387, 3)) (kk : Sim Θ nL ρ σ1 F (cs.1 + rmc.cells, cs.2 + rmc.slots) (pc + 3) lv (st)) : Sim Θ nL ρ σ F cs pc lv (.long x2 :: .int x1 :: .ref (vO (VX g) + x0) :: st) := s_callS hc (As := [.ref (vO (VX g) + x0), .int x1, .long x2]) (rest := st) (n := 3) hM (lw_S q1006 q1007 q62 q1008) (by decide +kernel) rfl rfl hrest hR hf hd kk
def fX0_write (N : Nat) (σ : Mem) (x1 : Int32) (x2 : Int32) (x3 : Int64) : Option (Int64 × Mem) :=
  (fX0_numberAt N σ x1 x2).bind (fun q4 => cT2 q4 (fun v1 σ3 => 
  mO v1
  (none) (fun a7 => 
  (fX0_get N σ3 a7 x2).bind (fun q8 => 
  (fX0_put N σ3 a7 x2 x3).bind (fun q10 => 
  some (q8, q10.2))))) (fun b2 σ3 => 
  gb (isC σ3 b2 5) (
  (fX0_finds N σ3 b2).bind (fun q12 => 
  some (((q12.1).toInt64), q12.2)))))
set_option maxHeartbeats 4000000 in
theorem wfX0_write {Θ : ThT Mem} {g : GeoX} {N : Nat}  {ρ : Int64 × Mem} (σ : Mem) (x1 : Int32) (x2 : Int32) (x3 : Int64) (hc : Cx Θ (VX g) cX0_write 8 RX0 (rk 7 3 21) (some .long) [(0, 25, 26, 1)] false (oL ρ.1) ρ.2) : Sim Θ 8 ρ σ (fX0_write N σ x1 x2 x3) (0, 0) 0 [(0, .ref (vO (VX g) + 0)), (1, .int x1), (2, .int x2), (3, .long x3)] [] := by
  have hz := hc.z
  unfold fX0_write
  refine s_aload_n hz dX0_write_0 rfl 0 rfl ?_
  refine s_iload_n hz dX0_write_1 rfl 1 rfl ?_
  refine s_iload_n hz dX0_write_2 rfl 2 rfl ?_
  refine s_bind (fun q4 e5 => ?_)
  rcases q4 with ⟨v1 | b2, σ3⟩
  · refine kX_X0_384 hc (cfX0_numberAt e5) ⟨(Nat.le_of_ble_eq_true rfl), (Nat.le_of_ble_eq_true rfl)⟩ ⟨(Nat.le_of_ble_eq_true rfl), (Nat.le_of_ble_eq_true rfl)⟩ (Nat.le_of_ble_eq_true rfl) dX0_write_3 (s_c2 ?_)
    refine s_opt (fun _ => ?_) (fun a7 _ => ?_)
    · refine s_astoreN (lv' := [(5, .null), (0, .ref (vO (VX g) + 0)), (1, .int x1), (2, .int x2), (3, .long x3)]) hz dX0_write_6 (Nat.le_of_ble_eq_true rfl) rfl ?_
      refine s_aloadN hz dX0_write_8 0 rfl ?_
      refine s_iload_n hz dX0_write_10 rfl 3 rfl ?_
      exact s_none
    · refine s_astore (lv' := [(5, .ref (vO (VX g) + a7)), (0, .ref (vO (VX g) + 0)), (1, .int x1), (2, .int x2), (3, .long x3)]) hz dX0_write_6 (Nat.le_of_ble_eq_true rfl) rfl ?_
      refine s_aload hz dX0_write_8 0 rfl ?_
      refine s_iload_n hz dX0_write_10 rfl 3 rfl ?_
      refine s_bind (fun q8 e9 => ?_)
      refine kX_X0_369 hc (cfX0_get e9) ⟨(Nat.le_of_ble_eq_true rfl), (Nat.le_of_ble_eq_true rfl)⟩ ⟨(Nat.le_of_ble_eq_true rfl), (Nat.le_of_ble_eq_true rfl)⟩ (Nat.le_of_ble_eq_true rfl) dX0_write_11 ?_
      refine s_lstore (lv' := [(6, .long q8), (5, .ref (vO (VX g) + a7)), (0, .ref (vO (VX g) + 0)), (1, .int x1), (2, .int x2), (3, .long x3)]) hz dX0_write_14 (Nat.le_of_ble_eq_true rfl) rfl ?_
      refine s_aload hz dX0_write_16 1 rfl ?_
      refine s_iload_n hz dX0_write_18 rfl 4 rfl ?_
      refine s_lload_n hz dX0_write_19 rfl 5 rfl ?_
      refine s_bind (fun q10 e11 => ?_)
      refine kX_X0_387 hc (cfX0_put e11) ⟨(Nat.le_of_ble_eq_true rfl), (Nat.le_of_ble_eq_true rfl)⟩ ⟨(Nat.le_of_ble_eq_true rfl), (Nat.le_of_ble_eq_true rfl)⟩ (Nat.le_of_ble_eq_true rfl) dX0_write_20 ?_
      refine s_lload hz dX0_write_23 0 rfl ?_
      exact s_lretM hc dX0_write_25 (Nat.le_of_ble_eq_true rfl) (Nat.le_of_ble_eq_true rfl)
  · refine s_gb (fun h6 => ?_)
    refine kX_X0_384_h hc (cfX0_numberAt e5) ⟨(Nat.le_of_ble_eq_true rfl), (Nat.le_of_ble_eq_true rfl)⟩ ⟨(Nat.le_of_ble_eq_true rfl), (Nat.le_of_ble_eq_true rfl)⟩ (Nat.le_of_ble_eq_true rfl) dX0_write_3 (i := 0) rfl rfl (by decide) (by decide) (q := (RX6, TX6, 7)) rfl q273 (isC_ob h6) ?_
    refine s_astore (lv' := [(5, .ref (vO (VX g) + b2)), (0, .ref (vO (VX g) + 0)), (1, .int x1), (2, .int x2), (3, .long x3)]) hz dX0_write_26 (Nat.le_of_ble_eq_true rfl) rfl ?_
    refine s_aload_n hz dX0_write_28 rfl 1 rfl ?_
    refine s_aload hz dX0_write_29 0 rfl ?_
    refine s_bind (fun q12 e13 => ?_)
    refine kX_X0_145 hc (cfX0_finds e13) ⟨(Nat.le_of_ble_eq_true rfl), (Nat.le_of_ble_eq_true rfl)⟩ ⟨(Nat.le_of_ble_eq_true rfl), (Nat.le_of_ble_eq_true rfl)⟩ (Nat.le_of_ble_eq_true rfl) dX0_write_31 ?_
    refine s_i2l hz dX0_write_34 ?_
    exact s_lretM hc dX0_write_35 (Nat.le_of_ble_eq_true rfl) (Nat.le_of_ble_eq_true rfl)
theorem cfX0_write {g : GeoX} {N : Nat}  {σ : Mem} {x1 : Int32} {x2 : Int32} {x3 : Int64} {ρ : Int64 × Mem} (hF : fX0_write N σ x1 x2 x3 = some ρ) (l : Launch) : CtW (wsW_ yX0_write cX0_write 8 (some .long) [(0, 25, 26, 1)]) (VX g) l yX0_write (rk 7 3 21) [.ref (vO (VX g) + 0), .int x1, .int x2, .long x3] σ (oL ρ.1) ρ.2 :=
  CtW.ofH (by decide) (Nat.le_of_ble_eq_true rfl) (fun Θ hc ls hl => wfX0_write σ x1 x2 x3 hc hF ls hl)
theorem rX_g_X0_404_0 {γ : Type} {Θ : ThT Mem} {g : GeoX} {cc : ByteArray} {nL : Nat} {rm : Room} {ret : Option FieldType} {hs : List (Nat × Nat × Nat × Nat)} {ini : Bool} {O : Outcome} {σ' : Mem} {ρ : γ} {σ : Mem} {F : Option γ} {cs : Nat × Nat} {pc : Nat} {lv : List (Nat × Value)} {st : List Value} (hc : Cx Θ (VX g) cc nL RX0 rm ret hs ini O σ') (hd : decode cc pc = .ok (.getfield 404, 3)) (kk : Sim Θ nL ρ σ F cs (pc + 3) lv (.int (gI σ 0 2) :: st)) : Sim Θ nL ρ σ F cs pc lv (.ref (vO (VX g) + 0) :: st) := s_get hc (C := RX0) (T := TX0) (N := 19) (ci := 0) (k := 0) in_X0 (Nat.le_of_ble_eq_true rfl) rfl rfl 2 (Nat.le_of_ble_eq_true rfl) q212 (fun _ _ _ _ h => h) rfl hd kk
theorem rX_p_X0_404_0 {γ : Type} {Θ : ThT Mem} {g : GeoX} {cc : ByteArray} {nL : Nat} {rm : Room} {ret : Option FieldType} {hs : List (Nat × Nat × Nat × Nat)} {ini : Bool} {O : Outcome} {σ' : Mem} {ρ : γ} {σ : Mem} {cs : Nat × Nat} {pc : Nat} {lv : List (Nat × Value)} {st : List Value} (hc : Cx Θ (VX g) cc nL RX0 rm ret hs ini O σ') {K : Mem → Option γ} {x : Int32} (hn : narrow .boolean (.int x) = .int x) (hfit : fits .boolean (.int x) = true) (hd : decode cc pc = .ok (.putfield 404, 3)) (kk : ∀ σ1 : Mem, Sim Θ nL ρ σ1 (K σ1) cs (pc + 3) lv st) : Sim Θ nL ρ σ (lt_ (pI σ 0 2 x) K) cs pc lv (.int x :: .ref (vO (VX g) + 0) :: st) := s_put hc (C := RX0) (T := TX0) (N := 19) (ci := 0) (k := 0) (σ1 := pI σ 0 2 x) in_X0 tyX0_ok nmX0 (Nat.le_of_ble_eq_true rfl) rfl rfl 2 (Nat.le_of_ble_eq_true rfl) q212 (fun _ _ _ _ h => h) rfl (ty := .boolean) (by decide +kernel) hn hfit (Nat.le_of_ble_eq_true rfl) rfl (pI_ne σ 0 2 x) rfl hd (kk _)
def fX0_tear (N : Nat) (σ : Mem)  : Option (Int32 × Mem) :=
  lt_ (if (gI σ 0 2) = (0 : Int32) then (0 : Int32) else (1 : Int32)) (fun v1 => 
  lt_ (pI σ 0 2 (0 : Int32)) (fun σ2 => 
  some (v1, σ2)))
set_option maxHeartbeats 4000000 in
theorem wfX0_tear {Θ : ThT Mem} {g : GeoX} {N : Nat}  {ρ : Int32 × Mem} (σ : Mem)  (hc : Cx Θ (VX g) cX0_tear 2 RX0 (rk 1 0 0) (some .int) [] false (oI ρ.1) ρ.2) : Sim Θ 2 ρ σ (fX0_tear N σ ) (0, 0) 0 [(0, .ref (vO (VX g) + 0))] [] := by
  have hz := hc.z
  unfold fX0_tear
  refine s_aload_n hz dX0_tear_0 rfl 0 rfl ?_
  refine rX_g_X0_404_0 hc dX0_tear_1 ?_
  refine s_dia (J := 12) (v := .int (if (gI σ 0 2) = (0 : Int32) then (0 : Int32) else (1 : Int32))) (st := []) (fun _ hj3 => ?_) ?_
  · refine s_if_eq_ (tgt := 11) hz dX0_tear_4 rfl (fun h4 => ?_) (fun h4 => ?_)
    · refine s_iconst (v := (0 : Int32)) hz dX0_tear_11 (by decide) ?_
      rw [if_pos h4] at hj3
      exact hj3
    · refine s_iconst (v := (1 : Int32)) hz dX0_tear_7 (by decide) ?_
      refine s_goto (tgt := 12) hz dX0_tear_8 rfl ?_
      rw [if_neg h4] at hj3
      exact hj3
  refine s_nmI (fun v1 => ?_)
  refine s_istore_n (lv' := [(1, .int v1), (0, .ref (vO (VX g) + 0))]) hz dX0_tear_12 rfl (Nat.le_of_ble_eq_true rfl) rfl ?_
  refine s_aload_n hz dX0_tear_13 rfl 1 rfl ?_
  refine s_iconst (v := (0 : Int32)) hz dX0_tear_14 (by decide) ?_
  refine rX_p_X0_404_0 hc rfl rfl dX0_tear_15 (fun σ2 => ?_)
  refine s_iload_n hz dX0_tear_18 rfl 0 rfl ?_
  exact s_iretM hc dX0_tear_19 (Nat.le_of_ble_eq_true rfl) (Nat.le_of_ble_eq_true rfl)
theorem cfX0_tear {g : GeoX} {N : Nat}  {σ : Mem}  {ρ : Int32 × Mem} (hF : fX0_tear N σ  = some ρ) (l : Launch) : Ct (VX g) l yX0_tear cX0_tear 2 (some .int) (rk 1 0 0) [.ref (vO (VX g) + 0)] σ (oI ρ.1) ρ.2 :=
  Ct.of (by decide) (Nat.le_of_ble_eq_true rfl) (fun Θ hc ls hl => wfX0_tear σ  hc hF ls hl)
def fX0_all (N : Nat) (σ : Mem)  : Option (Int32 × Mem) :=
  (fX0_findCrossed N σ).bind (fun q1 => 
  some ((((gL q1.2 0 15)).toInt32), q1.2))
set_option maxHeartbeats 4000000 in
theorem wfX0_all {Θ : ThT Mem} {g : GeoX} {N : Nat}  {ρ : Int32 × Mem} (σ : Mem)  (hc : Cx Θ (VX g) cX0_all 1 RX0 (rk 77 0 0) (some .int) [] false (oI ρ.1) ρ.2) : Sim Θ 1 ρ σ (fX0_all N σ ) (0, 0) 0 [(0, .ref (vO (VX g) + 0))] [] := by
  have hz := hc.z
  unfold fX0_all
  refine s_aload_n hz dX0_all_0 rfl 0 rfl ?_
  refine s_bind (fun q1 e2 => ?_)
  refine kX_X0_249 hc (cfX0_findCrossed e2) ⟨(Nat.le_of_ble_eq_true rfl), (Nat.le_of_ble_eq_true rfl)⟩ ⟨(Nat.le_of_ble_eq_true rfl), (Nat.le_of_ble_eq_true rfl)⟩ (Nat.le_of_ble_eq_true rfl) dX0_all_1 ?_
  refine s_aload_n hz dX0_all_4 rfl 0 rfl ?_
  refine rX_g_X0_238_0 hc dX0_all_5 ?_
  refine s_l2i hz dX0_all_8 ?_
  exact s_iretM hc dX0_all_9 (Nat.le_of_ble_eq_true rfl) (Nat.le_of_ble_eq_true rfl)
theorem cfX0_all {g : GeoX} {N : Nat}  {σ : Mem}  {ρ : Int32 × Mem} (hF : fX0_all N σ  = some ρ) (l : Launch) : Ct (VX g) l yX0_all cX0_all 1 (some .int) (rk 77 0 0) [.ref (vO (VX g) + 0)] σ (oI ρ.1) ρ.2 :=
  Ct.of (by decide) (Nat.le_of_ble_eq_true rfl) (fun Θ hc ls hl => wfX0_all σ  hc hF ls hl)
theorem kX_X0_407 {γ : Type} {Θ : ThT Mem} {g : GeoX} {cc : ByteArray} {nL : Nat} {rm : Room} {ret : Option FieldType} {hs : List (Nat × Nat × Nat × Nat)} {ini : Bool} {O : Outcome} {σ' : Mem} {ρ : γ} {σ : Mem} {F : Option γ} {cs : Nat × Nat} {pc : Nat} {lv : List (Nat × Value)} {st : List Value} (hc : Cx Θ (VX g) cc nL RX0 rm ret hs ini O σ') {σ1 : Mem}  {r : Int32} {rmc : Room} (hM : ∀ l : Launch, Ct (VX g) l yX0_all cX0_all 1 (some .int) rmc [.ref (vO (VX g) + 0)] σ (oI r) σ1) (hR : rmc.frames + 1 ≤ rm.frames ∧ 8 + (1 + 11) + rmc.locals ≤ rm.locals) (hf : cs.1 + rmc.cells ≤ rm.cells ∧ cs.2 + rmc.slots ≤ rm.slots) (hrest : (st.map fun v => v.category).sum ≤ 8) (hd : decode cc pc = .ok (.invokevirtual 407, 3)) (kk : Sim Θ nL ρ σ1 F (cs.1 + rmc.cells, cs.2 + rmc.slots) (pc + 3) lv (.int r :: st)) : Sim Θ nL ρ σ F cs pc lv (.ref (vO (VX g) + 0) :: st) := s_callVo hc (a := 0) (As := []) (rest := st) (n := 0) (ci := 0) (q := (RX0, TX0, 19)) hM (lw_V q1086 q1088 qs28 q62 q1089) (by decide +kernel) rfl (Ob.fix (Nat.le_of_ble_eq_true rfl) rfl) rfl rfl hrest hR hf hd kk
def fX0_count (N : Nat) (σ : Mem) (x1 : Int32) : Option (Int32 × Mem) :=
  if x1 = (0 : Int32) then
  (some ((gI σ 1 0), σ))
  else (if x1 = (1 : Int32) then
  (some ((gI σ 1 1), σ))
  else (if x1 = (2 : Int32) then
  ((fX0_all N σ).bind (fun q4 => 
  some (q4.1, q4.2)))
  else (if x1 = (3 : Int32) then
  (some ((gI σ 1 2), σ))
  else (if x1 = (4 : Int32) then
  (mO (gR σ 16 0)
  (some ((0 : Int32), σ)) (fun a8 => 
  some ((1 : Int32), σ)))
  else (if x1 = (5 : Int32) then
  (some ((gI σ 0 4), σ))
  else (if x1 = (6 : Int32) then
  (some ((gI σ 1 3), σ))
  else (if x1 = (7 : Int32) then
  (some ((gI σ 2 7), σ))
  else (lt_ (nC σ (.inr (5, [.null, .null, .null, .null, .null, .int 0, .int 0]))) (fun σ12 => 
  (fX6_init N σ12 (gN σ) (0 : Int32)).bind (fun q13 => 
  gb (isC q13.2 (gN σ) 5) (
  (fX0_finds N q13.2 (gN σ)).bind (fun q16 => 
  some (q16.1, q16.2)))))))))))))
set_option maxHeartbeats 4000000 in
theorem wfX0_count {Θ : ThT Mem} {g : GeoX} {N : Nat}  {ρ : Int32 × Mem} (σ : Mem) (x1 : Int32) (hc : Cx Θ (VX g) cX0_count 3 RX0 (rk 78 1 7) (some .int) [(0, 55, 129, 1), (56, 63, 129, 1), (64, 68, 129, 1), (69, 76, 129, 1), (77, 95, 129, 1), (96, 100, 129, 1), (101, 108, 129, 1), (109, 119, 129, 1), (120, 129, 129, 1)] false (oI ρ.1) ρ.2) : Sim Θ 3 ρ σ (fX0_count N σ x1) (0, 0) 0 [(0, .ref (vO (VX g) + 0)), (1, .int x1)] [] := by
  have hz := hc.z
  unfold fX0_count
  refine s_iload_n hz dX0_count_0 rfl 1 rfl ?_
  refine s_ite (fun h1 => ?_) (fun h1 => ?_)
  · refine s_tblIn (off := 47) (tgt := 48) (k := (0 : Int32)) hz dX0_count_1 h1 (by decide) (by decide) rfl rfl ?_
    refine s_aload_n hz dX0_count_48 rfl 0 rfl ?_
    refine rX_g_X0_42_0 hc dX0_count_49 ?_
    refine rX_g_X0_131_1 hc dX0_count_52 ?_
    exact s_iretM hc dX0_count_55 (Nat.le_of_ble_eq_true rfl) (Nat.le_of_ble_eq_true rfl)
  refine s_ite (fun h2 => ?_) (fun h2 => ?_)
  · refine s_tblIn (off := 55) (tgt := 56) (k := (1 : Int32)) hz dX0_count_1 h2 (by decide) (by decide) rfl rfl ?_
    refine s_aload_n hz dX0_count_56 rfl 0 rfl ?_
    refine rX_g_X0_42_0 hc dX0_count_57 ?_
    refine rX_g_X0_185_1 hc dX0_count_60 ?_
    exact s_iretM hc dX0_count_63 (Nat.le_of_ble_eq_true rfl) (Nat.le_of_ble_eq_true rfl)
  refine s_ite (fun h3 => ?_) (fun h3 => ?_)
  · refine s_tblIn (off := 63) (tgt := 64) (k := (2 : Int32)) hz dX0_count_1 h3 (by decide) (by decide) rfl rfl ?_
    refine s_aload_n hz dX0_count_64 rfl 0 rfl ?_
    refine s_bind (fun q4 e5 => ?_)
    refine kX_X0_407 hc (cfX0_all e5) ⟨(Nat.le_of_ble_eq_true rfl), (Nat.le_of_ble_eq_true rfl)⟩ ⟨(Nat.le_of_ble_eq_true rfl), (Nat.le_of_ble_eq_true rfl)⟩ (Nat.le_of_ble_eq_true rfl) dX0_count_65 ?_
    exact s_iretM hc dX0_count_68 (Nat.le_of_ble_eq_true rfl) (Nat.le_of_ble_eq_true rfl)
  refine s_ite (fun h6 => ?_) (fun h6 => ?_)
  · refine s_tblIn (off := 68) (tgt := 69) (k := (3 : Int32)) hz dX0_count_1 h6 (by decide) (by decide) rfl rfl ?_
    refine s_aload_n hz dX0_count_69 rfl 0 rfl ?_
    refine rX_g_X0_42_0 hc dX0_count_70 ?_
    refine rX_g_X0_229_1 hc dX0_count_73 ?_
    exact s_iretM hc dX0_count_76 (Nat.le_of_ble_eq_true rfl) (Nat.le_of_ble_eq_true rfl)
  refine s_ite (fun h7 => ?_) (fun h7 => ?_)
  · refine s_tblIn (off := 76) (tgt := 77) (k := (4 : Int32)) hz dX0_count_1 h7 (by decide) (by decide) rfl rfl ?_
    refine s_aload_n hz dX0_count_77 rfl 0 rfl ?_
    refine rX_g_X0_42_0 hc dX0_count_78 ?_
    refine rX_g_X0_191_1 hc dX0_count_81 ?_
    refine rX_gs_X0_162_16 hc dX0_count_84 ?_
    refine s_opt (fun _ => ?_) (fun a8 _ => ?_)
    · refine s_ifnonnullN hz dX0_count_87 ?_
      refine s_iconst (v := (0 : Int32)) hz dX0_count_90 (by decide) ?_
      refine s_goto (tgt := 95) hz dX0_count_91 rfl ?_
      exact s_iretM hc dX0_count_95 (Nat.le_of_ble_eq_true rfl) (Nat.le_of_ble_eq_true rfl)
    · refine s_ifnonnull (tgt := 94) hz dX0_count_87 rfl ?_
      refine s_iconst (v := (1 : Int32)) hz dX0_count_94 (by decide) ?_
      exact s_iretM hc dX0_count_95 (Nat.le_of_ble_eq_true rfl) (Nat.le_of_ble_eq_true rfl)
  refine s_ite (fun h9 => ?_) (fun h9 => ?_)
  · refine s_tblIn (off := 95) (tgt := 96) (k := (5 : Int32)) hz dX0_count_1 h9 (by decide) (by decide) rfl rfl ?_
    refine s_aload_n hz dX0_count_96 rfl 0 rfl ?_
    refine rX_g_X0_259_0 hc dX0_count_97 ?_
    exact s_iretM hc dX0_count_100 (Nat.le_of_ble_eq_true rfl) (Nat.le_of_ble_eq_true rfl)
  refine s_ite (fun h10 => ?_) (fun h10 => ?_)
  · refine s_tblIn (off := 100) (tgt := 101) (k := (6 : Int32)) hz dX0_count_1 h10 (by decide) (by decide) rfl rfl ?_
    refine s_aload_n hz dX0_count_101 rfl 0 rfl ?_
    refine rX_g_X0_42_0 hc dX0_count_102 ?_
    refine rX_g_X0_289_1 hc dX0_count_105 ?_
    exact s_iretM hc dX0_count_108 (Nat.le_of_ble_eq_true rfl) (Nat.le_of_ble_eq_true rfl)
  refine s_ite (fun h11 => ?_) (fun h11 => ?_)
  · refine s_tblIn (off := 108) (tgt := 109) (k := (7 : Int32)) hz dX0_count_1 h11 (by decide) (by decide) rfl rfl ?_
    refine s_aload_n hz dX0_count_109 rfl 0 rfl ?_
    refine rX_g_X0_42_0 hc dX0_count_110 ?_
    refine rX_g_X0_286_1 hc dX0_count_113 ?_
    refine s_bipush (v := (7 : Int32)) hz dX0_count_116 (by decide) ?_
    refine rX_ld_2 hc (j := 7) (by decide) (by decide) dX0_count_118 ?_
    exact s_iretM hc dX0_count_119 (Nat.le_of_ble_eq_true rfl) (Nat.le_of_ble_eq_true rfl)
  refine s_tblOut (tgt := 120) hz dX0_count_1 (by have a0 : (x1).toInt ≠ 0 := lc_ne h1; have a1 : (x1).toInt ≠ 1 := lc_ne h2; have a2 : (x1).toInt ≠ 2 := lc_ne h3; have a3 : (x1).toInt ≠ 3 := lc_ne h6; have a4 : (x1).toInt ≠ 4 := lc_ne h7; have a5 : (x1).toInt ≠ 5 := lc_ne h9; have a6 : (x1).toInt ≠ 6 := lc_ne h10; have a7 : (x1).toInt ≠ 7 := lc_ne h11; omega) rfl ?_
  refine s_new hc (C := RX6) (T := TX6) (N := 7) (ci := 5) in_X6 tyX6_ok rfl q273 q284 q71 (dfX_X6 _) ⟨(Nat.le_of_ble_eq_true rfl), (Nat.le_of_ble_eq_true rfl)⟩ dX0_count_120 (fun σ12 => ?_)
  refine s_dup hz dX0_count_123 rfl ?_
  refine s_iconst (v := (0 : Int32)) hz dX0_count_124 (by decide) ?_
  refine s_bind (fun q13 e14 => ?_)
  refine kX_X0_3 hc (cfX6_init e14) ⟨(Nat.le_of_ble_eq_true rfl), (Nat.le_of_ble_eq_true rfl)⟩ ⟨(Nat.le_of_ble_eq_true rfl), (Nat.le_of_ble_eq_true rfl)⟩ (Nat.le_of_ble_eq_true rfl) dX0_count_125 ?_
  refine s_gb (fun h15 => ?_)
  refine s_athrowh hc (i := 8) (q := (RX6, TX6, 7)) dX0_count_128 rfl rfl (by decide) (by decide) rfl q273 (isC_ob h15) ?_
  refine s_astore_n (lv' := [(2, .ref (vO (VX g) + (gN σ))), (0, .ref (vO (VX g) + 0)), (1, .int x1)]) hz dX0_count_129 rfl (Nat.le_of_ble_eq_true rfl) rfl ?_
  refine s_aload_n hz dX0_count_130 rfl 1 rfl ?_
  refine s_aload_n hz dX0_count_131 rfl 0 rfl ?_
  refine s_bind (fun q16 e17 => ?_)
  refine kX_X0_145 hc (cfX0_finds e17) ⟨(Nat.le_of_ble_eq_true rfl), (Nat.le_of_ble_eq_true rfl)⟩ ⟨(Nat.le_of_ble_eq_true rfl), (Nat.le_of_ble_eq_true rfl)⟩ (Nat.le_of_ble_eq_true rfl) dX0_count_132 ?_
  exact s_iretM hc dX0_count_135 (Nat.le_of_ble_eq_true rfl) (Nat.le_of_ble_eq_true rfl)
theorem cfX0_count {g : GeoX} {N : Nat}  {σ : Mem} {x1 : Int32} {ρ : Int32 × Mem} (hF : fX0_count N σ x1 = some ρ) (l : Launch) : CtW (wsW_ yX0_count cX0_count 3 (some .int) [(0, 55, 129, 1), (56, 63, 129, 1), (64, 68, 129, 1), (69, 76, 129, 1), (77, 95, 129, 1), (96, 100, 129, 1), (101, 108, 129, 1), (109, 119, 129, 1), (120, 129, 129, 1)]) (VX g) l yX0_count (rk 78 1 7) [.ref (vO (VX g) + 0), .int x1] σ (oI ρ.1) ρ.2 :=
  CtW.ofH (by decide) (Nat.le_of_ble_eq_true rfl) (fun Θ hc ls hl => wfX0_count σ x1 hc hF ls hl)
def bX0_status_30 (N : Nat) (σ : Mem)  (r30 : (Int32 × Int32) → Option (Int32 × Mem)) (y30 : Int32 × Int32) : Option (Int32 × Mem) :=
  if (7 : Int32) ≤ y30.2 then
  (some (y30.1, σ))
  else (gb (inb y30.2 7) (
  lt_ (y30.1 + (gI σ 61 (ix y30.2))) (fun v12 => 
  r30 (v12, (y30.2 + (1 : Int32))))))
set_option maxHeartbeats 4000000 in
theorem wbX0_status_30 {Θ : ThT Mem} {g : GeoX} {N : Nat}  {ρ : Int32 × Mem} (σ : Mem) (hc : Cx Θ (VX g) cX0_status 4 RX0 (rk 5 1 7) (some .int) [(0, 25, 53, 1), (26, 52, 53, 1)] false (oI ρ.1) ρ.2)  (r30 : (Int32 × Int32) → Option (Int32 × Mem)) (hr30 : ∀ y : Int32 × Int32, Sim Θ 4 ρ (σ) (r30 y) (1, 7) 30 [(0, .ref (vO (VX g) + 0)), (2, .int y.1), (3, .int y.2)] []) : ∀ y30 : Int32 × Int32, Sim Θ 4 ρ (σ) (bX0_status_30 N σ  r30 y30) (1, 7) 30 [(0, .ref (vO (VX g) + 0)), (2, .int y30.1), (3, .int y30.2)] [] := by
  intro y30
  have hz := hc.z
  have hr30c : ∀ (z0_ : Int32) (z1_ : Int32), Sim Θ 4 ρ (σ) (r30 (z0_, z1_)) (1, 7) 30 [(0, .ref (vO (VX g) + 0)), (2, .int z0_), (3, .int z1_)] [] := fun z0_ z1_ => hr30 (z0_, z1_)
  unfold bX0_status_30
  refine s_iload_n hz dX0_status_30 rfl 2 rfl ?_
  refine s_bipush (v := (7 : Int32)) hz dX0_status_31 (by decide) ?_
  refine s_icmp_ge (tgt := 51) hz dX0_status_33 rfl (fun h10 => ?_) (fun h10 => ?_)
  · refine s_iload_n hz dX0_status_51 rfl 1 rfl ?_
    exact s_iretM hc dX0_status_52 (Nat.le_of_ble_eq_true rfl) (Nat.le_of_ble_eq_true rfl)
  · refine s_iload_n hz dX0_status_36 rfl 1 rfl ?_
    refine s_aload_n hz dX0_status_37 rfl 0 rfl ?_
    refine rX_g_X0_63_0 hc dX0_status_38 ?_
    refine s_iload_n hz dX0_status_41 rfl 2 rfl ?_
    refine s_gb (fun h11 => ?_)
    refine rX_ld_61 hc h11 rfl dX0_status_42 ?_
    refine s_iadd hz dX0_status_43 ?_
    refine s_nmI (fun v12 => ?_)
    refine s_istore_n (lv' := [(2, .int v12), (0, .ref (vO (VX g) + 0)), (3, .int y30.2)]) hz dX0_status_44 rfl (Nat.le_of_ble_eq_true rfl) rfl ?_
    refine s_iinc (v := (1 : Int32)) (lv' := [(3, .int (y30.2 + (1 : Int32))), (2, .int v12), (0, .ref (vO (VX g) + 0))]) hz dX0_status_45 2 rfl (by decide) (Nat.le_of_ble_eq_true rfl) rfl ?_
    refine s_goto (tgt := 30) hz dX0_status_48 rfl ?_
    exact s_sub [2, 1, 0] rfl (hr30c v12 (y30.2 + (1 : Int32)))
def fX0_status (N : Nat) (σ : Mem) (x1 : Int32) : Option (Int32 × Mem) :=
  (fX0_in N σ ((x1).toInt64) (-1 : Int64) (6 : Int64)).bind (fun q1 => 
  (fX0_need N σ q1 (0 : Int32)).bind (fun q6 => cT2 q6 (fun v3 σ5 => 
  if x1 < (0 : Int32) then
  (lp (bX0_status_30 N σ5) N ((0 : Int32), (0 : Int32)))
  else (gb (inb x1 7) (
  some ((gI σ5 61 (ix x1)), σ5)))) (fun b4 σ5 => 
  gb (isC σ5 b4 5) (
  (fX0_finds N σ5 b4).bind (fun q14 => 
  some (q14.1, q14.2))))))
set_option maxHeartbeats 4000000 in
theorem wfX0_status {Θ : ThT Mem} {g : GeoX} {N : Nat}  {ρ : Int32 × Mem} (σ : Mem) (x1 : Int32) (hc : Cx Θ (VX g) cX0_status 4 RX0 (rk 5 1 7) (some .int) [(0, 25, 53, 1), (26, 52, 53, 1)] false (oI ρ.1) ρ.2) : Sim Θ 4 ρ σ (fX0_status N σ x1) (0, 0) 0 [(0, .ref (vO (VX g) + 0)), (1, .int x1)] [] := by
  have hz := hc.z
  unfold fX0_status
  refine s_iload_n hz dX0_status_0 rfl 1 rfl ?_
  refine s_i2l hz dX0_status_1 ?_
  refine s_ldc2 hz dX0_status_2 q669 ?_
  refine s_ldc2 hz dX0_status_5 q1094 ?_
  refine s_bind (fun q1 e2 => ?_)
  refine kX_X0_125 hc (cfX0_in e2) ⟨(Nat.le_of_ble_eq_true rfl), (Nat.le_of_ble_eq_true rfl)⟩ ⟨(Nat.le_of_ble_eq_true rfl), (Nat.le_of_ble_eq_true rfl)⟩ (Nat.le_of_ble_eq_true rfl) dX0_status_8 ?_
  refine s_iconst (v := (0 : Int32)) hz dX0_status_11 (by decide) ?_
  refine s_bind (fun q6 e7 => ?_)
  rcases q6 with ⟨v3 | b4, σ5⟩
  · refine kX_X0_119 hc (cfX0_need e7) ⟨(Nat.le_of_ble_eq_true rfl), (Nat.le_of_ble_eq_true rfl)⟩ ⟨(Nat.le_of_ble_eq_true rfl), (Nat.le_of_ble_eq_true rfl)⟩ (Nat.le_of_ble_eq_true rfl) dX0_status_12 (s_c2 ?_)
    refine s_iload_n hz dX0_status_15 rfl 1 rfl ?_
    refine s_if_lt (tgt := 26) hz dX0_status_16 rfl (fun h9 => ?_) (fun h9 => ?_)
    · refine s_iconst (v := (0 : Int32)) hz dX0_status_26 (by decide) ?_
      refine s_istore_n (lv' := [(2, .int (0 : Int32)), (0, .ref (vO (VX g) + 0)), (1, .int x1)]) hz dX0_status_27 rfl (Nat.le_of_ble_eq_true rfl) rfl ?_
      refine s_iconst (v := (0 : Int32)) hz dX0_status_28 (by decide) ?_
      refine s_istore_n (lv' := [(3, .int (0 : Int32)), (2, .int (0 : Int32)), (0, .ref (vO (VX g) + 0)), (1, .int x1)]) hz dX0_status_29 rfl (Nat.le_of_ble_eq_true rfl) rfl ?_
      exact s_sub [2, 1, 0] rfl (s_lp (sg := fun y : Int32 × Int32 => σ5) (lvs := fun y : Int32 × Int32 => [(0, .ref (vO (VX g) + 0)), (2, .int y.1), (3, .int y.2)]) (fun rec hrec => wbX0_status_30 σ5 hc   rec hrec) N ((0 : Int32), (0 : Int32)))
    · refine s_aload_n hz dX0_status_19 rfl 0 rfl ?_
      refine rX_g_X0_63_0 hc dX0_status_20 ?_
      refine s_iload_n hz dX0_status_23 rfl 1 rfl ?_
      refine s_gb (fun h13 => ?_)
      refine rX_ld_61 hc h13 rfl dX0_status_24 ?_
      exact s_iretM hc dX0_status_25 (Nat.le_of_ble_eq_true rfl) (Nat.le_of_ble_eq_true rfl)
  · refine s_gb (fun h8 => ?_)
    refine kX_X0_119_h hc (cfX0_need e7) ⟨(Nat.le_of_ble_eq_true rfl), (Nat.le_of_ble_eq_true rfl)⟩ ⟨(Nat.le_of_ble_eq_true rfl), (Nat.le_of_ble_eq_true rfl)⟩ (Nat.le_of_ble_eq_true rfl) dX0_status_12 (i := 0) rfl rfl (by decide) (by decide) (q := (RX6, TX6, 7)) rfl q273 (isC_ob h8) ?_
    refine s_astore_n (lv' := [(2, .ref (vO (VX g) + b4)), (0, .ref (vO (VX g) + 0)), (1, .int x1)]) hz dX0_status_53 rfl (Nat.le_of_ble_eq_true rfl) rfl ?_
    refine s_aload_n hz dX0_status_54 rfl 1 rfl ?_
    refine s_aload_n hz dX0_status_55 rfl 0 rfl ?_
    refine s_bind (fun q14 e15 => ?_)
    refine kX_X0_145 hc (cfX0_finds e15) ⟨(Nat.le_of_ble_eq_true rfl), (Nat.le_of_ble_eq_true rfl)⟩ ⟨(Nat.le_of_ble_eq_true rfl), (Nat.le_of_ble_eq_true rfl)⟩ (Nat.le_of_ble_eq_true rfl) dX0_status_56 ?_
    exact s_iretM hc dX0_status_59 (Nat.le_of_ble_eq_true rfl) (Nat.le_of_ble_eq_true rfl)
theorem cfX0_status {g : GeoX} {N : Nat}  {σ : Mem} {x1 : Int32} {ρ : Int32 × Mem} (hF : fX0_status N σ x1 = some ρ) (l : Launch) : CtW (wsW_ yX0_status cX0_status 4 (some .int) [(0, 25, 53, 1), (26, 52, 53, 1)]) (VX g) l yX0_status (rk 5 1 7) [.ref (vO (VX g) + 0), .int x1] σ (oI ρ.1) ρ.2 :=
  CtW.ofH (by decide) (Nat.le_of_ble_eq_true rfl) (fun Θ hc ls hl => wfX0_status σ x1 hc hF ls hl)
