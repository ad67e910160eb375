set_option maxRecDepth 100000
theorem rX_g_X1_51_1 {γ : Type} {Θ : ThT Mem} {g : GeoX} {cc : ByteArray} {nL : Nat} {rm : Room} {ret : Option FieldType} {hs : List (Nat × Nat × Nat × Nat)} {ini : Bool} {O : Outcome} {σ' : Mem} {ρ : γ} {σ : Mem} {F : Option γ} {cs : Nat × Nat} {pc : Nat} {lv : List (Nat × Value)} {st : List Value} (hc : Cx Θ (VX g) cc nL RX1 rm ret hs ini O σ') (hd : decode cc pc = .ok (.getfield 51, 3)) (kk : Sim Θ nL ρ σ F cs (pc + 3) lv (.int (gI σ 1 0) :: st)) : Sim Θ nL ρ σ F cs pc lv (.ref (vO (VX g) + 1) :: st) := s_get hc (C := RX1) (T := TX1) (N := 10) (ci := 1) (k := 1) in_X1 (Nat.le_of_ble_eq_true rfl) rfl rfl 0 (Nat.le_of_ble_eq_true rfl) q122 (fun _ _ _ _ h => h) rfl hd kk
theorem rX_p_X1_51_28 {γ : Type} {Θ : ThT Mem} {g : GeoX} {cc : ByteArray} {nL : Nat} {rm : Room} {ret : Option FieldType} {hs : List (Nat × Nat × Nat × Nat)} {ini : Bool} {O : Outcome} {σ' : Mem} {ρ : γ} {σ : Mem} {cs : Nat × Nat} {pc : Nat} {lv : List (Nat × Value)} {st : List Value} (hc : Cx Θ (VX g) cc nL RX1 rm ret hs ini O σ') {K : Mem → Option γ} {x : Int32} (hd : decode cc pc = .ok (.putfield 51, 3)) (kk : ∀ σ1 : Mem, Sim Θ nL ρ σ1 (K σ1) cs (pc + 3) lv st) : Sim Θ nL ρ σ (lt_ (pI σ 28 0 x) K) cs pc lv (.int x :: .ref (vO (VX g) + 28) :: st) := s_put hc (C := RX1) (T := TX1) (N := 10) (ci := 1) (k := 28) (σ1 := pI σ 28 0 x) in_X1 tyX1_ok nmX1 (Nat.le_of_ble_eq_true rfl) rfl rfl 0 (Nat.le_of_ble_eq_true rfl) q122 (fun _ _ _ _ h => h) rfl (ty := .int) (by decide +kernel) rfl rfl (Nat.le_of_ble_eq_true rfl) rfl (pI_ne σ 28 0 x) rfl hd (kk _)
theorem rX_p_X1_54_28 {γ : Type} {Θ : ThT Mem} {g : GeoX} {cc : ByteArray} {nL : Nat} {rm : Room} {ret : Option FieldType} {hs : List (Nat × Nat × Nat × Nat)} {ini : Bool} {O : Outcome} {σ' : Mem} {ρ : γ} {σ : Mem} {cs : Nat × Nat} {pc : Nat} {lv : List (Nat × Value)} {st : List Value} (hc : Cx Θ (VX g) cc nL RX1 rm ret hs ini O σ') {K : Mem → Option γ} {x : Int32} (hd : decode cc pc = .ok (.putfield 54, 3)) (kk : ∀ σ1 : Mem, Sim Θ nL ρ σ1 (K σ1) cs (pc + 3) lv st) : Sim Θ nL ρ σ (lt_ (pI σ 28 1 x) K) cs pc lv (.int x :: .ref (vO (VX g) + 28) :: st) := s_put hc (C := RX1) (T := TX1) (N := 10) (ci := 1) (k := 28) (σ1 := pI σ 28 1 x) in_X1 tyX1_ok nmX1 (Nat.le_of_ble_eq_true rfl) rfl rfl 1 (Nat.le_of_ble_eq_true rfl) q124 (fun _ _ _ _ h => h) rfl (ty := .int) (by decide +kernel) rfl rfl (Nat.le_of_ble_eq_true rfl) rfl (pI_ne σ 28 1 x) rfl hd (kk _)
theorem rX_g_X1_57_1 {γ : Type} {Θ : ThT Mem} {g : GeoX} {cc : ByteArray} {nL : Nat} {rm : Room} {ret : Option FieldType} {hs : List (Nat × Nat × Nat × Nat)} {ini : Bool} {O : Outcome} {σ' : Mem} {ρ : γ} {σ : Mem} {F : Option γ} {cs : Nat × Nat} {pc : Nat} {lv : List (Nat × Value)} {st : List Value} (hc : Cx Θ (VX g) cc nL RX1 rm ret hs ini O σ') (hd : decode cc pc = .ok (.getfield 57, 3)) (kk : Sim Θ nL ρ σ F cs (pc + 3) lv (.int (gI σ 1 2) :: st)) : Sim Θ nL ρ σ F cs pc lv (.ref (vO (VX g) + 1) :: st) := s_get hc (C := RX1) (T := TX1) (N := 10) (ci := 1) (k := 1) in_X1 (Nat.le_of_ble_eq_true rfl) rfl rfl 2 (Nat.le_of_ble_eq_true rfl) q126 (fun _ _ _ _ h => h) rfl hd kk
theorem rX_p_X1_57_28 {γ : Type} {Θ : ThT Mem} {g : GeoX} {cc : ByteArray} {nL : Nat} {rm : Room} {ret : Option FieldType} {hs : List (Nat × Nat × Nat × Nat)} {ini : Bool} {O : Outcome} {σ' : Mem} {ρ : γ} {σ : Mem} {cs : Nat × Nat} {pc : Nat} {lv : List (Nat × Value)} {st : List Value} (hc : Cx Θ (VX g) cc nL RX1 rm ret hs ini O σ') {K : Mem → Option γ} {x : Int32} (hd : decode cc pc = .ok (.putfield 57, 3)) (kk : ∀ σ1 : Mem, Sim Θ nL ρ σ1 (K σ1) cs (pc + 3) lv st) : Sim Θ nL ρ σ (lt_ (pI σ 28 2 x) K) cs pc lv (.int x :: .ref (vO (VX g) + 28) :: st) := s_put hc (C := RX1) (T := TX1) (N := 10) (ci := 1) (k := 28) (σ1 := pI σ 28 2 x) in_X1 tyX1_ok nmX1 (Nat.le_of_ble_eq_true rfl) rfl rfl 2 (Nat.le_of_ble_eq_true rfl) q126 (fun _ _ _ _ h => h) rfl (ty := .int) (by decide +kernel) rfl rfl (Nat.le_of_ble_eq_true rfl) rfl (pI_ne σ 28 2 x) rfl hd (kk _)
theorem rX_g_X1_9_1 {γ : Type} {Θ : ThT Mem} {g : GeoX} {cc : ByteArray} {nL : Nat} {rm : Room} {ret : Option FieldType} {hs : List (Nat × Nat × Nat × Nat)} {ini : Bool} {O : Outcome} {σ' : Mem} {ρ : γ} {σ : Mem} {F : Option γ} {cs : Nat × Nat} {pc : Nat} {lv : List (Nat × Value)} {st : List Value} (hc : Cx Θ (VX g) cc nL RX1 rm ret hs ini O σ') (hd : decode cc pc = .ok (.getfield 9, 3)) (kk : Sim Θ nL ρ σ F cs (pc + 3) lv (.int (gI σ 1 3) :: st)) : Sim Θ nL ρ σ F cs pc lv (.ref (vO (VX g) + 1) :: st) := s_get hc (C := RX1) (T := TX1) (N := 10) (ci := 1) (k := 1) in_X1 (Nat.le_of_ble_eq_true rfl) rfl rfl 3 (Nat.le_of_ble_eq_true rfl) q128 (fun _ _ _ _ h => h) rfl hd kk
theorem rX_p_X1_9_28 {γ : Type} {Θ : ThT Mem} {g : GeoX} {cc : ByteArray} {nL : Nat} {rm : Room} {ret : Option FieldType} {hs : List (Nat × Nat × Nat × Nat)} {ini : Bool} {O : Outcome} {σ' : Mem} {ρ : γ} {σ : Mem} {cs : Nat × Nat} {pc : Nat} {lv : List (Nat × Value)} {st : List Value} (hc : Cx Θ (VX g) cc nL RX1 rm ret hs ini O σ') {K : Mem → Option γ} {x : Int32} (hd : decode cc pc = .ok (.putfield 9, 3)) (kk : ∀ σ1 : Mem, Sim Θ nL ρ σ1 (K σ1) cs (pc + 3) lv st) : Sim Θ nL ρ σ (lt_ (pI σ 28 3 x) K) cs pc lv (.int x :: .ref (vO (VX g) + 28) :: st) := s_put hc (C := RX1) (T := TX1) (N := 10) (ci := 1) (k := 28) (σ1 := pI σ 28 3 x) in_X1 tyX1_ok nmX1 (Nat.le_of_ble_eq_true rfl) rfl rfl 3 (Nat.le_of_ble_eq_true rfl) q128 (fun _ _ _ _ h => h) rfl (ty := .int) (by decide +kernel) rfl rfl (Nat.le_of_ble_eq_true rfl) rfl (pI_ne σ 28 3 x) rfl hd (kk _)
theorem rX_g_X1_15_1 {γ : Type} {Θ : ThT Mem} {g : GeoX} {cc : ByteArray} {nL : Nat} {rm : Room} {ret : Option FieldType} {hs : List (Nat × Nat × Nat × Nat)} {ini : Bool} {O : Outcome} {σ' : Mem} {ρ : γ} {σ : Mem} {F : Option γ} {cs : Nat × Nat} {pc : Nat} {lv : List (Nat × Value)} {st : List Value} (hc : Cx Θ (VX g) cc nL RX1 rm ret hs ini O σ') (hd : decode cc pc = .ok (.getfield 15, 3)) (kk : Sim Θ nL ρ σ F cs (pc + 3) lv (.ref (vO (VX g) + 2) :: st)) : Sim Θ nL ρ σ F cs pc lv (.ref (vO (VX g) + 1) :: st) := s_get hc (C := RX1) (T := TX1) (N := 10) (ci := 1) (k := 1) in_X1 (Nat.le_of_ble_eq_true rfl) rfl rfl 4 (Nat.le_of_ble_eq_true rfl) q130 (fun _ _ _ _ h => h) rfl hd kk
theorem rX_g_X1_15_28 {γ : Type} {Θ : ThT Mem} {g : GeoX} {cc : ByteArray} {nL : Nat} {rm : Room} {ret : Option FieldType} {hs : List (Nat × Nat × Nat × Nat)} {ini : Bool} {O : Outcome} {σ' : Mem} {ρ : γ} {σ : Mem} {F : Option γ} {cs : Nat × Nat} {pc : Nat} {lv : List (Nat × Value)} {st : List Value} (hc : Cx Θ (VX g) cc nL RX1 rm ret hs ini O σ') (hd : decode cc pc = .ok (.getfield 15, 3)) (kk : Sim Θ nL ρ σ F cs (pc + 3) lv (.ref (vO (VX g) + 29) :: st)) : Sim Θ nL ρ σ F cs pc lv (.ref (vO (VX g) + 28) :: st) := s_get hc (C := RX1) (T := TX1) (N := 10) (ci := 1) (k := 28) in_X1 (Nat.le_of_ble_eq_true rfl) rfl rfl 4 (Nat.le_of_ble_eq_true rfl) q130 (fun _ _ _ _ h => h) rfl hd kk
theorem rX_g_X1_51_28 {γ : Type} {Θ : ThT Mem} {g : GeoX} {cc : ByteArray} {nL : Nat} {rm : Room} {ret : Option FieldType} {hs : List (Nat × Nat × Nat × Nat)} {ini : Bool} {O : Outcome} {σ' : Mem} {ρ : γ} {σ : Mem} {F : Option γ} {cs : Nat × Nat} {pc : Nat} {lv : List (Nat × Value)} {st : List Value} (hc : Cx Θ (VX g) cc nL RX1 rm ret hs ini O σ') (hd : decode cc pc = .ok (.getfield 51, 3)) (kk : Sim Θ nL ρ σ F cs (pc + 3) lv (.int (gI σ 28 0) :: st)) : Sim Θ nL ρ σ F cs pc lv (.ref (vO (VX g) + 28) :: st) := s_get hc (C := RX1) (T := TX1) (N := 10) (ci := 1) (k := 28) in_X1 (Nat.le_of_ble_eq_true rfl) rfl rfl 0 (Nat.le_of_ble_eq_true rfl) q122 (fun _ _ _ _ h => h) rfl hd kk
theorem rX_g_X1_30_28 {γ : Type} {Θ : ThT Mem} {g : GeoX} {cc : ByteArray} {nL : Nat} {rm : Room} {ret : Option FieldType} {hs : List (Nat × Nat × Nat × Nat)} {ini : Bool} {O : Outcome} {σ' : Mem} {ρ : γ} {σ : Mem} {F : Option γ} {cs : Nat × Nat} {pc : Nat} {lv : List (Nat × Value)} {st : List Value} (hc : Cx Θ (VX g) cc nL RX1 rm ret hs ini O σ') (hd : decode cc pc = .ok (.getfield 30, 3)) (kk : Sim Θ nL ρ σ F cs (pc + 3) lv (.ref (vO (VX g) + 43) :: st)) : Sim Θ nL ρ σ F cs pc lv (.ref (vO (VX g) + 28) :: st) := s_get hc (C := RX1) (T := TX1) (N := 10) (ci := 1) (k := 28) in_X1 (Nat.le_of_ble_eq_true rfl) rfl rfl 6 (Nat.le_of_ble_eq_true rfl) q134 (fun _ _ _ _ h => h) rfl hd kk
theorem rX_g_X1_30_1 {γ : Type} {Θ : ThT Mem} {g : GeoX} {cc : ByteArray} {nL : Nat} {rm : Room} {ret : Option FieldType} {hs : List (Nat × Nat × Nat × Nat)} {ini : Bool} {O : Outcome} {σ' : Mem} {ρ : γ} {σ : Mem} {F : Option γ} {cs : Nat × Nat} {pc : Nat} {lv : List (Nat × Value)} {st : List Value} (hc : Cx Θ (VX g) cc nL RX1 rm ret hs ini O σ') (hd : decode cc pc = .ok (.getfield 30, 3)) (kk : Sim Θ nL ρ σ F cs (pc + 3) lv (.ref (vO (VX g) + 16) :: st)) : Sim Θ nL ρ σ F cs pc lv (.ref (vO (VX g) + 1) :: st) := s_get hc (C := RX1) (T := TX1) (N := 10) (ci := 1) (k := 1) in_X1 (Nat.le_of_ble_eq_true rfl) rfl rfl 6 (Nat.le_of_ble_eq_true rfl) q134 (fun _ _ _ _ h => h) rfl hd kk
theorem rX_gs_X1_73_16 {γ : Type} {Θ : ThT Mem} {g : GeoX} {cc : ByteArray} {nL : Nat} {rm : Room} {ret : Option FieldType} {hs : List (Nat × Nat × Nat × Nat)} {ini : Bool} {O : Outcome} {σ' : Mem} {ρ : γ} {σ : Mem} {F : Option γ} {cs : Nat × Nat} {pc : Nat} {lv : List (Nat × Value)} {st : List Value} (hc : Cx Θ (VX g) cc nL RX1 rm ret hs ini O σ') (hd : decode cc pc = .ok (.getfield 73, 3)) (kk : Sim Θ nL ρ σ F cs (pc + 3) lv (va_rf ((gR σ 16 0).map (vO (VX g) + ·)) :: st)) : Sim Θ nL ρ σ F cs pc lv (.ref (vO (VX g) + 16) :: st) := s_get hc (C := RX2) (T := TX2) (N := 1) (ci := 2) (k := 16) in_X2 (Nat.le_of_ble_eq_true rfl) rfl rfl 0 (Nat.le_of_ble_eq_true rfl) q112 (fun _ _ _ _ h => h) rfl hd kk
theorem rX_psn_X1_73_43 {γ : Type} {Θ : ThT Mem} {g : GeoX} {cc : ByteArray} {nL : Nat} {rm : Room} {ret : Option FieldType} {hs : List (Nat × Nat × Nat × Nat)} {ini : Bool} {O : Outcome} {σ' : Mem} {ρ : γ} {σ : Mem} {cs : Nat × Nat} {pc : Nat} {lv : List (Nat × Value)} {st : List Value} (hc : Cx Θ (VX g) cc nL RX1 rm ret hs ini O σ') {K : Mem → Option γ} (hd : decode cc pc = .ok (.putfield 73, 3)) (kk : ∀ σ1 : Mem, Sim Θ nL ρ σ1 (K σ1) cs (pc + 3) lv st) : Sim Θ nL ρ σ (lt_ (pR σ 43 0 none) K) cs pc lv (.null :: .ref (vO (VX g) + 43) :: st) := s_put hc (C := RX2) (T := TX2) (N := 1) (ci := 2) (k := 43) (v := .null) (σ1 := pR σ 43 0 none) in_X2 tyX2_ok nmX2 (Nat.le_of_ble_eq_true rfl) rfl rfl 0 (Nat.le_of_ble_eq_true rfl) q112 (fun _ _ _ _ h => h) rfl (ty := .object "java/lang/Object") (by decide +kernel) rfl rfl (Nat.zero_lt_one) (by simp [vY, VX, YX, pR, va_rf] <;> rfl) (pR_ne σ 43 0 none) rfl hd (kk _)
theorem rX_g_X1_34_1 {γ : Type} {Θ : ThT Mem} {g : GeoX} {cc : ByteArray} {nL : Nat} {rm : Room} {ret : Option FieldType} {hs : List (Nat × Nat × Nat × Nat)} {ini : Bool} {O : Outcome} {σ' : Mem} {ρ : γ} {σ : Mem} {F : Option γ} {cs : Nat × Nat} {pc : Nat} {lv : List (Nat × Value)} {st : List Value} (hc : Cx Θ (VX g) cc nL RX1 rm ret hs ini O σ') (hd : decode cc pc = .ok (.getfield 34, 3)) (kk : Sim Θ nL ρ σ F cs (pc + 3) lv (.ref (vO (VX g) + 17) :: st)) : Sim Θ nL ρ σ F cs pc lv (.ref (vO (VX g) + 1) :: st) := s_get hc (C := RX1) (T := TX1) (N := 10) (ci := 1) (k := 1) in_X1 (Nat.le_of_ble_eq_true rfl) rfl rfl 7 (Nat.le_of_ble_eq_true rfl) q136 (fun _ _ _ _ h => h) rfl hd kk
theorem rX_g_X1_34_28 {γ : Type} {Θ : ThT Mem} {g : GeoX} {cc : ByteArray} {nL : Nat} {rm : Room} {ret : Option FieldType} {hs : List (Nat × Nat × Nat × Nat)} {ini : Bool} {O : Outcome} {σ' : Mem} {ρ : γ} {σ : Mem} {F : Option γ} {cs : Nat × Nat} {pc : Nat} {lv : List (Nat × Value)} {st : List Value} (hc : Cx Θ (VX g) cc nL RX1 rm ret hs ini O σ') (hd : decode cc pc = .ok (.getfield 34, 3)) (kk : Sim Θ nL ρ σ F cs (pc + 3) lv (.ref (vO (VX g) + 44) :: st)) : Sim Θ nL ρ σ F cs pc lv (.ref (vO (VX g) + 28) :: st) := s_get hc (C := RX1) (T := TX1) (N := 10) (ci := 1) (k := 28) in_X1 (Nat.le_of_ble_eq_true rfl) rfl rfl 7 (Nat.le_of_ble_eq_true rfl) q136 (fun _ _ _ _ h => h) rfl hd kk
theorem rX_g_X1_37_1 {γ : Type} {Θ : ThT Mem} {g : GeoX} {cc : ByteArray} {nL : Nat} {rm : Room} {ret : Option FieldType} {hs : List (Nat × Nat × Nat × Nat)} {ini : Bool} {O : Outcome} {σ' : Mem} {ρ : γ} {σ : Mem} {F : Option γ} {cs : Nat × Nat} {pc : Nat} {lv : List (Nat × Value)} {st : List Value} (hc : Cx Θ (VX g) cc nL RX1 rm ret hs ini O σ') (hd : decode cc pc = .ok (.getfield 37, 3)) (kk : Sim Θ nL ρ σ F cs (pc + 3) lv (.ref (vO (VX g) + 18) :: st)) : Sim Θ nL ρ σ F cs pc lv (.ref (vO (VX g) + 1) :: st) := s_get hc (C := RX1) (T := TX1) (N := 10) (ci := 1) (k := 1) in_X1 (Nat.le_of_ble_eq_true rfl) rfl rfl 8 (Nat.le_of_ble_eq_true rfl) q138 (fun _ _ _ _ h => h) rfl hd kk
theorem rX_g_X1_37_28 {γ : Type} {Θ : ThT Mem} {g : GeoX} {cc : ByteArray} {nL : Nat} {rm : Room} {ret : Option FieldType} {hs : List (Nat × Nat × Nat × Nat)} {ini : Bool} {O : Outcome} {σ' : Mem} {ρ : γ} {σ : Mem} {F : Option γ} {cs : Nat × Nat} {pc : Nat} {lv : List (Nat × Value)} {st : List Value} (hc : Cx Θ (VX g) cc nL RX1 rm ret hs ini O σ') (hd : decode cc pc = .ok (.getfield 37, 3)) (kk : Sim Θ nL ρ σ F cs (pc + 3) lv (.ref (vO (VX g) + 45) :: st)) : Sim Θ nL ρ σ F cs pc lv (.ref (vO (VX g) + 28) :: st) := s_get hc (C := RX1) (T := TX1) (N := 10) (ci := 1) (k := 28) in_X1 (Nat.le_of_ble_eq_true rfl) rfl rfl 8 (Nat.le_of_ble_eq_true rfl) q138 (fun _ _ _ _ h => h) rfl hd kk
theorem rX_g_X1_42_28 {γ : Type} {Θ : ThT Mem} {g : GeoX} {cc : ByteArray} {nL : Nat} {rm : Room} {ret : Option FieldType} {hs : List (Nat × Nat × Nat × Nat)} {ini : Bool} {O : Outcome} {σ' : Mem} {ρ : γ} {σ : Mem} {F : Option γ} {cs : Nat × Nat} {pc : Nat} {lv : List (Nat × Value)} {st : List Value} (hc : Cx Θ (VX g) cc nL RX1 rm ret hs ini O σ') (hd : decode cc pc = .ok (.getfield 42, 3)) (kk : Sim Θ nL ρ σ F cs (pc + 3) lv (.ref (vO (VX g) + 46) :: st)) : Sim Θ nL ρ σ F cs pc lv (.ref (vO (VX g) + 28) :: st) := s_get hc (C := RX1) (T := TX1) (N := 10) (ci := 1) (k := 28) in_X1 (Nat.le_of_ble_eq_true rfl) rfl rfl 9 (Nat.le_of_ble_eq_true rfl) q140 (fun _ _ _ _ h => h) rfl hd kk
theorem rX_aa_46 {own : String} {γ : Type} {Θ : ThT Mem} {g : GeoX} {cc : ByteArray} {nL : Nat} {rm : Room} {ret : Option FieldType} {hs : List (Nat × Nat × Nat × Nat)} {ini : Bool} {O : Outcome} {σ' : Mem} {ρ : γ} {σ : Mem} {F : Option γ} {cs : Nat × Nat} {pc : Nat} {lv : List (Nat × Value)} {st : List Value} (hc : Cx Θ (VX g) cc nL own rm ret hs ini O σ') {i : Int32} {j : Nat} (hin : inb i 8 = true) (hj : ix i = j) (hd : decode cc pc = .ok (.aaload, 1)) (kk : Sim Θ nL ρ σ F cs (pc + 1) lv (.ref (vO (VX g) + (47 + j)) :: st)) : Sim Θ nL ρ σ F cs pc lv (.int i :: .ref (vO (VX g) + 46) :: st) := by
  subst hj
  exact s_aald hc (k := 46) (t := 6) (n := 8) (b := 47) (Nat.le_of_ble_eq_true rfl) rfl rfl rfl hin hd kk
theorem rX_psr_X1_73_43 {γ : Type} {Θ : ThT Mem} {g : GeoX} {cc : ByteArray} {nL : Nat} {rm : Room} {ret : Option FieldType} {hs : List (Nat × Nat × Nat × Nat)} {ini : Bool} {O : Outcome} {σ' : Mem} {ρ : γ} {σ : Mem} {cs : Nat × Nat} {pc : Nat} {lv : List (Nat × Value)} {st : List Value} (hc : Cx Θ (VX g) cc nL RX1 rm ret hs ini O σ') {K : Mem → Option γ} {a : Nat} (hd : decode cc pc = .ok (.putfield 73, 3)) (kk : ∀ σ1 : Mem, Sim Θ nL ρ σ1 (K σ1) cs (pc + 3) lv st) : Sim Θ nL ρ σ (lt_ (pR σ 43 0 (some a)) K) cs pc lv (.ref (vO (VX g) + a) :: .ref (vO (VX g) + 43) :: st) := s_put hc (C := RX2) (T := TX2) (N := 1) (ci := 2) (k := 43) (v := .ref (vO (VX g) + a)) (σ1 := pR σ 43 0 (some a)) in_X2 tyX2_ok nmX2 (Nat.le_of_ble_eq_true rfl) rfl rfl 0 (Nat.le_of_ble_eq_true rfl) q112 (fun _ _ _ _ h => h) rfl (ty := .object "java/lang/Object") (by decide +kernel) rfl rfl (Nat.zero_lt_one) (by simp [vY, VX, YX, pR, va_rf] <;> rfl) (pR_ne σ 43 0 (some a)) rfl hd (kk _)
theorem kX_X1_64_1 {γ : Type} {Θ : ThT Mem} {g : GeoX} {cc : ByteArray} {nL : Nat} {rm : Room} {ret : Option FieldType} {hs : List (Nat × Nat × Nat × Nat)} {ini : Bool} {O : Outcome} {σ' : Mem} {ρ : γ} {σ : Mem} {F : Option γ} {cs : Nat × Nat} {pc : Nat} {lv : List (Nat × Value)} {st : List Value} (hc : Cx Θ (VX g) cc nL RX1 rm ret hs ini O σ') {σ1 : Mem} {x1 : Int32} {r : Option Nat} {rmc : Room} (hM : ∀ l : Launch, Ct (VX g) l yX1_group cX1_group 2 (some (.object "SlipWeeks$Cross")) rmc [.ref (vO (VX g) + 1), .int x1] σ (oR (vO (VX g)) r) σ1) (hR : rmc.frames + 1 ≤ rm.frames ∧ 8 + (2 + 11) + rmc.locals ≤ rm.locals) (hf : cs.1 + rmc.cells ≤ rm.cells ∧ cs.2 + rmc.slots ≤ rm.slots) (hrest : (st.map fun v => v.category).sum ≤ 8) (hd : decode cc pc = .ok (.invokevirtual 64, 3)) (kk : Sim Θ nL ρ σ1 F (cs.1 + rmc.cells, cs.2 + rmc.slots) (pc + 3) lv (va_rf (r.map (vO (VX g) + ·)) :: st)) : Sim Θ nL ρ σ F cs pc lv (.int x1 :: .ref (vO (VX g) + 1) :: st) := s_callVo hc (a := 1) (As := [.int x1]) (rest := st) (n := 1) (ci := 1) (q := (RX1, TX1, 10)) hM (lw_V q1031 q467 q468 q63 q469) (by decide +kernel) rfl (Ob.fix (Nat.le_of_ble_eq_true rfl) rfl) rfl rfl hrest hR hf hd kk
set_option maxHeartbeats 4000000 in
theorem kX_X1_67 {γ : Type} {Θ : ThT Mem} {g : GeoX} {cc : ByteArray} {nL : Nat} {rm : Room} {ret : Option FieldType} {hs : List (Nat × Nat × Nat × Nat)} {ini : Bool} {O : Outcome} {σ' : Mem} {ρ : γ} {σ : Mem} {F : Option γ} {cs : Nat × Nat} {pc : Nat} {lv : List (Nat × Value)} {st : List Value} (hc : Cx Θ (VX g) cc nL RX1 rm ret hs ini O σ') {N : Nat} {x0 : Nat} {r : Option Nat × Mem} (h : dX_copy N σ x0 = some r) (hR : 6 + 1 ≤ rm.frames ∧ 8 + (1 + 11) + 40 * 6 ≤ rm.locals) (hf : cs.1 + 1 ≤ rm.cells ∧ cs.2 + 1 ≤ rm.slots) (hrest : (st.map fun v => v.category).sum ≤ 8) (hd : decode cc pc = .ok (.invokevirtual 67, 3)) (kk : Sim Θ nL ρ r.2 F (cs.1 + 1, cs.2 + 1) (pc + 3) lv (va_rf ((r.1).map (vO (VX g) + ·)) :: st)) : Sim Θ nL ρ σ F cs pc lv (.ref (vO (VX g) + x0) :: st) := by
  unfold dX_copy at h
  obtain ⟨c, hcl, h⟩ := Option.bind_eq_some_iff.mp h
  obtain ⟨fs, ha, h1, h2⟩ := dC_spec hcl
  have h3 : c = 8 ∨ c = 9 ∨ c = 10 ∨ c = 11 ∨ c = 12 ∨ c = 13 ∨ c = 14 ∨ c = 15 := by omega
  rcases h3 with rfl | rfl | rfl | rfl | rfl | rfl | rfl | rfl
  · have h : fX7_copy N σ x0 = some r := h
    exact s_callVo hc (a := x0) (As := []) (rest := st) (n := 0) (ci := 8) (q := (RX7, TX7, 1)) (cfX7_copy h) (lw_V q1032 q1033 q1034 q72 q1071) (by decide +kernel) rfl (Ob.dyn ha) rfl rfl hrest ⟨by have := hR.1; simp only [rk] at *; omega, by have := hR.2; simp only [rk] at *; omega⟩ hf hd kk
  · have h : fX8_copy N σ x0 = some r := h
    exact s_callUo hc (a := x0) (As := []) (rest := st) (n := 0) (ci := 9) (owner := "SlipWeeks$Cross") (x := yX7_copy) (q := (RX8, TX8, 1)) (cfX8_copy h) (lw_O q1032 q1035 q1033 q1036 q1037 q73 q1038) q1071 (by decide +kernel) rfl (Ob.dyn ha) rfl rfl hrest ⟨by have := hR.1; simp only [rk] at *; omega, by have := hR.2; simp only [rk] at *; omega⟩ hf hd kk
  · have h : fX9_copy N σ x0 = some r := h
    exact s_callUo hc (a := x0) (As := []) (rest := st) (n := 0) (ci := 10) (owner := "SlipWeeks$Cross") (x := yX7_copy) (q := (RX9, TX9, 1)) (cfX9_copy h) (lw_O q1032 q1035 q1033 q1046 q1047 q74 q1048) q1071 (by decide +kernel) rfl (Ob.dyn ha) rfl rfl hrest ⟨by have := hR.1; simp only [rk] at *; omega, by have := hR.2; simp only [rk] at *; omega⟩ hf hd kk
  · have h : fX10_copy N σ x0 = some r := h
    exact s_callUo hc (a := x0) (As := []) (rest := st) (n := 0) (ci := 11) (owner := "SlipWeeks$Cross") (x := yX7_copy) (q := (RX10, TX10, 1)) (cfX10_copy h) (lw_O q1032 q1035 q1033 q1061 q1062 q75 q1063) q1071 (by decide +kernel) rfl (Ob.dyn ha) rfl rfl hrest ⟨by have := hR.1; simp only [rk] at *; omega, by have := hR.2; simp only [rk] at *; omega⟩ hf hd kk
  · have h : fX11_copy N σ x0 = some r := h
    exact s_callUo hc (a := x0) (As := []) (rest := st) (n := 0) (ci := 12) (owner := "SlipWeeks$Cross") (x := yX7_copy) (q := (RX11, TX11, 1)) (cfX11_copy h) (lw_O q1032 q1035 q1033 q1051 q1052 q76 q1053) q1071 (by decide +kernel) rfl (Ob.dyn ha) rfl rfl hrest ⟨by have := hR.1; simp only [rk] at *; omega, by have := hR.2; simp only [rk] at *; omega⟩ hf hd kk
  · have h : fX12_copy N σ x0 = some r := h
    exact s_callUo hc (a := x0) (As := []) (rest := st) (n := 0) (ci := 13) (owner := "SlipWeeks$Cross") (x := yX7_copy) (q := (RX12, TX12, 1)) (cfX12_copy h) (lw_O q1032 q1035 q1033 q1056 q1057 q77 q1058) q1071 (by decide +kernel) rfl (Ob.dyn ha) rfl rfl hrest ⟨by have := hR.1; simp only [rk] at *; omega, by have := hR.2; simp only [rk] at *; omega⟩ hf hd kk
  · have h : fX13_copy N σ x0 = some r := h
    exact s_callUo hc (a := x0) (As := []) (rest := st) (n := 0) (ci := 14) (owner := "SlipWeeks$Cross") (x := yX7_copy) (q := (RX13, TX13, 1)) (cfX13_copy h) (lw_O q1032 q1035 q1033 q1066 q1067 q78 q1068) q1071 (by decide +kernel) rfl (Ob.dyn ha) rfl rfl hrest ⟨by have := hR.1; simp only [rk] at *; omega, by have := hR.2; simp only [rk] at *; omega⟩ hf hd kk
  · have h : fX14_copy N σ x0 = some r := h
    exact s_callUo hc (a := x0) (As := []) (rest := st) (n := 0) (ci := 15) (owner := "SlipWeeks$Cross") (x := yX7_copy) (q := (RX14, TX14, 1)) (cfX14_copy h) (lw_O q1032 q1035 q1033 q1041 q1042 q79 q1043) q1071 (by decide +kernel) rfl (Ob.dyn ha) rfl rfl hrest ⟨by have := hR.1; simp only [rk] at *; omega, by have := hR.2; simp only [rk] at *; omega⟩ hf hd kk
theorem rX_pvn_X1_73_31 {γ : Type} {Θ : ThT Mem} {g : GeoX} {cc : ByteArray} {nL : Nat} {rm : Room} {ret : Option FieldType} {hs : List (Nat × Nat × Nat × Nat)} {ini : Bool} {O : Outcome} {σ' : Mem} {ρ : γ} {σ : Mem} {cs : Nat × Nat} {pc : Nat} {lv : List (Nat × Value)} {st : List Value} (hc : Cx Θ (VX g) cc nL RX1 rm ret hs ini O σ') {K : Mem → Option γ} {j : Nat} (hj : j < 12) (hd : decode cc pc = .ok (.putfield 73, 3)) (kk : ∀ σ1 : Mem, Sim Θ nL ρ σ1 (K σ1) cs (pc + 3) lv st) : Sim Θ nL ρ σ (lt_ (pR σ (31 + j) 0 none) K) cs pc lv (.null :: .ref (vO (VX g) + (31 + j)) :: st) := s_put hc (C := RX2) (T := TX2) (N := 1) (ci := 2) (k := (31 + j)) (v := .null) (σ1 := pR σ (31 + j) 0 none) in_X2 tyX2_ok nmX2 (YXk_31 g j hj) (YX_31 g.1 _ _ _ j hj) rfl 0 (Nat.le_of_ble_eq_true rfl) q112 (fun _ _ _ _ h => h) rfl (ty := .object "java/lang/Object") (by decide +kernel) rfl rfl (Nat.zero_lt_one) (by first | rfl | (show YX g.1 _ _ _ _ = _; rw [YX_31 g.1 _ _ _ j hj]; simp [pR, va_rf] <;> rfl)) (pR_ne σ (31 + j) 0 none) rfl hd (kk _)
theorem rX_pvr_X1_73_31 {γ : Type} {Θ : ThT Mem} {g : GeoX} {cc : ByteArray} {nL : Nat} {rm : Room} {ret : Option FieldType} {hs : List (Nat × Nat × Nat × Nat)} {ini : Bool} {O : Outcome} {σ' : Mem} {ρ : γ} {σ : Mem} {cs : Nat × Nat} {pc : Nat} {lv : List (Nat × Value)} {st : List Value} (hc : Cx Θ (VX g) cc nL RX1 rm ret hs ini O σ') {K : Mem → Option γ} {a : Nat} {j : Nat} (hj : j < 12) (hd : decode cc pc = .ok (.putfield 73, 3)) (kk : ∀ σ1 : Mem, Sim Θ nL ρ σ1 (K σ1) cs (pc + 3) lv st) : Sim Θ nL ρ σ (lt_ (pR σ (31 + j) 0 (some a)) K) cs pc lv (.ref (vO (VX g) + a) :: .ref (vO (VX g) + (31 + j)) :: st) := s_put hc (C := RX2) (T := TX2) (N := 1) (ci := 2) (k := (31 + j)) (v := .ref (vO (VX g) + a)) (σ1 := pR σ (31 + j) 0 (some a)) in_X2 tyX2_ok nmX2 (YXk_31 g j hj) (YX_31 g.1 _ _ _ j hj) rfl 0 (Nat.le_of_ble_eq_true rfl) q112 (fun _ _ _ _ h => h) rfl (ty := .object "java/lang/Object") (by decide +kernel) rfl rfl (Nat.zero_lt_one) (by first | rfl | (show YX g.1 _ _ _ _ = _; rw [YX_31 g.1 _ _ _ j hj]; simp [pR, va_rf] <;> rfl)) (pR_ne σ (31 + j) 0 (some a)) rfl hd (kk _)
def bX1_become_28_1_114 (N : Nat) (σ : Mem)  (r114 : (Mem × Int32) → Option (Unit × Mem)) (y114 : Mem × Int32) : Option (Unit × Mem) :=
  if (8 : Int32) ≤ y114.2 then
  (some ((), y114.1))
  else (gb (inb y114.2 8) (
  gb (inb y114.2 8) (
  lt_ (cpI y114.1 (20 + ix y114.2) (47 + ix y114.2)) (fun σ15 => 
  r114 (σ15, (y114.2 + (1 : Int32)))))))
set_option maxHeartbeats 4000000 in
theorem wbX1_become_28_1_114 {Θ : ThT Mem} {g : GeoX} {N : Nat}  {ρ : Unit × Mem} (σ : Mem) (hc : Cx Θ (VX g) cX1_become 3 RX1 (rk 7 12 84) none [] false (oV) ρ.2)  (r114 : (Mem × Int32) → Option (Unit × Mem)) (hr114 : ∀ y : Mem × Int32, Sim Θ 3 ρ (y.1) (r114 y) (12, 84) 114 [(0, .ref (vO (VX g) + 28)), (1, .ref (vO (VX g) + 1)), (2, .int y.2)] []) : ∀ y114 : Mem × Int32, Sim Θ 3 ρ (y114.1) (bX1_become_28_1_114 N σ  r114 y114) (12, 84) 114 [(0, .ref (vO (VX g) + 28)), (1, .ref (vO (VX g) + 1)), (2, .int y114.2)] [] := by
  intro y114
  have hz := hc.z
  have hr114c : ∀ (z0_ : Mem) (z1_ : Int32), Sim Θ 3 ρ (z0_) (r114 (z0_, z1_)) (12, 84) 114 [(0, .ref (vO (VX g) + 28)), (1, .ref (vO (VX g) + 1)), (2, .int z1_)] [] := fun z0_ z1_ => hr114 (z0_, z1_)
  unfold bX1_become_28_1_114
  refine s_iload_n hz dX1_become_114 rfl 2 rfl ?_
  refine s_bipush (v := (8 : Int32)) hz dX1_become_115 (by decide) ?_
  refine s_icmp_ge (tgt := 141) hz dX1_become_117 rfl (fun h12 => ?_) (fun h12 => ?_)
  · exact s_vretM hc dX1_become_141 (Nat.le_of_ble_eq_true rfl) (Nat.le_of_ble_eq_true rfl)
  · refine s_aload_n hz dX1_become_120 rfl 1 rfl ?_
    refine rX_g_X1_42_1 hc dX1_become_121 ?_
    refine s_iload_n hz dX1_become_124 rfl 2 rfl ?_
    refine s_gb (fun h13 => ?_)
    refine rX_aa_19 hc h13 rfl dX1_become_125 ?_
    refine s_aload_n hz dX1_become_126 rfl 0 rfl ?_
    refine rX_g_X1_42_28 hc dX1_become_127 ?_
    refine s_iload_n hz dX1_become_130 rfl 2 rfl ?_
    refine s_gb (fun h14 => ?_)
    refine rX_aa_46 hc h14 rfl dX1_become_131 ?_
    refine kX1_row hc (kf := (20 + ix y114.2)) (kt := (47 + ix y114.2)) (N := 40) (n := 40) (YXk_20 g _ (inb_lt h13)) (YXk_47 g _ (inb_lt h14)) (YX_20 g.1 _ _ _ _ (inb_lt h13)) (fun _ => YX_47 g.1 _ _ _ _ (inb_lt h14)) (by decide) (by decide) ⟨(Nat.le_of_ble_eq_true rfl), (Nat.le_of_ble_eq_true rfl)⟩ ⟨(Nat.le_of_ble_eq_true rfl), (Nat.le_of_ble_eq_true rfl)⟩ (Nat.le_of_ble_eq_true rfl) dX1_become_132 (fun σ15 => ?_)
    refine s_iinc (v := (1 : Int32)) (lv' := [(2, .int (y114.2 + (1 : Int32))), (0, .ref (vO (VX g) + 28)), (1, .ref (vO (VX g) + 1))]) hz dX1_become_135 2 rfl (by decide) (Nat.le_of_ble_eq_true rfl) rfl ?_
    refine s_goto (tgt := 114) hz dX1_become_138 rfl ?_
    exact s_sub [1, 2, 0] rfl (hr114c σ15 (y114.2 + (1 : Int32)))
def bX1_become_28_1_45 (N : Nat) (σ : Mem)  (r45 : (Mem × Int32) → Option (Unit × Mem)) (y45 : Mem × Int32) : Option (Unit × Mem) :=
  if (gI y45.1 28 0) ≤ y45.2 then
  (gb (decide (ix y45.2 ≤ 12)) (
  mO (gR y45.1 16 0)
  (lt_ (pR y45.1 43 0 (none)) (fun σ9 => 
  lt_ (cpI σ9 17 44) (fun σ10 => 
  lt_ (cpI σ10 18 45) (fun σ11 => 
  lp (bX1_become_28_1_114 N σ11) N (σ11, (0 : Int32)))))) (fun a8 => 
  lt_ (pR y45.1 43 0 (some a8)) (fun σ16 => 
  lt_ (cpI σ16 17 44) (fun σ17 => 
  lt_ (cpI σ17 18 45) (fun σ18 => 
  lp (bX1_become_28_1_114 N σ18) N (σ18, (0 : Int32))))))))
  else (gb (inb y45.2 12) (
  (fX1_group_1 N y45.1 y45.2).bind (fun q20 => 
  mO q20
  (none) (fun a22 => 
  (dX_copy N y45.1 a22).bind (fun q23 => 
  mO q23.1
  (lt_ (pR q23.2 (31 + ix y45.2) 0 (none)) (fun σ26 => 
  r45 (σ26, (y45.2 + (1 : Int32))))) (fun a25 => 
  lt_ (pR q23.2 (31 + ix y45.2) 0 (some a25)) (fun σ27 => 
  r45 (σ27, (y45.2 + (1 : Int32))))))))))
set_option maxHeartbeats 4000000 in
theorem wbX1_become_28_1_45 {Θ : ThT Mem} {g : GeoX} {N : Nat}  {ρ : Unit × Mem} (σ : Mem) (hc : Cx Θ (VX g) cX1_become 3 RX1 (rk 7 12 84) none [] false (oV) ρ.2)  (r45 : (Mem × Int32) → Option (Unit × Mem)) (hr45 : ∀ y : Mem × Int32, Sim Θ 3 ρ (y.1) (r45 y) (ix y.2, 7 * ix y.2) 45 [(0, .ref (vO (VX g) + 28)), (1, .ref (vO (VX g) + 1)), (2, .int y.2)] []) : ∀ y45 : Mem × Int32, Sim Θ 3 ρ (y45.1) (bX1_become_28_1_45 N σ  r45 y45) (ix y45.2, 7 * ix y45.2) 45 [(0, .ref (vO (VX g) + 28)), (1, .ref (vO (VX g) + 1)), (2, .int y45.2)] [] := by
  intro y45
  have hz := hc.z
  have hr45c : ∀ (z0_ : Mem) (z1_ : Int32), Sim Θ 3 ρ (z0_) (r45 (z0_, z1_)) (ix z1_, 7 * ix z1_) 45 [(0, .ref (vO (VX g) + 28)), (1, .ref (vO (VX g) + 1)), (2, .int z1_)] [] := fun z0_ z1_ => hr45 (z0_, z1_)
  unfold bX1_become_28_1_45
  refine s_iload_n hz dX1_become_45 rfl 2 rfl ?_
  refine s_aload_n hz dX1_become_46 rfl 0 rfl ?_
  refine rX_g_X1_51_28 hc dX1_become_47 ?_
  refine s_icmp_ge (tgt := 76) hz dX1_become_50 rfl (fun h6 => ?_) (fun h6 => ?_)
  · refine s_gb (fun h7 => ?_)
    refine s_wid hz (12, 84) (of_decide_eq_true h7) (Nat.mul_le_mul_left 7 (of_decide_eq_true h7)) ?_
    refine s_aload_n hz dX1_become_76 rfl 0 rfl ?_
    refine rX_g_X1_30_28 hc dX1_become_77 ?_
    refine s_aload_n hz dX1_become_80 rfl 1 rfl ?_
    refine rX_g_X1_30_1 hc dX1_become_81 ?_
    refine rX_gs_X1_73_16 hc dX1_become_84 ?_
    refine s_opt (fun _ => ?_) (fun a8 _ => ?_)
    · refine rX_psn_X1_73_43 hc dX1_become_87 (fun σ9 => ?_)
      refine s_aload_n hz dX1_become_90 rfl 1 rfl ?_
      refine rX_g_X1_34_1 hc dX1_become_91 ?_
      refine s_aload_n hz dX1_become_94 rfl 0 rfl ?_
      refine rX_g_X1_34_28 hc dX1_become_95 ?_
      refine kX1_row hc (kf := 17) (kt := 44) (N := 40) (n := 40) (Nat.le_of_ble_eq_true rfl) (Nat.le_of_ble_eq_true rfl) rfl (fun _ => rfl) (by decide) (by decide) ⟨(Nat.le_of_ble_eq_true rfl), (Nat.le_of_ble_eq_true rfl)⟩ ⟨(Nat.le_of_ble_eq_true rfl), (Nat.le_of_ble_eq_true rfl)⟩ (Nat.le_of_ble_eq_true rfl) dX1_become_98 (fun σ10 => ?_)
      refine s_aload_n hz dX1_become_101 rfl 1 rfl ?_
      refine rX_g_X1_37_1 hc dX1_become_102 ?_
      refine s_aload_n hz dX1_become_105 rfl 0 rfl ?_
      refine rX_g_X1_37_28 hc dX1_become_106 ?_
      refine kX1_row hc (kf := 18) (kt := 45) (N := 40) (n := 40) (Nat.le_of_ble_eq_true rfl) (Nat.le_of_ble_eq_true rfl) rfl (fun _ => rfl) (by decide) (by decide) ⟨(Nat.le_of_ble_eq_true rfl), (Nat.le_of_ble_eq_true rfl)⟩ ⟨(Nat.le_of_ble_eq_true rfl), (Nat.le_of_ble_eq_true rfl)⟩ (Nat.le_of_ble_eq_true rfl) dX1_become_109 (fun σ11 => ?_)
      refine s_iconst (v := (0 : Int32)) hz dX1_become_112 (by decide) ?_
      refine s_istore_n (lv' := [(2, .int (0 : Int32)), (0, .ref (vO (VX g) + 28)), (1, .ref (vO (VX g) + 1))]) hz dX1_become_113 rfl (Nat.le_of_ble_eq_true rfl) rfl ?_
      exact s_sub [1, 2, 0] rfl (s_lp (sg := fun y : Mem × Int32 => y.1) (lvs := fun y : Mem × Int32 => [(0, .ref (vO (VX g) + 28)), (1, .ref (vO (VX g) + 1)), (2, .int y.2)]) (fun rec hrec => wbX1_become_28_1_114 σ11 hc   rec hrec) N (σ11, (0 : Int32)))
    · refine rX_psr_X1_73_43 hc dX1_become_87 (fun σ16 => ?_)
      refine s_aload_n hz dX1_become_90 rfl 1 rfl ?_
      refine rX_g_X1_34_1 hc dX1_become_91 ?_
      refine s_aload_n hz dX1_become_94 rfl 0 rfl ?_
      refine rX_g_X1_34_28 hc dX1_become_95 ?_
      refine kX1_row hc (kf := 17) (kt := 44) (N := 40) (n := 40) (Nat.le_of_ble_eq_true rfl) (Nat.le_of_ble_eq_true rfl) rfl (fun _ => rfl) (by decide) (by decide) ⟨(Nat.le_of_ble_eq_true rfl), (Nat.le_of_ble_eq_true rfl)⟩ ⟨(Nat.le_of_ble_eq_true rfl), (Nat.le_of_ble_eq_true rfl)⟩ (Nat.le_of_ble_eq_true rfl) dX1_become_98 (fun σ17 => ?_)
      refine s_aload_n hz dX1_become_101 rfl 1 rfl ?_
      refine rX_g_X1_37_1 hc dX1_become_102 ?_
      refine s_aload_n hz dX1_become_105 rfl 0 rfl ?_
      refine rX_g_X1_37_28 hc dX1_become_106 ?_
      refine kX1_row hc (kf := 18) (kt := 45) (N := 40) (n := 40) (Nat.le_of_ble_eq_true rfl) (Nat.le_of_ble_eq_true rfl) rfl (fun _ => rfl) (by decide) (by decide) ⟨(Nat.le_of_ble_eq_true rfl), (Nat.le_of_ble_eq_true rfl)⟩ ⟨(Nat.le_of_ble_eq_true rfl), (Nat.le_of_ble_eq_true rfl)⟩ (Nat.le_of_ble_eq_true rfl) dX1_become_109 (fun σ18 => ?_)
      refine s_iconst (v := (0 : Int32)) hz dX1_become_112 (by decide) ?_
      refine s_istore_n (lv' := [(2, .int (0 : Int32)), (0, .ref (vO (VX g) + 28)), (1, .ref (vO (VX g) + 1))]) hz dX1_become_113 rfl (Nat.le_of_ble_eq_true rfl) rfl ?_
      exact s_sub [1, 2, 0] rfl (s_lp (sg := fun y : Mem × Int32 => y.1) (lvs := fun y : Mem × Int32 => [(0, .ref (vO (VX g) + 28)), (1, .ref (vO (VX g) + 1)), (2, .int y.2)]) (fun rec hrec => wbX1_become_28_1_114 σ18 hc   rec hrec) N (σ18, (0 : Int32)))
  · refine s_aload_n hz dX1_become_53 rfl 0 rfl ?_
    refine rX_g_X1_23_28 hc dX1_become_54 ?_
    refine s_iload_n hz dX1_become_57 rfl 2 rfl ?_
    refine s_gb (fun h19 => ?_)
    refine rX_aa_30 hc h19 rfl dX1_become_58 ?_
    refine s_aload_n hz dX1_become_59 rfl 1 rfl ?_
    refine s_iload_n hz dX1_become_60 rfl 2 rfl ?_
    refine s_bind (fun q20 e21 => ?_)
    refine kX_X1_64_1 hc (cfX1_group_1 e21) ⟨(Nat.le_of_ble_eq_true rfl), (Nat.le_of_ble_eq_true rfl)⟩ (ixc h19 (c := 0) (s := 0) (Nat.le_of_ble_eq_true rfl) (Nat.le_of_ble_eq_true rfl)) (Nat.le_of_ble_eq_true rfl) dX1_become_61 ?_
    refine s_opt (fun _ => ?_) (fun a22 _ => ?_)
    · exact s_none
    · refine s_bind (fun q23 e24 => ?_)
      refine kX_X1_67 hc e24 ⟨(Nat.le_of_ble_eq_true rfl), (Nat.le_of_ble_eq_true rfl)⟩ (ixc h19 (c := 1) (s := 1) (Nat.le_of_ble_eq_true rfl) (Nat.le_of_ble_eq_true rfl)) (Nat.le_of_ble_eq_true rfl) dX1_become_64 ?_
      refine s_opt (fun _ => ?_) (fun a25 _ => ?_)
      · refine rX_pvn_X1_73_31 hc (inb_lt h19) dX1_become_67 (fun σ26 => ?_)
        refine s_iinc (v := (1 : Int32)) (lv' := [(2, .int (y45.2 + (1 : Int32))), (0, .ref (vO (VX g) + 28)), (1, .ref (vO (VX g) + 1))]) hz dX1_become_70 2 rfl (by decide) (Nat.le_of_ble_eq_true rfl) rfl ?_
        refine s_goto (tgt := 45) hz dX1_become_73 rfl ?_
        refine s_wid hz (ix (y45.2 + (1 : Int32)), 7 * ix (y45.2 + (1 : Int32))) (ixs1 h19) (ixs2 h19 (Nat.le_of_ble_eq_true rfl)) ?_
        exact s_sub [1, 2, 0] rfl (hr45c σ26 (y45.2 + (1 : Int32)))
      · refine rX_pvr_X1_73_31 hc (inb_lt h19) dX1_become_67 (fun σ27 => ?_)
        refine s_iinc (v := (1 : Int32)) (lv' := [(2, .int (y45.2 + (1 : Int32))), (0, .ref (vO (VX g) + 28)), (1, .ref (vO (VX g) + 1))]) hz dX1_become_70 2 rfl (by decide) (Nat.le_of_ble_eq_true rfl) rfl ?_
        refine s_goto (tgt := 45) hz dX1_become_73 rfl ?_
        refine s_wid hz (ix (y45.2 + (1 : Int32)), 7 * ix (y45.2 + (1 : Int32))) (ixs1 h19) (ixs2 h19 (Nat.le_of_ble_eq_true rfl)) ?_
        exact s_sub [1, 2, 0] rfl (hr45c σ27 (y45.2 + (1 : Int32)))
def fX1_become_28_1 (N : Nat) (σ : Mem)  : Option (Unit × Mem) :=
  lt_ (pI σ 28 0 (gI σ 1 0)) (fun σ1 => 
  lt_ (pI σ1 28 1 (gI σ1 1 1)) (fun σ2 => 
  lt_ (pI σ2 28 2 (gI σ2 1 2)) (fun σ3 => 
  lt_ (pI σ3 28 3 (gI σ3 1 3)) (fun σ4 => 
  lt_ (cpI σ4 2 29) (fun σ5 => 
  lp (bX1_become_28_1_45 N σ5) N (σ5, (0 : Int32)))))))
set_option maxHeartbeats 4000000 in
theorem wfX1_become_28_1 {Θ : ThT Mem} {g : GeoX} {N : Nat}  {ρ : Unit × Mem} (σ : Mem)  (hc : Cx Θ (VX g) cX1_become 3 RX1 (rk 7 12 84) none [] false (oV) ρ.2) : Sim Θ 3 ρ σ (fX1_become_28_1 N σ ) (0, 0) 0 [(0, .ref (vO (VX g) + 28)), (1, .ref (vO (VX g) + 1))] [] := by
  have hz := hc.z
  unfold fX1_become_28_1
  refine s_aload_n hz dX1_become_0 rfl 0 rfl ?_
  refine s_aload_n hz dX1_become_1 rfl 1 rfl ?_
  refine rX_g_X1_51_1 hc dX1_become_2 ?_
  refine rX_p_X1_51_28 hc dX1_become_5 (fun σ1 => ?_)
  refine s_aload_n hz dX1_become_8 rfl 0 rfl ?_
  refine s_aload_n hz dX1_become_9 rfl 1 rfl ?_
  refine rX_g_X1_54_1 hc dX1_become_10 ?_
  refine rX_p_X1_54_28 hc dX1_become_13 (fun σ2 => ?_)
  refine s_aload_n hz dX1_become_16 rfl 0 rfl ?_
  refine s_aload_n hz dX1_become_17 rfl 1 rfl ?_
  refine rX_g_X1_57_1 hc dX1_become_18 ?_
  refine rX_p_X1_57_28 hc dX1_become_21 (fun σ3 => ?_)
  refine s_aload_n hz dX1_become_24 rfl 0 rfl ?_
  refine s_aload_n hz dX1_become_25 rfl 1 rfl ?_
  refine rX_g_X1_9_1 hc dX1_become_26 ?_
  refine rX_p_X1_9_28 hc dX1_become_29 (fun σ4 => ?_)
  refine s_aload_n hz dX1_become_32 rfl 1 rfl ?_
  refine rX_g_X1_15_1 hc dX1_become_33 ?_
  refine s_aload_n hz dX1_become_36 rfl 0 rfl ?_
  refine rX_g_X1_15_28 hc dX1_become_37 ?_
  refine kX1_row hc (kf := 2) (kt := 29) (N := 8) (n := 8) (Nat.le_of_ble_eq_true rfl) (Nat.le_of_ble_eq_true rfl) rfl (fun _ => rfl) (by decide) (by decide) ⟨(Nat.le_of_ble_eq_true rfl), (Nat.le_of_ble_eq_true rfl)⟩ ⟨(Nat.le_of_ble_eq_true rfl), (Nat.le_of_ble_eq_true rfl)⟩ (Nat.le_of_ble_eq_true rfl) dX1_become_40 (fun σ5 => ?_)
  refine s_iconst (v := (0 : Int32)) hz dX1_become_43 (by decide) ?_
  refine s_istore_n (lv' := [(2, .int (0 : Int32)), (0, .ref (vO (VX g) + 28)), (1, .ref (vO (VX g) + 1))]) hz dX1_become_44 rfl (Nat.le_of_ble_eq_true rfl) rfl ?_
  refine s_wid hz (ix (0 : Int32), 7 * ix (0 : Int32)) (Nat.zero_le _) (Nat.zero_le _) ?_
  exact s_sub [1, 2, 0] rfl (s_lpc (cf := fun y : Mem × Int32 => (ix y.2, 7 * ix y.2)) (sg := fun y : Mem × Int32 => y.1) (lvs := fun y : Mem × Int32 => [(0, .ref (vO (VX g) + 28)), (1, .ref (vO (VX g) + 1)), (2, .int y.2)]) (fun rec hrec => wbX1_become_28_1_45 σ5 hc   rec hrec) N (σ5, (0 : Int32)))
theorem cfX1_become_28_1 {g : GeoX} {N : Nat}  {σ : Mem}  {ρ : Unit × Mem} (hF : fX1_become_28_1 N σ  = some ρ) (l : Launch) : Ct (VX g) l yX1_become cX1_become 3 none (rk 7 12 84) [.ref (vO (VX g) + 28), .ref (vO (VX g) + 1)] σ (oV) ρ.2 :=
  Ct.of (by decide) (Nat.le_of_ble_eq_true rfl) (fun Θ hc ls hl => wfX1_become_28_1 σ  hc hF ls hl)
theorem rX_p_X1_51_1 {γ : Type} {Θ : ThT Mem} {g : GeoX} {cc : ByteArray} {nL : Nat} {rm : Room} {ret : Option FieldType} {hs : List (Nat × Nat × Nat × Nat)} {ini : Bool} {O : Outcome} {σ' : Mem} {ρ : γ} {σ : Mem} {cs : Nat × Nat} {pc : Nat} {lv : List (Nat × Value)} {st : List Value} (hc : Cx Θ (VX g) cc nL RX1 rm ret hs ini O σ') {K : Mem → Option γ} {x : Int32} (hd : decode cc pc = .ok (.putfield 51, 3)) (kk : ∀ σ1 : Mem, Sim Θ nL ρ σ1 (K σ1) cs (pc + 3) lv st) : Sim Θ nL ρ σ (lt_ (pI σ 1 0 x) K) cs pc lv (.int x :: .ref (vO (VX g) + 1) :: st) := s_put hc (C := RX1) (T := TX1) (N := 10) (ci := 1) (k := 1) (σ1 := pI σ 1 0 x) in_X1 tyX1_ok nmX1 (Nat.le_of_ble_eq_true rfl) rfl rfl 0 (Nat.le_of_ble_eq_true rfl) q122 (fun _ _ _ _ h => h) rfl (ty := .int) (by decide +kernel) rfl rfl (Nat.le_of_ble_eq_true rfl) rfl (pI_ne σ 1 0 x) rfl hd (kk _)
theorem rX_g_X1_54_28 {γ : Type} {Θ : ThT Mem} {g : GeoX} {cc : ByteArray} {nL : Nat} {rm : Room} {ret : Option FieldType} {hs : List (Nat × Nat × Nat × Nat)} {ini : Bool} {O : Outcome} {σ' : Mem} {ρ : γ} {σ : Mem} {F : Option γ} {cs : Nat × Nat} {pc : Nat} {lv : List (Nat × Value)} {st : List Value} (hc : Cx Θ (VX g) cc nL RX1 rm ret hs ini O σ') (hd : decode cc pc = .ok (.getfield 54, 3)) (kk : Sim Θ nL ρ σ F cs (pc + 3) lv (.int (gI σ 28 1) :: st)) : Sim Θ nL ρ σ F cs pc lv (.ref (vO (VX g) + 28) :: st) := s_get hc (C := RX1) (T := TX1) (N := 10) (ci := 1) (k := 28) in_X1 (Nat.le_of_ble_eq_true rfl) rfl rfl 1 (Nat.le_of_ble_eq_true rfl) q124 (fun _ _ _ _ h => h) rfl hd kk
theorem rX_p_X1_54_1 {γ : Type} {Θ : ThT Mem} {g : GeoX} {cc : ByteArray} {nL : Nat} {rm : Room} {ret : Option FieldType} {hs : List (Nat × Nat × Nat × Nat)} {ini : Bool} {O : Outcome} {σ' : Mem} {ρ : γ} {σ : Mem} {cs : Nat × Nat} {pc : Nat} {lv : List (Nat × Value)} {st : List Value} (hc : Cx Θ (VX g) cc nL RX1 rm ret hs ini O σ') {K : Mem → Option γ} {x : Int32} (hd : decode cc pc = .ok (.putfield 54, 3)) (kk : ∀ σ1 : Mem, Sim Θ nL ρ σ1 (K σ1) cs (pc + 3) lv st) : Sim Θ nL ρ σ (lt_ (pI σ 1 1 x) K) cs pc lv (.int x :: .ref (vO (VX g) + 1) :: st) := s_put hc (C := RX1) (T := TX1) (N := 10) (ci := 1) (k := 1) (σ1 := pI σ 1 1 x) in_X1 tyX1_ok nmX1 (Nat.le_of_ble_eq_true rfl) rfl rfl 1 (Nat.le_of_ble_eq_true rfl) q124 (fun _ _ _ _ h => h) rfl (ty := .int) (by decide +kernel) rfl rfl (Nat.le_of_ble_eq_true rfl) rfl (pI_ne σ 1 1 x) rfl hd (kk _)
theorem rX_g_X1_57_28 {γ : Type} {Θ : ThT Mem} {g : GeoX} {cc : ByteArray} {nL : Nat} {rm : Room} {ret : Option FieldType} {hs : List (Nat × Nat × Nat × Nat)} {ini : Bool} {O : Outcome} {σ' : Mem} {ρ : γ} {σ : Mem} {F : Option γ} {cs : Nat × Nat} {pc : Nat} {lv : List (Nat × Value)} {st : List Value} (hc : Cx Θ (VX g) cc nL RX1 rm ret hs ini O σ') (hd : decode cc pc = .ok (.getfield 57, 3)) (kk : Sim Θ nL ρ σ F cs (pc + 3) lv (.int (gI σ 28 2) :: st)) : Sim Θ nL ρ σ F cs pc lv (.ref (vO (VX g) + 28) :: st) := s_get hc (C := RX1) (T := TX1) (N := 10) (ci := 1) (k := 28) in_X1 (Nat.le_of_ble_eq_true rfl) rfl rfl 2 (Nat.le_of_ble_eq_true rfl) q126 (fun _ _ _ _ h => h) rfl hd kk
theorem rX_p_X1_57_1 {γ : Type} {Θ : ThT Mem} {g : GeoX} {cc : ByteArray} {nL : Nat} {rm : Room} {ret : Option FieldType} {hs : List (Nat × Nat × Nat × Nat)} {ini : Bool} {O : Outcome} {σ' : Mem} {ρ : γ} {σ : Mem} {cs : Nat × Nat} {pc : Nat} {lv : List (Nat × Value)} {st : List Value} (hc : Cx Θ (VX g) cc nL RX1 rm ret hs ini O σ') {K : Mem → Option γ} {x : Int32} (hd : decode cc pc = .ok (.putfield 57, 3)) (kk : ∀ σ1 : Mem, Sim Θ nL ρ σ1 (K σ1) cs (pc + 3) lv st) : Sim Θ nL ρ σ (lt_ (pI σ 1 2 x) K) cs pc lv (.int x :: .ref (vO (VX g) + 1) :: st) := s_put hc (C := RX1) (T := TX1) (N := 10) (ci := 1) (k := 1) (σ1 := pI σ 1 2 x) in_X1 tyX1_ok nmX1 (Nat.le_of_ble_eq_true rfl) rfl rfl 2 (Nat.le_of_ble_eq_true rfl) q126 (fun _ _ _ _ h => h) rfl (ty := .int) (by decide +kernel) rfl rfl (Nat.le_of_ble_eq_true rfl) rfl (pI_ne σ 1 2 x) rfl hd (kk _)
theorem rX_g_X1_9_28 {γ : Type} {Θ : ThT Mem} {g : GeoX} {cc : ByteArray} {nL : Nat} {rm : Room} {ret : Option FieldType} {hs : List (Nat × Nat × Nat × Nat)} {ini : Bool} {O : Outcome} {σ' : Mem} {ρ : γ} {σ : Mem} {F : Option γ} {cs : Nat × Nat} {pc : Nat} {lv : List (Nat × Value)} {st : List Value} (hc : Cx Θ (VX g) cc nL RX1 rm ret hs ini O σ') (hd : decode cc pc = .ok (.getfield 9, 3)) (kk : Sim Θ nL ρ σ F cs (pc + 3) lv (.int (gI σ 28 3) :: st)) : Sim Θ nL ρ σ F cs pc lv (.ref (vO (VX g) + 28) :: st) := s_get hc (C := RX1) (T := TX1) (N := 10) (ci := 1) (k := 28) in_X1 (Nat.le_of_ble_eq_true rfl) rfl rfl 3 (Nat.le_of_ble_eq_true rfl) q128 (fun _ _ _ _ h => h) rfl hd kk
theorem rX_p_X1_9_1 {γ : Type} {Θ : ThT Mem} {g : GeoX} {cc : ByteArray} {nL : Nat} {rm : Room} {ret : Option FieldType} {hs : List (Nat × Nat × Nat × Nat)} {ini : Bool} {O : Outcome} {σ' : Mem} {ρ : γ} {σ : Mem} {cs : Nat × Nat} {pc : Nat} {lv : List (Nat × Value)} {st : List Value} (hc : Cx Θ (VX g) cc nL RX1 rm ret hs ini O σ') {K : Mem → Option γ} {x : Int32} (hd : decode cc pc = .ok (.putfield 9, 3)) (kk : ∀ σ1 : Mem, Sim Θ nL ρ σ1 (K σ1) cs (pc + 3) lv st) : Sim Θ nL ρ σ (lt_ (pI σ 1 3 x) K) cs pc lv (.int x :: .ref (vO (VX g) + 1) :: st) := s_put hc (C := RX1) (T := TX1) (N := 10) (ci := 1) (k := 1) (σ1 := pI σ 1 3 x) in_X1 tyX1_ok nmX1 (Nat.le_of_ble_eq_true rfl) rfl rfl 3 (Nat.le_of_ble_eq_true rfl) q128 (fun _ _ _ _ h => h) rfl (ty := .int) (by decide +kernel) rfl rfl (Nat.le_of_ble_eq_true rfl) rfl (pI_ne σ 1 3 x) rfl hd (kk _)
theorem rX_gs_X1_73_43 {γ : Type} {Θ : ThT Mem} {g : GeoX} {cc : ByteArray} {nL : Nat} {rm : Room} {ret : Option FieldType} {hs : List (Nat × Nat × Nat × Nat)} {ini : Bool} {O : Outcome} {σ' : Mem} {ρ : γ} {σ : Mem} {F : Option γ} {cs : Nat × Nat} {pc : Nat} {lv : List (Nat × Value)} {st : List Value} (hc : Cx Θ (VX g) cc nL RX1 rm ret hs ini O σ') (hd : decode cc pc = .ok (.getfield 73, 3)) (kk : Sim Θ nL ρ σ F cs (pc + 3) lv (va_rf ((gR σ 43 0).map (vO (VX g) + ·)) :: st)) : Sim Θ nL ρ σ F cs pc lv (.ref (vO (VX g) + 43) :: st) := s_get hc (C := RX2) (T := TX2) (N := 1) (ci := 2) (k := 43) in_X2 (Nat.le_of_ble_eq_true rfl) rfl rfl 0 (Nat.le_of_ble_eq_true rfl) q112 (fun _ _ _ _ h => h) rfl hd kk
theorem rX_psn_X1_73_16 {γ : Type} {Θ : ThT Mem} {g : GeoX} {cc : ByteArray} {nL : Nat} {rm : Room} {ret : Option FieldType} {hs : List (Nat × Nat × Nat × Nat)} {ini : Bool} {O : Outcome} {σ' : Mem} {ρ : γ} {σ : Mem} {cs : Nat × Nat} {pc : Nat} {lv : List (Nat × Value)} {st : List Value} (hc : Cx Θ (VX g) cc nL RX1 rm ret hs ini O σ') {K : Mem → Option γ} (hd : decode cc pc = .ok (.putfield 73, 3)) (kk : ∀ σ1 : Mem, Sim Θ nL ρ σ1 (K σ1) cs (pc + 3) lv st) : Sim Θ nL ρ σ (lt_ (pR σ 16 0 none) K) cs pc lv (.null :: .ref (vO (VX g) + 16) :: st) := s_put hc (C := RX2) (T := TX2) (N := 1) (ci := 2) (k := 16) (v := .null) (σ1 := pR σ 16 0 none) in_X2 tyX2_ok nmX2 (Nat.le_of_ble_eq_true rfl) rfl rfl 0 (Nat.le_of_ble_eq_true rfl) q112 (fun _ _ _ _ h => h) rfl (ty := .object "java/lang/Object") (by decide +kernel) rfl rfl (Nat.zero_lt_one) (by simp [vY, VX, YX, pR, va_rf] <;> rfl) (pR_ne σ 16 0 none) rfl hd (kk _)
theorem rX_psr_X1_73_16 {γ : Type} {Θ : ThT Mem} {g : GeoX} {cc : ByteArray} {nL : Nat} {rm : Room} {ret : Option FieldType} {hs : List (Nat × Nat × Nat × Nat)} {ini : Bool} {O : Outcome} {σ' : Mem} {ρ : γ} {σ : Mem} {cs : Nat × Nat} {pc : Nat} {lv : List (Nat × Value)} {st : List Value} (hc : Cx Θ (VX g) cc nL RX1 rm ret hs ini O σ') {K : Mem → Option γ} {a : Nat} (hd : decode cc pc = .ok (.putfield 73, 3)) (kk : ∀ σ1 : Mem, Sim Θ nL ρ σ1 (K σ1) cs (pc + 3) lv st) : Sim Θ nL ρ σ (lt_ (pR σ 16 0 (some a)) K) cs pc lv (.ref (vO (VX g) + a) :: .ref (vO (VX g) + 16) :: st) := s_put hc (C := RX2) (T := TX2) (N := 1) (ci := 2) (k := 16) (v := .ref (vO (VX g) + a)) (σ1 := pR σ 16 0 (some a)) in_X2 tyX2_ok nmX2 (Nat.le_of_ble_eq_true rfl) rfl rfl 0 (Nat.le_of_ble_eq_true rfl) q112 (fun _ _ _ _ h => h) rfl (ty := .object "java/lang/Object") (by decide +kernel) rfl rfl (Nat.zero_lt_one) (by simp [vY, VX, YX, pR, va_rf] <;> rfl) (pR_ne σ 16 0 (some a)) rfl hd (kk _)
theorem kX_X1_64_28 {γ : Type} {Θ : ThT Mem} {g : GeoX} {cc : ByteArray} {nL : Nat} {rm : Room} {ret : Option FieldType} {hs : List (Nat × Nat × Nat × Nat)} {ini : Bool} {O : Outcome} {σ' : Mem} {ρ : γ} {σ : Mem} {F : Option γ} {cs : Nat × Nat} {pc : Nat} {lv : List (Nat × Value)} {st : List Value} (hc : Cx Θ (VX g) cc nL RX1 rm ret hs ini O σ') {σ1 : Mem} {x1 : Int32} {r : Option Nat} {rmc : Room} (hM : ∀ l : Launch, Ct (VX g) l yX1_group cX1_group 2 (some (.object "SlipWeeks$Cross")) rmc [.ref (vO (VX g) + 28), .int x1] σ (oR (vO (VX g)) r) σ1) (hR : rmc.frames + 1 ≤ rm.frames ∧ 8 + (2 + 11) + rmc.locals ≤ rm.locals) (hf : cs.1 + rmc.cells ≤ rm.cells ∧ cs.2 + rmc.slots ≤ rm.slots) (hrest : (st.map fun v => v.category).sum ≤ 8) (hd : decode cc pc = .ok (.invokevirtual 64, 3)) (kk : Sim Θ nL ρ σ1 F (cs.1 + rmc.cells, cs.2 + rmc.slots) (pc + 3) lv (va_rf (r.map (vO (VX g) + ·)) :: st)) : Sim Θ nL ρ σ F cs pc lv (.int x1 :: .ref (vO (VX g) + 28) :: st) := s_callVo hc (a := 28) (As := [.int x1]) (rest := st) (n := 1) (ci := 1) (q := (RX1, TX1, 10)) hM (lw_V q1031 q467 q468 q63 q469) (by decide +kernel) rfl (Ob.fix (Nat.le_of_ble_eq_true rfl) rfl) rfl rfl hrest hR hf hd kk
theorem rX_pvn_X1_73_4 {γ : Type} {Θ : ThT Mem} {g : GeoX} {cc : ByteArray} {nL : Nat} {rm : Room} {ret : Option FieldType} {hs : List (Nat × Nat × Nat × Nat)} {ini : Bool} {O : Outcome} {σ' : Mem} {ρ : γ} {σ : Mem} {cs : Nat × Nat} {pc : Nat} {lv : List (Nat × Value)} {st : List Value} (hc : Cx Θ (VX g) cc nL RX1 rm ret hs ini O σ') {K : Mem → Option γ} {j : Nat} (hj : j < 12) (hd : decode cc pc = .ok (.putfield 73, 3)) (kk : ∀ σ1 : Mem, Sim Θ nL ρ σ1 (K σ1) cs (pc + 3) lv st) : Sim Θ nL ρ σ (lt_ (pR σ (4 + j) 0 none) K) cs pc lv (.null :: .ref (vO (VX g) + (4 + j)) :: st) := s_put hc (C := RX2) (T := TX2) (N := 1) (ci := 2) (k := (4 + j)) (v := .null) (σ1 := pR σ (4 + j) 0 none) in_X2 tyX2_ok nmX2 (YXk_4 g j hj) (YX_4 g.1 _ _ _ j hj) rfl 0 (Nat.le_of_ble_eq_true rfl) q112 (fun _ _ _ _ h => h) rfl (ty := .object "java/lang/Object") (by decide +kernel) rfl rfl (Nat.zero_lt_one) (by first | rfl | (show YX g.1 _ _ _ _ = _; rw [YX_4 g.1 _ _ _ j hj]; simp [pR, va_rf] <;> rfl)) (pR_ne σ (4 + j) 0 none) rfl hd (kk _)
theorem rX_pvr_X1_73_4 {γ : Type} {Θ : ThT Mem} {g : GeoX} {cc : ByteArray} {nL : Nat} {rm : Room} {ret : Option FieldType} {hs : List (Nat × Nat × Nat × Nat)} {ini : Bool} {O : Outcome} {σ' : Mem} {ρ : γ} {σ : Mem} {cs : Nat × Nat} {pc : Nat} {lv : List (Nat × Value)} {st : List Value} (hc : Cx Θ (VX g) cc nL RX1 rm ret hs ini O σ') {K : Mem → Option γ} {a : Nat} {j : Nat} (hj : j < 12) (hd : decode cc pc = .ok (.putfield 73, 3)) (kk : ∀ σ1 : Mem, Sim Θ nL ρ σ1 (K σ1) cs (pc + 3) lv st) : Sim Θ nL ρ σ (lt_ (pR σ (4 + j) 0 (some a)) K) cs pc lv (.ref (vO (VX g) + a) :: .ref (vO (VX g) + (4 + j)) :: st) := s_put hc (C := RX2) (T := TX2) (N := 1) (ci := 2) (k := (4 + j)) (v := .ref (vO (VX g) + a)) (σ1 := pR σ (4 + j) 0 (some a)) in_X2 tyX2_ok nmX2 (YXk_4 g j hj) (YX_4 g.1 _ _ _ j hj) rfl 0 (Nat.le_of_ble_eq_true rfl) q112 (fun _ _ _ _ h => h) rfl (ty := .object "java/lang/Object") (by decide +kernel) rfl rfl (Nat.zero_lt_one) (by first | rfl | (show YX g.1 _ _ _ _ = _; rw [YX_4 g.1 _ _ _ j hj]; simp [pR, va_rf] <;> rfl)) (pR_ne σ (4 + j) 0 (some a)) rfl hd (kk _)
def bX1_become_1_28_114 (N : Nat) (σ : Mem)  (r114 : (Mem × Int32) → Option (Unit × Mem)) (y114 : Mem × Int32) : Option (Unit × Mem) :=
  if (8 : Int32) ≤ y114.2 then
  (some ((), y114.1))
  else (gb (inb y114.2 8) (
  gb (inb y114.2 8) (
  lt_ (cpI y114.1 (47 + ix y114.2) (20 + ix y114.2)) (fun σ15 => 
  r114 (σ15, (y114.2 + (1 : Int32)))))))
set_option maxHeartbeats 4000000 in
theorem wbX1_become_1_28_114 {Θ : ThT Mem} {g : GeoX} {N : Nat}  {ρ : Unit × Mem} (σ : Mem) (hc : Cx Θ (VX g) cX1_become 3 RX1 (rk 7 12 84) none [] false (oV) ρ.2)  (r114 : (Mem × Int32) → Option (Unit × Mem)) (hr114 : ∀ y : Mem × Int32, Sim Θ 3 ρ (y.1) (r114 y) (12, 84) 114 [(0, .ref (vO (VX g) + 1)), (1, .ref (vO (VX g) + 28)), (2, .int y.2)] []) : ∀ y114 : Mem × Int32, Sim Θ 3 ρ (y114.1) (bX1_become_1_28_114 N σ  r114 y114) (12, 84) 114 [(0, .ref (vO (VX g) + 1)), (1, .ref (vO (VX g) + 28)), (2, .int y114.2)] [] := by
  intro y114
  have hz := hc.z
  have hr114c : ∀ (z0_ : Mem) (z1_ : Int32), Sim Θ 3 ρ (z0_) (r114 (z0_, z1_)) (12, 84) 114 [(0, .ref (vO (VX g) + 1)), (1, .ref (vO (VX g) + 28)), (2, .int z1_)] [] := fun z0_ z1_ => hr114 (z0_, z1_)
  unfold bX1_become_1_28_114
  refine s_iload_n hz dX1_become_114 rfl 2 rfl ?_
  refine s_bipush (v := (8 : Int32)) hz dX1_become_115 (by decide) ?_
  refine s_icmp_ge (tgt := 141) hz dX1_become_117 rfl (fun h12 => ?_) (fun h12 => ?_)
  · exact s_vretM hc dX1_become_141 (Nat.le_of_ble_eq_true rfl) (Nat.le_of_ble_eq_true rfl)
  · refine s_aload_n hz dX1_become_120 rfl 1 rfl ?_
    refine rX_g_X1_42_28 hc dX1_become_121 ?_
    refine s_iload_n hz dX1_become_124 rfl 2 rfl ?_
    refine s_gb (fun h13 => ?_)
    refine rX_aa_46 hc h13 rfl dX1_become_125 ?_
    refine s_aload_n hz dX1_become_126 rfl 0 rfl ?_
    refine rX_g_X1_42_1 hc dX1_become_127 ?_
    refine s_iload_n hz dX1_become_130 rfl 2 rfl ?_
    refine s_gb (fun h14 => ?_)
    refine rX_aa_19 hc h14 rfl dX1_become_131 ?_
    refine kX1_row hc (kf := (47 + ix y114.2)) (kt := (20 + ix y114.2)) (N := 40) (n := 40) (YXk_47 g _ (inb_lt h13)) (YXk_20 g _ (inb_lt h14)) (YX_47 g.1 _ _ _ _ (inb_lt h13)) (fun _ => YX_20 g.1 _ _ _ _ (inb_lt h14)) (by decide) (by decide) ⟨(Nat.le_of_ble_eq_true rfl), (Nat.le_of_ble_eq_true rfl)⟩ ⟨(Nat.le_of_ble_eq_true rfl), (Nat.le_of_ble_eq_true rfl)⟩ (Nat.le_of_ble_eq_true rfl) dX1_become_132 (fun σ15 => ?_)
    refine s_iinc (v := (1 : Int32)) (lv' := [(2, .int (y114.2 + (1 : Int32))), (0, .ref (vO (VX g) + 1)), (1, .ref (vO (VX g) + 28))]) hz dX1_become_135 2 rfl (by decide) (Nat.le_of_ble_eq_true rfl) rfl ?_
    refine s_goto (tgt := 114) hz dX1_become_138 rfl ?_
    exact s_sub [1, 2, 0] rfl (hr114c σ15 (y114.2 + (1 : Int32)))
def bX1_become_1_28_45 (N : Nat) (σ : Mem)  (r45 : (Mem × Int32) → Option (Unit × Mem)) (y45 : Mem × Int32) : Option (Unit × Mem) :=
  if (gI y45.1 1 0) ≤ y45.2 then
  (gb (decide (ix y45.2 ≤ 12)) (
  mO (gR y45.1 43 0)
  (lt_ (pR y45.1 16 0 (none)) (fun σ9 => 
  lt_ (cpI σ9 44 17) (fun σ10 => 
  lt_ (cpI σ10 45 18) (fun σ11 => 
  lp (bX1_become_1_28_114 N σ11) N (σ11, (0 : Int32)))))) (fun a8 => 
  lt_ (pR y45.1 16 0 (some a8)) (fun σ16 => 
  lt_ (cpI σ16 44 17) (fun σ17 => 
  lt_ (cpI σ17 45 18) (fun σ18 => 
  lp (bX1_become_1_28_114 N σ18) N (σ18, (0 : Int32))))))))
  else (gb (inb y45.2 12) (
  (fX1_group_28 N y45.1 y45.2).bind (fun q20 => 
  mO q20
  (none) (fun a22 => 
  (dX_copy N y45.1 a22).bind (fun q23 => 
  mO q23.1
  (lt_ (pR q23.2 (4 + ix y45.2) 0 (none)) (fun σ26 => 
  r45 (σ26, (y45.2 + (1 : Int32))))) (fun a25 => 
  lt_ (pR q23.2 (4 + ix y45.2) 0 (some a25)) (fun σ27 => 
  r45 (σ27, (y45.2 + (1 : Int32))))))))))
set_option maxHeartbeats 4000000 in
theorem wbX1_become_1_28_45 {Θ : ThT Mem} {g : GeoX} {N : Nat}  {ρ : Unit × Mem} (σ : Mem) (hc : Cx Θ (VX g) cX1_become 3 RX1 (rk 7 12 84) none [] false (oV) ρ.2)  (r45 : (Mem × Int32) → Option (Unit × Mem)) (hr45 : ∀ y : Mem × Int32, Sim Θ 3 ρ (y.1) (r45 y) (ix y.2, 7 * ix y.2) 45 [(0, .ref (vO (VX g) + 1)), (1, .ref (vO (VX g) + 28)), (2, .int y.2)] []) : ∀ y45 : Mem × Int32, Sim Θ 3 ρ (y45.1) (bX1_become_1_28_45 N σ  r45 y45) (ix y45.2, 7 * ix y45.2) 45 [(0, .ref (vO (VX g) + 1)), (1, .ref (vO (VX g) + 28)), (2, .int y45.2)] [] := by
  intro y45
  have hz := hc.z
  have hr45c : ∀ (z0_ : Mem) (z1_ : Int32), Sim Θ 3 ρ (z0_) (r45 (z0_, z1_)) (ix z1_, 7 * ix z1_) 45 [(0, .ref (vO (VX g) + 1)), (1, .ref (vO (VX g) + 28)), (2, .int z1_)] [] := fun z0_ z1_ => hr45 (z0_, z1_)
  unfold bX1_become_1_28_45
  refine s_iload_n hz dX1_become_45 rfl 2 rfl ?_
  refine s_aload_n hz dX1_become_46 rfl 0 rfl ?_
  refine rX_g_X1_51_1 hc dX1_become_47 ?_
  refine s_icmp_ge (tgt := 76) hz dX1_become_50 rfl (fun h6 => ?_) (fun h6 => ?_)
  · refine s_gb (fun h7 => ?_)
    refine s_wid hz (12, 84) (of_decide_eq_true h7) (Nat.mul_le_mul_left 7 (of_decide_eq_true h7)) ?_
    refine s_aload_n hz dX1_become_76 rfl 0 rfl ?_
    refine rX_g_X1_30_1 hc dX1_become_77 ?_
    refine s_aload_n hz dX1_become_80 rfl 1 rfl ?_
    refine rX_g_X1_30_28 hc dX1_become_81 ?_
    refine rX_gs_X1_73_43 hc dX1_become_84 ?_
    refine s_opt (fun _ => ?_) (fun a8 _ => ?_)
    · refine rX_psn_X1_73_16 hc dX1_become_87 (fun σ9 => ?_)
      refine s_aload_n hz dX1_become_90 rfl 1 rfl ?_
      refine rX_g_X1_34_28 hc dX1_become_91 ?_
      refine s_aload_n hz dX1_become_94 rfl 0 rfl ?_
      refine rX_g_X1_34_1 hc dX1_become_95 ?_
      refine kX1_row hc (kf := 44) (kt := 17) (N := 40) (n := 40) (Nat.le_of_ble_eq_true rfl) (Nat.le_of_ble_eq_true rfl) rfl (fun _ => rfl) (by decide) (by decide) ⟨(Nat.le_of_ble_eq_true rfl), (Nat.le_of_ble_eq_true rfl)⟩ ⟨(Nat.le_of_ble_eq_true rfl), (Nat.le_of_ble_eq_true rfl)⟩ (Nat.le_of_ble_eq_true rfl) dX1_become_98 (fun σ10 => ?_)
      refine s_aload_n hz dX1_become_101 rfl 1 rfl ?_
      refine rX_g_X1_37_28 hc dX1_become_102 ?_
      refine s_aload_n hz dX1_become_105 rfl 0 rfl ?_
      refine rX_g_X1_37_1 hc dX1_become_106 ?_
      refine kX1_row hc (kf := 45) (kt := 18) (N := 40) (n := 40) (Nat.le_of_ble_eq_true rfl) (Nat.le_of_ble_eq_true rfl) rfl (fun _ => rfl) (by decide) (by decide) ⟨(Nat.le_of_ble_eq_true rfl), (Nat.le_of_ble_eq_true rfl)⟩ ⟨(Nat.le_of_ble_eq_true rfl), (Nat.le_of_ble_eq_true rfl)⟩ (Nat.le_of_ble_eq_true rfl) dX1_become_109 (fun σ11 => ?_)
      refine s_iconst (v := (0 : Int32)) hz dX1_become_112 (by decide) ?_
      refine s_istore_n (lv' := [(2, .int (0 : Int32)), (0, .ref (vO (VX g) + 1)), (1, .ref (vO (VX g) + 28))]) hz dX1_become_113 rfl (Nat.le_of_ble_eq_true rfl) rfl ?_
      exact s_sub [1, 2, 0] rfl (s_lp (sg := fun y : Mem × Int32 => y.1) (lvs := fun y : Mem × Int32 => [(0, .ref (vO (VX g) + 1)), (1, .ref (vO (VX g) + 28)), (2, .int y.2)]) (fun rec hrec => wbX1_become_1_28_114 σ11 hc   rec hrec) N (σ11, (0 : Int32)))
    · refine rX_psr_X1_73_16 hc dX1_become_87 (fun σ16 => ?_)
      refine s_aload_n hz dX1_become_90 rfl 1 rfl ?_
      refine rX_g_X1_34_28 hc dX1_become_91 ?_
      refine s_aload_n hz dX1_become_94 rfl 0 rfl ?_
      refine rX_g_X1_34_1 hc dX1_become_95 ?_
      refine kX1_row hc (kf := 44) (kt := 17) (N := 40) (n := 40) (Nat.le_of_ble_eq_true rfl) (Nat.le_of_ble_eq_true rfl) rfl (fun _ => rfl) (by decide) (by decide) ⟨(Nat.le_of_ble_eq_true rfl), (Nat.le_of_ble_eq_true rfl)⟩ ⟨(Nat.le_of_ble_eq_true rfl), (Nat.le_of_ble_eq_true rfl)⟩ (Nat.le_of_ble_eq_true rfl) dX1_become_98 (fun σ17 => ?_)
      refine s_aload_n hz dX1_become_101 rfl 1 rfl ?_
      refine rX_g_X1_37_28 hc dX1_become_102 ?_
      refine s_aload_n hz dX1_become_105 rfl 0 rfl ?_
      refine rX_g_X1_37_1 hc dX1_become_106 ?_
      refine kX1_row hc (kf := 45) (kt := 18) (N := 40) (n := 40) (Nat.le_of_ble_eq_true rfl) (Nat.le_of_ble_eq_true rfl) rfl (fun _ => rfl) (by decide) (by decide) ⟨(Nat.le_of_ble_eq_true rfl), (Nat.le_of_ble_eq_true rfl)⟩ ⟨(Nat.le_of_ble_eq_true rfl), (Nat.le_of_ble_eq_true rfl)⟩ (Nat.le_of_ble_eq_true rfl) dX1_become_109 (fun σ18 => ?_)
      refine s_iconst (v := (0 : Int32)) hz dX1_become_112 (by decide) ?_
      refine s_istore_n (lv' := [(2, .int (0 : Int32)), (0, .ref (vO (VX g) + 1)), (1, .ref (vO (VX g) + 28))]) hz dX1_become_113 rfl (Nat.le_of_ble_eq_true rfl) rfl ?_
      exact s_sub [1, 2, 0] rfl (s_lp (sg := fun y : Mem × Int32 => y.1) (lvs := fun y : Mem × Int32 => [(0, .ref (vO (VX g) + 1)), (1, .ref (vO (VX g) + 28)), (2, .int y.2)]) (fun rec hrec => wbX1_become_1_28_114 σ18 hc   rec hrec) N (σ18, (0 : Int32)))
  · refine s_aload_n hz dX1_become_53 rfl 0 rfl ?_
    refine rX_g_X1_23_1 hc dX1_become_54 ?_
    refine s_iload_n hz dX1_become_57 rfl 2 rfl ?_
    refine s_gb (fun h19 => ?_)
    refine rX_aa_3 hc h19 rfl dX1_become_58 ?_
    refine s_aload_n hz dX1_become_59 rfl 1 rfl ?_
    refine s_iload_n hz dX1_become_60 rfl 2 rfl ?_
    refine s_bind (fun q20 e21 => ?_)
    refine kX_X1_64_28 hc (cfX1_group_28 e21) ⟨(Nat.le_of_ble_eq_true rfl), (Nat.le_of_ble_eq_true rfl)⟩ (ixc h19 (c := 0) (s := 0) (Nat.le_of_ble_eq_true rfl) (Nat.le_of_ble_eq_true rfl)) (Nat.le_of_ble_eq_true rfl) dX1_become_61 ?_
    refine s_opt (fun _ => ?_) (fun a22 _ => ?_)
    · exact s_none
    · refine s_bind (fun q23 e24 => ?_)
      refine kX_X1_67 hc e24 ⟨(Nat.le_of_ble_eq_true rfl), (Nat.le_of_ble_eq_true rfl)⟩ (ixc h19 (c := 1) (s := 1) (Nat.le_of_ble_eq_true rfl) (Nat.le_of_ble_eq_true rfl)) (Nat.le_of_ble_eq_true rfl) dX1_become_64 ?_
      refine s_opt (fun _ => ?_) (fun a25 _ => ?_)
      · refine rX_pvn_X1_73_4 hc (inb_lt h19) dX1_become_67 (fun σ26 => ?_)
        refine s_iinc (v := (1 : Int32)) (lv' := [(2, .int (y45.2 + (1 : Int32))), (0, .ref (vO (VX g) + 1)), (1, .ref (vO (VX g) + 28))]) hz dX1_become_70 2 rfl (by decide) (Nat.le_of_ble_eq_true rfl) rfl ?_
        refine s_goto (tgt := 45) hz dX1_become_73 rfl ?_
        refine s_wid hz (ix (y45.2 + (1 : Int32)), 7 * ix (y45.2 + (1 : Int32))) (ixs1 h19) (ixs2 h19 (Nat.le_of_ble_eq_true rfl)) ?_
        exact s_sub [1, 2, 0] rfl (hr45c σ26 (y45.2 + (1 : Int32)))
      · refine rX_pvr_X1_73_4 hc (inb_lt h19) dX1_become_67 (fun σ27 => ?_)
        refine s_iinc (v := (1 : Int32)) (lv' := [(2, .int (y45.2 + (1 : Int32))), (0, .ref (vO (VX g) + 1)), (1, .ref (vO (VX g) + 28))]) hz dX1_become_70 2 rfl (by decide) (Nat.le_of_ble_eq_true rfl) rfl ?_
        refine s_goto (tgt := 45) hz dX1_become_73 rfl ?_
        refine s_wid hz (ix (y45.2 + (1 : Int32)), 7 * ix (y45.2 + (1 : Int32))) (ixs1 h19) (ixs2 h19 (Nat.le_of_ble_eq_true rfl)) ?_
        exact s_sub [1, 2, 0] rfl (hr45c σ27 (y45.2 + (1 : Int32)))
def fX1_become_1_28 (N : Nat) (σ : Mem)  : Option (Unit × Mem) :=
  lt_ (pI σ 1 0 (gI σ 28 0)) (fun σ1 => 
  lt_ (pI σ1 1 1 (gI σ1 28 1)) (fun σ2 => 
  lt_ (pI σ2 1 2 (gI σ2 28 2)) (fun σ3 => 
  lt_ (pI σ3 1 3 (gI σ3 28 3)) (fun σ4 => 
  lt_ (cpI σ4 29 2) (fun σ5 => 
  lp (bX1_become_1_28_45 N σ5) N (σ5, (0 : Int32)))))))
set_option maxHeartbeats 4000000 in
theorem wfX1_become_1_28 {Θ : ThT Mem} {g : GeoX} {N : Nat}  {ρ : Unit × Mem} (σ : Mem)  (hc : Cx Θ (VX g) cX1_become 3 RX1 (rk 7 12 84) none [] false (oV) ρ.2) : Sim Θ 3 ρ σ (fX1_become_1_28 N σ ) (0, 0) 0 [(0, .ref (vO (VX g) + 1)), (1, .ref (vO (VX g) + 28))] [] := by
  have hz := hc.z
  unfold fX1_become_1_28
  refine s_aload_n hz dX1_become_0 rfl 0 rfl ?_
  refine s_aload_n hz dX1_become_1 rfl 1 rfl ?_
  refine rX_g_X1_51_28 hc dX1_become_2 ?_
  refine rX_p_X1_51_1 hc dX1_become_5 (fun σ1 => ?_)
  refine s_aload_n hz dX1_become_8 rfl 0 rfl ?_
  refine s_aload_n hz dX1_become_9 rfl 1 rfl ?_
  refine rX_g_X1_54_28 hc dX1_become_10 ?_
  refine rX_p_X1_54_1 hc dX1_become_13 (fun σ2 => ?_)
  refine s_aload_n hz dX1_become_16 rfl 0 rfl ?_
  refine s_aload_n hz dX1_become_17 rfl 1 rfl ?_
  refine rX_g_X1_57_28 hc dX1_become_18 ?_
  refine rX_p_X1_57_1 hc dX1_become_21 (fun σ3 => ?_)
  refine s_aload_n hz dX1_become_24 rfl 0 rfl ?_
  refine s_aload_n hz dX1_become_25 rfl 1 rfl ?_
  refine rX_g_X1_9_28 hc dX1_become_26 ?_
  refine rX_p_X1_9_1 hc dX1_become_29 (fun σ4 => ?_)
  refine s_aload_n hz dX1_become_32 rfl 1 rfl ?_
  refine rX_g_X1_15_28 hc dX1_become_33 ?_
  refine s_aload_n hz dX1_become_36 rfl 0 rfl ?_
  refine rX_g_X1_15_1 hc dX1_become_37 ?_
  refine kX1_row hc (kf := 29) (kt := 2) (N := 8) (n := 8) (Nat.le_of_ble_eq_true rfl) (Nat.le_of_ble_eq_true rfl) rfl (fun _ => rfl) (by decide) (by decide) ⟨(Nat.le_of_ble_eq_true rfl), (Nat.le_of_ble_eq_true rfl)⟩ ⟨(Nat.le_of_ble_eq_true rfl), (Nat.le_of_ble_eq_true rfl)⟩ (Nat.le_of_ble_eq_true rfl) dX1_become_40 (fun σ5 => ?_)
  refine s_iconst (v := (0 : Int32)) hz dX1_become_43 (by decide) ?_
  refine s_istore_n (lv' := [(2, .int (0 : Int32)), (0, .ref (vO (VX g) + 1)), (1, .ref (vO (VX g) + 28))]) hz dX1_become_44 rfl (Nat.le_of_ble_eq_true rfl) rfl ?_
  refine s_wid hz (ix (0 : Int32), 7 * ix (0 : Int32)) (Nat.zero_le _) (Nat.zero_le _) ?_
  exact s_sub [1, 2, 0] rfl (s_lpc (cf := fun y : Mem × Int32 => (ix y.2, 7 * ix y.2)) (sg := fun y : Mem × Int32 => y.1) (lvs := fun y : Mem × Int32 => [(0, .ref (vO (VX g) + 1)), (1, .ref (vO (VX g) + 28)), (2, .int y.2)]) (fun rec hrec => wbX1_become_1_28_45 σ5 hc   rec hrec) N (σ5, (0 : Int32)))
theorem cfX1_become_1_28 {g : GeoX} {N : Nat}  {σ : Mem}  {ρ : Unit × Mem} (hF : fX1_become_1_28 N σ  = some ρ) (l : Launch) : Ct (VX g) l yX1_become cX1_become 3 none (rk 7 12 84) [.ref (vO (VX g) + 1), .ref (vO (VX g) + 28)] σ (oV) ρ.2 :=
  Ct.of (by decide) (Nat.le_of_ble_eq_true rfl) (fun Θ hc ls hl => wfX1_become_1_28 σ  hc hF ls hl)
theorem rX_g_X0_48_0 {γ : Type} {Θ : ThT Mem} {g : GeoX} {cc : ByteArray} {nL : Nat} {rm : Room} {ret : Option FieldType} {hs : List (Nat × Nat × Nat × Nat)} {ini : Bool} {O : Outcome} {σ' : Mem} {ρ : γ} {σ : Mem} {F : Option γ} {cs : Nat × Nat} {pc : Nat} {lv : List (Nat × Value)} {st : List Value} (hc : Cx Θ (VX g) cc nL RX0 rm ret hs ini O σ') (hd : decode cc pc = .ok (.getfield 48, 3)) (kk : Sim Θ nL ρ σ F cs (pc + 3) lv (.ref (vO (VX g) + 28) :: st)) : Sim Θ nL ρ σ F cs pc lv (.ref (vO (VX g) + 0) :: st) := s_get hc (C := RX0) (T := TX0) (N := 19) (ci := 0) (k := 0) in_X0 (Nat.le_of_ble_eq_true rfl) rfl rfl 1 (Nat.le_of_ble_eq_true rfl) q211 (fun _ _ _ _ h => h) rfl hd kk
theorem kX_X0_400_28_1 {γ : Type} {Θ : ThT Mem} {g : GeoX} {cc : ByteArray} {nL : Nat} {rm : Room} {ret : Option FieldType} {hs : List (Nat × Nat × Nat × Nat)} {ini : Bool} {O : Outcome} {σ' : Mem} {ρ : γ} {σ : Mem} {F : Option γ} {cs : Nat × Nat} {pc : Nat} {lv : List (Nat × Value)} {st : List Value} (hc : Cx Θ (VX g) cc nL RX0 rm ret hs ini O σ') {σ1 : Mem}  {rmc : Room} (hM : ∀ l : Launch, Ct (VX g) l yX1_become cX1_become 3 none rmc [.ref (vO (VX g) + 28), .ref (vO (VX g) + 1)] σ oV σ1) (hR : rmc.frames + 1 ≤ rm.frames ∧ 8 + (3 + 11) + rmc.locals ≤ rm.locals) (hf : cs.1 + rmc.cells ≤ rm.cells ∧ cs.2 + rmc.slots ≤ rm.slots) (hrest : (st.map fun v => v.category).sum ≤ 8) (hd : decode cc pc = .ok (.invokevirtual 400, 3)) (kk : Sim Θ nL ρ σ1 F (cs.1 + rmc.cells, cs.2 + rmc.slots) (pc + 3) lv (st)) : Sim Θ nL ρ σ F cs pc lv (.ref (vO (VX g) + 1) :: .ref (vO (VX g) + 28) :: st) := s_callVo hc (a := 28) (As := [.ref (vO (VX g) + 1)]) (rest := st) (n := 1) (ci := 1) (q := (RX1, TX1, 10)) hM (lw_V q1023 q1024 q1025 q63 q1026) (by decide +kernel) rfl (Ob.fix (Nat.le_of_ble_eq_true rfl) rfl) rfl rfl hrest hR hf hd kk
def fX0_image (N : Nat) (σ : Mem)  : Option (Int32 × Mem) :=
  (fX1_become_28_1 N σ).bind (fun q1 => 
  lt_ (pI q1.2 0 2 (1 : Int32)) (fun σ3 => 
  some ((1 : Int32), σ3)))
set_option maxHeartbeats 4000000 in
theorem wfX0_image {Θ : ThT Mem} {g : GeoX} {N : Nat}  {ρ : Int32 × Mem} (σ : Mem)  (hc : Cx Θ (VX g) cX0_image 1 RX0 (rk 8 12 84) (some .int) [] false (oI ρ.1) ρ.2) : Sim Θ 1 ρ σ (fX0_image N σ ) (0, 0) 0 [(0, .ref (vO (VX g) + 0))] [] := by
  have hz := hc.z
  unfold fX0_image
  refine s_aload_n hz dX0_image_0 rfl 0 rfl ?_
  refine rX_g_X0_48_0 hc dX0_image_1 ?_
  refine s_aload_n hz dX0_image_4 rfl 0 rfl ?_
  refine rX_g_X0_42_0 hc dX0_image_5 ?_
  refine s_bind (fun q1 e2 => ?_)
  refine kX_X0_400_28_1 hc (cfX1_become_28_1 e2) ⟨(Nat.le_of_ble_eq_true rfl), (Nat.le_of_ble_eq_true rfl)⟩ ⟨(Nat.le_of_ble_eq_true rfl), (Nat.le_of_ble_eq_true rfl)⟩ (Nat.le_of_ble_eq_true rfl) dX0_image_8 ?_
  refine s_aload_n hz dX0_image_11 rfl 0 rfl ?_
  refine s_iconst (v := (1 : Int32)) hz dX0_image_12 (by decide) ?_
  refine rX_p_X0_404_0 hc rfl rfl dX0_image_13 (fun σ3 => ?_)
  refine s_iconst (v := (1 : Int32)) hz dX0_image_16 (by decide) ?_
  exact s_iretM hc dX0_image_17 (Nat.le_of_ble_eq_true rfl) (Nat.le_of_ble_eq_true rfl)
theorem cfX0_image {g : GeoX} {N : Nat}  {σ : Mem}  {ρ : Int32 × Mem} (hF : fX0_image N σ  = some ρ) (l : Launch) : Ct (VX g) l yX0_image cX0_image 1 (some .int) (rk 8 12 84) [.ref (vO (VX g) + 0)] σ (oI ρ.1) ρ.2 :=
  Ct.of (by decide) (Nat.le_of_ble_eq_true rfl) (fun Θ hc ls hl => wfX0_image σ  hc hF ls hl)
theorem kX_X0_400_1_28 {γ : Type} {Θ : ThT Mem} {g : GeoX} {cc : ByteArray} {nL : Nat} {rm : Room} {ret : Option FieldType} {hs : List (Nat × Nat × Nat × Nat)} {ini : Bool} {O : Outcome} {σ' : Mem} {ρ : γ} {σ : Mem} {F : Option γ} {cs : Nat × Nat} {pc : Nat} {lv : List (Nat × Value)} {st : List Value} (hc : Cx Θ (VX g) cc nL RX0 rm ret hs ini O σ') {σ1 : Mem}  {rmc : Room} (hM : ∀ l : Launch, Ct (VX g) l yX1_become cX1_become 3 none rmc [.ref (vO (VX g) + 1), .ref (vO (VX g) + 28)] σ oV σ1) (hR : rmc.frames + 1 ≤ rm.frames ∧ 8 + (3 + 11) + rmc.locals ≤ rm.locals) (hf : cs.1 + rmc.cells ≤ rm.cells ∧ cs.2 + rmc.slots ≤ rm.slots) (hrest : (st.map fun v => v.category).sum ≤ 8) (hd : decode cc pc = .ok (.invokevirtual 400, 3)) (kk : Sim Θ nL ρ σ1 F (cs.1 + rmc.cells, cs.2 + rmc.slots) (pc + 3) lv (st)) : Sim Θ nL ρ σ F cs pc lv (.ref (vO (VX g) + 28) :: .ref (vO (VX g) + 1) :: st) := s_callVo hc (a := 1) (As := [.ref (vO (VX g) + 28)]) (rest := st) (n := 1) (ci := 1) (q := (RX1, TX1, 10)) hM (lw_V q1023 q1024 q1025 q63 q1026) (by decide +kernel) rfl (Ob.fix (Nat.le_of_ble_eq_true rfl) rfl) rfl rfl hrest hR hf hd kk
def fX0_undo (N : Nat) (σ : Mem)  : Option (Int32 × Mem) :=
  (fX0_need N σ (gI σ 0 2) (3 : Int32)).bind (fun q4 => cT2 q4 (fun v1 σ3 => 
  (fX1_become_1_28 N σ3).bind (fun q7 => 
  lt_ (pI q7.2 0 10 (0 : Int32)) (fun σ9 => 
  some ((gI σ9 1 1), σ9)))) (fun b2 σ3 => 
  gb (isC σ3 b2 5) (
  (fX0_finds N σ3 b2).bind (fun q10 => 
  some (q10.1, q10.2)))))
set_option maxHeartbeats 4000000 in
theorem wfX0_undo {Θ : ThT Mem} {g : GeoX} {N : Nat}  {ρ : Int32 × Mem} (σ : Mem)  (hc : Cx Θ (VX g) cX0_undo 2 RX0 (rk 8 13 91) (some .int) [(0, 31, 32, 1)] false (oI ρ.1) ρ.2) : Sim Θ 2 ρ σ (fX0_undo N σ ) (0, 0) 0 [(0, .ref (vO (VX g) + 0))] [] := by
  have hz := hc.z
  unfold fX0_undo
  refine s_aload_n hz dX0_undo_0 rfl 0 rfl ?_
  refine rX_g_X0_404_0 hc dX0_undo_1 ?_
  refine s_iconst (v := (3 : Int32)) hz dX0_undo_4 (by decide) ?_
  refine s_bind (fun q4 e5 => ?_)
  rcases q4 with ⟨v1 | b2, σ3⟩
  · refine kX_X0_119 hc (cfX0_need e5) ⟨(Nat.le_of_ble_eq_true rfl), (Nat.le_of_ble_eq_true rfl)⟩ ⟨(Nat.le_of_ble_eq_true rfl), (Nat.le_of_ble_eq_true rfl)⟩ (Nat.le_of_ble_eq_true rfl) dX0_undo_5 (s_c2 ?_)
    refine s_aload_n hz dX0_undo_8 rfl 0 rfl ?_
    refine rX_g_X0_42_0 hc dX0_undo_9 ?_
    refine s_aload_n hz dX0_undo_12 rfl 0 rfl ?_
    refine rX_g_X0_48_0 hc dX0_undo_13 ?_
    refine s_bind (fun q7 e8 => ?_)
    refine kX_X0_400_1_28 hc (cfX1_become_1_28 e8) ⟨(Nat.le_of_ble_eq_true rfl), (Nat.le_of_ble_eq_true rfl)⟩ ⟨(Nat.le_of_ble_eq_true rfl), (Nat.le_of_ble_eq_true rfl)⟩ (Nat.le_of_ble_eq_true rfl) dX0_undo_16 ?_
    refine s_aload_n hz dX0_undo_19 rfl 0 rfl ?_
    refine s_iconst (v := (0 : Int32)) hz dX0_undo_20 (by decide) ?_
    refine rX_p_X0_166_0 hc rfl rfl dX0_undo_21 (fun σ9 => ?_)
    refine s_aload_n hz dX0_undo_24 rfl 0 rfl ?_
    refine rX_g_X0_42_0 hc dX0_undo_25 ?_
    refine rX_g_X0_185_1 hc dX0_undo_28 ?_
    exact s_iretM hc dX0_undo_31 (Nat.le_of_ble_eq_true rfl) (Nat.le_of_ble_eq_true rfl)
  · refine s_gb (fun h6 => ?_)
    refine kX_X0_119_h hc (cfX0_need e5) ⟨(Nat.le_of_ble_eq_true rfl), (Nat.le_of_ble_eq_true rfl)⟩ ⟨(Nat.le_of_ble_eq_true rfl), (Nat.le_of_ble_eq_true rfl)⟩ (Nat.le_of_ble_eq_true rfl) dX0_undo_5 (i := 0) rfl rfl (by decide) (by decide) (q := (RX6, TX6, 7)) rfl q273 (isC_ob h6) ?_
    refine s_astore_n (lv' := [(1, .ref (vO (VX g) + b2)), (0, .ref (vO (VX g) + 0))]) hz dX0_undo_32 rfl (Nat.le_of_ble_eq_true rfl) rfl ?_
    refine s_aload_n hz dX0_undo_33 rfl 1 rfl ?_
    refine s_aload_n hz dX0_undo_34 rfl 0 rfl ?_
    refine s_bind (fun q10 e11 => ?_)
    refine kX_X0_145 hc (cfX0_finds e11) ⟨(Nat.le_of_ble_eq_true rfl), (Nat.le_of_ble_eq_true rfl)⟩ ⟨(Nat.le_of_ble_eq_true rfl), (Nat.le_of_ble_eq_true rfl)⟩ (Nat.le_of_ble_eq_true rfl) dX0_undo_35 ?_
    exact s_iretM hc dX0_undo_38 (Nat.le_of_ble_eq_true rfl) (Nat.le_of_ble_eq_true rfl)
theorem cfX0_undo {g : GeoX} {N : Nat}  {σ : Mem}  {ρ : Int32 × Mem} (hF : fX0_undo N σ  = some ρ) (l : Launch) : CtW (wsW_ yX0_undo cX0_undo 2 (some .int) [(0, 31, 32, 1)]) (VX g) l yX0_undo (rk 8 13 91) [.ref (vO (VX g) + 0)] σ (oI ρ.1) ρ.2 :=
  CtW.ofH (by decide) (Nat.le_of_ble_eq_true rfl) (fun Θ hc ls hl => wfX0_undo σ  hc hF ls hl)
