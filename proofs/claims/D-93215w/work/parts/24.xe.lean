set_option maxRecDepth 100000
theorem kX_X0_391 {γ : Type} {Θ : ThT Mem} {g : GeoX} {cc : ByteArray} {nL : Nat} {rm : Room} {ret : Option FieldType} {hs : List (Nat × Nat × Nat × Nat)} {ini : Bool} {O : Outcome} {σ' : Mem} {ρ : γ} {σ : Mem} {F : Option γ} {cs : Nat × Nat} {pc : Nat} {lv : List (Nat × Value)} {st : List Value} (hc : Cx Θ (VX g) cc nL RX0 rm ret hs ini O σ') {σ1 : Mem} {x0 : Nat} {r : Int32} {rmc : Room} (hM : ∀ l : Launch, Ct (VX g) l yX0_wide cX0_wide 1 (some .int) rmc [.ref (vO (VX g) + x0)] σ (oI r) σ1) (hR : rmc.frames + 1 ≤ rm.frames ∧ 8 + (1 + 11) + rmc.locals ≤ rm.locals) (hf : cs.1 + rmc.cells ≤ rm.cells ∧ cs.2 + rmc.slots ≤ rm.slots) (hrest : (st.map fun v => v.category).sum ≤ 8) (hd : decode cc pc = .ok (.invokestatic 391, 3)) (kk : Sim Θ nL ρ σ1 F (cs.1 + rmc.cells, cs.2 + rmc.slots) (pc + 3) lv (.int r :: st)) : Sim Θ nL ρ σ F cs pc lv (.ref (vO (VX g) + x0) :: st) := s_callS hc (As := [.ref (vO (VX g) + x0)]) (rest := st) (n := 1) hM (lw_S q1013 q1014 q62 q1015) (by decide +kernel) rfl rfl hrest hR hf hd kk
def jX0_copy_105 (N : Nat) (σ : Mem) (x2 : Int32) (x4 : Int32) (x5 : Int32) (x6 : Nat) (x7 : Nat) (t0 : Int32)  : Option (Int32 × Mem) :=
  (fX0_need N σ t0 (0 : Int32)).bind (fun q60 => cT2 q60 (fun v57 σ59 => 
  (acD σ59 x6 x2 x7 x4 x5).bind (fun σ63 => 
  some (x5, σ63))) (fun b58 σ59 => 
  gb (isC σ59 b58 5) (
  (fX0_finds N σ59 b58).bind (fun q65 => 
  some (q65.1, q65.2)))))
set_option maxHeartbeats 4000000 in
theorem wjX0_copy_105 {Θ : ThT Mem} {g : GeoX} {N : Nat}  {ρ : Int32 × Mem} (σ : Mem) (hc : Cx Θ (VX g) cX0_copy 8 RX0 (rk 6 7 49) (some .int) [(0, 123, 124, 1)] false (oI ρ.1) ρ.2) (x2 : Int32) (x4 : Int32) (x5 : Int32) (x6 : Nat) (x7 : Nat) (t0 : Int32)  : Sim Θ 8 ρ σ (jX0_copy_105 N σ x2 x4 x5 x6 x7 t0 ) (6, 42) 105 [(0, .ref (vO (VX g) + 0)), (2, .int x2), (4, .int x4), (5, .int x5), (6, .ref (vO (VX g) + x6)), (7, .ref (vO (VX g) + x7))] [.int t0] := by
  have hz := hc.z
  unfold jX0_copy_105
  refine s_iconst (v := (0 : Int32)) hz dX0_copy_105 (by decide) ?_
  refine s_bind (fun q60 e61 => ?_)
  rcases q60 with ⟨v57 | b58, σ59⟩
  · refine kX_X0_119 hc (cfX0_need e61) ⟨(Nat.le_of_ble_eq_true rfl), (Nat.le_of_ble_eq_true rfl)⟩ ⟨(Nat.le_of_ble_eq_true rfl), (Nat.le_of_ble_eq_true rfl)⟩ (Nat.le_of_ble_eq_true rfl) dX0_copy_106 (s_c2 ?_)
    refine s_aload hz dX0_copy_109 4 rfl ?_
    refine s_iload_n hz dX0_copy_111 rfl 1 rfl ?_
    refine s_aload hz dX0_copy_112 5 rfl ?_
    refine s_iload hz dX0_copy_114 2 rfl ?_
    refine s_iload hz dX0_copy_116 3 rfl ?_
    refine s_bind (fun σ63 e64 => ?_)
    refine s_acD hc e64 ⟨⟨_, rfl⟩, ⟨_, rfl⟩, ⟨_, rfl⟩, ⟨_, rfl⟩⟩ q1016 q1018 q1017 q87 ⟨(Nat.le_of_ble_eq_true rfl), (Nat.le_of_ble_eq_true rfl)⟩ (Nat.le_of_ble_eq_true rfl) dX0_copy_118 ?_
    refine s_iload hz dX0_copy_121 3 rfl ?_
    exact s_iretM hc dX0_copy_123 (Nat.le_of_ble_eq_true rfl) (Nat.le_of_ble_eq_true rfl)
  · refine s_gb (fun h62 => ?_)
    refine kX_X0_119_h hc (cfX0_need e61) ⟨(Nat.le_of_ble_eq_true rfl), (Nat.le_of_ble_eq_true rfl)⟩ ⟨(Nat.le_of_ble_eq_true rfl), (Nat.le_of_ble_eq_true rfl)⟩ (Nat.le_of_ble_eq_true rfl) dX0_copy_106 (i := 0) rfl rfl (by decide) (by decide) (q := (RX6, TX6, 7)) rfl q273 (isC_ob h62) ?_
    refine s_astore (lv' := [(6, .ref (vO (VX g) + b58)), (0, .ref (vO (VX g) + 0)), (2, .int x2), (4, .int x4), (5, .int x5), (7, .ref (vO (VX g) + x7))]) hz dX0_copy_124 (Nat.le_of_ble_eq_true rfl) rfl ?_
    refine s_aload_n hz dX0_copy_126 rfl 1 rfl ?_
    refine s_aload hz dX0_copy_127 0 rfl ?_
    refine s_bind (fun q65 e66 => ?_)
    refine kX_X0_145 hc (cfX0_finds e66) ⟨(Nat.le_of_ble_eq_true rfl), (Nat.le_of_ble_eq_true rfl)⟩ ⟨(Nat.le_of_ble_eq_true rfl), (Nat.le_of_ble_eq_true rfl)⟩ (Nat.le_of_ble_eq_true rfl) dX0_copy_129 ?_
    exact s_iretM hc dX0_copy_132 (Nat.le_of_ble_eq_true rfl) (Nat.le_of_ble_eq_true rfl)
def fX0_copy (N : Nat) (σ : Mem) (x1 : Int32) (x2 : Int32) (x3 : Int32) (x4 : Int32) (x5 : Int32) : Option (Int32 × Mem) :=
  (fX0_sheetAt N σ x1).bind (fun q4 => cT2 q4 (fun v1 σ3 => 
  (fX0_sheetAt N σ3 x3).bind (fun q10 => cT2 q10 (fun v7 σ9 => 
  (fX0_there N σ9 x1).bind (fun q16 => cT2 q16 (fun v13 σ15 => 
  mO v13
  ((fX0_there N σ15 x3).bind (fun q23 => cT2 q23 (fun v20 σ22 => 
  mO v20
  (none) (fun a26 => 
  none)) (fun b21 σ22 => 
  gb (isC σ22 b21 5) (
  (fX0_finds N σ22 b21).bind (fun q27 => 
  some (q27.1, q27.2)))))) (fun a19 => 
  (fX0_there N σ15 x3).bind (fun q32 => cT2 q32 (fun v29 σ31 => 
  mO v29
  ((fX0_wide N σ31 a19).bind (fun q36 => 
  none)) (fun a35 => 
  (fX0_wide N σ31 a19).bind (fun q38 => 
  (fX0_wide N σ31 a35).bind (fun q40 => 
  (fX0_need N σ31 (if q38 = q40 then (1 : Int32) else (0 : Int32)) (2 : Int32)).bind (fun q45 => cT2 q45 (fun v42 σ44 => 
  (fX0_need N σ44 (if x2 < (0 : Int32) then (0 : Int32) else (if x4 < (0 : Int32) then (0 : Int32) else (if x5 < (0 : Int32) then (0 : Int32) else (1 : Int32)))) (0 : Int32)).bind (fun q51 => cT2 q51 (fun v48 σ50 => 
  (fX0_length N σ50 a19).bind (fun q54 => 
  if ((q54).toInt64) < (((x2).toInt64) + ((x5).toInt64)) then
  (jX0_copy_105 N σ50 x2 x4 x5 a19 a35 (0 : Int32))
  else ((fX0_length N σ50 a35).bind (fun q67 => 
  (fX0_need N σ50 (if ((q67).toInt64) < (((x4).toInt64) + ((x5).toInt64)) then (0 : Int32) else (1 : Int32)) (0 : Int32)).bind (fun q72 => cT2 q72 (fun v69 σ71 => 
  (acD σ71 a19 x2 a35 x4 x5).bind (fun σ75 => 
  some (x5, σ75))) (fun b70 σ71 => 
  gb (isC σ71 b70 5) (
  (fX0_finds N σ71 b70).bind (fun q77 => 
  some (q77.1, q77.2))))))))) (fun b49 σ50 => 
  gb (isC σ50 b49 5) (
  (fX0_finds N σ50 b49).bind (fun q81 => 
  some (q81.1, q81.2)))))) (fun b43 σ44 => 
  gb (isC σ44 b43 5) (
  (fX0_finds N σ44 b43).bind (fun q87 => 
  some (q87.1, q87.2))))))))) (fun b30 σ31 => 
  gb (isC σ31 b30 5) (
  (fX0_finds N σ31 b30).bind (fun q91 => 
  some (q91.1, q91.2))))))) (fun b14 σ15 => 
  gb (isC σ15 b14 5) (
  (fX0_finds N σ15 b14).bind (fun q93 => 
  some (q93.1, q93.2)))))) (fun b8 σ9 => 
  gb (isC σ9 b8 5) (
  (fX0_finds N σ9 b8).bind (fun q95 => 
  some (q95.1, q95.2)))))) (fun b2 σ3 => 
  gb (isC σ3 b2 5) (
  (fX0_finds N σ3 b2).bind (fun q97 => 
  some (q97.1, q97.2)))))
set_option maxHeartbeats 4000000 in
theorem wfX0_copy {Θ : ThT Mem} {g : GeoX} {N : Nat}  {ρ : Int32 × Mem} (σ : Mem) (x1 : Int32) (x2 : Int32) (x3 : Int32) (x4 : Int32) (x5 : Int32) (hc : Cx Θ (VX g) cX0_copy 8 RX0 (rk 6 7 49) (some .int) [(0, 123, 124, 1)] false (oI ρ.1) ρ.2) : Sim Θ 8 ρ σ (fX0_copy N σ x1 x2 x3 x4 x5) (0, 0) 0 [(0, .ref (vO (VX g) + 0)), (1, .int x1), (2, .int x2), (3, .int x3), (4, .int x4), (5, .int x5)] [] := by
  have hz := hc.z
  unfold fX0_copy
  refine s_iload_n hz dX0_copy_0 rfl 1 rfl ?_
  refine s_bind (fun q4 e5 => ?_)
  rcases q4 with ⟨v1 | b2, σ3⟩
  · refine kX_X0_358 hc (cfX0_sheetAt e5) ⟨(Nat.le_of_ble_eq_true rfl), (Nat.le_of_ble_eq_true rfl)⟩ ⟨(Nat.le_of_ble_eq_true rfl), (Nat.le_of_ble_eq_true rfl)⟩ (Nat.le_of_ble_eq_true rfl) dX0_copy_1 (s_c2 ?_)
    refine s_iload_n hz dX0_copy_4 rfl 3 rfl ?_
    refine s_bind (fun q10 e11 => ?_)
    rcases q10 with ⟨v7 | b8, σ9⟩
    · refine kX_X0_358 hc (cfX0_sheetAt e11) ⟨(Nat.le_of_ble_eq_true rfl), (Nat.le_of_ble_eq_true rfl)⟩ ⟨(Nat.le_of_ble_eq_true rfl), (Nat.le_of_ble_eq_true rfl)⟩ (Nat.le_of_ble_eq_true rfl) dX0_copy_5 (s_c2 ?_)
      refine s_aload_n hz dX0_copy_8 rfl 0 rfl ?_
      refine s_iload_n hz dX0_copy_9 rfl 1 rfl ?_
      refine s_bind (fun q16 e17 => ?_)
      rcases q16 with ⟨v13 | b14, σ15⟩
      · refine kX_X0_361 hc (cfX0_there e17) ⟨(Nat.le_of_ble_eq_true rfl), (Nat.le_of_ble_eq_true rfl)⟩ ⟨(Nat.le_of_ble_eq_true rfl), (Nat.le_of_ble_eq_true rfl)⟩ (Nat.le_of_ble_eq_true rfl) dX0_copy_10 (s_c2 ?_)
        refine s_opt (fun _ => ?_) (fun a19 _ => ?_)
        · refine s_astoreN (lv' := [(6, .null), (0, .ref (vO (VX g) + 0)), (1, .int x1), (2, .int x2), (3, .int x3), (4, .int x4), (5, .int x5)]) hz dX0_copy_13 (Nat.le_of_ble_eq_true rfl) rfl ?_
          refine s_aload_n hz dX0_copy_15 rfl 1 rfl ?_
          refine s_iload_n hz dX0_copy_16 rfl 4 rfl ?_
          refine s_bind (fun q23 e24 => ?_)
          rcases q23 with ⟨v20 | b21, σ22⟩
          · refine kX_X0_361 hc (cfX0_there e24) ⟨(Nat.le_of_ble_eq_true rfl), (Nat.le_of_ble_eq_true rfl)⟩ ⟨(Nat.le_of_ble_eq_true rfl), (Nat.le_of_ble_eq_true rfl)⟩ (Nat.le_of_ble_eq_true rfl) dX0_copy_17 (s_c2 ?_)
            refine s_opt (fun _ => ?_) (fun a26 _ => ?_)
            · refine s_astoreN (lv' := [(7, .null), (6, .null), (0, .ref (vO (VX g) + 0)), (1, .int x1), (2, .int x2), (3, .int x3), (4, .int x4), (5, .int x5)]) hz dX0_copy_20 (Nat.le_of_ble_eq_true rfl) rfl ?_
              refine s_aloadN hz dX0_copy_22 1 rfl ?_
              exact s_none
            · refine s_astore (lv' := [(7, .ref (vO (VX g) + a26)), (6, .null), (0, .ref (vO (VX g) + 0)), (1, .int x1), (2, .int x2), (3, .int x3), (4, .int x4), (5, .int x5)]) hz dX0_copy_20 (Nat.le_of_ble_eq_true rfl) rfl ?_
              refine s_aloadN hz dX0_copy_22 1 rfl ?_
              exact s_none
          · refine s_gb (fun h25 => ?_)
            refine kX_X0_361_h hc (cfX0_there e24) ⟨(Nat.le_of_ble_eq_true rfl), (Nat.le_of_ble_eq_true rfl)⟩ ⟨(Nat.le_of_ble_eq_true rfl), (Nat.le_of_ble_eq_true rfl)⟩ (Nat.le_of_ble_eq_true rfl) dX0_copy_17 (i := 0) rfl rfl (by decide) (by decide) (q := (RX6, TX6, 7)) rfl q273 (isC_ob h25) ?_
            refine s_astore (lv' := [(6, .ref (vO (VX g) + b21)), (0, .ref (vO (VX g) + 0)), (1, .int x1), (2, .int x2), (3, .int x3), (4, .int x4), (5, .int x5)]) hz dX0_copy_124 (Nat.le_of_ble_eq_true rfl) rfl ?_
            refine s_aload_n hz dX0_copy_126 rfl 1 rfl ?_
            refine s_aload hz dX0_copy_127 0 rfl ?_
            refine s_bind (fun q27 e28 => ?_)
            refine kX_X0_145 hc (cfX0_finds e28) ⟨(Nat.le_of_ble_eq_true rfl), (Nat.le_of_ble_eq_true rfl)⟩ ⟨(Nat.le_of_ble_eq_true rfl), (Nat.le_of_ble_eq_true rfl)⟩ (Nat.le_of_ble_eq_true rfl) dX0_copy_129 ?_
            exact s_iretM hc dX0_copy_132 (Nat.le_of_ble_eq_true rfl) (Nat.le_of_ble_eq_true rfl)
        · refine s_astore (lv' := [(6, .ref (vO (VX g) + a19)), (0, .ref (vO (VX g) + 0)), (1, .int x1), (2, .int x2), (3, .int x3), (4, .int x4), (5, .int x5)]) hz dX0_copy_13 (Nat.le_of_ble_eq_true rfl) rfl ?_
          refine s_aload_n hz dX0_copy_15 rfl 1 rfl ?_
          refine s_iload_n hz dX0_copy_16 rfl 4 rfl ?_
          refine s_bind (fun q32 e33 => ?_)
          rcases q32 with ⟨v29 | b30, σ31⟩
          · refine kX_X0_361 hc (cfX0_there e33) ⟨(Nat.le_of_ble_eq_true rfl), (Nat.le_of_ble_eq_true rfl)⟩ ⟨(Nat.le_of_ble_eq_true rfl), (Nat.le_of_ble_eq_true rfl)⟩ (Nat.le_of_ble_eq_true rfl) dX0_copy_17 (s_c2 ?_)
            refine s_opt (fun _ => ?_) (fun a35 _ => ?_)
            · refine s_astoreN (lv' := [(7, .null), (6, .ref (vO (VX g) + a19)), (0, .ref (vO (VX g) + 0)), (1, .int x1), (2, .int x2), (3, .int x3), (4, .int x4), (5, .int x5)]) hz dX0_copy_20 (Nat.le_of_ble_eq_true rfl) rfl ?_
              refine s_aload hz dX0_copy_22 1 rfl ?_
              refine s_bind (fun q36 e37 => ?_)
              refine kX_X0_391 hc (cfX0_wide e37) ⟨(Nat.le_of_ble_eq_true rfl), (Nat.le_of_ble_eq_true rfl)⟩ ⟨(Nat.le_of_ble_eq_true rfl), (Nat.le_of_ble_eq_true rfl)⟩ (Nat.le_of_ble_eq_true rfl) dX0_copy_24 ?_
              refine s_aloadN hz dX0_copy_27 0 rfl ?_
              exact s_none
            · refine s_astore (lv' := [(7, .ref (vO (VX g) + a35)), (6, .ref (vO (VX g) + a19)), (0, .ref (vO (VX g) + 0)), (1, .int x1), (2, .int x2), (3, .int x3), (4, .int x4), (5, .int x5)]) hz dX0_copy_20 (Nat.le_of_ble_eq_true rfl) rfl ?_
              refine s_aload hz dX0_copy_22 1 rfl ?_
              refine s_bind (fun q38 e39 => ?_)
              refine kX_X0_391 hc (cfX0_wide e39) ⟨(Nat.le_of_ble_eq_true rfl), (Nat.le_of_ble_eq_true rfl)⟩ ⟨(Nat.le_of_ble_eq_true rfl), (Nat.le_of_ble_eq_true rfl)⟩ (Nat.le_of_ble_eq_true rfl) dX0_copy_24 ?_
              refine s_aload hz dX0_copy_27 0 rfl ?_
              refine s_bind (fun q40 e41 => ?_)
              refine kX_X0_391 hc (cfX0_wide e41) ⟨(Nat.le_of_ble_eq_true rfl), (Nat.le_of_ble_eq_true rfl)⟩ ⟨(Nat.le_of_ble_eq_true rfl), (Nat.le_of_ble_eq_true rfl)⟩ (Nat.le_of_ble_eq_true rfl) dX0_copy_29 ?_
              refine s_dia (J := 40) (v := .int (if q38 = q40 then (1 : Int32) else (0 : Int32))) (st := []) (fun _ hj89 => ?_) ?_
              · refine s_icmp_ne_ (tgt := 39) hz dX0_copy_32 rfl (fun h90 => ?_) (fun h90 => ?_)
                · refine s_iconst (v := (0 : Int32)) hz dX0_copy_39 (by decide) ?_
                  rw [if_neg h90] at hj89
                  exact hj89
                · refine s_iconst (v := (1 : Int32)) hz dX0_copy_35 (by decide) ?_
                  refine s_goto (tgt := 40) hz dX0_copy_36 rfl ?_
                  rw [if_pos h90] at hj89
                  exact hj89
              refine s_iconst (v := (2 : Int32)) hz dX0_copy_40 (by decide) ?_
              refine s_bind (fun q45 e46 => ?_)
              rcases q45 with ⟨v42 | b43, σ44⟩
              · refine kX_X0_119 hc (cfX0_need e46) ⟨(Nat.le_of_ble_eq_true rfl), (Nat.le_of_ble_eq_true rfl)⟩ ⟨(Nat.le_of_ble_eq_true rfl), (Nat.le_of_ble_eq_true rfl)⟩ (Nat.le_of_ble_eq_true rfl) dX0_copy_41 (s_c2 ?_)
                refine s_iload_n hz dX0_copy_44 rfl 4 rfl ?_
                refine s_dia (J := 63) (v := .int (if x2 < (0 : Int32) then (0 : Int32) else (if x4 < (0 : Int32) then (0 : Int32) else (if x5 < (0 : Int32) then (0 : Int32) else (1 : Int32))))) (st := []) (fun _ hj83 => ?_) ?_
                · refine s_if_lt_ (tgt := 62) hz dX0_copy_45 rfl (fun h84 => ?_) (fun h84 => ?_)
                  · refine s_iconst (v := (0 : Int32)) hz dX0_copy_62 (by decide) ?_
                    rw [if_pos h84] at hj83
                    exact hj83
                  · refine s_iload hz dX0_copy_48 6 rfl ?_
                    refine s_if_lt_ (tgt := 62) hz dX0_copy_50 rfl (fun h85 => ?_) (fun h85 => ?_)
                    · refine s_iconst (v := (0 : Int32)) hz dX0_copy_62 (by decide) ?_
                      rw [if_neg h84, if_pos h85] at hj83
                      exact hj83
                    · refine s_iload hz dX0_copy_53 7 rfl ?_
                      refine s_if_lt_ (tgt := 62) hz dX0_copy_55 rfl (fun h86 => ?_) (fun h86 => ?_)
                      · refine s_iconst (v := (0 : Int32)) hz dX0_copy_62 (by decide) ?_
                        rw [if_neg h84, if_neg h85, if_pos h86] at hj83
                        exact hj83
                      · refine s_iconst (v := (1 : Int32)) hz dX0_copy_58 (by decide) ?_
                        refine s_goto (tgt := 63) hz dX0_copy_59 rfl ?_
                        rw [if_neg h84, if_neg h85, if_neg h86] at hj83
                        exact hj83
                refine s_iconst (v := (0 : Int32)) hz dX0_copy_63 (by decide) ?_
                refine s_bind (fun q51 e52 => ?_)
                rcases q51 with ⟨v48 | b49, σ50⟩
                · refine kX_X0_119 hc (cfX0_need e52) ⟨(Nat.le_of_ble_eq_true rfl), (Nat.le_of_ble_eq_true rfl)⟩ ⟨(Nat.le_of_ble_eq_true rfl), (Nat.le_of_ble_eq_true rfl)⟩ (Nat.le_of_ble_eq_true rfl) dX0_copy_64 (s_c2 ?_)
                  refine s_iload_n hz dX0_copy_67 rfl 4 rfl ?_
                  refine s_i2l hz dX0_copy_68 ?_
                  refine s_iload hz dX0_copy_69 7 rfl ?_
                  refine s_i2l hz dX0_copy_71 ?_
                  refine s_ladd hz dX0_copy_72 ?_
                  refine s_aload hz dX0_copy_73 1 rfl ?_
                  refine s_bind (fun q54 e55 => ?_)
                  refine kX_X0_365 hc (cfX0_length e55) ⟨(Nat.le_of_ble_eq_true rfl), (Nat.le_of_ble_eq_true rfl)⟩ ⟨(Nat.le_of_ble_eq_true rfl), (Nat.le_of_ble_eq_true rfl)⟩ (Nat.le_of_ble_eq_true rfl) dX0_copy_75 ?_
                  refine s_i2l hz dX0_copy_78 ?_
                  refine s_lcmp_gt (tgt := 104) hz dX0_copy_79 dX0_copy_80 rfl (fun h56 => ?_) (fun h56 => ?_)
                  · refine s_iconst (v := (0 : Int32)) hz dX0_copy_104 (by decide) ?_
                    exact s_sub [2, 4, 6, 7, 1, 0] rfl (wjX0_copy_105 σ50 hc x2 x4 x5 a19 a35 (0 : Int32) )
                  · refine s_iload hz dX0_copy_83 6 rfl ?_
                    refine s_i2l hz dX0_copy_85 ?_
                    refine s_iload hz dX0_copy_86 7 rfl ?_
                    refine s_i2l hz dX0_copy_88 ?_
                    refine s_ladd hz dX0_copy_89 ?_
                    refine s_aload hz dX0_copy_90 0 rfl ?_
                    refine s_bind (fun q67 e68 => ?_)
                    refine kX_X0_365 hc (cfX0_length e68) ⟨(Nat.le_of_ble_eq_true rfl), (Nat.le_of_ble_eq_true rfl)⟩ ⟨(Nat.le_of_ble_eq_true rfl), (Nat.le_of_ble_eq_true rfl)⟩ (Nat.le_of_ble_eq_true rfl) dX0_copy_92 ?_
                    refine s_i2l hz dX0_copy_95 ?_
                    refine s_dia (J := 105) (v := .int (if ((q67).toInt64) < (((x4).toInt64) + ((x5).toInt64)) then (0 : Int32) else (1 : Int32))) (st := []) (fun _ hj79 => ?_) ?_
                    · refine s_lcmp_gt_ (tgt := 104) hz dX0_copy_96 dX0_copy_97 rfl (fun h80 => ?_) (fun h80 => ?_)
                      · refine s_iconst (v := (0 : Int32)) hz dX0_copy_104 (by decide) ?_
                        rw [if_pos h80] at hj79
                        exact hj79
                      · refine s_iconst (v := (1 : Int32)) hz dX0_copy_100 (by decide) ?_
                        refine s_goto (tgt := 105) hz dX0_copy_101 rfl ?_
                        rw [if_neg h80] at hj79
                        exact hj79
                    refine s_iconst (v := (0 : Int32)) hz dX0_copy_105 (by decide) ?_
                    refine s_bind (fun q72 e73 => ?_)
                    rcases q72 with ⟨v69 | b70, σ71⟩
                    · refine kX_X0_119 hc (cfX0_need e73) ⟨(Nat.le_of_ble_eq_true rfl), (Nat.le_of_ble_eq_true rfl)⟩ ⟨(Nat.le_of_ble_eq_true rfl), (Nat.le_of_ble_eq_true rfl)⟩ (Nat.le_of_ble_eq_true rfl) dX0_copy_106 (s_c2 ?_)
                      refine s_aload hz dX0_copy_109 1 rfl ?_
                      refine s_iload_n hz dX0_copy_111 rfl 4 rfl ?_
                      refine s_aload hz dX0_copy_112 0 rfl ?_
                      refine s_iload hz dX0_copy_114 6 rfl ?_
                      refine s_iload hz dX0_copy_116 7 rfl ?_
                      refine s_bind (fun σ75 e76 => ?_)
                      refine s_acD hc e76 ⟨⟨_, rfl⟩, ⟨_, rfl⟩, ⟨_, rfl⟩, ⟨_, rfl⟩⟩ q1016 q1018 q1017 q87 ⟨(Nat.le_of_ble_eq_true rfl), (Nat.le_of_ble_eq_true rfl)⟩ (Nat.le_of_ble_eq_true rfl) dX0_copy_118 ?_
                      refine s_iload hz dX0_copy_121 7 rfl ?_
                      exact s_iretM hc dX0_copy_123 (Nat.le_of_ble_eq_true rfl) (Nat.le_of_ble_eq_true rfl)
                    · refine s_gb (fun h74 => ?_)
                      refine kX_X0_119_h hc (cfX0_need e73) ⟨(Nat.le_of_ble_eq_true rfl), (Nat.le_of_ble_eq_true rfl)⟩ ⟨(Nat.le_of_ble_eq_true rfl), (Nat.le_of_ble_eq_true rfl)⟩ (Nat.le_of_ble_eq_true rfl) dX0_copy_106 (i := 0) rfl rfl (by decide) (by decide) (q := (RX6, TX6, 7)) rfl q273 (isC_ob h74) ?_
                      refine s_astore (lv' := [(6, .ref (vO (VX g) + b70)), (7, .ref (vO (VX g) + a35)), (0, .ref (vO (VX g) + 0)), (1, .int x1), (2, .int x2), (3, .int x3), (4, .int x4), (5, .int x5)]) hz dX0_copy_124 (Nat.le_of_ble_eq_true rfl) rfl ?_
                      refine s_aload_n hz dX0_copy_126 rfl 2 rfl ?_
                      refine s_aload hz dX0_copy_127 0 rfl ?_
                      refine s_bind (fun q77 e78 => ?_)
                      refine kX_X0_145 hc (cfX0_finds e78) ⟨(Nat.le_of_ble_eq_true rfl), (Nat.le_of_ble_eq_true rfl)⟩ ⟨(Nat.le_of_ble_eq_true rfl), (Nat.le_of_ble_eq_true rfl)⟩ (Nat.le_of_ble_eq_true rfl) dX0_copy_129 ?_
                      exact s_iretM hc dX0_copy_132 (Nat.le_of_ble_eq_true rfl) (Nat.le_of_ble_eq_true rfl)
                · refine s_gb (fun h53 => ?_)
                  refine kX_X0_119_h hc (cfX0_need e52) ⟨(Nat.le_of_ble_eq_true rfl), (Nat.le_of_ble_eq_true rfl)⟩ ⟨(Nat.le_of_ble_eq_true rfl), (Nat.le_of_ble_eq_true rfl)⟩ (Nat.le_of_ble_eq_true rfl) dX0_copy_64 (i := 0) rfl rfl (by decide) (by decide) (q := (RX6, TX6, 7)) rfl q273 (isC_ob h53) ?_
                  refine s_astore (lv' := [(6, .ref (vO (VX g) + b49)), (7, .ref (vO (VX g) + a35)), (0, .ref (vO (VX g) + 0)), (1, .int x1), (2, .int x2), (3, .int x3), (4, .int x4), (5, .int x5)]) hz dX0_copy_124 (Nat.le_of_ble_eq_true rfl) rfl ?_
                  refine s_aload_n hz dX0_copy_126 rfl 2 rfl ?_
                  refine s_aload hz dX0_copy_127 0 rfl ?_
                  refine s_bind (fun q81 e82 => ?_)
                  refine kX_X0_145 hc (cfX0_finds e82) ⟨(Nat.le_of_ble_eq_true rfl), (Nat.le_of_ble_eq_true rfl)⟩ ⟨(Nat.le_of_ble_eq_true rfl), (Nat.le_of_ble_eq_true rfl)⟩ (Nat.le_of_ble_eq_true rfl) dX0_copy_129 ?_
                  exact s_iretM hc dX0_copy_132 (Nat.le_of_ble_eq_true rfl) (Nat.le_of_ble_eq_true rfl)
              · refine s_gb (fun h47 => ?_)
                refine kX_X0_119_h hc (cfX0_need e46) ⟨(Nat.le_of_ble_eq_true rfl), (Nat.le_of_ble_eq_true rfl)⟩ ⟨(Nat.le_of_ble_eq_true rfl), (Nat.le_of_ble_eq_true rfl)⟩ (Nat.le_of_ble_eq_true rfl) dX0_copy_41 (i := 0) rfl rfl (by decide) (by decide) (q := (RX6, TX6, 7)) rfl q273 (isC_ob h47) ?_
                refine s_astore (lv' := [(6, .ref (vO (VX g) + b43)), (7, .ref (vO (VX g) + a35)), (0, .ref (vO (VX g) + 0)), (1, .int x1), (2, .int x2), (3, .int x3), (4, .int x4), (5, .int x5)]) hz dX0_copy_124 (Nat.le_of_ble_eq_true rfl) rfl ?_
                refine s_aload_n hz dX0_copy_126 rfl 2 rfl ?_
                refine s_aload hz dX0_copy_127 0 rfl ?_
                refine s_bind (fun q87 e88 => ?_)
                refine kX_X0_145 hc (cfX0_finds e88) ⟨(Nat.le_of_ble_eq_true rfl), (Nat.le_of_ble_eq_true rfl)⟩ ⟨(Nat.le_of_ble_eq_true rfl), (Nat.le_of_ble_eq_true rfl)⟩ (Nat.le_of_ble_eq_true rfl) dX0_copy_129 ?_
                exact s_iretM hc dX0_copy_132 (Nat.le_of_ble_eq_true rfl) (Nat.le_of_ble_eq_true rfl)
          · refine s_gb (fun h34 => ?_)
            refine kX_X0_361_h hc (cfX0_there e33) ⟨(Nat.le_of_ble_eq_true rfl), (Nat.le_of_ble_eq_true rfl)⟩ ⟨(Nat.le_of_ble_eq_true rfl), (Nat.le_of_ble_eq_true rfl)⟩ (Nat.le_of_ble_eq_true rfl) dX0_copy_17 (i := 0) rfl rfl (by decide) (by decide) (q := (RX6, TX6, 7)) rfl q273 (isC_ob h34) ?_
            refine s_astore (lv' := [(6, .ref (vO (VX g) + b30)), (0, .ref (vO (VX g) + 0)), (1, .int x1), (2, .int x2), (3, .int x3), (4, .int x4), (5, .int x5)]) hz dX0_copy_124 (Nat.le_of_ble_eq_true rfl) rfl ?_
            refine s_aload_n hz dX0_copy_126 rfl 1 rfl ?_
            refine s_aload hz dX0_copy_127 0 rfl ?_
            refine s_bind (fun q91 e92 => ?_)
            refine kX_X0_145 hc (cfX0_finds e92) ⟨(Nat.le_of_ble_eq_true rfl), (Nat.le_of_ble_eq_true rfl)⟩ ⟨(Nat.le_of_ble_eq_true rfl), (Nat.le_of_ble_eq_true rfl)⟩ (Nat.le_of_ble_eq_true rfl) dX0_copy_129 ?_
            exact s_iretM hc dX0_copy_132 (Nat.le_of_ble_eq_true rfl) (Nat.le_of_ble_eq_true rfl)
      · refine s_gb (fun h18 => ?_)
        refine kX_X0_361_h hc (cfX0_there e17) ⟨(Nat.le_of_ble_eq_true rfl), (Nat.le_of_ble_eq_true rfl)⟩ ⟨(Nat.le_of_ble_eq_true rfl), (Nat.le_of_ble_eq_true rfl)⟩ (Nat.le_of_ble_eq_true rfl) dX0_copy_10 (i := 0) rfl rfl (by decide) (by decide) (q := (RX6, TX6, 7)) rfl q273 (isC_ob h18) ?_
        refine s_astore (lv' := [(6, .ref (vO (VX g) + b14)), (0, .ref (vO (VX g) + 0)), (1, .int x1), (2, .int x2), (3, .int x3), (4, .int x4), (5, .int x5)]) hz dX0_copy_124 (Nat.le_of_ble_eq_true rfl) rfl ?_
        refine s_aload_n hz dX0_copy_126 rfl 1 rfl ?_
        refine s_aload hz dX0_copy_127 0 rfl ?_
        refine s_bind (fun q93 e94 => ?_)
        refine kX_X0_145 hc (cfX0_finds e94) ⟨(Nat.le_of_ble_eq_true rfl), (Nat.le_of_ble_eq_true rfl)⟩ ⟨(Nat.le_of_ble_eq_true rfl), (Nat.le_of_ble_eq_true rfl)⟩ (Nat.le_of_ble_eq_true rfl) dX0_copy_129 ?_
        exact s_iretM hc dX0_copy_132 (Nat.le_of_ble_eq_true rfl) (Nat.le_of_ble_eq_true rfl)
    · refine s_gb (fun h12 => ?_)
      refine kX_X0_358_h hc (cfX0_sheetAt e11) ⟨(Nat.le_of_ble_eq_true rfl), (Nat.le_of_ble_eq_true rfl)⟩ ⟨(Nat.le_of_ble_eq_true rfl), (Nat.le_of_ble_eq_true rfl)⟩ (Nat.le_of_ble_eq_true rfl) dX0_copy_5 (i := 0) rfl rfl (by decide) (by decide) (q := (RX6, TX6, 7)) rfl q273 (isC_ob h12) ?_
      refine s_astore (lv' := [(6, .ref (vO (VX g) + b8)), (0, .ref (vO (VX g) + 0)), (1, .int x1), (2, .int x2), (3, .int x3), (4, .int x4), (5, .int x5)]) hz dX0_copy_124 (Nat.le_of_ble_eq_true rfl) rfl ?_
      refine s_aload_n hz dX0_copy_126 rfl 1 rfl ?_
      refine s_aload hz dX0_copy_127 0 rfl ?_
      refine s_bind (fun q95 e96 => ?_)
      refine kX_X0_145 hc (cfX0_finds e96) ⟨(Nat.le_of_ble_eq_true rfl), (Nat.le_of_ble_eq_true rfl)⟩ ⟨(Nat.le_of_ble_eq_true rfl), (Nat.le_of_ble_eq_true rfl)⟩ (Nat.le_of_ble_eq_true rfl) dX0_copy_129 ?_
      exact s_iretM hc dX0_copy_132 (Nat.le_of_ble_eq_true rfl) (Nat.le_of_ble_eq_true rfl)
  · refine s_gb (fun h6 => ?_)
    refine kX_X0_358_h hc (cfX0_sheetAt e5) ⟨(Nat.le_of_ble_eq_true rfl), (Nat.le_of_ble_eq_true rfl)⟩ ⟨(Nat.le_of_ble_eq_true rfl), (Nat.le_of_ble_eq_true rfl)⟩ (Nat.le_of_ble_eq_true rfl) dX0_copy_1 (i := 0) rfl rfl (by decide) (by decide) (q := (RX6, TX6, 7)) rfl q273 (isC_ob h6) ?_
    refine s_astore (lv' := [(6, .ref (vO (VX g) + b2)), (0, .ref (vO (VX g) + 0)), (1, .int x1), (2, .int x2), (3, .int x3), (4, .int x4), (5, .int x5)]) hz dX0_copy_124 (Nat.le_of_ble_eq_true rfl) rfl ?_
    refine s_aload_n hz dX0_copy_126 rfl 1 rfl ?_
    refine s_aload hz dX0_copy_127 0 rfl ?_
    refine s_bind (fun q97 e98 => ?_)
    refine kX_X0_145 hc (cfX0_finds e98) ⟨(Nat.le_of_ble_eq_true rfl), (Nat.le_of_ble_eq_true rfl)⟩ ⟨(Nat.le_of_ble_eq_true rfl), (Nat.le_of_ble_eq_true rfl)⟩ (Nat.le_of_ble_eq_true rfl) dX0_copy_129 ?_
    exact s_iretM hc dX0_copy_132 (Nat.le_of_ble_eq_true rfl) (Nat.le_of_ble_eq_true rfl)
theorem cfX0_copy {g : GeoX} {N : Nat}  {σ : Mem} {x1 : Int32} {x2 : Int32} {x3 : Int32} {x4 : Int32} {x5 : Int32} {ρ : Int32 × Mem} (hF : fX0_copy N σ x1 x2 x3 x4 x5 = some ρ) (l : Launch) : CtW (wsW_ yX0_copy cX0_copy 8 (some .int) [(0, 123, 124, 1)]) (VX g) l yX0_copy (rk 6 7 49) [.ref (vO (VX g) + 0), .int x1, .int x2, .int x3, .int x4, .int x5] σ (oI ρ.1) ρ.2 :=
  CtW.ofH (by decide) (Nat.le_of_ble_eq_true rfl) (fun Θ hc ls hl => wfX0_copy σ x1 x2 x3 x4 x5 hc hF ls hl)
