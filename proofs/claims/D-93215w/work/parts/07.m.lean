set_option maxRecDepth 100000
def fX5_has (N : Nat) (σ : Mem) (x0 : Int32) (x1 : Int32) : Option (Int32) :=
  some (if ((x0 >>> (x1 &&& 31)) &&& (1 : Int32)) = (1 : Int32) then (1 : Int32) else (0 : Int32))
set_option maxHeartbeats 4000000 in
theorem wfX5_has {Θ : ThT Mem} {g : Geo} {N : Nat}  {ρ : Int32} (σ : Mem) (x0 : Int32) (x1 : Int32) (hc : Cx Θ (VM g) cX5_has 2 RX5 (rk 1 0 0) (some .boolean) [] false (oI ρ) σ) : Sim Θ 2 ρ σ (fX5_has N σ x0 x1) (0, 0) 0 [(0, .int x0), (1, .int x1)] [] := by
  have hz := hc.z
  unfold fX5_has
  refine s_iload_n hz dX5_has_0 rfl 0 rfl ?_
  refine s_iload_n hz dX5_has_1 rfl 1 rfl ?_
  refine s_ishr hz dX5_has_2 ?_
  refine s_iconst (v := (1 : Int32)) hz dX5_has_3 (by decide) ?_
  refine s_iand hz dX5_has_4 ?_
  refine s_iconst (v := (1 : Int32)) hz dX5_has_5 (by decide) ?_
  refine s_dia (J := 14) (v := .int (if ((x0 >>> (x1 &&& 31)) &&& (1 : Int32)) = (1 : Int32) then (1 : Int32) else (0 : Int32))) (st := []) (fun _ hj1 => ?_) ?_
  · refine s_icmp_ne_ (tgt := 13) hz dX5_has_6 rfl (fun h2 => ?_) (fun h2 => ?_)
    · refine s_iconst (v := (0 : Int32)) hz dX5_has_13 (by decide) ?_
      rw [if_neg h2] at hj1
      exact hj1
    · refine s_iconst (v := (1 : Int32)) hz dX5_has_9 (by decide) ?_
      refine s_goto (tgt := 14) hz dX5_has_10 rfl ?_
      rw [if_pos h2] at hj1
      exact hj1
  exact s_zret hc (nb_ite rfl rfl) dX5_has_14 (Nat.le_of_ble_eq_true rfl) (Nat.le_of_ble_eq_true rfl)
theorem cfX5_has {g : Geo} {N : Nat}  {σ : Mem} {x0 : Int32} {x1 : Int32} {ρ : Int32} (hF : fX5_has N σ x0 x1 = some ρ) (l : Launch) : Ct (VM g) l yX5_has cX5_has 2 (some .boolean) (rk 1 0 0) [.int x0, .int x1] σ (oI ρ) σ :=
  Ct.of (by decide) (Nat.le_of_ble_eq_true rfl) (fun Θ hc ls hl => wfX5_has σ x0 x1 hc hF ls hl)
def jX5_looksAt_164 (N : Nat) (σ : Mem) (x2 : Int32) (x3 : Int32) (x4 : Int32) (x5 : Int32) (t0 : Int32) (t1 : Int32) (t2 : Int32) (r20 : (Mem × Int32 × Int32) → Option (Unit × Mem)) : Option (Unit × Mem) :=
  gb (inb t2 2475) (
  lt_ (pI σ 7 (ix t2) (t1 + t0)) (fun σ21 => 
  gb (inb (x4 + (4 : Int32)) 2475) (
  if x3 ≤ (gI σ21 7 (ix (x4 + (4 : Int32)))) then
  (gb (inb (x4 + (4 : Int32)) 2475) (
  gb (inb (x4 + (4 : Int32)) 2475) (
  lt_ (pI σ21 7 (ix (x4 + (4 : Int32))) (gI σ21 7 (ix (x4 + (4 : Int32))))) (fun σ26 => 
  r20 (σ26, x3, (x5 + (1 : Int32)))))))
  else (gb (inb (x4 + (4 : Int32)) 2475) (
  lt_ (pI σ21 7 (ix (x4 + (4 : Int32))) x3) (fun σ28 => 
  r20 (σ28, x3, (x5 + (1 : Int32)))))))))
set_option maxHeartbeats 4000000 in
theorem wjX5_looksAt_164 {Θ : ThT Mem} {g : Geo} {N : Nat}  {ρ : Unit × Mem} (σ : Mem) (hc : Cx Θ (VM g) cX5_looksAt 7 RX5 (rk 2 0 0) none [] false (oV) ρ.2) (x2 : Int32) (x3 : Int32) (x4 : Int32) (x5 : Int32) (t0 : Int32) (t1 : Int32) (t2 : Int32) (r20 : (Mem × Int32 × Int32) → Option (Unit × Mem)) (hr20 : ∀ y : Mem × Int32 × Int32, Sim Θ 7 ρ (y.1) (r20 y) (0, 0) 20 [(0, .ref (vO (VM g) + 0)), (2, .int x2), (3, .int y.2.1), (4, .int x4), (5, .int y.2.2)] []) : Sim Θ 7 ρ σ (jX5_looksAt_164 N σ x2 x3 x4 x5 t0 t1 t2 r20) (0, 0) 164 [(0, .ref (vO (VM g) + 0)), (2, .int x2), (3, .int x3), (4, .int x4), (5, .int x5)] [.int t0, .int t1, .int t2, .ref (vO (VM g) + 7)] := by
  have hz := hc.z
  have hr20c : ∀ (z0_ : Mem) (z1_ : Int32) (z2_ : Int32), Sim Θ 7 ρ (z0_) (r20 (z0_, z1_, z2_)) (0, 0) 20 [(0, .ref (vO (VM g) + 0)), (2, .int x2), (3, .int z1_), (4, .int x4), (5, .int z2_)] [] := fun z0_ z1_ z2_ => hr20 (z0_, z1_, z2_)
  unfold jX5_looksAt_164
  refine s_iadd hz dX5_looksAt_164 ?_
  refine s_gb (fun h22 => ?_)
  refine rM_st_7 hc h22 rfl dX5_looksAt_165 (fun σ21 => ?_)
  refine s_aload_n hz dX5_looksAt_166 rfl 0 rfl ?_
  refine rM_g_factOf hc dX5_looksAt_167 ?_
  refine s_iload hz dX5_looksAt_170 3 rfl ?_
  refine s_iconst (v := (4 : Int32)) hz dX5_looksAt_172 (by decide) ?_
  refine s_iadd hz dX5_looksAt_173 ?_
  refine s_iload_n hz dX5_looksAt_174 rfl 2 rfl ?_
  refine s_aload_n hz dX5_looksAt_175 rfl 0 rfl ?_
  refine rM_g_factOf hc dX5_looksAt_176 ?_
  refine s_iload hz dX5_looksAt_179 3 rfl ?_
  refine s_iconst (v := (4 : Int32)) hz dX5_looksAt_181 (by decide) ?_
  refine s_iadd hz dX5_looksAt_182 ?_
  refine s_gb (fun h23 => ?_)
  refine rM_ld_7 hc h23 rfl dX5_looksAt_183 ?_
  refine s_icmp_le (tgt := 191) hz dX5_looksAt_184 rfl (fun h24 => ?_) (fun h24 => ?_)
  · refine s_aload_n hz dX5_looksAt_191 rfl 0 rfl ?_
    refine rM_g_factOf hc dX5_looksAt_192 ?_
    refine s_iload hz dX5_looksAt_195 3 rfl ?_
    refine s_iconst (v := (4 : Int32)) hz dX5_looksAt_197 (by decide) ?_
    refine s_iadd hz dX5_looksAt_198 ?_
    refine s_gb (fun h25 => ?_)
    refine rM_ld_7 hc h25 rfl dX5_looksAt_199 ?_
    refine s_gb (fun h27 => ?_)
    refine rM_st_7 hc h27 rfl dX5_looksAt_200 (fun σ26 => ?_)
    refine s_iinc (v := (1 : Int32)) (lv' := [(5, .int (x5 + (1 : Int32))), (0, .ref (vO (VM g) + 0)), (2, .int x2), (3, .int x3), (4, .int x4)]) hz dX5_looksAt_201 4 rfl (by decide) (Nat.le_of_ble_eq_true rfl) rfl ?_
    refine s_goto (tgt := 20) hz dX5_looksAt_204 rfl ?_
    exact s_sub [1, 2, 3, 4, 0] rfl (hr20c σ26 x3 (x5 + (1 : Int32)))
  · refine s_iload_n hz dX5_looksAt_187 rfl 2 rfl ?_
    refine s_goto (tgt := 200) hz dX5_looksAt_188 rfl ?_
    refine s_gb (fun h29 => ?_)
    refine rM_st_7 hc h29 rfl dX5_looksAt_200 (fun σ28 => ?_)
    refine s_iinc (v := (1 : Int32)) (lv' := [(5, .int (x5 + (1 : Int32))), (0, .ref (vO (VM g) + 0)), (2, .int x2), (3, .int x3), (4, .int x4)]) hz dX5_looksAt_201 4 rfl (by decide) (Nat.le_of_ble_eq_true rfl) rfl ?_
    refine s_goto (tgt := 20) hz dX5_looksAt_204 rfl ?_
    exact s_sub [1, 2, 3, 4, 0] rfl (hr20c σ28 x3 (x5 + (1 : Int32)))
def jX5_looksAt_136 (N : Nat) (σ : Mem) (x2 : Int32) (x3 : Int32) (x4 : Int32) (x5 : Int32) (x6 : Int32) (t0 : Int32) (t1 : Int32) (r20 : (Mem × Int32 × Int32) → Option (Unit × Mem)) : Option (Unit × Mem) :=
  gb (inb t1 2475) (
  lt_ (pI σ 7 (ix t1) t0) (fun σ17 => 
  gb (inb (x4 + (3 : Int32)) 2475) (
  if x6 = (0 : Int32) then
  (jX5_looksAt_164 N σ17 x2 x3 x4 x5 (0 : Int32) (gI σ17 7 (ix (x4 + (3 : Int32)))) (x4 + (3 : Int32)) r20)
  else (gb (inb (x4 + (3 : Int32)) 2475) (
  lt_ (pI σ17 7 (ix (x4 + (3 : Int32))) ((gI σ17 7 (ix (x4 + (3 : Int32)))) + (if (x5 - x5 / (2 : Int32) * (2 : Int32)) = (0 : Int32) then (1 : Int32) else (0 : Int32)))) (fun σ30 => 
  gb (inb (x4 + (4 : Int32)) 2475) (
  if x3 ≤ (gI σ30 7 (ix (x4 + (4 : Int32)))) then
  (gb (inb (x4 + (4 : Int32)) 2475) (
  gb (inb (x4 + (4 : Int32)) 2475) (
  lt_ (pI σ30 7 (ix (x4 + (4 : Int32))) (gI σ30 7 (ix (x4 + (4 : Int32))))) (fun σ35 => 
  r20 (σ35, x3, (x5 + (1 : Int32)))))))
  else (gb (inb (x4 + (4 : Int32)) 2475) (
  lt_ (pI σ30 7 (ix (x4 + (4 : Int32))) x3) (fun σ37 => 
  r20 (σ37, x3, (x5 + (1 : Int32)))))))))))))
set_option maxHeartbeats 4000000 in
theorem wjX5_looksAt_136 {Θ : ThT Mem} {g : Geo} {N : Nat}  {ρ : Unit × Mem} (σ : Mem) (hc : Cx Θ (VM g) cX5_looksAt 7 RX5 (rk 2 0 0) none [] false (oV) ρ.2) (x2 : Int32) (x3 : Int32) (x4 : Int32) (x5 : Int32) (x6 : Int32) (t0 : Int32) (t1 : Int32) (r20 : (Mem × Int32 × Int32) → Option (Unit × Mem)) (hr20 : ∀ y : Mem × Int32 × Int32, Sim Θ 7 ρ (y.1) (r20 y) (0, 0) 20 [(0, .ref (vO (VM g) + 0)), (2, .int x2), (3, .int y.2.1), (4, .int x4), (5, .int y.2.2)] []) : Sim Θ 7 ρ σ (jX5_looksAt_136 N σ x2 x3 x4 x5 x6 t0 t1 r20) (0, 0) 136 [(0, .ref (vO (VM g) + 0)), (2, .int x2), (3, .int x3), (4, .int x4), (5, .int x5), (6, .int x6)] [.int t0, .int t1, .ref (vO (VM g) + 7)] := by
  have hz := hc.z
  have hr20c : ∀ (z0_ : Mem) (z1_ : Int32) (z2_ : Int32), Sim Θ 7 ρ (z0_) (r20 (z0_, z1_, z2_)) (0, 0) 20 [(0, .ref (vO (VM g) + 0)), (2, .int x2), (3, .int z1_), (4, .int x4), (5, .int z2_)] [] := fun z0_ z1_ z2_ => hr20 (z0_, z1_, z2_)
  unfold jX5_looksAt_136
  refine s_gb (fun h18 => ?_)
  refine rM_st_7 hc h18 rfl dX5_looksAt_136 (fun σ17 => ?_)
  refine s_aload_n hz dX5_looksAt_137 rfl 0 rfl ?_
  refine rM_g_factOf hc dX5_looksAt_138 ?_
  refine s_iload hz dX5_looksAt_141 3 rfl ?_
  refine s_iconst (v := (3 : Int32)) hz dX5_looksAt_143 (by decide) ?_
  refine s_iadd hz dX5_looksAt_144 ?_
  refine s_dup2 hz dX5_looksAt_145 rfl rfl ?_
  refine s_gb (fun h19 => ?_)
  refine rM_ld_7 hc h19 rfl dX5_looksAt_146 ?_
  refine s_iload hz dX5_looksAt_147 5 rfl ?_
  refine s_if_eq (tgt := 163) hz dX5_looksAt_149 rfl (fun h20 => ?_) (fun h20 => ?_)
  · refine s_iconst (v := (0 : Int32)) hz dX5_looksAt_163 (by decide) ?_
    exact s_sub [0, 1, 2, 3, 4] rfl (wjX5_looksAt_164 σ17 hc x2 x3 x4 x5 (0 : Int32) (gI σ17 7 (ix (x4 + (3 : Int32)))) (x4 + (3 : Int32)) r20 hr20)
  · refine s_iload hz dX5_looksAt_152 4 rfl ?_
    refine s_iconst (v := (2 : Int32)) hz dX5_looksAt_154 (by decide) ?_
    refine s_irem hz dX5_looksAt_155 (by decide) ?_
    refine s_dia (J := 164) (v := .int (if (x5 - x5 / (2 : Int32) * (2 : Int32)) = (0 : Int32) then (1 : Int32) else (0 : Int32))) (st := [.int (gI σ17 7 (ix (x4 + (3 : Int32)))), .int (x4 + (3 : Int32)), .ref (vO (VM g) + 7)]) (fun _ hj39 => ?_) ?_
    · refine s_if_ne_ (tgt := 163) hz dX5_looksAt_156 rfl (fun h40 => ?_) (fun h40 => ?_)
      · refine s_iconst (v := (0 : Int32)) hz dX5_looksAt_163 (by decide) ?_
        rw [if_neg h40] at hj39
        exact hj39
      · refine s_iconst (v := (1 : Int32)) hz dX5_looksAt_159 (by decide) ?_
        refine s_goto (tgt := 164) hz dX5_looksAt_160 rfl ?_
        rw [if_pos h40] at hj39
        exact hj39
    refine s_iadd hz dX5_looksAt_164 ?_
    refine s_gb (fun h31 => ?_)
    refine rM_st_7 hc h31 rfl dX5_looksAt_165 (fun σ30 => ?_)
    refine s_aload_n hz dX5_looksAt_166 rfl 0 rfl ?_
    refine rM_g_factOf hc dX5_looksAt_167 ?_
    refine s_iload hz dX5_looksAt_170 3 rfl ?_
    refine s_iconst (v := (4 : Int32)) hz dX5_looksAt_172 (by decide) ?_
    refine s_iadd hz dX5_looksAt_173 ?_
    refine s_iload_n hz dX5_looksAt_174 rfl 2 rfl ?_
    refine s_aload_n hz dX5_looksAt_175 rfl 0 rfl ?_
    refine rM_g_factOf hc dX5_looksAt_176 ?_
    refine s_iload hz dX5_looksAt_179 3 rfl ?_
    refine s_iconst (v := (4 : Int32)) hz dX5_looksAt_181 (by decide) ?_
    refine s_iadd hz dX5_looksAt_182 ?_
    refine s_gb (fun h32 => ?_)
    refine rM_ld_7 hc h32 rfl dX5_looksAt_183 ?_
    refine s_icmp_le (tgt := 191) hz dX5_looksAt_184 rfl (fun h33 => ?_) (fun h33 => ?_)
    · refine s_aload_n hz dX5_looksAt_191 rfl 0 rfl ?_
      refine rM_g_factOf hc dX5_looksAt_192 ?_
      refine s_iload hz dX5_looksAt_195 3 rfl ?_
      refine s_iconst (v := (4 : Int32)) hz dX5_looksAt_197 (by decide) ?_
      refine s_iadd hz dX5_looksAt_198 ?_
      refine s_gb (fun h34 => ?_)
      refine rM_ld_7 hc h34 rfl dX5_looksAt_199 ?_
      refine s_gb (fun h36 => ?_)
      refine rM_st_7 hc h36 rfl dX5_looksAt_200 (fun σ35 => ?_)
      refine s_iinc (v := (1 : Int32)) (lv' := [(5, .int (x5 + (1 : Int32))), (0, .ref (vO (VM g) + 0)), (2, .int x2), (3, .int x3), (4, .int x4), (6, .int x6)]) hz dX5_looksAt_201 4 rfl (by decide) (Nat.le_of_ble_eq_true rfl) rfl ?_
      refine s_goto (tgt := 20) hz dX5_looksAt_204 rfl ?_
      exact s_sub [1, 2, 3, 4, 0] rfl (hr20c σ35 x3 (x5 + (1 : Int32)))
    · refine s_iload_n hz dX5_looksAt_187 rfl 2 rfl ?_
      refine s_goto (tgt := 200) hz dX5_looksAt_188 rfl ?_
      refine s_gb (fun h38 => ?_)
      refine rM_st_7 hc h38 rfl dX5_looksAt_200 (fun σ37 => ?_)
      refine s_iinc (v := (1 : Int32)) (lv' := [(5, .int (x5 + (1 : Int32))), (0, .ref (vO (VM g) + 0)), (2, .int x2), (3, .int x3), (4, .int x4), (6, .int x6)]) hz dX5_looksAt_201 4 rfl (by decide) (Nat.le_of_ble_eq_true rfl) rfl ?_
      refine s_goto (tgt := 20) hz dX5_looksAt_204 rfl ?_
      exact s_sub [1, 2, 3, 4, 0] rfl (hr20c σ37 x3 (x5 + (1 : Int32)))
def jX5_looksAt_108 (N : Nat) (σ : Mem) (x2 : Int32) (x3 : Int32) (x4 : Int32) (x5 : Int32) (x6 : Int32) (t0 : Int32) (t1 : Int32) (r20 : (Mem × Int32 × Int32) → Option (Unit × Mem)) : Option (Unit × Mem) :=
  gb (inb t1 2475) (
  lt_ (pI σ 7 (ix t1) t0) (fun σ13 => 
  if x6 = (0 : Int32) then
  (gb (inb (x4 + (2 : Int32)) 2475) (
  jX5_looksAt_136 N σ13 x2 x3 x4 x5 x6 (gI σ13 7 (ix (x4 + (2 : Int32)))) (x4 + (2 : Int32)) r20))
  else (jX5_looksAt_136 N σ13 x2 x3 x4 x5 x6 x5 (x4 + (2 : Int32)) r20)))
set_option maxHeartbeats 4000000 in
theorem wjX5_looksAt_108 {Θ : ThT Mem} {g : Geo} {N : Nat}  {ρ : Unit × Mem} (σ : Mem) (hc : Cx Θ (VM g) cX5_looksAt 7 RX5 (rk 2 0 0) none [] false (oV) ρ.2) (x2 : Int32) (x3 : Int32) (x4 : Int32) (x5 : Int32) (x6 : Int32) (t0 : Int32) (t1 : Int32) (r20 : (Mem × Int32 × Int32) → Option (Unit × Mem)) (hr20 : ∀ y : Mem × Int32 × Int32, Sim Θ 7 ρ (y.1) (r20 y) (0, 0) 20 [(0, .ref (vO (VM g) + 0)), (2, .int x2), (3, .int y.2.1), (4, .int x4), (5, .int y.2.2)] []) : Sim Θ 7 ρ σ (jX5_looksAt_108 N σ x2 x3 x4 x5 x6 t0 t1 r20) (0, 0) 108 [(0, .ref (vO (VM g) + 0)), (2, .int x2), (3, .int x3), (4, .int x4), (5, .int x5), (6, .int x6)] [.int t0, .int t1, .ref (vO (VM g) + 7)] := by
  have hz := hc.z
  have hr20c : ∀ (z0_ : Mem) (z1_ : Int32) (z2_ : Int32), Sim Θ 7 ρ (z0_) (r20 (z0_, z1_, z2_)) (0, 0) 20 [(0, .ref (vO (VM g) + 0)), (2, .int x2), (3, .int z1_), (4, .int x4), (5, .int z2_)] [] := fun z0_ z1_ z2_ => hr20 (z0_, z1_, z2_)
  unfold jX5_looksAt_108
  refine s_gb (fun h14 => ?_)
  refine rM_st_7 hc h14 rfl dX5_looksAt_108 (fun σ13 => ?_)
  refine s_aload_n hz dX5_looksAt_109 rfl 0 rfl ?_
  refine rM_g_factOf hc dX5_looksAt_110 ?_
  refine s_iload hz dX5_looksAt_113 3 rfl ?_
  refine s_iconst (v := (2 : Int32)) hz dX5_looksAt_115 (by decide) ?_
  refine s_iadd hz dX5_looksAt_116 ?_
  refine s_iload hz dX5_looksAt_117 5 rfl ?_
  refine s_if_eq (tgt := 127) hz dX5_looksAt_119 rfl (fun h15 => ?_) (fun h15 => ?_)
  · refine s_aload_n hz dX5_looksAt_127 rfl 0 rfl ?_
    refine rM_g_factOf hc dX5_looksAt_128 ?_
    refine s_iload hz dX5_looksAt_131 3 rfl ?_
    refine s_iconst (v := (2 : Int32)) hz dX5_looksAt_133 (by decide) ?_
    refine s_iadd hz dX5_looksAt_134 ?_
    refine s_gb (fun h16 => ?_)
    refine rM_ld_7 hc h16 rfl dX5_looksAt_135 ?_
    exact s_sub [0, 1, 2, 3, 4, 5] rfl (wjX5_looksAt_136 σ13 hc x2 x3 x4 x5 x6 (gI σ13 7 (ix (x4 + (2 : Int32)))) (x4 + (2 : Int32)) r20 hr20)
  · refine s_iload hz dX5_looksAt_122 4 rfl ?_
    refine s_goto (tgt := 136) hz dX5_looksAt_124 rfl ?_
    exact s_sub [0, 1, 2, 3, 4, 5] rfl (wjX5_looksAt_136 σ13 hc x2 x3 x4 x5 x6 x5 (x4 + (2 : Int32)) r20 hr20)
def bX5_looksAt_20 (N : Nat) (σ : Mem) (x2 : Int32) (x4 : Int32) (r20 : (Mem × Int32 × Int32) → Option (Unit × Mem)) (y20 : Mem × Int32 × Int32) : Option (Unit × Mem) :=
  if (12 : Int32) ≤ y20.2.2 then
  (some ((), y20.1))
  else ((fX5_has N y20.1 x2 y20.2.2).bind (fun q5 => 
  lt_ (if q5 = (0 : Int32) then (0 : Int32) else (y20.2.1 + (1 : Int32))) (fun v7 => 
  gb (inb x4 2475) (
  gb (inb x4 2475) (
  lt_ (pI y20.1 7 (ix x4) ((gI y20.1 7 (ix x4)) + (if q5 = (0 : Int32) then (0 : Int32) else y20.2.2))) (fun σ9 => 
  if q5 = (0 : Int32) then
  (gb (inb (x4 + (1 : Int32)) 2475) (
  jX5_looksAt_108 N σ9 x2 v7 x4 y20.2.2 q5 (gI σ9 7 (ix (x4 + (1 : Int32)))) (x4 + (1 : Int32)) r20))
  else (gb (inb (x4 + (1 : Int32)) 2475) (
  if (0 : Int32) ≤ (gI σ9 7 (ix (x4 + (1 : Int32)))) then
  (gb (inb (x4 + (1 : Int32)) 2475) (
  jX5_looksAt_108 N σ9 x2 v7 x4 y20.2.2 q5 (gI σ9 7 (ix (x4 + (1 : Int32)))) (x4 + (1 : Int32)) r20))
  else (jX5_looksAt_108 N σ9 x2 v7 x4 y20.2.2 q5 y20.2.2 (x4 + (1 : Int32)) r20)))))))))
set_option maxHeartbeats 4000000 in
theorem wbX5_looksAt_20 {Θ : ThT Mem} {g : Geo} {N : Nat}  {ρ : Unit × Mem} (σ : Mem) (hc : Cx Θ (VM g) cX5_looksAt 7 RX5 (rk 2 0 0) none [] false (oV) ρ.2) (x2 : Int32) (x4 : Int32) (r20 : (Mem × Int32 × Int32) → Option (Unit × Mem)) (hr20 : ∀ y : Mem × Int32 × Int32, Sim Θ 7 ρ (y.1) (r20 y) (0, 0) 20 [(0, .ref (vO (VM g) + 0)), (2, .int x2), (3, .int y.2.1), (4, .int x4), (5, .int y.2.2)] []) : ∀ y20 : Mem × Int32 × Int32, Sim Θ 7 ρ (y20.1) (bX5_looksAt_20 N σ x2 x4 r20 y20) (0, 0) 20 [(0, .ref (vO (VM g) + 0)), (2, .int x2), (3, .int y20.2.1), (4, .int x4), (5, .int y20.2.2)] [] := by
  intro y20
  have hz := hc.z
  have hr20c : ∀ (z0_ : Mem) (z1_ : Int32) (z2_ : Int32), Sim Θ 7 ρ (z0_) (r20 (z0_, z1_, z2_)) (0, 0) 20 [(0, .ref (vO (VM g) + 0)), (2, .int x2), (3, .int z1_), (4, .int x4), (5, .int z2_)] [] := fun z0_ z1_ z2_ => hr20 (z0_, z1_, z2_)
  unfold bX5_looksAt_20
  refine s_iload hz dX5_looksAt_20 4 rfl ?_
  refine s_bipush (v := (12 : Int32)) hz dX5_looksAt_22 (by decide) ?_
  refine s_icmp_ge (tgt := 207) hz dX5_looksAt_24 rfl (fun h4 => ?_) (fun h4 => ?_)
  · exact s_vretM hc dX5_looksAt_207 (Nat.le_of_ble_eq_true rfl) (Nat.le_of_ble_eq_true rfl)
  · refine s_iload_n hz dX5_looksAt_27 rfl 1 rfl ?_
    refine s_iload hz dX5_looksAt_28 4 rfl ?_
    refine s_bind (fun q5 e6 => ?_)
    refine kX5_83 hc (cfX5_has e6) ⟨(Nat.le_of_ble_eq_true rfl), (Nat.le_of_ble_eq_true rfl)⟩ ⟨(Nat.le_of_ble_eq_true rfl), (Nat.le_of_ble_eq_true rfl)⟩ (Nat.le_of_ble_eq_true rfl) dX5_looksAt_30 ?_
    refine s_istore (lv' := [(6, .int q5), (0, .ref (vO (VM g) + 0)), (2, .int x2), (3, .int y20.2.1), (4, .int x4), (5, .int y20.2.2)]) hz dX5_looksAt_33 (Nat.le_of_ble_eq_true rfl) rfl ?_
    refine s_iload hz dX5_looksAt_35 0 rfl ?_
    refine s_dia (J := 47) (v := .int (if q5 = (0 : Int32) then (0 : Int32) else (y20.2.1 + (1 : Int32)))) (st := []) (fun _ hj46 => ?_) ?_
    · refine s_if_eq_ (tgt := 46) hz dX5_looksAt_37 rfl (fun h47 => ?_) (fun h47 => ?_)
      · refine s_iconst (v := (0 : Int32)) hz dX5_looksAt_46 (by decide) ?_
        rw [if_pos h47] at hj46
        exact hj46
      · refine s_iload_n hz dX5_looksAt_40 rfl 3 rfl ?_
        refine s_iconst (v := (1 : Int32)) hz dX5_looksAt_41 (by decide) ?_
        refine s_iadd hz dX5_looksAt_42 ?_
        refine s_goto (tgt := 47) hz dX5_looksAt_43 rfl ?_
        rw [if_neg h47] at hj46
        exact hj46
    refine s_nmI (fun v7 => ?_)
    refine s_istore_n (lv' := [(3, .int v7), (6, .int q5), (0, .ref (vO (VM g) + 0)), (2, .int x2), (4, .int x4), (5, .int y20.2.2)]) hz dX5_looksAt_47 rfl (Nat.le_of_ble_eq_true rfl) rfl ?_
    refine s_aload_n hz dX5_looksAt_48 rfl 2 rfl ?_
    refine rM_g_factOf hc dX5_looksAt_49 ?_
    refine s_iload hz dX5_looksAt_52 4 rfl ?_
    refine s_dup2 hz dX5_looksAt_54 rfl rfl ?_
    refine s_gb (fun h8 => ?_)
    refine rM_ld_7 hc h8 rfl dX5_looksAt_55 ?_
    refine s_iload hz dX5_looksAt_56 1 rfl ?_
    refine s_dia (J := 67) (v := .int (if q5 = (0 : Int32) then (0 : Int32) else y20.2.2)) (st := [.int (gI y20.1 7 (ix x4)), .int x4, .ref (vO (VM g) + 7)]) (fun _ hj44 => ?_) ?_
    · refine s_if_eq_ (tgt := 66) hz dX5_looksAt_58 rfl (fun h45 => ?_) (fun h45 => ?_)
      · refine s_iconst (v := (0 : Int32)) hz dX5_looksAt_66 (by decide) ?_
        rw [if_pos h45] at hj44
        exact hj44
      · refine s_iload hz dX5_looksAt_61 5 rfl ?_
        refine s_goto (tgt := 67) hz dX5_looksAt_63 rfl ?_
        rw [if_neg h45] at hj44
        exact hj44
    refine s_iadd hz dX5_looksAt_67 ?_
    refine s_gb (fun h10 => ?_)
    refine rM_st_7 hc h10 rfl dX5_looksAt_68 (fun σ9 => ?_)
    refine s_aload_n hz dX5_looksAt_69 rfl 2 rfl ?_
    refine rM_g_factOf hc dX5_looksAt_70 ?_
    refine s_iload hz dX5_looksAt_73 4 rfl ?_
    refine s_iconst (v := (1 : Int32)) hz dX5_looksAt_75 (by decide) ?_
    refine s_iadd hz dX5_looksAt_76 ?_
    refine s_iload hz dX5_looksAt_77 1 rfl ?_
    refine s_if_eq (tgt := 99) hz dX5_looksAt_79 rfl (fun h11 => ?_) (fun h11 => ?_)
    · refine s_aload_n hz dX5_looksAt_99 rfl 2 rfl ?_
      refine rM_g_factOf hc dX5_looksAt_100 ?_
      refine s_iload hz dX5_looksAt_103 4 rfl ?_
      refine s_iconst (v := (1 : Int32)) hz dX5_looksAt_105 (by decide) ?_
      refine s_iadd hz dX5_looksAt_106 ?_
      refine s_gb (fun h12 => ?_)
      refine rM_ld_7 hc h12 rfl dX5_looksAt_107 ?_
      exact s_sub [2, 3, 0, 4, 5, 1] rfl (wjX5_looksAt_108 σ9 hc x2 v7 x4 y20.2.2 q5 (gI σ9 7 (ix (x4 + (1 : Int32)))) (x4 + (1 : Int32)) r20 hr20)
    · refine s_aload_n hz dX5_looksAt_82 rfl 2 rfl ?_
      refine rM_g_factOf hc dX5_looksAt_83 ?_
      refine s_iload hz dX5_looksAt_86 4 rfl ?_
      refine s_iconst (v := (1 : Int32)) hz dX5_looksAt_88 (by decide) ?_
      refine s_iadd hz dX5_looksAt_89 ?_
      refine s_gb (fun h41 => ?_)
      refine rM_ld_7 hc h41 rfl dX5_looksAt_90 ?_
      refine s_if_ge (tgt := 99) hz dX5_looksAt_91 rfl (fun h42 => ?_) (fun h42 => ?_)
      · refine s_aload_n hz dX5_looksAt_99 rfl 2 rfl ?_
        refine rM_g_factOf hc dX5_looksAt_100 ?_
        refine s_iload hz dX5_looksAt_103 4 rfl ?_
        refine s_iconst (v := (1 : Int32)) hz dX5_looksAt_105 (by decide) ?_
        refine s_iadd hz dX5_looksAt_106 ?_
        refine s_gb (fun h43 => ?_)
        refine rM_ld_7 hc h43 rfl dX5_looksAt_107 ?_
        exact s_sub [2, 3, 0, 4, 5, 1] rfl (wjX5_looksAt_108 σ9 hc x2 v7 x4 y20.2.2 q5 (gI σ9 7 (ix (x4 + (1 : Int32)))) (x4 + (1 : Int32)) r20 hr20)
      · refine s_iload hz dX5_looksAt_94 5 rfl ?_
        refine s_goto (tgt := 108) hz dX5_looksAt_96 rfl ?_
        exact s_sub [2, 3, 0, 4, 5, 1] rfl (wjX5_looksAt_108 σ9 hc x2 v7 x4 y20.2.2 q5 y20.2.2 (x4 + (1 : Int32)) r20 hr20)
def fX5_looksAt (N : Nat) (σ : Mem) (x1 : Int32) (x2 : Int32) : Option (Unit × Mem) :=
  lt_ ((5 : Int32) * x1) (fun v1 => 
  gb (inb (v1 + (1 : Int32)) 2475) (
  lt_ (pI σ 7 (ix (v1 + (1 : Int32))) (-1 : Int32)) (fun σ2 => 
  lp (bX5_looksAt_20 N σ2 x2 v1) N (σ2, (0 : Int32), (0 : Int32)))))
set_option maxHeartbeats 4000000 in
theorem wfX5_looksAt {Θ : ThT Mem} {g : Geo} {N : Nat}  {ρ : Unit × Mem} (σ : Mem) (x1 : Int32) (x2 : Int32) (hc : Cx Θ (VM g) cX5_looksAt 7 RX5 (rk 2 0 0) none [] false (oV) ρ.2) : Sim Θ 7 ρ σ (fX5_looksAt N σ x1 x2) (0, 0) 0 [(0, .ref (vO (VM g) + 0)), (1, .int x1), (2, .int x2)] [] := by
  have hz := hc.z
  unfold fX5_looksAt
  refine s_iconst (v := (0 : Int32)) hz dX5_looksAt_0 (by decide) ?_
  refine s_istore_n (lv' := [(3, .int (0 : Int32)), (0, .ref (vO (VM g) + 0)), (1, .int x1), (2, .int x2)]) hz dX5_looksAt_1 rfl (Nat.le_of_ble_eq_true rfl) rfl ?_
  refine s_iconst (v := (5 : Int32)) hz dX5_looksAt_2 (by decide) ?_
  refine s_iload_n hz dX5_looksAt_3 rfl 2 rfl ?_
  refine s_imul hz dX5_looksAt_4 ?_
  refine s_nmI (fun v1 => ?_)
  refine s_istore (lv' := [(4, .int v1), (3, .int (0 : Int32)), (0, .ref (vO (VM g) + 0)), (1, .int x1), (2, .int x2)]) hz dX5_looksAt_5 (Nat.le_of_ble_eq_true rfl) rfl ?_
  refine s_aload_n hz dX5_looksAt_7 rfl 2 rfl ?_
  refine rM_g_factOf hc dX5_looksAt_8 ?_
  refine s_iload hz dX5_looksAt_11 0 rfl ?_
  refine s_iconst (v := (1 : Int32)) hz dX5_looksAt_13 (by decide) ?_
  refine s_iadd hz dX5_looksAt_14 ?_
  refine s_iconst (v := (-1 : Int32)) hz dX5_looksAt_15 (by decide) ?_
  refine s_gb (fun h3 => ?_)
  refine rM_st_7 hc h3 rfl dX5_looksAt_16 (fun σ2 => ?_)
  refine s_iconst (v := (0 : Int32)) hz dX5_looksAt_17 (by decide) ?_
  refine s_istore (lv' := [(5, .int (0 : Int32)), (4, .int v1), (3, .int (0 : Int32)), (0, .ref (vO (VM g) + 0)), (1, .int x1), (2, .int x2)]) hz dX5_looksAt_18 (Nat.le_of_ble_eq_true rfl) rfl ?_
  exact s_sub [3, 5, 2, 1, 0] rfl (s_lp (sg := fun y : Mem × Int32 × Int32 => y.1) (lvs := fun y : Mem × Int32 × Int32 => [(0, .ref (vO (VM g) + 0)), (2, .int x2), (3, .int y.2.1), (4, .int v1), (5, .int y.2.2)]) (fun rec hrec => wbX5_looksAt_20 σ2 hc x2 v1  rec hrec) N (σ2, (0 : Int32), (0 : Int32)))
theorem cfX5_looksAt {g : Geo} {N : Nat}  {σ : Mem} {x1 : Int32} {x2 : Int32} {ρ : Unit × Mem} (hF : fX5_looksAt N σ x1 x2 = some ρ) (l : Launch) : Ct (VM g) l yX5_looksAt cX5_looksAt 7 none (rk 2 0 0) [.ref (vO (VM g) + 0), .int x1, .int x2] σ (oV) ρ.2 :=
  Ct.of (by decide) (Nat.le_of_ble_eq_true rfl) (fun Θ hc ls hl => wfX5_looksAt σ x1 x2 hc hF ls hl)
def fX5_finds (N : Nat) (σ : Mem) (x1 : Int32) : Option (Int32 × Mem) :=
  lt_ (pI σ 3 0 ((gI σ 3 0) + (1 : Int32))) (fun σ1 => 
  gb (inb (((-1000000001 : Int32) - x1) + (1 : Int32)) 8) (
  gb (inb (((-1000000001 : Int32) - x1) + (1 : Int32)) 8) (
  lt_ (pI σ1 3 (ix (((-1000000001 : Int32) - x1) + (1 : Int32))) ((gI σ1 3 (ix (((-1000000001 : Int32) - x1) + (1 : Int32)))) + (1 : Int32))) (fun σ3 => 
  some (x1, σ3)))))
set_option maxHeartbeats 4000000 in
theorem wfX5_finds {Θ : ThT Mem} {g : Geo} {N : Nat}  {ρ : Int32 × Mem} (σ : Mem) (x1 : Int32) (hc : Cx Θ (VM g) cX5_finds 2 RX5 (rk 1 0 0) (some .int) [] false (oI ρ.1) ρ.2) : Sim Θ 2 ρ σ (fX5_finds N σ x1) (0, 0) 0 [(0, .ref (vO (VM g) + 0)), (1, .int x1)] [] := by
  have hz := hc.z
  unfold fX5_finds
  refine s_aload_n hz dX5_finds_0 rfl 0 rfl ?_
  refine rM_g_findings hc dX5_finds_1 ?_
  refine s_iconst (v := (0 : Int32)) hz dX5_finds_4 (by decide) ?_
  refine s_dup2 hz dX5_finds_5 rfl rfl ?_
  refine rM_ld_3 hc (j := 0) (by decide) (by decide) dX5_finds_6 ?_
  refine s_iconst (v := (1 : Int32)) hz dX5_finds_7 (by decide) ?_
  refine s_iadd hz dX5_finds_8 ?_
  refine rM_st_3 hc (j := 0) (by decide) (by decide) dX5_finds_9 (fun σ1 => ?_)
  refine s_aload_n hz dX5_finds_10 rfl 0 rfl ?_
  refine rM_g_findings hc dX5_finds_11 ?_
  refine s_ldc hz dX5_finds_14 q1203 ?_
  refine s_iload_n hz dX5_finds_16 rfl 1 rfl ?_
  refine s_isub hz dX5_finds_17 ?_
  refine s_iconst (v := (1 : Int32)) hz dX5_finds_18 (by decide) ?_
  refine s_iadd hz dX5_finds_19 ?_
  refine s_dup2 hz dX5_finds_20 rfl rfl ?_
  refine s_gb (fun h2 => ?_)
  refine rM_ld_3 hc h2 rfl dX5_finds_21 ?_
  refine s_iconst (v := (1 : Int32)) hz dX5_finds_22 (by decide) ?_
  refine s_iadd hz dX5_finds_23 ?_
  refine s_gb (fun h4 => ?_)
  refine rM_st_3 hc h4 rfl dX5_finds_24 (fun σ3 => ?_)
  refine s_iload_n hz dX5_finds_25 rfl 1 rfl ?_
  exact s_iretM hc dX5_finds_26 (Nat.le_of_ble_eq_true rfl) (Nat.le_of_ble_eq_true rfl)
theorem cfX5_finds {g : Geo} {N : Nat}  {σ : Mem} {x1 : Int32} {ρ : Int32 × Mem} (hF : fX5_finds N σ x1 = some ρ) (l : Launch) : Ct (VM g) l yX5_finds cX5_finds 2 (some .int) (rk 1 0 0) [.ref (vO (VM g) + 0), .int x1] σ (oI ρ.1) ρ.2 :=
  Ct.of (by decide) (Nat.le_of_ble_eq_true rfl) (fun Θ hc ls hl => wfX5_finds σ x1 hc hF ls hl)
def fX5_place (N : Nat) (σ : Mem) (x1 : Int32) : Option (Int32 × Mem) :=
  if x1 < (0 : Int32) then
  ((fX5_finds N σ (-1000000001 : Int32)).bind (fun q2 => 
  some (q2.1, q2.2)))
  else (if (4095 : Int32) < x1 then
  ((fX5_finds N σ (-1000000001 : Int32)).bind (fun q5 => 
  some (q5.1, q5.2)))
  else (gb (inb x1 4096) (
  if (0 : Int32) ≤ (gI σ 5 (ix x1)) then
  (gb (inb x1 4096) (
  some ((gI σ 5 (ix x1)), σ)))
  else ((fX5_finds N σ (-1000000001 : Int32)).bind (fun q10 => 
  some (q10.1, q10.2))))))
set_option maxHeartbeats 4000000 in
theorem wfX5_place {Θ : ThT Mem} {g : Geo} {N : Nat}  {ρ : Int32 × Mem} (σ : Mem) (x1 : Int32) (hc : Cx Θ (VM g) cX5_place 2 RX5 (rk 2 0 0) (some .int) [] false (oI ρ.1) ρ.2) : Sim Θ 2 ρ σ (fX5_place N σ x1) (0, 0) 0 [(0, .ref (vO (VM g) + 0)), (1, .int x1)] [] := by
  have hz := hc.z
  unfold fX5_place
  refine s_iload_n hz dX5_place_0 rfl 1 rfl ?_
  refine s_if_lt (tgt := 20) hz dX5_place_1 rfl (fun h1 => ?_) (fun h1 => ?_)
  · refine s_aload_n hz dX5_place_20 rfl 0 rfl ?_
    refine s_ldc hz dX5_place_21 q1203 ?_
    refine s_bind (fun q2 e3 => ?_)
    refine kX5_88 hc (cfX5_finds e3) ⟨(Nat.le_of_ble_eq_true rfl), (Nat.le_of_ble_eq_true rfl)⟩ ⟨(Nat.le_of_ble_eq_true rfl), (Nat.le_of_ble_eq_true rfl)⟩ (Nat.le_of_ble_eq_true rfl) dX5_place_23 ?_
    refine s_goto (tgt := 35) hz dX5_place_26 rfl ?_
    exact s_iretM hc dX5_place_35 (Nat.le_of_ble_eq_true rfl) (Nat.le_of_ble_eq_true rfl)
  · refine s_iload_n hz dX5_place_4 rfl 1 rfl ?_
    refine s_sipush (v := (4095 : Int32)) hz dX5_place_5 (by decide) ?_
    refine s_icmp_gt (tgt := 20) hz dX5_place_8 rfl (fun h4 => ?_) (fun h4 => ?_)
    · refine s_aload_n hz dX5_place_20 rfl 0 rfl ?_
      refine s_ldc hz dX5_place_21 q1203 ?_
      refine s_bind (fun q5 e6 => ?_)
      refine kX5_88 hc (cfX5_finds e6) ⟨(Nat.le_of_ble_eq_true rfl), (Nat.le_of_ble_eq_true rfl)⟩ ⟨(Nat.le_of_ble_eq_true rfl), (Nat.le_of_ble_eq_true rfl)⟩ (Nat.le_of_ble_eq_true rfl) dX5_place_23 ?_
      refine s_goto (tgt := 35) hz dX5_place_26 rfl ?_
      exact s_iretM hc dX5_place_35 (Nat.le_of_ble_eq_true rfl) (Nat.le_of_ble_eq_true rfl)
    · refine s_aload_n hz dX5_place_11 rfl 0 rfl ?_
      refine rM_g_placeAt hc dX5_place_12 ?_
      refine s_iload_n hz dX5_place_15 rfl 1 rfl ?_
      refine s_gb (fun h7 => ?_)
      refine rM_ld_5 hc h7 rfl dX5_place_16 ?_
      refine s_if_ge (tgt := 29) hz dX5_place_17 rfl (fun h8 => ?_) (fun h8 => ?_)
      · refine s_aload_n hz dX5_place_29 rfl 0 rfl ?_
        refine rM_g_placeAt hc dX5_place_30 ?_
        refine s_iload_n hz dX5_place_33 rfl 1 rfl ?_
        refine s_gb (fun h9 => ?_)
        refine rM_ld_5 hc h9 rfl dX5_place_34 ?_
        exact s_iretM hc dX5_place_35 (Nat.le_of_ble_eq_true rfl) (Nat.le_of_ble_eq_true rfl)
      · refine s_aload_n hz dX5_place_20 rfl 0 rfl ?_
        refine s_ldc hz dX5_place_21 q1203 ?_
        refine s_bind (fun q10 e11 => ?_)
        refine kX5_88 hc (cfX5_finds e11) ⟨(Nat.le_of_ble_eq_true rfl), (Nat.le_of_ble_eq_true rfl)⟩ ⟨(Nat.le_of_ble_eq_true rfl), (Nat.le_of_ble_eq_true rfl)⟩ (Nat.le_of_ble_eq_true rfl) dX5_place_23 ?_
        refine s_goto (tgt := 35) hz dX5_place_26 rfl ?_
        exact s_iretM hc dX5_place_35 (Nat.le_of_ble_eq_true rfl) (Nat.le_of_ble_eq_true rfl)
theorem cfX5_place {g : Geo} {N : Nat}  {σ : Mem} {x1 : Int32} {ρ : Int32 × Mem} (hF : fX5_place N σ x1 = some ρ) (l : Launch) : Ct (VM g) l yX5_place cX5_place 2 (some .int) (rk 2 0 0) [.ref (vO (VM g) + 0), .int x1] σ (oI ρ.1) ρ.2 :=
  Ct.of (by decide) (Nat.le_of_ble_eq_true rfl) (fun Θ hc ls hl => wfX5_place σ x1 hc hF ls hl)
def fX5_isPlace (N : Nat) (σ : Mem) (x0 : Int32) : Option (Int32) :=
  some (if x0 < (0 : Int32) then (0 : Int32) else (if (495 : Int32) ≤ x0 then (0 : Int32) else (1 : Int32)))
set_option maxHeartbeats 4000000 in
theorem wfX5_isPlace {Θ : ThT Mem} {g : Geo} {N : Nat}  {ρ : Int32} (σ : Mem) (x0 : Int32) (hc : Cx Θ (VM g) cX5_isPlace 1 RX5 (rk 1 0 0) (some .boolean) [] false (oI ρ) σ) : Sim Θ 1 ρ σ (fX5_isPlace N σ x0) (0, 0) 0 [(0, .int x0)] [] := by
  have hz := hc.z
  unfold fX5_isPlace
  refine s_iload_n hz dX5_isPlace_0 rfl 0 rfl ?_
  refine s_dia (J := 16) (v := .int (if x0 < (0 : Int32) then (0 : Int32) else (if (495 : Int32) ≤ x0 then (0 : Int32) else (1 : Int32)))) (st := []) (fun _ hj1 => ?_) ?_
  · refine s_if_lt_ (tgt := 15) hz dX5_isPlace_1 rfl (fun h2 => ?_) (fun h2 => ?_)
    · refine s_iconst (v := (0 : Int32)) hz dX5_isPlace_15 (by decide) ?_
      rw [if_pos h2] at hj1
      exact hj1
    · refine s_iload_n hz dX5_isPlace_4 rfl 0 rfl ?_
      refine s_sipush (v := (495 : Int32)) hz dX5_isPlace_5 (by decide) ?_
      refine s_icmp_ge_ (tgt := 15) hz dX5_isPlace_8 rfl (fun h3 => ?_) (fun h3 => ?_)
      · refine s_iconst (v := (0 : Int32)) hz dX5_isPlace_15 (by decide) ?_
        rw [if_neg h2, if_pos h3] at hj1
        exact hj1
      · refine s_iconst (v := (1 : Int32)) hz dX5_isPlace_11 (by decide) ?_
        refine s_goto (tgt := 16) hz dX5_isPlace_12 rfl ?_
        rw [if_neg h2, if_neg h3] at hj1
        exact hj1
  exact s_zret hc (nb_ite rfl (nb_ite rfl rfl)) dX5_isPlace_16 (Nat.le_of_ble_eq_true rfl) (Nat.le_of_ble_eq_true rfl)
theorem cfX5_isPlace {g : Geo} {N : Nat}  {σ : Mem} {x0 : Int32} {ρ : Int32} (hF : fX5_isPlace N σ x0 = some ρ) (l : Launch) : Ct (VM g) l yX5_isPlace cX5_isPlace 1 (some .boolean) (rk 1 0 0) [.int x0] σ (oI ρ) σ :=
  Ct.of (by decide) (Nat.le_of_ble_eq_true rfl) (fun Θ hc ls hl => wfX5_isPlace σ x0 hc hF ls hl)
def fX5_row (N : Nat) (σ : Mem) (x1 : Int32) : Option (Int32 × Mem) :=
  (fX5_isPlace N σ x1).bind (fun q1 => 
  if q1 = (0 : Int32) then
  ((fX5_finds N σ (-1000000001 : Int32)).bind (fun q4 => 
  some (q4.1, q4.2)))
  else (gb (inb x1 495) (
  some ((gI σ 4 (ix x1)), σ))))
set_option maxHeartbeats 4000000 in
theorem wfX5_row {Θ : ThT Mem} {g : Geo} {N : Nat}  {ρ : Int32 × Mem} (σ : Mem) (x1 : Int32) (hc : Cx Θ (VM g) cX5_row 2 RX5 (rk 2 0 0) (some .int) [] false (oI ρ.1) ρ.2) : Sim Θ 2 ρ σ (fX5_row N σ x1) (0, 0) 0 [(0, .ref (vO (VM g) + 0)), (1, .int x1)] [] := by
  have hz := hc.z
  unfold fX5_row
  refine s_iload_n hz dX5_row_0 rfl 1 rfl ?_
  refine s_bind (fun q1 e2 => ?_)
  refine kX5_92 hc (cfX5_isPlace e2) ⟨(Nat.le_of_ble_eq_true rfl), (Nat.le_of_ble_eq_true rfl)⟩ ⟨(Nat.le_of_ble_eq_true rfl), (Nat.le_of_ble_eq_true rfl)⟩ (Nat.le_of_ble_eq_true rfl) dX5_row_1 ?_
  refine s_if_eq (tgt := 16) hz dX5_row_4 rfl (fun h3 => ?_) (fun h3 => ?_)
  · refine s_aload_n hz dX5_row_16 rfl 0 rfl ?_
    refine s_ldc hz dX5_row_17 q1203 ?_
    refine s_bind (fun q4 e5 => ?_)
    refine kX5_88 hc (cfX5_finds e5) ⟨(Nat.le_of_ble_eq_true rfl), (Nat.le_of_ble_eq_true rfl)⟩ ⟨(Nat.le_of_ble_eq_true rfl), (Nat.le_of_ble_eq_true rfl)⟩ (Nat.le_of_ble_eq_true rfl) dX5_row_19 ?_
    exact s_iretM hc dX5_row_22 (Nat.le_of_ble_eq_true rfl) (Nat.le_of_ble_eq_true rfl)
  · refine s_aload_n hz dX5_row_7 rfl 0 rfl ?_
    refine rM_g_rowAt hc dX5_row_8 ?_
    refine s_iload_n hz dX5_row_11 rfl 1 rfl ?_
    refine s_gb (fun h6 => ?_)
    refine rM_ld_4 hc h6 rfl dX5_row_12 ?_
    refine s_goto (tgt := 22) hz dX5_row_13 rfl ?_
    exact s_iretM hc dX5_row_22 (Nat.le_of_ble_eq_true rfl) (Nat.le_of_ble_eq_true rfl)
theorem cfX5_row {g : Geo} {N : Nat}  {σ : Mem} {x1 : Int32} {ρ : Int32 × Mem} (hF : fX5_row N σ x1 = some ρ) (l : Launch) : Ct (VM g) l yX5_row cX5_row 2 (some .int) (rk 2 0 0) [.ref (vO (VM g) + 0), .int x1] σ (oI ρ.1) ρ.2 :=
  Ct.of (by decide) (Nat.le_of_ble_eq_true rfl) (fun Θ hc ls hl => wfX5_row σ x1 hc hF ls hl)
def fX5_isIn (N : Nat) (σ : Mem) (x0 : Int64) (x2 : Int64) (x4 : Int64) : Option (Int32) :=
  some (if x0 < x2 then (0 : Int32) else (if x4 < x0 then (0 : Int32) else (1 : Int32)))
set_option maxHeartbeats 4000000 in
theorem wfX5_isIn {Θ : ThT Mem} {g : Geo} {N : Nat}  {ρ : Int32} (σ : Mem) (x0 : Int64) (x2 : Int64) (x4 : Int64) (hc : Cx Θ (VM g) cX5_isIn 6 RX5 (rk 1 0 0) (some .boolean) [] false (oI ρ) σ) : Sim Θ 6 ρ σ (fX5_isIn N σ x0 x2 x4) (0, 0) 0 [(0, .long x0), (2, .long x2), (4, .long x4)] [] := by
  have hz := hc.z
  unfold fX5_isIn
  refine s_lload_n hz dX5_isIn_0 rfl 0 rfl ?_
  refine s_lload_n hz dX5_isIn_1 rfl 1 rfl ?_
  refine s_dia (J := 18) (v := .int (if x0 < x2 then (0 : Int32) else (if x4 < x0 then (0 : Int32) else (1 : Int32)))) (st := []) (fun _ hj1 => ?_) ?_
  · refine s_lcmp_lt_ (tgt := 17) hz dX5_isIn_2 dX5_isIn_3 rfl (fun h2 => ?_) (fun h2 => ?_)
    · refine s_iconst (v := (0 : Int32)) hz dX5_isIn_17 (by decide) ?_
      rw [if_pos h2] at hj1
      exact hj1
    · refine s_lload_n hz dX5_isIn_6 rfl 0 rfl ?_
      refine s_lload hz dX5_isIn_7 2 rfl ?_
      refine s_lcmp_gt_ (tgt := 17) hz dX5_isIn_9 dX5_isIn_10 rfl (fun h3 => ?_) (fun h3 => ?_)
      · refine s_iconst (v := (0 : Int32)) hz dX5_isIn_17 (by decide) ?_
        rw [if_neg h2, if_pos h3] at hj1
        exact hj1
      · refine s_iconst (v := (1 : Int32)) hz dX5_isIn_13 (by decide) ?_
        refine s_goto (tgt := 18) hz dX5_isIn_14 rfl ?_
        rw [if_neg h2, if_neg h3] at hj1
        exact hj1
  exact s_zret hc (nb_ite rfl (nb_ite rfl rfl)) dX5_isIn_18 (Nat.le_of_ble_eq_true rfl) (Nat.le_of_ble_eq_true rfl)
theorem cfX5_isIn {g : Geo} {N : Nat}  {σ : Mem} {x0 : Int64} {x2 : Int64} {x4 : Int64} {ρ : Int32} (hF : fX5_isIn N σ x0 x2 x4 = some ρ) (l : Launch) : Ct (VM g) l yX5_isIn cX5_isIn 6 (some .boolean) (rk 1 0 0) [.long x0, .long x2, .long x4] σ (oI ρ) σ :=
  Ct.of (by decide) (Nat.le_of_ble_eq_true rfl) (fun Θ hc ls hl => wfX5_isIn σ x0 x2 x4 hc hF ls hl)
def fX5_people (N : Nat) (σ : Mem) (x1 : Int32) (x2 : Int32) : Option (Int32 × Mem) :=
  (fX5_isIn N σ ((x1).toInt64) (0 : Int64) (7 : Int64)).bind (fun q1 => 
  if q1 = (0 : Int32) then
  ((fX5_finds N σ (-1000000001 : Int32)).bind (fun q4 => 
  some (q4.1, q4.2)))
  else ((fX5_isIn N σ ((x2).toInt64) (0 : Int64) (99999 : Int64)).bind (fun q6 => 
  if q6 = (0 : Int32) then
  ((fX5_finds N σ (-1000000001 : Int32)).bind (fun q18 => 
  some (q18.1, q18.2)))
  else (if (gI σ 1 0) = (12 : Int32) then
  ((fX5_finds N σ (-1000000002 : Int32)).bind (fun q16 => 
  some (q16.1, q16.2)))
  else (gb (inb ((20 : Int32) + (gI σ 1 0)) 919) (
  lt_ (pI σ 1 (ix ((20 : Int32) + (gI σ 1 0))) x1) (fun σ10 => 
  gb (inb ((32 : Int32) + (gI σ10 1 0)) 919) (
  lt_ (pI σ10 1 (ix ((32 : Int32) + (gI σ10 1 0))) x2) (fun σ12 => 
  lt_ (pI σ12 1 0 ((gI σ12 1 0) + (1 : Int32))) (fun σ14 => 
  lt_ (pI σ14 0 18 (1 : Int32)) (fun σ15 => 
  some (((gI σ15 1 0) - (1 : Int32)), σ15))))))))))))
set_option maxHeartbeats 4000000 in
theorem wfX5_people {Θ : ThT Mem} {g : Geo} {N : Nat}  {ρ : Int32 × Mem} (σ : Mem) (x1 : Int32) (x2 : Int32) (hc : Cx Θ (VM g) cX5_people 3 RX5 (rk 2 0 0) (some .int) [] false (oI ρ.1) ρ.2) : Sim Θ 3 ρ σ (fX5_people N σ x1 x2) (0, 0) 0 [(0, .ref (vO (VM g) + 0)), (1, .int x1), (2, .int x2)] [] := by
  have hz := hc.z
  unfold fX5_people
  refine s_iload_n hz dX5_people_0 rfl 1 rfl ?_
  refine s_i2l hz dX5_people_1 ?_
  refine s_lconst (v := (0 : Int64)) hz dX5_people_2 (by decide) ?_
  refine s_ldc2 hz dX5_people_3 q1219 ?_
  refine s_bind (fun q1 e2 => ?_)
  refine kX5_98 hc (cfX5_isIn e2) ⟨(Nat.le_of_ble_eq_true rfl), (Nat.le_of_ble_eq_true rfl)⟩ ⟨(Nat.le_of_ble_eq_true rfl), (Nat.le_of_ble_eq_true rfl)⟩ (Nat.le_of_ble_eq_true rfl) dX5_people_6 ?_
  refine s_if_eq (tgt := 24) hz dX5_people_9 rfl (fun h3 => ?_) (fun h3 => ?_)
  · refine s_aload_n hz dX5_people_24 rfl 0 rfl ?_
    refine s_ldc hz dX5_people_25 q1203 ?_
    refine s_bind (fun q4 e5 => ?_)
    refine kX5_88 hc (cfX5_finds e5) ⟨(Nat.le_of_ble_eq_true rfl), (Nat.le_of_ble_eq_true rfl)⟩ ⟨(Nat.le_of_ble_eq_true rfl), (Nat.le_of_ble_eq_true rfl)⟩ (Nat.le_of_ble_eq_true rfl) dX5_people_27 ?_
    exact s_iretM hc dX5_people_30 (Nat.le_of_ble_eq_true rfl) (Nat.le_of_ble_eq_true rfl)
  · refine s_iload_n hz dX5_people_12 rfl 2 rfl ?_
    refine s_i2l hz dX5_people_13 ?_
    refine s_lconst (v := (0 : Int64)) hz dX5_people_14 (by decide) ?_
    refine s_ldc2 hz dX5_people_15 q1223 ?_
    refine s_bind (fun q6 e7 => ?_)
    refine kX5_98 hc (cfX5_isIn e7) ⟨(Nat.le_of_ble_eq_true rfl), (Nat.le_of_ble_eq_true rfl)⟩ ⟨(Nat.le_of_ble_eq_true rfl), (Nat.le_of_ble_eq_true rfl)⟩ (Nat.le_of_ble_eq_true rfl) dX5_people_18 ?_
    refine s_if_ne (tgt := 31) hz dX5_people_21 rfl (fun h8 => ?_) (fun h8 => ?_)
    · refine s_aload_n hz dX5_people_31 rfl 0 rfl ?_
      refine rM_g_s hc dX5_people_32 ?_
      refine s_iconst (v := (0 : Int32)) hz dX5_people_35 (by decide) ?_
      refine rM_ld_1 hc (j := 0) (by decide) (by decide) dX5_people_36 ?_
      refine s_bipush (v := (12 : Int32)) hz dX5_people_37 (by decide) ?_
      refine s_icmp_ne (tgt := 49) hz dX5_people_39 rfl (fun h9 => ?_) (fun h9 => ?_)
      · refine s_aload_n hz dX5_people_49 rfl 0 rfl ?_
        refine rM_g_s hc dX5_people_50 ?_
        refine s_bipush (v := (20 : Int32)) hz dX5_people_53 (by decide) ?_
        refine s_aload_n hz dX5_people_55 rfl 0 rfl ?_
        refine rM_g_s hc dX5_people_56 ?_
        refine s_iconst (v := (0 : Int32)) hz dX5_people_59 (by decide) ?_
        refine rM_ld_1 hc (j := 0) (by decide) (by decide) dX5_people_60 ?_
        refine s_iadd hz dX5_people_61 ?_
        refine s_iload_n hz dX5_people_62 rfl 1 rfl ?_
        refine s_gb (fun h11 => ?_)
        refine rM_st_1 hc h11 rfl dX5_people_63 (fun σ10 => ?_)
        refine s_aload_n hz dX5_people_64 rfl 0 rfl ?_
        refine rM_g_s hc dX5_people_65 ?_
        refine s_bipush (v := (32 : Int32)) hz dX5_people_68 (by decide) ?_
        refine s_aload_n hz dX5_people_70 rfl 0 rfl ?_
        refine rM_g_s hc dX5_people_71 ?_
        refine s_iconst (v := (0 : Int32)) hz dX5_people_74 (by decide) ?_
        refine rM_ld_1 hc (j := 0) (by decide) (by decide) dX5_people_75 ?_
        refine s_iadd hz dX5_people_76 ?_
        refine s_iload_n hz dX5_people_77 rfl 2 rfl ?_
        refine s_gb (fun h13 => ?_)
        refine rM_st_1 hc h13 rfl dX5_people_78 (fun σ12 => ?_)
        refine s_aload_n hz dX5_people_79 rfl 0 rfl ?_
        refine rM_g_s hc dX5_people_80 ?_
        refine s_iconst (v := (0 : Int32)) hz dX5_people_83 (by decide) ?_
        refine s_dup2 hz dX5_people_84 rfl rfl ?_
        refine rM_ld_1 hc (j := 0) (by decide) (by decide) dX5_people_85 ?_
        refine s_iconst (v := (1 : Int32)) hz dX5_people_86 (by decide) ?_
        refine s_iadd hz dX5_people_87 ?_
        refine rM_st_1 hc (j := 0) (by decide) (by decide) dX5_people_88 (fun σ14 => ?_)
        refine s_aload_n hz dX5_people_89 rfl 0 rfl ?_
        refine s_iconst (v := (1 : Int32)) hz dX5_people_90 (by decide) ?_
        refine rM_p_isNew hc rfl rfl dX5_people_91 (fun σ15 => ?_)
        refine s_aload_n hz dX5_people_94 rfl 0 rfl ?_
        refine rM_g_s hc dX5_people_95 ?_
        refine s_iconst (v := (0 : Int32)) hz dX5_people_98 (by decide) ?_
        refine rM_ld_1 hc (j := 0) (by decide) (by decide) dX5_people_99 ?_
        refine s_iconst (v := (1 : Int32)) hz dX5_people_100 (by decide) ?_
        refine s_isub hz dX5_people_101 ?_
        exact s_iretM hc dX5_people_102 (Nat.le_of_ble_eq_true rfl) (Nat.le_of_ble_eq_true rfl)
      · refine s_aload_n hz dX5_people_42 rfl 0 rfl ?_
        refine s_ldc hz dX5_people_43 q1224 ?_
        refine s_bind (fun q16 e17 => ?_)
        refine kX5_88 hc (cfX5_finds e17) ⟨(Nat.le_of_ble_eq_true rfl), (Nat.le_of_ble_eq_true rfl)⟩ ⟨(Nat.le_of_ble_eq_true rfl), (Nat.le_of_ble_eq_true rfl)⟩ (Nat.le_of_ble_eq_true rfl) dX5_people_45 ?_
        exact s_iretM hc dX5_people_48 (Nat.le_of_ble_eq_true rfl) (Nat.le_of_ble_eq_true rfl)
    · refine s_aload_n hz dX5_people_24 rfl 0 rfl ?_
      refine s_ldc hz dX5_people_25 q1203 ?_
      refine s_bind (fun q18 e19 => ?_)
      refine kX5_88 hc (cfX5_finds e19) ⟨(Nat.le_of_ble_eq_true rfl), (Nat.le_of_ble_eq_true rfl)⟩ ⟨(Nat.le_of_ble_eq_true rfl), (Nat.le_of_ble_eq_true rfl)⟩ (Nat.le_of_ble_eq_true rfl) dX5_people_27 ?_
      exact s_iretM hc dX5_people_30 (Nat.le_of_ble_eq_true rfl) (Nat.le_of_ble_eq_true rfl)
theorem cfX5_people {g : Geo} {N : Nat}  {σ : Mem} {x1 : Int32} {x2 : Int32} {ρ : Int32 × Mem} (hF : fX5_people N σ x1 x2 = some ρ) (l : Launch) : Ct (VM g) l yX5_people cX5_people 3 (some .int) (rk 2 0 0) [.ref (vO (VM g) + 0), .int x1, .int x2] σ (oI ρ.1) ρ.2 :=
  Ct.of (by decide) (Nat.le_of_ble_eq_true rfl) (fun Θ hc ls hl => wfX5_people σ x1 x2 hc hF ls hl)
def fX5_isPeople (N : Nat) (σ : Mem) (x1 : Int32) : Option (Int32) :=
  if x1 < (0 : Int32) then
  (some (0 : Int32))
  else (some (if (gI σ 1 0) ≤ x1 then (0 : Int32) else (1 : Int32)))
set_option maxHeartbeats 4000000 in
theorem wfX5_isPeople {Θ : ThT Mem} {g : Geo} {N : Nat}  {ρ : Int32} (σ : Mem) (x1 : Int32) (hc : Cx Θ (VM g) cX5_isPeople 2 RX5 (rk 1 0 0) (some .boolean) [] false (oI ρ) σ) : Sim Θ 2 ρ σ (fX5_isPeople N σ x1) (0, 0) 0 [(0, .ref (vO (VM g) + 0)), (1, .int x1)] [] := by
  have hz := hc.z
  unfold fX5_isPeople
  refine s_iload_n hz dX5_isPeople_0 rfl 1 rfl ?_
  refine s_if_lt (tgt := 18) hz dX5_isPeople_1 rfl (fun h1 => ?_) (fun h1 => ?_)
  · refine s_iconst (v := (0 : Int32)) hz dX5_isPeople_18 (by decide) ?_
    exact s_zret hc rfl dX5_isPeople_19 (Nat.le_of_ble_eq_true rfl) (Nat.le_of_ble_eq_true rfl)
  · refine s_iload_n hz dX5_isPeople_4 rfl 1 rfl ?_
    refine s_aload_n hz dX5_isPeople_5 rfl 0 rfl ?_
    refine rM_g_s hc dX5_isPeople_6 ?_
    refine s_iconst (v := (0 : Int32)) hz dX5_isPeople_9 (by decide) ?_
    refine rM_ld_1 hc (j := 0) (by decide) (by decide) dX5_isPeople_10 ?_
    refine s_dia (J := 19) (v := .int (if (gI σ 1 0) ≤ x1 then (0 : Int32) else (1 : Int32))) (st := []) (fun _ hj2 => ?_) ?_
    · refine s_icmp_ge_ (tgt := 18) hz dX5_isPeople_11 rfl (fun h3 => ?_) (fun h3 => ?_)
      · refine s_iconst (v := (0 : Int32)) hz dX5_isPeople_18 (by decide) ?_
        rw [if_pos h3] at hj2
        exact hj2
      · refine s_iconst (v := (1 : Int32)) hz dX5_isPeople_14 (by decide) ?_
        refine s_goto (tgt := 19) hz dX5_isPeople_15 rfl ?_
        rw [if_neg h3] at hj2
        exact hj2
    exact s_zret hc (nb_ite rfl rfl) dX5_isPeople_19 (Nat.le_of_ble_eq_true rfl) (Nat.le_of_ble_eq_true rfl)
theorem cfX5_isPeople {g : Geo} {N : Nat}  {σ : Mem} {x1 : Int32} {ρ : Int32} (hF : fX5_isPeople N σ x1 = some ρ) (l : Launch) : Ct (VM g) l yX5_isPeople cX5_isPeople 2 (some .boolean) (rk 1 0 0) [.ref (vO (VM g) + 0), .int x1] σ (oI ρ) σ :=
  Ct.of (by decide) (Nat.le_of_ble_eq_true rfl) (fun Θ hc ls hl => wfX5_isPeople σ x1 hc hF ls hl)
def fX5_of (N : Nat) (σ : Mem) (x1 : Int32) (x2 : Int32) : Option (Int32 × Mem) :=
  (fX5_isPeople N σ x1).bind (fun q1 => 
  if q1 = (0 : Int32) then
  ((fX5_finds N σ (-1000000001 : Int32)).bind (fun q4 => 
  some (q4.1, q4.2)))
  else ((fX5_isIn N σ ((x2).toInt64) (0 : Int64) (1 : Int64)).bind (fun q6 => 
  if q6 = (0 : Int32) then
  ((fX5_finds N σ (-1000000001 : Int32)).bind (fun q12 => 
  some (q12.1, q12.2)))
  else (if x2 = (0 : Int32) then
  (gb (inb ((20 : Int32) + x1) 919) (
  some ((gI σ 1 (ix ((20 : Int32) + x1))), σ)))
  else (gb (inb ((32 : Int32) + x1) 919) (
  some ((gI σ 1 (ix ((32 : Int32) + x1))), σ)))))))
set_option maxHeartbeats 4000000 in
theorem wfX5_of {Θ : ThT Mem} {g : Geo} {N : Nat}  {ρ : Int32 × Mem} (σ : Mem) (x1 : Int32) (x2 : Int32) (hc : Cx Θ (VM g) cX5_of 3 RX5 (rk 2 0 0) (some .int) [] false (oI ρ.1) ρ.2) : Sim Θ 3 ρ σ (fX5_of N σ x1 x2) (0, 0) 0 [(0, .ref (vO (VM g) + 0)), (1, .int x1), (2, .int x2)] [] := by
  have hz := hc.z
  unfold fX5_of
  refine s_aload_n hz dX5_of_0 rfl 0 rfl ?_
  refine s_iload_n hz dX5_of_1 rfl 1 rfl ?_
  refine s_bind (fun q1 e2 => ?_)
  refine kX5_105 hc (cfX5_isPeople e2) ⟨(Nat.le_of_ble_eq_true rfl), (Nat.le_of_ble_eq_true rfl)⟩ ⟨(Nat.le_of_ble_eq_true rfl), (Nat.le_of_ble_eq_true rfl)⟩ (Nat.le_of_ble_eq_true rfl) dX5_of_2 ?_
  refine s_if_eq (tgt := 18) hz dX5_of_5 rfl (fun h3 => ?_) (fun h3 => ?_)
  · refine s_aload_n hz dX5_of_18 rfl 0 rfl ?_
    refine s_ldc hz dX5_of_19 q1203 ?_
    refine s_bind (fun q4 e5 => ?_)
    refine kX5_88 hc (cfX5_finds e5) ⟨(Nat.le_of_ble_eq_true rfl), (Nat.le_of_ble_eq_true rfl)⟩ ⟨(Nat.le_of_ble_eq_true rfl), (Nat.le_of_ble_eq_true rfl)⟩ (Nat.le_of_ble_eq_true rfl) dX5_of_21 ?_
    exact s_iretM hc dX5_of_24 (Nat.le_of_ble_eq_true rfl) (Nat.le_of_ble_eq_true rfl)
  · refine s_iload_n hz dX5_of_8 rfl 2 rfl ?_
    refine s_i2l hz dX5_of_9 ?_
    refine s_lconst (v := (0 : Int64)) hz dX5_of_10 (by decide) ?_
    refine s_lconst (v := (1 : Int64)) hz dX5_of_11 (by decide) ?_
    refine s_bind (fun q6 e7 => ?_)
    refine kX5_98 hc (cfX5_isIn e7) ⟨(Nat.le_of_ble_eq_true rfl), (Nat.le_of_ble_eq_true rfl)⟩ ⟨(Nat.le_of_ble_eq_true rfl), (Nat.le_of_ble_eq_true rfl)⟩ (Nat.le_of_ble_eq_true rfl) dX5_of_12 ?_
    refine s_if_ne (tgt := 25) hz dX5_of_15 rfl (fun h8 => ?_) (fun h8 => ?_)
    · refine s_iload_n hz dX5_of_25 rfl 2 rfl ?_
      refine s_if_ne (tgt := 41) hz dX5_of_26 rfl (fun h9 => ?_) (fun h9 => ?_)
      · refine s_aload_n hz dX5_of_41 rfl 0 rfl ?_
        refine rM_g_s hc dX5_of_42 ?_
        refine s_bipush (v := (32 : Int32)) hz dX5_of_45 (by decide) ?_
        refine s_iload_n hz dX5_of_47 rfl 1 rfl ?_
        refine s_iadd hz dX5_of_48 ?_
        refine s_gb (fun h10 => ?_)
        refine rM_ld_1 hc h10 rfl dX5_of_49 ?_
        exact s_iretM hc dX5_of_50 (Nat.le_of_ble_eq_true rfl) (Nat.le_of_ble_eq_true rfl)
      · refine s_aload_n hz dX5_of_29 rfl 0 rfl ?_
        refine rM_g_s hc dX5_of_30 ?_
        refine s_bipush (v := (20 : Int32)) hz dX5_of_33 (by decide) ?_
        refine s_iload_n hz dX5_of_35 rfl 1 rfl ?_
        refine s_iadd hz dX5_of_36 ?_
        refine s_gb (fun h11 => ?_)
        refine rM_ld_1 hc h11 rfl dX5_of_37 ?_
        refine s_goto (tgt := 50) hz dX5_of_38 rfl ?_
        exact s_iretM hc dX5_of_50 (Nat.le_of_ble_eq_true rfl) (Nat.le_of_ble_eq_true rfl)
    · refine s_aload_n hz dX5_of_18 rfl 0 rfl ?_
      refine s_ldc hz dX5_of_19 q1203 ?_
      refine s_bind (fun q12 e13 => ?_)
      refine kX5_88 hc (cfX5_finds e13) ⟨(Nat.le_of_ble_eq_true rfl), (Nat.le_of_ble_eq_true rfl)⟩ ⟨(Nat.le_of_ble_eq_true rfl), (Nat.le_of_ble_eq_true rfl)⟩ (Nat.le_of_ble_eq_true rfl) dX5_of_21 ?_
      exact s_iretM hc dX5_of_24 (Nat.le_of_ble_eq_true rfl) (Nat.le_of_ble_eq_true rfl)
theorem cfX5_of {g : Geo} {N : Nat}  {σ : Mem} {x1 : Int32} {x2 : Int32} {ρ : Int32 × Mem} (hF : fX5_of N σ x1 x2 = some ρ) (l : Launch) : Ct (VM g) l yX5_of cX5_of 3 (some .int) (rk 2 0 0) [.ref (vO (VM g) + 0), .int x1, .int x2] σ (oI ρ.1) ρ.2 :=
  Ct.of (by decide) (Nat.le_of_ble_eq_true rfl) (fun Θ hc ls hl => wfX5_of σ x1 x2 hc hF ls hl)
def fX5_many (N : Nat) (σ : Mem) (x1 : Int32) (x2 : Int32) : Option (Int32 × Mem) :=
  (fX5_isPeople N σ x1).bind (fun q1 => 
  if q1 = (0 : Int32) then
  ((fX5_finds N σ (-1000000001 : Int32)).bind (fun q4 => 
  some (q4.1, q4.2)))
  else ((fX5_isIn N σ ((x2).toInt64) (0 : Int64) (99999 : Int64)).bind (fun q6 => 
  if q6 = (0 : Int32) then
  ((fX5_finds N σ (-1000000001 : Int32)).bind (fun q14 => 
  some (q14.1, q14.2)))
  else (gb (inb ((32 : Int32) + x1) 919) (
  lt_ (gI σ 1 (ix ((32 : Int32) + x1))) (fun v10 => 
  gb (inb ((32 : Int32) + x1) 919) (
  lt_ (pI σ 1 (ix ((32 : Int32) + x1)) x2) (fun σ11 => 
  lt_ (pI σ11 0 18 (1 : Int32)) (fun σ13 => 
  some (v10, σ13))))))))))
set_option maxHeartbeats 4000000 in
theorem wfX5_many {Θ : ThT Mem} {g : Geo} {N : Nat}  {ρ : Int32 × Mem} (σ : Mem) (x1 : Int32) (x2 : Int32) (hc : Cx Θ (VM g) cX5_many 4 RX5 (rk 2 0 0) (some .int) [] false (oI ρ.1) ρ.2) : Sim Θ 4 ρ σ (fX5_many N σ x1 x2) (0, 0) 0 [(0, .ref (vO (VM g) + 0)), (1, .int x1), (2, .int x2)] [] := by
  have hz := hc.z
  unfold fX5_many
  refine s_aload_n hz dX5_many_0 rfl 0 rfl ?_
  refine s_iload_n hz dX5_many_1 rfl 1 rfl ?_
  refine s_bind (fun q1 e2 => ?_)
  refine kX5_105 hc (cfX5_isPeople e2) ⟨(Nat.le_of_ble_eq_true rfl), (Nat.le_of_ble_eq_true rfl)⟩ ⟨(Nat.le_of_ble_eq_true rfl), (Nat.le_of_ble_eq_true rfl)⟩ (Nat.le_of_ble_eq_true rfl) dX5_many_2 ?_
  refine s_if_eq (tgt := 20) hz dX5_many_5 rfl (fun h3 => ?_) (fun h3 => ?_)
  · refine s_aload_n hz dX5_many_20 rfl 0 rfl ?_
    refine s_ldc hz dX5_many_21 q1203 ?_
    refine s_bind (fun q4 e5 => ?_)
    refine kX5_88 hc (cfX5_finds e5) ⟨(Nat.le_of_ble_eq_true rfl), (Nat.le_of_ble_eq_true rfl)⟩ ⟨(Nat.le_of_ble_eq_true rfl), (Nat.le_of_ble_eq_true rfl)⟩ (Nat.le_of_ble_eq_true rfl) dX5_many_23 ?_
    exact s_iretM hc dX5_many_26 (Nat.le_of_ble_eq_true rfl) (Nat.le_of_ble_eq_true rfl)
  · refine s_iload_n hz dX5_many_8 rfl 2 rfl ?_
    refine s_i2l hz dX5_many_9 ?_
    refine s_lconst (v := (0 : Int64)) hz dX5_many_10 (by decide) ?_
    refine s_ldc2 hz dX5_many_11 q1223 ?_
    refine s_bind (fun q6 e7 => ?_)
    refine kX5_98 hc (cfX5_isIn e7) ⟨(Nat.le_of_ble_eq_true rfl), (Nat.le_of_ble_eq_true rfl)⟩ ⟨(Nat.le_of_ble_eq_true rfl), (Nat.le_of_ble_eq_true rfl)⟩ (Nat.le_of_ble_eq_true rfl) dX5_many_14 ?_
    refine s_if_ne (tgt := 27) hz dX5_many_17 rfl (fun h8 => ?_) (fun h8 => ?_)
    · refine s_aload_n hz dX5_many_27 rfl 0 rfl ?_
      refine rM_g_s hc dX5_many_28 ?_
      refine s_bipush (v := (32 : Int32)) hz dX5_many_31 (by decide) ?_
      refine s_iload_n hz dX5_many_33 rfl 1 rfl ?_
      refine s_iadd hz dX5_many_34 ?_
      refine s_gb (fun h9 => ?_)
      refine rM_ld_1 hc h9 rfl dX5_many_35 ?_
      refine s_nmI (fun v10 => ?_)
      refine s_istore_n (lv' := [(3, .int v10), (0, .ref (vO (VM g) + 0)), (1, .int x1), (2, .int x2)]) hz dX5_many_36 rfl (Nat.le_of_ble_eq_true rfl) rfl ?_
      refine s_aload_n hz dX5_many_37 rfl 1 rfl ?_
      refine rM_g_s hc dX5_many_38 ?_
      refine s_bipush (v := (32 : Int32)) hz dX5_many_41 (by decide) ?_
      refine s_iload_n hz dX5_many_43 rfl 2 rfl ?_
      refine s_iadd hz dX5_many_44 ?_
      refine s_iload_n hz dX5_many_45 rfl 3 rfl ?_
      refine s_gb (fun h12 => ?_)
      refine rM_st_1 hc h12 rfl dX5_many_46 (fun σ11 => ?_)
      refine s_aload_n hz dX5_many_47 rfl 1 rfl ?_
      refine s_iconst (v := (1 : Int32)) hz dX5_many_48 (by decide) ?_
      refine rM_p_isNew hc rfl rfl dX5_many_49 (fun σ13 => ?_)
      refine s_iload_n hz dX5_many_52 rfl 0 rfl ?_
      exact s_iretM hc dX5_many_53 (Nat.le_of_ble_eq_true rfl) (Nat.le_of_ble_eq_true rfl)
    · refine s_aload_n hz dX5_many_20 rfl 0 rfl ?_
      refine s_ldc hz dX5_many_21 q1203 ?_
      refine s_bind (fun q14 e15 => ?_)
      refine kX5_88 hc (cfX5_finds e15) ⟨(Nat.le_of_ble_eq_true rfl), (Nat.le_of_ble_eq_true rfl)⟩ ⟨(Nat.le_of_ble_eq_true rfl), (Nat.le_of_ble_eq_true rfl)⟩ (Nat.le_of_ble_eq_true rfl) dX5_many_23 ?_
      exact s_iretM hc dX5_many_26 (Nat.le_of_ble_eq_true rfl) (Nat.le_of_ble_eq_true rfl)
theorem cfX5_many {g : Geo} {N : Nat}  {σ : Mem} {x1 : Int32} {x2 : Int32} {ρ : Int32 × Mem} (hF : fX5_many N σ x1 x2 = some ρ) (l : Launch) : Ct (VM g) l yX5_many cX5_many 4 (some .int) (rk 2 0 0) [.ref (vO (VM g) + 0), .int x1, .int x2] σ (oI ρ.1) ρ.2 :=
  Ct.of (by decide) (Nat.le_of_ble_eq_true rfl) (fun Θ hc ls hl => wfX5_many σ x1 x2 hc hF ls hl)
def fX5_above (N : Nat) (σ : Mem) (x0 : Int32) : Option (Int32) :=
  if x0 = (0 : Int32) then
  (some (-1 : Int32))
  else (if x0 = (5 : Int32) then
  (some (1 : Int32))
  else (if x0 = (6 : Int32) then
  (some (3 : Int32))
  else (if x0 = (7 : Int32) then
  (some (6 : Int32))
  else (some (0 : Int32)))))
set_option maxHeartbeats 4000000 in
theorem wfX5_above {Θ : ThT Mem} {g : Geo} {N : Nat}  {ρ : Int32} (σ : Mem) (x0 : Int32) (hc : Cx Θ (VM g) cX5_above 1 RX5 (rk 1 0 0) (some .int) [] false (oI ρ) σ) : Sim Θ 1 ρ σ (fX5_above N σ x0) (0, 0) 0 [(0, .int x0)] [] := by
  have hz := hc.z
  unfold fX5_above
  refine s_iload_n hz dX5_above_0 rfl 0 rfl ?_
  refine s_ite (fun h1 => ?_) (fun h1 => ?_)
  · refine s_tblIn (off := 47) (tgt := 48) (k := (0 : Int32)) hz dX5_above_1 h1 (by decide) (by decide) rfl rfl ?_
    refine s_iconst (v := (-1 : Int32)) hz dX5_above_48 (by decide) ?_
    exact s_iret hc dX5_above_49 (Nat.le_of_ble_eq_true rfl) (Nat.le_of_ble_eq_true rfl)
  refine s_ite (fun h2 => ?_) (fun h2 => ?_)
  · refine s_tblIn (off := 49) (tgt := 50) (k := (5 : Int32)) hz dX5_above_1 h2 (by decide) (by decide) rfl rfl ?_
    refine s_iconst (v := (1 : Int32)) hz dX5_above_50 (by decide) ?_
    exact s_iret hc dX5_above_51 (Nat.le_of_ble_eq_true rfl) (Nat.le_of_ble_eq_true rfl)
  refine s_ite (fun h3 => ?_) (fun h3 => ?_)
  · refine s_tblIn (off := 51) (tgt := 52) (k := (6 : Int32)) hz dX5_above_1 h3 (by decide) (by decide) rfl rfl ?_
    refine s_iconst (v := (3 : Int32)) hz dX5_above_52 (by decide) ?_
    exact s_iret hc dX5_above_53 (Nat.le_of_ble_eq_true rfl) (Nat.le_of_ble_eq_true rfl)
  refine s_ite (fun h4 => ?_) (fun h4 => ?_)
  · refine s_tblIn (off := 53) (tgt := 54) (k := (7 : Int32)) hz dX5_above_1 h4 (by decide) (by decide) rfl rfl ?_
    refine s_bipush (v := (6 : Int32)) hz dX5_above_54 (by decide) ?_
    exact s_iret hc dX5_above_56 (Nat.le_of_ble_eq_true rfl) (Nat.le_of_ble_eq_true rfl)
  refine s_tblD (tgt := 57) (us := [0, 5, 6, 7]) hz dX5_above_1 (by decide) (by have a0 : (x0).toInt ≠ 0 := lc_ne h1; have a1 : (x0).toInt ≠ 5 := lc_ne h2; have a2 : (x0).toInt ≠ 6 := lc_ne h3; have a3 : (x0).toInt ≠ 7 := lc_ne h4; intro u hu; simp only [List.mem_cons, List.not_mem_nil, or_false] at hu; omega) rfl ?_
  refine s_iconst (v := (0 : Int32)) hz dX5_above_57 (by decide) ?_
  exact s_iret hc dX5_above_58 (Nat.le_of_ble_eq_true rfl) (Nat.le_of_ble_eq_true rfl)
theorem cfX5_above {g : Geo} {N : Nat}  {σ : Mem} {x0 : Int32} {ρ : Int32} (hF : fX5_above N σ x0 = some ρ) (l : Launch) : Ct (VM g) l yX5_above cX5_above 1 (some .int) (rk 1 0 0) [.int x0] σ (oI ρ) σ :=
  Ct.of (by decide) (Nat.le_of_ble_eq_true rfl) (fun Θ hc ls hl => wfX5_above σ x0 hc hF ls hl)
def jX5_as_54 (N : Nat) (σ : Mem) (x1 : Int32) (x3 : Int32)  : Option (Int32 × Mem) :=
  if (0 : Int32) ≤ x3 then
  (gb (inb ((32 : Int32) + x1) 919) (
  some ((gI σ 1 (ix ((32 : Int32) + x1))), σ)))
  else ((fX5_finds N σ (-1000000003 : Int32)).bind (fun q14 => 
  some (q14.1, q14.2)))
set_option maxHeartbeats 4000000 in
theorem wjX5_as_54 {Θ : ThT Mem} {g : Geo} {N : Nat}  {ρ : Int32 × Mem} (σ : Mem) (hc : Cx Θ (VM g) cX5_as 4 RX5 (rk 2 0 0) (some .int) [] false (oI ρ.1) ρ.2) (x1 : Int32) (x3 : Int32)  : Sim Θ 4 ρ σ (jX5_as_54 N σ x1 x3 ) (0, 0) 54 [(0, .ref (vO (VM g) + 0)), (1, .int x1), (3, .int x3)] [] := by
  have hz := hc.z
  unfold jX5_as_54
  refine s_iload_n hz dX5_as_54 rfl 2 rfl ?_
  refine s_if_ge (tgt := 67) hz dX5_as_55 rfl (fun h12 => ?_) (fun h12 => ?_)
  · refine s_aload_n hz dX5_as_67 rfl 0 rfl ?_
    refine rM_g_s hc dX5_as_68 ?_
    refine s_bipush (v := (32 : Int32)) hz dX5_as_71 (by decide) ?_
    refine s_iload_n hz dX5_as_73 rfl 1 rfl ?_
    refine s_iadd hz dX5_as_74 ?_
    refine s_gb (fun h13 => ?_)
    refine rM_ld_1 hc h13 rfl dX5_as_75 ?_
    exact s_iretM hc dX5_as_76 (Nat.le_of_ble_eq_true rfl) (Nat.le_of_ble_eq_true rfl)
  · refine s_aload_n hz dX5_as_58 rfl 0 rfl ?_
    refine s_ldc hz dX5_as_59 q1244 ?_
    refine s_bind (fun q14 e15 => ?_)
    refine kX5_88 hc (cfX5_finds e15) ⟨(Nat.le_of_ble_eq_true rfl), (Nat.le_of_ble_eq_true rfl)⟩ ⟨(Nat.le_of_ble_eq_true rfl), (Nat.le_of_ble_eq_true rfl)⟩ (Nat.le_of_ble_eq_true rfl) dX5_as_61 ?_
    refine s_goto (tgt := 76) hz dX5_as_64 rfl ?_
    exact s_iretM hc dX5_as_76 (Nat.le_of_ble_eq_true rfl) (Nat.le_of_ble_eq_true rfl)
def bX5_as_37 (N : Nat) (σ : Mem) (x1 : Int32) (x2 : Int32) (r37 : Int32 → Option (Int32 × Mem)) (y37 : Int32) : Option (Int32 × Mem) :=
  if y37 < (0 : Int32) then
  (jX5_as_54 N σ x1 y37)
  else (if y37 = x2 then
  (jX5_as_54 N σ x1 y37)
  else ((fX5_above N σ y37).bind (fun q17 => 
  r37 q17)))
set_option maxHeartbeats 4000000 in
theorem wbX5_as_37 {Θ : ThT Mem} {g : Geo} {N : Nat}  {ρ : Int32 × Mem} (σ : Mem) (hc : Cx Θ (VM g) cX5_as 4 RX5 (rk 2 0 0) (some .int) [] false (oI ρ.1) ρ.2) (x1 : Int32) (x2 : Int32) (r37 : Int32 → Option (Int32 × Mem)) (hr37 : ∀ y : Int32, Sim Θ 4 ρ (σ) (r37 y) (0, 0) 37 [(0, .ref (vO (VM g) + 0)), (1, .int x1), (2, .int x2), (3, .int y)] []) : ∀ y37 : Int32, Sim Θ 4 ρ (σ) (bX5_as_37 N σ x1 x2 r37 y37) (0, 0) 37 [(0, .ref (vO (VM g) + 0)), (1, .int x1), (2, .int x2), (3, .int y37)] [] := by
  intro y37
  have hz := hc.z
  unfold bX5_as_37
  refine s_iload_n hz dX5_as_37 rfl 3 rfl ?_
  refine s_if_lt (tgt := 54) hz dX5_as_38 rfl (fun h11 => ?_) (fun h11 => ?_)
  · exact s_sub [0, 1, 3] rfl (wjX5_as_54 σ hc x1 y37 )
  · refine s_iload_n hz dX5_as_41 rfl 3 rfl ?_
    refine s_iload_n hz dX5_as_42 rfl 2 rfl ?_
    refine s_icmp_eq (tgt := 54) hz dX5_as_43 rfl (fun h16 => ?_) (fun h16 => ?_)
    · exact s_sub [0, 1, 3] rfl (wjX5_as_54 σ hc x1 y37 )
    · refine s_iload_n hz dX5_as_46 rfl 3 rfl ?_
      refine s_bind (fun q17 e18 => ?_)
      refine kX5_108 hc (cfX5_above e18) ⟨(Nat.le_of_ble_eq_true rfl), (Nat.le_of_ble_eq_true rfl)⟩ ⟨(Nat.le_of_ble_eq_true rfl), (Nat.le_of_ble_eq_true rfl)⟩ (Nat.le_of_ble_eq_true rfl) dX5_as_47 ?_
      refine s_istore_n (lv' := [(3, .int q17), (0, .ref (vO (VM g) + 0)), (1, .int x1), (2, .int x2)]) hz dX5_as_50 rfl (Nat.le_of_ble_eq_true rfl) rfl ?_
      refine s_goto (tgt := 37) hz dX5_as_51 rfl ?_
      exact s_sub [1, 2, 3, 0] rfl (hr37 q17)
def fX5_as (N : Nat) (σ : Mem) (x1 : Int32) (x2 : Int32) : Option (Int32 × Mem) :=
  (fX5_isPeople N σ x1).bind (fun q1 => 
  if q1 = (0 : Int32) then
  ((fX5_finds N σ (-1000000001 : Int32)).bind (fun q4 => 
  some (q4.1, q4.2)))
  else ((fX5_isIn N σ ((x2).toInt64) (0 : Int64) (7 : Int64)).bind (fun q6 => 
  if q6 = (0 : Int32) then
  ((fX5_finds N σ (-1000000001 : Int32)).bind (fun q19 => 
  some (q19.1, q19.2)))
  else (gb (inb ((20 : Int32) + x1) 919) (
  lt_ (gI σ 1 (ix ((20 : Int32) + x1))) (fun v10 => 
  lp (bX5_as_37 N σ x1 x2) N v10))))))
set_option maxHeartbeats 4000000 in
theorem wfX5_as {Θ : ThT Mem} {g : Geo} {N : Nat}  {ρ : Int32 × Mem} (σ : Mem) (x1 : Int32) (x2 : Int32) (hc : Cx Θ (VM g) cX5_as 4 RX5 (rk 2 0 0) (some .int) [] false (oI ρ.1) ρ.2) : Sim Θ 4 ρ σ (fX5_as N σ x1 x2) (0, 0) 0 [(0, .ref (vO (VM g) + 0)), (1, .int x1), (2, .int x2)] [] := by
  have hz := hc.z
  unfold fX5_as
  refine s_aload_n hz dX5_as_0 rfl 0 rfl ?_
  refine s_iload_n hz dX5_as_1 rfl 1 rfl ?_
  refine s_bind (fun q1 e2 => ?_)
  refine kX5_105 hc (cfX5_isPeople e2) ⟨(Nat.le_of_ble_eq_true rfl), (Nat.le_of_ble_eq_true rfl)⟩ ⟨(Nat.le_of_ble_eq_true rfl), (Nat.le_of_ble_eq_true rfl)⟩ (Nat.le_of_ble_eq_true rfl) dX5_as_2 ?_
  refine s_if_eq (tgt := 20) hz dX5_as_5 rfl (fun h3 => ?_) (fun h3 => ?_)
  · refine s_aload_n hz dX5_as_20 rfl 0 rfl ?_
    refine s_ldc hz dX5_as_21 q1203 ?_
    refine s_bind (fun q4 e5 => ?_)
    refine kX5_88 hc (cfX5_finds e5) ⟨(Nat.le_of_ble_eq_true rfl), (Nat.le_of_ble_eq_true rfl)⟩ ⟨(Nat.le_of_ble_eq_true rfl), (Nat.le_of_ble_eq_true rfl)⟩ (Nat.le_of_ble_eq_true rfl) dX5_as_23 ?_
    exact s_iretM hc dX5_as_26 (Nat.le_of_ble_eq_true rfl) (Nat.le_of_ble_eq_true rfl)
  · refine s_iload_n hz dX5_as_8 rfl 2 rfl ?_
    refine s_i2l hz dX5_as_9 ?_
    refine s_lconst (v := (0 : Int64)) hz dX5_as_10 (by decide) ?_
    refine s_ldc2 hz dX5_as_11 q1219 ?_
    refine s_bind (fun q6 e7 => ?_)
    refine kX5_98 hc (cfX5_isIn e7) ⟨(Nat.le_of_ble_eq_true rfl), (Nat.le_of_ble_eq_true rfl)⟩ ⟨(Nat.le_of_ble_eq_true rfl), (Nat.le_of_ble_eq_true rfl)⟩ (Nat.le_of_ble_eq_true rfl) dX5_as_14 ?_
    refine s_if_ne (tgt := 27) hz dX5_as_17 rfl (fun h8 => ?_) (fun h8 => ?_)
    · refine s_aload_n hz dX5_as_27 rfl 0 rfl ?_
      refine rM_g_s hc dX5_as_28 ?_
      refine s_bipush (v := (20 : Int32)) hz dX5_as_31 (by decide) ?_
      refine s_iload_n hz dX5_as_33 rfl 1 rfl ?_
      refine s_iadd hz dX5_as_34 ?_
      refine s_gb (fun h9 => ?_)
      refine rM_ld_1 hc h9 rfl dX5_as_35 ?_
      refine s_nmI (fun v10 => ?_)
      refine s_istore_n (lv' := [(3, .int v10), (0, .ref (vO (VM g) + 0)), (1, .int x1), (2, .int x2)]) hz dX5_as_36 rfl (Nat.le_of_ble_eq_true rfl) rfl ?_
      exact s_sub [1, 2, 3, 0] rfl (s_lp (sg := fun y : Int32 => σ) (lvs := fun y : Int32 => [(0, .ref (vO (VM g) + 0)), (1, .int x1), (2, .int x2), (3, .int y)]) (fun rec hrec => wbX5_as_37 σ hc x1 x2  rec hrec) N v10)
    · refine s_aload_n hz dX5_as_20 rfl 0 rfl ?_
      refine s_ldc hz dX5_as_21 q1203 ?_
      refine s_bind (fun q19 e20 => ?_)
      refine kX5_88 hc (cfX5_finds e20) ⟨(Nat.le_of_ble_eq_true rfl), (Nat.le_of_ble_eq_true rfl)⟩ ⟨(Nat.le_of_ble_eq_true rfl), (Nat.le_of_ble_eq_true rfl)⟩ (Nat.le_of_ble_eq_true rfl) dX5_as_23 ?_
      exact s_iretM hc dX5_as_26 (Nat.le_of_ble_eq_true rfl) (Nat.le_of_ble_eq_true rfl)
theorem cfX5_as {g : Geo} {N : Nat}  {σ : Mem} {x1 : Int32} {x2 : Int32} {ρ : Int32 × Mem} (hF : fX5_as N σ x1 x2 = some ρ) (l : Launch) : Ct (VM g) l yX5_as cX5_as 4 (some .int) (rk 2 0 0) [.ref (vO (VM g) + 0), .int x1, .int x2] σ (oI ρ.1) ρ.2 :=
  Ct.of (by decide) (Nat.le_of_ble_eq_true rfl) (fun Θ hc ls hl => wfX5_as σ x1 x2 hc hF ls hl)
def bX5_feed_41 (N : Nat) (σ : Mem) (x1 : Int32) (r41 : (Mem × Int32) → Option (Int32 × Mem)) (y41 : Mem × Int32) : Option (Int32 × Mem) :=
  if y41.2 < (0 : Int32) then
  (some ((gI y41.1 0 9), y41.1))
  else (gb (inb (gI y41.1 0 9) 60) (
  lt_ (pI y41.1 8 (ix (gI y41.1 0 9)) ((x1 >>> (((8 : Int32) * y41.2) &&& 31)) &&& (255 : Int32))) (fun σ7 => 
  lt_ (pI σ7 0 9 ((gI σ7 0 9) + (1 : Int32))) (fun σ9 => 
  r41 (σ9, (y41.2 + (-1 : Int32)))))))
set_option maxHeartbeats 4000000 in
theorem wbX5_feed_41 {Θ : ThT Mem} {g : Geo} {N : Nat}  {ρ : Int32 × Mem} (σ : Mem) (hc : Cx Θ (VM g) cX5_feed 4 RX5 (rk 2 0 0) (some .int) [] false (oI ρ.1) ρ.2) (x1 : Int32) (r41 : (Mem × Int32) → Option (Int32 × Mem)) (hr41 : ∀ y : Mem × Int32, Sim Θ 4 ρ (y.1) (r41 y) (0, 0) 41 [(0, .ref (vO (VM g) + 0)), (1, .int x1), (3, .int y.2)] []) : ∀ y41 : Mem × Int32, Sim Θ 4 ρ (y41.1) (bX5_feed_41 N σ x1 r41 y41) (0, 0) 41 [(0, .ref (vO (VM g) + 0)), (1, .int x1), (3, .int y41.2)] [] := by
  intro y41
  have hz := hc.z
  have hr41c : ∀ (z0_ : Mem) (z1_ : Int32), Sim Θ 4 ρ (z0_) (r41 (z0_, z1_)) (0, 0) 41 [(0, .ref (vO (VM g) + 0)), (1, .int x1), (3, .int z1_)] [] := fun z0_ z1_ => hr41 (z0_, z1_)
  unfold bX5_feed_41
  refine s_iload_n hz dX5_feed_41 rfl 2 rfl ?_
  refine s_if_lt (tgt := 80) hz dX5_feed_42 rfl (fun h6 => ?_) (fun h6 => ?_)
  · refine s_aload_n hz dX5_feed_80 rfl 0 rfl ?_
    refine rM_g_taped hc dX5_feed_81 ?_
    exact s_iretM hc dX5_feed_84 (Nat.le_of_ble_eq_true rfl) (Nat.le_of_ble_eq_true rfl)
  · refine s_aload_n hz dX5_feed_45 rfl 0 rfl ?_
    refine rM_g_tape hc dX5_feed_46 ?_
    refine s_aload_n hz dX5_feed_49 rfl 0 rfl ?_
    refine rM_g_taped hc dX5_feed_50 ?_
    refine s_iload_n hz dX5_feed_53 rfl 1 rfl ?_
    refine s_bipush (v := (8 : Int32)) hz dX5_feed_54 (by decide) ?_
    refine s_iload_n hz dX5_feed_56 rfl 2 rfl ?_
    refine s_imul hz dX5_feed_57 ?_
    refine s_ishr hz dX5_feed_58 ?_
    refine s_sipush (v := (255 : Int32)) hz dX5_feed_59 (by decide) ?_
    refine s_iand hz dX5_feed_62 ?_
    refine s_gb (fun h8 => ?_)
    refine rM_st_8 hc h8 rfl dX5_feed_63 (fun σ7 => ?_)
    refine s_aload_n hz dX5_feed_64 rfl 0 rfl ?_
    refine s_dup hz dX5_feed_65 rfl ?_
    refine rM_g_taped hc dX5_feed_66 ?_
    refine s_iconst (v := (1 : Int32)) hz dX5_feed_69 (by decide) ?_
    refine s_iadd hz dX5_feed_70 ?_
    refine rM_p_taped hc dX5_feed_71 (fun σ9 => ?_)
    refine s_iinc (v := (-1 : Int32)) (lv' := [(3, .int (y41.2 + (-1 : Int32))), (0, .ref (vO (VM g) + 0)), (1, .int x1)]) hz dX5_feed_74 2 rfl (by decide) (Nat.le_of_ble_eq_true rfl) rfl ?_
    refine s_goto (tgt := 41) hz dX5_feed_77 rfl ?_
    exact s_sub [1, 2, 0] rfl (hr41c σ9 (y41.2 + (-1 : Int32)))
def fX5_feed (N : Nat) (σ : Mem) (x1 : Int32) (x2 : Int32) : Option (Int32 × Mem) :=
  (fX5_isIn N σ ((x2).toInt64) (1 : Int64) (4 : Int64)).bind (fun q1 => 
  if q1 = (0 : Int32) then
  ((fX5_finds N σ (-1000000001 : Int32)).bind (fun q12 => 
  some (q12.1, q12.2)))
  else (if ((gI σ 0 9) + x2) ≤ (60 : Int32) then
  (lt_ (x2 - (1 : Int32)) (fun v5 => 
  lp (bX5_feed_41 N σ x1) N (σ, v5)))
  else ((fX5_finds N σ (-1000000002 : Int32)).bind (fun q10 => 
  some (q10.1, q10.2)))))
set_option maxHeartbeats 4000000 in
theorem wfX5_feed {Θ : ThT Mem} {g : Geo} {N : Nat}  {ρ : Int32 × Mem} (σ : Mem) (x1 : Int32) (x2 : Int32) (hc : Cx Θ (VM g) cX5_feed 4 RX5 (rk 2 0 0) (some .int) [] false (oI ρ.1) ρ.2) : Sim Θ 4 ρ σ (fX5_feed N σ x1 x2) (0, 0) 0 [(0, .ref (vO (VM g) + 0)), (1, .int x1), (2, .int x2)] [] := by
  have hz := hc.z
  unfold fX5_feed
  refine s_iload_n hz dX5_feed_0 rfl 2 rfl ?_
  refine s_i2l hz dX5_feed_1 ?_
  refine s_lconst (v := (1 : Int64)) hz dX5_feed_2 (by decide) ?_
  refine s_ldc2 hz dX5_feed_3 q1249 ?_
  refine s_bind (fun q1 e2 => ?_)
  refine kX5_98 hc (cfX5_isIn e2) ⟨(Nat.le_of_ble_eq_true rfl), (Nat.le_of_ble_eq_true rfl)⟩ ⟨(Nat.le_of_ble_eq_true rfl), (Nat.le_of_ble_eq_true rfl)⟩ (Nat.le_of_ble_eq_true rfl) dX5_feed_6 ?_
  refine s_if_ne (tgt := 19) hz dX5_feed_9 rfl (fun h3 => ?_) (fun h3 => ?_)
  · refine s_aload_n hz dX5_feed_19 rfl 0 rfl ?_
    refine rM_g_taped hc dX5_feed_20 ?_
    refine s_iload_n hz dX5_feed_23 rfl 2 rfl ?_
    refine s_iadd hz dX5_feed_24 ?_
    refine s_bipush (v := (60 : Int32)) hz dX5_feed_25 (by decide) ?_
    refine s_icmp_le (tgt := 37) hz dX5_feed_27 rfl (fun h4 => ?_) (fun h4 => ?_)
    · refine s_iload_n hz dX5_feed_37 rfl 2 rfl ?_
      refine s_iconst (v := (1 : Int32)) hz dX5_feed_38 (by decide) ?_
      refine s_isub hz dX5_feed_39 ?_
      refine s_nmI (fun v5 => ?_)
      refine s_istore_n (lv' := [(3, .int v5), (0, .ref (vO (VM g) + 0)), (1, .int x1), (2, .int x2)]) hz dX5_feed_40 rfl (Nat.le_of_ble_eq_true rfl) rfl ?_
      exact s_sub [1, 2, 0] rfl (s_lp (sg := fun y : Mem × Int32 => y.1) (lvs := fun y : Mem × Int32 => [(0, .ref (vO (VM g) + 0)), (1, .int x1), (3, .int y.2)]) (fun rec hrec => wbX5_feed_41 σ hc x1  rec hrec) N (σ, v5))
    · refine s_aload_n hz dX5_feed_30 rfl 0 rfl ?_
      refine s_ldc hz dX5_feed_31 q1224 ?_
      refine s_bind (fun q10 e11 => ?_)
      refine kX5_88 hc (cfX5_finds e11) ⟨(Nat.le_of_ble_eq_true rfl), (Nat.le_of_ble_eq_true rfl)⟩ ⟨(Nat.le_of_ble_eq_true rfl), (Nat.le_of_ble_eq_true rfl)⟩ (Nat.le_of_ble_eq_true rfl) dX5_feed_33 ?_
      exact s_iretM hc dX5_feed_36 (Nat.le_of_ble_eq_true rfl) (Nat.le_of_ble_eq_true rfl)
  · refine s_aload_n hz dX5_feed_12 rfl 0 rfl ?_
    refine s_ldc hz dX5_feed_13 q1203 ?_
    refine s_bind (fun q12 e13 => ?_)
    refine kX5_88 hc (cfX5_finds e13) ⟨(Nat.le_of_ble_eq_true rfl), (Nat.le_of_ble_eq_true rfl)⟩ ⟨(Nat.le_of_ble_eq_true rfl), (Nat.le_of_ble_eq_true rfl)⟩ (Nat.le_of_ble_eq_true rfl) dX5_feed_15 ?_
    exact s_iretM hc dX5_feed_18 (Nat.le_of_ble_eq_true rfl) (Nat.le_of_ble_eq_true rfl)
theorem cfX5_feed {g : Geo} {N : Nat}  {σ : Mem} {x1 : Int32} {x2 : Int32} {ρ : Int32 × Mem} (hF : fX5_feed N σ x1 x2 = some ρ) (l : Launch) : Ct (VM g) l yX5_feed cX5_feed 4 (some .int) (rk 2 0 0) [.ref (vO (VM g) + 0), .int x1, .int x2] σ (oI ρ.1) ρ.2 :=
  Ct.of (by decide) (Nat.le_of_ble_eq_true rfl) (fun Θ hc ls hl => wfX5_feed σ x1 x2 hc hF ls hl)
def fX5_wipe (N : Nat) (σ : Mem)  : Option (Int32 × Mem) :=
  lt_ (gI σ 0 9) (fun v1 => 
  lt_ (pI σ 0 9 (0 : Int32)) (fun σ2 => 
  some (v1, σ2)))
set_option maxHeartbeats 4000000 in
theorem wfX5_wipe {Θ : ThT Mem} {g : Geo} {N : Nat}  {ρ : Int32 × Mem} (σ : Mem)  (hc : Cx Θ (VM g) cX5_wipe 2 RX5 (rk 1 0 0) (some .int) [] false (oI ρ.1) ρ.2) : Sim Θ 2 ρ σ (fX5_wipe N σ ) (0, 0) 0 [(0, .ref (vO (VM g) + 0))] [] := by
  have hz := hc.z
  unfold fX5_wipe
  refine s_aload_n hz dX5_wipe_0 rfl 0 rfl ?_
  refine rM_g_taped hc dX5_wipe_1 ?_
  refine s_nmI (fun v1 => ?_)
  refine s_istore_n (lv' := [(1, .int v1), (0, .ref (vO (VM g) + 0))]) hz dX5_wipe_4 rfl (Nat.le_of_ble_eq_true rfl) rfl ?_
  refine s_aload_n hz dX5_wipe_5 rfl 1 rfl ?_
  refine s_iconst (v := (0 : Int32)) hz dX5_wipe_6 (by decide) ?_
  refine rM_p_taped hc dX5_wipe_7 (fun σ2 => ?_)
  refine s_iload_n hz dX5_wipe_10 rfl 0 rfl ?_
  exact s_iretM hc dX5_wipe_11 (Nat.le_of_ble_eq_true rfl) (Nat.le_of_ble_eq_true rfl)
theorem cfX5_wipe {g : Geo} {N : Nat}  {σ : Mem}  {ρ : Int32 × Mem} (hF : fX5_wipe N σ  = some ρ) (l : Launch) : Ct (VM g) l yX5_wipe cX5_wipe 2 (some .int) (rk 1 0 0) [.ref (vO (VM g) + 0)] σ (oI ρ.1) ρ.2 :=
  Ct.of (by decide) (Nat.le_of_ble_eq_true rfl) (fun Θ hc ls hl => wfX5_wipe σ  hc hF ls hl)
def fX5_end (N : Nat) (σ : Mem)  : Option (Int32) :=
  if (gI σ 0 16) = (0 : Int32) then
  (some (gI σ 1 4))
  else (some (gI σ 0 9))
set_option maxHeartbeats 4000000 in
theorem wfX5_end {Θ : ThT Mem} {g : Geo} {N : Nat}  {ρ : Int32} (σ : Mem)  (hc : Cx Θ (VM g) cX5_end 1 RX5 (rk 1 0 0) (some .int) [] false (oI ρ) σ) : Sim Θ 1 ρ σ (fX5_end N σ ) (0, 0) 0 [(0, .ref (vO (VM g) + 0))] [] := by
  have hz := hc.z
  unfold fX5_end
  refine s_aload_n hz dX5_end_0 rfl 0 rfl ?_
  refine rM_g_isTaped hc dX5_end_1 ?_
  refine s_if_eq (tgt := 14) hz dX5_end_4 rfl (fun h1 => ?_) (fun h1 => ?_)
  · refine s_aload_n hz dX5_end_14 rfl 0 rfl ?_
    refine rM_g_s hc dX5_end_15 ?_
    refine s_iconst (v := (4 : Int32)) hz dX5_end_18 (by decide) ?_
    refine rM_ld_1 hc (j := 4) (by decide) (by decide) dX5_end_19 ?_
    exact s_iret hc dX5_end_20 (Nat.le_of_ble_eq_true rfl) (Nat.le_of_ble_eq_true rfl)
  · refine s_aload_n hz dX5_end_7 rfl 0 rfl ?_
    refine rM_g_taped hc dX5_end_8 ?_
    refine s_goto (tgt := 20) hz dX5_end_11 rfl ?_
    exact s_iret hc dX5_end_20 (Nat.le_of_ble_eq_true rfl) (Nat.le_of_ble_eq_true rfl)
theorem cfX5_end {g : Geo} {N : Nat}  {σ : Mem}  {ρ : Int32} (hF : fX5_end N σ  = some ρ) (l : Launch) : Ct (VM g) l yX5_end cX5_end 1 (some .int) (rk 1 0 0) [.ref (vO (VM g) + 0)] σ (oI ρ) σ :=
  Ct.of (by decide) (Nat.le_of_ble_eq_true rfl) (fun Θ hc ls hl => wfX5_end σ  hc hF ls hl)
def fX5_byteHere (N : Nat) (σ : Mem)  : Option (Int32) :=
  (fX5_end N σ).bind (fun q1 => 
  if (gI σ 0 13) < q1 then
  (if (gI σ 0 16) = (0 : Int32) then
  (gb (inb ((44 : Int32) + (gI σ 0 13)) 919) (
  some (gI σ 1 (ix ((44 : Int32) + (gI σ 0 13))))))
  else (gb (inb (gI σ 0 13) 60) (
  some (gI σ 8 (ix (gI σ 0 13))))))
  else (some (-1 : Int32)))
set_option maxHeartbeats 4000000 in
theorem wfX5_byteHere {Θ : ThT Mem} {g : Geo} {N : Nat}  {ρ : Int32} (σ : Mem)  (hc : Cx Θ (VM g) cX5_byteHere 1 RX5 (rk 2 0 0) (some .int) [] false (oI ρ) σ) : Sim Θ 1 ρ σ (fX5_byteHere N σ ) (0, 0) 0 [(0, .ref (vO (VM g) + 0))] [] := by
  have hz := hc.z
  unfold fX5_byteHere
  refine s_aload_n hz dX5_byteHere_0 rfl 0 rfl ?_
  refine rM_g_at hc dX5_byteHere_1 ?_
  refine s_aload_n hz dX5_byteHere_4 rfl 0 rfl ?_
  refine s_bind (fun q1 e2 => ?_)
  refine kX5_122 hc (cfX5_end e2) ⟨(Nat.le_of_ble_eq_true rfl), (Nat.le_of_ble_eq_true rfl)⟩ ⟨(Nat.le_of_ble_eq_true rfl), (Nat.le_of_ble_eq_true rfl)⟩ (Nat.le_of_ble_eq_true rfl) dX5_byteHere_5 ?_
  refine s_icmp_lt (tgt := 15) hz dX5_byteHere_8 rfl (fun h3 => ?_) (fun h3 => ?_)
  · refine s_aload_n hz dX5_byteHere_15 rfl 0 rfl ?_
    refine rM_g_isTaped hc dX5_byteHere_16 ?_
    refine s_if_eq (tgt := 34) hz dX5_byteHere_19 rfl (fun h4 => ?_) (fun h4 => ?_)
    · refine s_aload_n hz dX5_byteHere_34 rfl 0 rfl ?_
      refine rM_g_s hc dX5_byteHere_35 ?_
      refine s_bipush (v := (44 : Int32)) hz dX5_byteHere_38 (by decide) ?_
      refine s_aload_n hz dX5_byteHere_40 rfl 0 rfl ?_
      refine rM_g_at hc dX5_byteHere_41 ?_
      refine s_iadd hz dX5_byteHere_44 ?_
      refine s_gb (fun h5 => ?_)
      refine rM_ld_1 hc h5 rfl dX5_byteHere_45 ?_
      exact s_iret hc dX5_byteHere_46 (Nat.le_of_ble_eq_true rfl) (Nat.le_of_ble_eq_true rfl)
    · refine s_aload_n hz dX5_byteHere_22 rfl 0 rfl ?_
      refine rM_g_tape hc dX5_byteHere_23 ?_
      refine s_aload_n hz dX5_byteHere_26 rfl 0 rfl ?_
      refine rM_g_at hc dX5_byteHere_27 ?_
      refine s_gb (fun h6 => ?_)
      refine rM_ld_8 hc h6 rfl dX5_byteHere_30 ?_
      refine s_goto (tgt := 46) hz dX5_byteHere_31 rfl ?_
      exact s_iret hc dX5_byteHere_46 (Nat.le_of_ble_eq_true rfl) (Nat.le_of_ble_eq_true rfl)
  · refine s_iconst (v := (-1 : Int32)) hz dX5_byteHere_11 (by decide) ?_
    refine s_goto (tgt := 46) hz dX5_byteHere_12 rfl ?_
    exact s_iret hc dX5_byteHere_46 (Nat.le_of_ble_eq_true rfl) (Nat.le_of_ble_eq_true rfl)
theorem cfX5_byteHere {g : Geo} {N : Nat}  {σ : Mem}  {ρ : Int32} (hF : fX5_byteHere N σ  = some ρ) (l : Launch) : Ct (VM g) l yX5_byteHere cX5_byteHere 1 (some .int) (rk 2 0 0) [.ref (vO (VM g) + 0)] σ (oI ρ) σ :=
  Ct.of (by decide) (Nat.le_of_ble_eq_true rfl) (fun Θ hc ls hl => wfX5_byteHere σ  hc hF ls hl)
def bX5_number_4 (N : Nat) (σ : Mem)  (r4 : (Mem × Int32 × Int32) → Option (Int32 × Mem)) (y4 : Mem × Int32 × Int32) : Option (Int32 × Mem) :=
  if (3 : Int32) ≤ y4.2.2 then
  (some (y4.2.1, y4.1))
  else ((fX5_byteHere N y4.1).bind (fun q2 => 
  (fX5_isIn N y4.1 ((q2).toInt64) (48 : Int64) (57 : Int64)).bind (fun q4 => 
  if q4 = (0 : Int32) then
  (some (y4.2.1, y4.1))
  else ((fX5_byteHere N y4.1).bind (fun q7 => 
  lt_ ((((10 : Int32) * y4.2.1) + q7) - (48 : Int32)) (fun v9 => 
  lt_ (pI y4.1 0 13 ((gI y4.1 0 13) + (1 : Int32))) (fun σ10 => 
  r4 (σ10, v9, (y4.2.2 + (1 : Int32))))))))))
set_option maxHeartbeats 4000000 in
theorem wbX5_number_4 {Θ : ThT Mem} {g : Geo} {N : Nat}  {ρ : Int32 × Mem} (σ : Mem) (hc : Cx Θ (VM g) cX5_number 3 RX5 (rk 3 0 0) (some .int) [] false (oI ρ.1) ρ.2)  (r4 : (Mem × Int32 × Int32) → Option (Int32 × Mem)) (hr4 : ∀ y : Mem × Int32 × Int32, Sim Θ 3 ρ (y.1) (r4 y) (0, 0) 4 [(0, .ref (vO (VM g) + 0)), (1, .int y.2.1), (2, .int y.2.2)] []) : ∀ y4 : Mem × Int32 × Int32, Sim Θ 3 ρ (y4.1) (bX5_number_4 N σ  r4 y4) (0, 0) 4 [(0, .ref (vO (VM g) + 0)), (1, .int y4.2.1), (2, .int y4.2.2)] [] := by
  intro y4
  have hz := hc.z
  have hr4c : ∀ (z0_ : Mem) (z1_ : Int32) (z2_ : Int32), Sim Θ 3 ρ (z0_) (r4 (z0_, z1_, z2_)) (0, 0) 4 [(0, .ref (vO (VM g) + 0)), (1, .int z1_), (2, .int z2_)] [] := fun z0_ z1_ z2_ => hr4 (z0_, z1_, z2_)
  unfold bX5_number_4
  refine s_iload_n hz dX5_number_4 rfl 2 rfl ?_
  refine s_iconst (v := (3 : Int32)) hz dX5_number_5 (by decide) ?_
  refine s_icmp_ge (tgt := 55) hz dX5_number_6 rfl (fun h1 => ?_) (fun h1 => ?_)
  · refine s_iload_n hz dX5_number_55 rfl 1 rfl ?_
    exact s_iretM hc dX5_number_56 (Nat.le_of_ble_eq_true rfl) (Nat.le_of_ble_eq_true rfl)
  · refine s_aload_n hz dX5_number_9 rfl 0 rfl ?_
    refine s_bind (fun q2 e3 => ?_)
    refine kX5_138 hc (cfX5_byteHere e3) ⟨(Nat.le_of_ble_eq_true rfl), (Nat.le_of_ble_eq_true rfl)⟩ ⟨(Nat.le_of_ble_eq_true rfl), (Nat.le_of_ble_eq_true rfl)⟩ (Nat.le_of_ble_eq_true rfl) dX5_number_10 ?_
    refine s_i2l hz dX5_number_13 ?_
    refine s_ldc2 hz dX5_number_14 q1282 ?_
    refine s_ldc2 hz dX5_number_17 q1283 ?_
    refine s_bind (fun q4 e5 => ?_)
    refine kX5_98 hc (cfX5_isIn e5) ⟨(Nat.le_of_ble_eq_true rfl), (Nat.le_of_ble_eq_true rfl)⟩ ⟨(Nat.le_of_ble_eq_true rfl), (Nat.le_of_ble_eq_true rfl)⟩ (Nat.le_of_ble_eq_true rfl) dX5_number_20 ?_
    refine s_if_eq (tgt := 55) hz dX5_number_23 rfl (fun h6 => ?_) (fun h6 => ?_)
    · refine s_iload_n hz dX5_number_55 rfl 1 rfl ?_
      exact s_iretM hc dX5_number_56 (Nat.le_of_ble_eq_true rfl) (Nat.le_of_ble_eq_true rfl)
    · refine s_bipush (v := (10 : Int32)) hz dX5_number_26 (by decide) ?_
      refine s_iload_n hz dX5_number_28 rfl 1 rfl ?_
      refine s_imul hz dX5_number_29 ?_
      refine s_aload_n hz dX5_number_30 rfl 0 rfl ?_
      refine s_bind (fun q7 e8 => ?_)
      refine kX5_138 hc (cfX5_byteHere e8) ⟨(Nat.le_of_ble_eq_true rfl), (Nat.le_of_ble_eq_true rfl)⟩ ⟨(Nat.le_of_ble_eq_true rfl), (Nat.le_of_ble_eq_true rfl)⟩ (Nat.le_of_ble_eq_true rfl) dX5_number_31 ?_
      refine s_iadd hz dX5_number_34 ?_
      refine s_bipush (v := (48 : Int32)) hz dX5_number_35 (by decide) ?_
      refine s_isub hz dX5_number_37 ?_
      refine s_nmI (fun v9 => ?_)
      refine s_istore_n (lv' := [(1, .int v9), (0, .ref (vO (VM g) + 0)), (2, .int y4.2.2)]) hz dX5_number_38 rfl (Nat.le_of_ble_eq_true rfl) rfl ?_
      refine s_aload_n hz dX5_number_39 rfl 1 rfl ?_
      refine s_dup hz dX5_number_40 rfl ?_
      refine rM_g_at hc dX5_number_41 ?_
      refine s_iconst (v := (1 : Int32)) hz dX5_number_44 (by decide) ?_
      refine s_iadd hz dX5_number_45 ?_
      refine rM_p_at hc dX5_number_46 (fun σ10 => ?_)
      refine s_iinc (v := (1 : Int32)) (lv' := [(2, .int (y4.2.2 + (1 : Int32))), (1, .int v9), (0, .ref (vO (VM g) + 0))]) hz dX5_number_49 2 rfl (by decide) (Nat.le_of_ble_eq_true rfl) rfl ?_
      refine s_goto (tgt := 4) hz dX5_number_52 rfl ?_
      exact s_sub [2, 1, 0] rfl (hr4c σ10 v9 (y4.2.2 + (1 : Int32)))
def fX5_number (N : Nat) (σ : Mem)  : Option (Int32 × Mem) :=
  lp (bX5_number_4 N σ) N (σ, (0 : Int32), (0 : Int32))
set_option maxHeartbeats 4000000 in
theorem wfX5_number {Θ : ThT Mem} {g : Geo} {N : Nat}  {ρ : Int32 × Mem} (σ : Mem)  (hc : Cx Θ (VM g) cX5_number 3 RX5 (rk 3 0 0) (some .int) [] false (oI ρ.1) ρ.2) : Sim Θ 3 ρ σ (fX5_number N σ ) (0, 0) 0 [(0, .ref (vO (VM g) + 0))] [] := by
  have hz := hc.z
  unfold fX5_number
  refine s_iconst (v := (0 : Int32)) hz dX5_number_0 (by decide) ?_
  refine s_istore_n (lv' := [(1, .int (0 : Int32)), (0, .ref (vO (VM g) + 0))]) hz dX5_number_1 rfl (Nat.le_of_ble_eq_true rfl) rfl ?_
  refine s_iconst (v := (0 : Int32)) hz dX5_number_2 (by decide) ?_
  refine s_istore_n (lv' := [(2, .int (0 : Int32)), (1, .int (0 : Int32)), (0, .ref (vO (VM g) + 0))]) hz dX5_number_3 rfl (Nat.le_of_ble_eq_true rfl) rfl ?_
  exact s_sub [2, 1, 0] rfl (s_lp (sg := fun y : Mem × Int32 × Int32 => y.1) (lvs := fun y : Mem × Int32 × Int32 => [(0, .ref (vO (VM g) + 0)), (1, .int y.2.1), (2, .int y.2.2)]) (fun rec hrec => wbX5_number_4 σ hc   rec hrec) N (σ, (0 : Int32), (0 : Int32)))
theorem cfX5_number {g : Geo} {N : Nat}  {σ : Mem}  {ρ : Int32 × Mem} (hF : fX5_number N σ  = some ρ) (l : Launch) : Ct (VM g) l yX5_number cX5_number 3 (some .int) (rk 3 0 0) [.ref (vO (VM g) + 0)] σ (oI ρ.1) ρ.2 :=
  Ct.of (by decide) (Nat.le_of_ble_eq_true rfl) (fun Θ hc ls hl => wfX5_number σ  hc hF ls hl)
def fX5_takes (N : Nat) (σ : Mem) (x1 : Int32) : Option (Int32 × Mem) :=
  if (gI σ 0 15) = (0 : Int32) then
  ((fX5_byteHere N σ).bind (fun q2 => 
  if q2 = x1 then
  (lt_ (pI σ 0 13 ((gI σ 0 13) + (1 : Int32))) (fun σ5 => 
  some ((1 : Int32), σ5)))
  else (some ((0 : Int32), σ))))
  else (some ((0 : Int32), σ))
set_option maxHeartbeats 4000000 in
theorem wfX5_takes {Θ : ThT Mem} {g : Geo} {N : Nat}  {ρ : Int32 × Mem} (σ : Mem) (x1 : Int32) (hc : Cx Θ (VM g) cX5_takes 2 RX5 (rk 3 0 0) (some .boolean) [] false (oI ρ.1) ρ.2) : Sim Θ 2 ρ σ (fX5_takes N σ x1) (0, 0) 0 [(0, .ref (vO (VM g) + 0)), (1, .int x1)] [] := by
  have hz := hc.z
  unfold fX5_takes
  refine s_aload_n hz dX5_takes_0 rfl 0 rfl ?_
  refine rM_g_isBad hc dX5_takes_1 ?_
  refine s_if_ne (tgt := 15) hz dX5_takes_4 rfl (fun h1 => ?_) (fun h1 => ?_)
  · refine s_iconst (v := (0 : Int32)) hz dX5_takes_15 (by decide) ?_
    exact s_zretM hc rfl dX5_takes_16 (Nat.le_of_ble_eq_true rfl) (Nat.le_of_ble_eq_true rfl)
  · refine s_aload_n hz dX5_takes_7 rfl 0 rfl ?_
    refine s_bind (fun q2 e3 => ?_)
    refine kX5_138 hc (cfX5_byteHere e3) ⟨(Nat.le_of_ble_eq_true rfl), (Nat.le_of_ble_eq_true rfl)⟩ ⟨(Nat.le_of_ble_eq_true rfl), (Nat.le_of_ble_eq_true rfl)⟩ (Nat.le_of_ble_eq_true rfl) dX5_takes_8 ?_
    refine s_iload_n hz dX5_takes_11 rfl 1 rfl ?_
    refine s_icmp_eq (tgt := 17) hz dX5_takes_12 rfl (fun h4 => ?_) (fun h4 => ?_)
    · refine s_aload_n hz dX5_takes_17 rfl 0 rfl ?_
      refine s_dup hz dX5_takes_18 rfl ?_
      refine rM_g_at hc dX5_takes_19 ?_
      refine s_iconst (v := (1 : Int32)) hz dX5_takes_22 (by decide) ?_
      refine s_iadd hz dX5_takes_23 ?_
      refine rM_p_at hc dX5_takes_24 (fun σ5 => ?_)
      refine s_iconst (v := (1 : Int32)) hz dX5_takes_27 (by decide) ?_
      exact s_zretM hc rfl dX5_takes_28 (Nat.le_of_ble_eq_true rfl) (Nat.le_of_ble_eq_true rfl)
    · refine s_iconst (v := (0 : Int32)) hz dX5_takes_15 (by decide) ?_
      exact s_zretM hc rfl dX5_takes_16 (Nat.le_of_ble_eq_true rfl) (Nat.le_of_ble_eq_true rfl)
theorem cfX5_takes {g : Geo} {N : Nat}  {σ : Mem} {x1 : Int32} {ρ : Int32 × Mem} (hF : fX5_takes N σ x1 = some ρ) (l : Launch) : Ct (VM g) l yX5_takes cX5_takes 2 (some .boolean) (rk 3 0 0) [.ref (vO (VM g) + 0), .int x1] σ (oI ρ.1) ρ.2 :=
  Ct.of (by decide) (Nat.le_of_ble_eq_true rfl) (fun Θ hc ls hl => wfX5_takes σ x1 hc hF ls hl)
def fX5_must (N : Nat) (σ : Mem) (x1 : Int32) : Option (Unit × Mem) :=
  (fX5_takes N σ x1).bind (fun q1 => 
  lt_ (pI q1.2 0 15 (if q1.1 = (0 : Int32) then (1 : Int32) else (0 : Int32))) (fun σ3 => 
  some ((), σ3)))
set_option maxHeartbeats 4000000 in
theorem wfX5_must {Θ : ThT Mem} {g : Geo} {N : Nat}  {ρ : Unit × Mem} (σ : Mem) (x1 : Int32) (hc : Cx Θ (VM g) cX5_must 2 RX5 (rk 4 0 0) none [] false (oV) ρ.2) : Sim Θ 2 ρ σ (fX5_must N σ x1) (0, 0) 0 [(0, .ref (vO (VM g) + 0)), (1, .int x1)] [] := by
  have hz := hc.z
  unfold fX5_must
  refine s_aload_n hz dX5_must_0 rfl 0 rfl ?_
  refine s_aload_n hz dX5_must_1 rfl 0 rfl ?_
  refine s_iload_n hz dX5_must_2 rfl 1 rfl ?_
  refine s_bind (fun q1 e2 => ?_)
  refine kX5_141 hc (cfX5_takes e2) ⟨(Nat.le_of_ble_eq_true rfl), (Nat.le_of_ble_eq_true rfl)⟩ ⟨(Nat.le_of_ble_eq_true rfl), (Nat.le_of_ble_eq_true rfl)⟩ (Nat.le_of_ble_eq_true rfl) dX5_must_3 ?_
  refine s_dia (J := 14) (v := .int (if q1.1 = (0 : Int32) then (1 : Int32) else (0 : Int32))) (st := [.ref (vO (VM g) + 0)]) (fun _ hj4 => ?_) ?_
  · refine s_if_ne_ (tgt := 13) hz dX5_must_6 rfl (fun h5 => ?_) (fun h5 => ?_)
    · refine s_iconst (v := (0 : Int32)) hz dX5_must_13 (by decide) ?_
      rw [if_neg h5] at hj4
      exact hj4
    · refine s_iconst (v := (1 : Int32)) hz dX5_must_9 (by decide) ?_
      refine s_goto (tgt := 14) hz dX5_must_10 rfl ?_
      rw [if_pos h5] at hj4
      exact hj4
  refine rM_p_isBad hc (nb_ite rfl rfl) (fb_ite rfl rfl) dX5_must_14 (fun σ3 => ?_)
  exact s_vretM hc dX5_must_17 (Nat.le_of_ble_eq_true rfl) (Nat.le_of_ble_eq_true rfl)
theorem cfX5_must {g : Geo} {N : Nat}  {σ : Mem} {x1 : Int32} {ρ : Unit × Mem} (hF : fX5_must N σ x1 = some ρ) (l : Launch) : Ct (VM g) l yX5_must cX5_must 2 none (rk 4 0 0) [.ref (vO (VM g) + 0), .int x1] σ (oV) ρ.2 :=
  Ct.of (by decide) (Nat.le_of_ble_eq_true rfl) (fun Θ hc ls hl => wfX5_must σ x1 hc hF ls hl)
def jX5_choice_75 (N : Nat) (rc : Nat → Mem → Option (Int32 × Mem)) (σ : Mem) (x1 : Int32)  : Option (Int32 × Mem) :=
  (fX5_must N σ (41 : Int32)).bind (fun q9 => 
  lt_ (pI q9.2 0 14 ((gI q9.2 0 14) - (1 : Int32))) (fun σ11 => 
  some (x1, σ11)))
set_option maxHeartbeats 4000000 in
theorem wjX5_choice_75 {Θ : ThT Mem} {g : Geo} {N : Nat} {rc : Nat → Mem → Option (Int32 × Mem)} {r : Nat} (hr : 9 ≤ r) (hrc : ∀ (σ : Mem) (ρ : Int32 × Mem), (rc 0 σ = some ρ → ∀ l : Launch, Ct (VM g) l yX5_sum cX5_sum 5 (some .int) (rk r 0 0) [.ref (vO (VM g) + 0)] σ (oI ρ.1) ρ.2) ∧ (rc 1 σ = some ρ → ∀ l : Launch, Ct (VM g) l yX5_term cX5_term 2 (some .int) (rk r 0 0) [.ref (vO (VM g) + 0)] σ (oI ρ.1) ρ.2) ∧ (rc 2 σ = some ρ → ∀ l : Launch, Ct (VM g) l yX5_factor cX5_factor 3 (some .int) (rk r 0 0) [.ref (vO (VM g) + 0)] σ (oI ρ.1) ρ.2) ∧ (rc 3 σ = some ρ → ∀ l : Launch, Ct (VM g) l yX5_choice cX5_choice 4 (some .int) (rk r 0 0) [.ref (vO (VM g) + 0)] σ (oI ρ.1) ρ.2)) {ρ : Int32 × Mem} (σ : Mem) (hc : Cx Θ (VM g) cX5_choice 4 RX5 (rk (r + 1) 0 0) (some .int) [] false (oI ρ.1) ρ.2) (x1 : Int32)  : Sim Θ 4 ρ σ (jX5_choice_75 N rc σ x1 ) (0, 0) 75 [(0, .ref (vO (VM g) + 0)), (1, .int x1)] [] := by
  have hz := hc.z
  unfold jX5_choice_75
  refine s_aload_n hz dX5_choice_75 rfl 0 rfl ?_
  refine s_bipush (v := (41 : Int32)) hz dX5_choice_76 (by decide) ?_
  refine s_bind (fun q9 e10 => ?_)
  refine kX5_154 hc (cfX5_must e10) ⟨by simp only [rk]; omega, by simp only [rk]; omega⟩ ⟨(Nat.le_of_ble_eq_true rfl), (Nat.le_of_ble_eq_true rfl)⟩ (Nat.le_of_ble_eq_true rfl) dX5_choice_78 ?_
  refine s_aload_n hz dX5_choice_81 rfl 0 rfl ?_
  refine s_dup hz dX5_choice_82 rfl ?_
  refine rM_g_open hc dX5_choice_83 ?_
  refine s_iconst (v := (1 : Int32)) hz dX5_choice_86 (by decide) ?_
  refine s_isub hz dX5_choice_87 ?_
  refine rM_p_open hc dX5_choice_88 (fun σ11 => ?_)
  refine s_iload_n hz dX5_choice_91 rfl 1 rfl ?_
  exact s_iretM hc dX5_choice_92 (Nat.le_of_ble_eq_true rfl) (Nat.le_of_ble_eq_true rfl)
def fX5_choice (N : Nat) (rc : Nat → Mem → Option (Int32 × Mem)) (σ : Mem)  : Option (Int32 × Mem) :=
  if (gI σ 0 14) = (4 : Int32) then
  (lt_ (pI σ 0 15 (1 : Int32)) (fun σ21 => 
  some ((0 : Int32), σ21)))
  else (lt_ (pI σ 0 14 ((gI σ 0 14) + (1 : Int32))) (fun σ2 => 
  lt_ (pI σ2 0 13 ((gI σ2 0 13) + (1 : Int32))) (fun σ3 => 
  (rc 0 σ3).bind (fun q4 => 
  (fX5_takes N q4.2 (63 : Int32)).bind (fun q6 => 
  if q6.1 = (0 : Int32) then
  (jX5_choice_75 N rc q6.2 q4.1)
  else ((rc 0 q6.2).bind (fun q12 => 
  (fX5_must N q12.2 (58 : Int32)).bind (fun q14 => 
  (rc 0 q14.2).bind (fun q16 => 
  lt_ (if q4.1 ≤ (0 : Int32) then q16.1 else q12.1) (fun v18 => 
  jX5_choice_75 N rc q16.2 v18))))))))))
set_option maxHeartbeats 4000000 in
theorem wfX5_choice {Θ : ThT Mem} {g : Geo} {N : Nat} {rc : Nat → Mem → Option (Int32 × Mem)} {r : Nat} (hr : 9 ≤ r) (hrc : ∀ (σ : Mem) (ρ : Int32 × Mem), (rc 0 σ = some ρ → ∀ l : Launch, Ct (VM g) l yX5_sum cX5_sum 5 (some .int) (rk r 0 0) [.ref (vO (VM g) + 0)] σ (oI ρ.1) ρ.2) ∧ (rc 1 σ = some ρ → ∀ l : Launch, Ct (VM g) l yX5_term cX5_term 2 (some .int) (rk r 0 0) [.ref (vO (VM g) + 0)] σ (oI ρ.1) ρ.2) ∧ (rc 2 σ = some ρ → ∀ l : Launch, Ct (VM g) l yX5_factor cX5_factor 3 (some .int) (rk r 0 0) [.ref (vO (VM g) + 0)] σ (oI ρ.1) ρ.2) ∧ (rc 3 σ = some ρ → ∀ l : Launch, Ct (VM g) l yX5_choice cX5_choice 4 (some .int) (rk r 0 0) [.ref (vO (VM g) + 0)] σ (oI ρ.1) ρ.2)) {ρ : Int32 × Mem} (σ : Mem)  (hc : Cx Θ (VM g) cX5_choice 4 RX5 (rk (r + 1) 0 0) (some .int) [] false (oI ρ.1) ρ.2) : Sim Θ 4 ρ σ (fX5_choice N rc σ ) (0, 0) 0 [(0, .ref (vO (VM g) + 0))] [] := by
  have hz := hc.z
  unfold fX5_choice
  refine s_aload_n hz dX5_choice_0 rfl 0 rfl ?_
  refine rM_g_open hc dX5_choice_1 ?_
  refine s_iconst (v := (4 : Int32)) hz dX5_choice_4 (by decide) ?_
  refine s_icmp_ne (tgt := 15) hz dX5_choice_5 rfl (fun h1 => ?_) (fun h1 => ?_)
  · refine s_aload_n hz dX5_choice_15 rfl 0 rfl ?_
    refine s_dup hz dX5_choice_16 rfl ?_
    refine rM_g_open hc dX5_choice_17 ?_
    refine s_iconst (v := (1 : Int32)) hz dX5_choice_20 (by decide) ?_
    refine s_iadd hz dX5_choice_21 ?_
    refine rM_p_open hc dX5_choice_22 (fun σ2 => ?_)
    refine s_aload_n hz dX5_choice_25 rfl 0 rfl ?_
    refine s_dup hz dX5_choice_26 rfl ?_
    refine rM_g_at hc dX5_choice_27 ?_
    refine s_iconst (v := (1 : Int32)) hz dX5_choice_30 (by decide) ?_
    refine s_iadd hz dX5_choice_31 ?_
    refine rM_p_at hc dX5_choice_32 (fun σ3 => ?_)
    refine s_aload_n hz dX5_choice_35 rfl 0 rfl ?_
    refine s_bind (fun q4 e5 => ?_)
    refine kX5_151 hc ((hrc _ _).1 e5) ⟨by simp only [rk]; omega, by simp only [rk]; omega⟩ ⟨(Nat.le_of_ble_eq_true rfl), (Nat.le_of_ble_eq_true rfl)⟩ (Nat.le_of_ble_eq_true rfl) dX5_choice_36 ?_
    refine s_istore_n (lv' := [(1, .int q4.1), (0, .ref (vO (VM g) + 0))]) hz dX5_choice_39 rfl (Nat.le_of_ble_eq_true rfl) rfl ?_
    refine s_aload_n hz dX5_choice_40 rfl 1 rfl ?_
    refine s_bipush (v := (63 : Int32)) hz dX5_choice_41 (by decide) ?_
    refine s_bind (fun q6 e7 => ?_)
    refine kX5_141 hc (cfX5_takes e7) ⟨by simp only [rk]; omega, by simp only [rk]; omega⟩ ⟨(Nat.le_of_ble_eq_true rfl), (Nat.le_of_ble_eq_true rfl)⟩ (Nat.le_of_ble_eq_true rfl) dX5_choice_43 ?_
    refine s_if_eq (tgt := 75) hz dX5_choice_46 rfl (fun h8 => ?_) (fun h8 => ?_)
    · exact s_sub [1, 0] rfl (wjX5_choice_75 hr hrc q6.2 hc q4.1 )
    · refine s_aload_n hz dX5_choice_49 rfl 1 rfl ?_
      refine s_bind (fun q12 e13 => ?_)
      refine kX5_151 hc ((hrc _ _).1 e13) ⟨by simp only [rk]; omega, by simp only [rk]; omega⟩ ⟨(Nat.le_of_ble_eq_true rfl), (Nat.le_of_ble_eq_true rfl)⟩ (Nat.le_of_ble_eq_true rfl) dX5_choice_50 ?_
      refine s_istore_n (lv' := [(2, .int q12.1), (1, .int q4.1), (0, .ref (vO (VM g) + 0))]) hz dX5_choice_53 rfl (Nat.le_of_ble_eq_true rfl) rfl ?_
      refine s_aload_n hz dX5_choice_54 rfl 2 rfl ?_
      refine s_bipush (v := (58 : Int32)) hz dX5_choice_55 (by decide) ?_
      refine s_bind (fun q14 e15 => ?_)
      refine kX5_154 hc (cfX5_must e15) ⟨by simp only [rk]; omega, by simp only [rk]; omega⟩ ⟨(Nat.le_of_ble_eq_true rfl), (Nat.le_of_ble_eq_true rfl)⟩ (Nat.le_of_ble_eq_true rfl) dX5_choice_57 ?_
      refine s_aload_n hz dX5_choice_60 rfl 2 rfl ?_
      refine s_bind (fun q16 e17 => ?_)
      refine kX5_151 hc ((hrc _ _).1 e17) ⟨by simp only [rk]; omega, by simp only [rk]; omega⟩ ⟨(Nat.le_of_ble_eq_true rfl), (Nat.le_of_ble_eq_true rfl)⟩ (Nat.le_of_ble_eq_true rfl) dX5_choice_61 ?_
      refine s_istore_n (lv' := [(3, .int q16.1), (2, .int q12.1), (1, .int q4.1), (0, .ref (vO (VM g) + 0))]) hz dX5_choice_64 rfl (Nat.le_of_ble_eq_true rfl) rfl ?_
      refine s_iload_n hz dX5_choice_65 rfl 2 rfl ?_
      refine s_dia (J := 74) (v := .int (if q4.1 ≤ (0 : Int32) then q16.1 else q12.1)) (st := []) (fun _ hj19 => ?_) ?_
      · refine s_if_le_ (tgt := 73) hz dX5_choice_66 rfl (fun h20 => ?_) (fun h20 => ?_)
        · refine s_iload_n hz dX5_choice_73 rfl 0 rfl ?_
          rw [if_pos h20] at hj19
          exact hj19
        · refine s_iload_n hz dX5_choice_69 rfl 1 rfl ?_
          refine s_goto (tgt := 74) hz dX5_choice_70 rfl ?_
          rw [if_neg h20] at hj19
          exact hj19
      refine s_nmI (fun v18 => ?_)
      refine s_istore_n (lv' := [(1, .int v18), (3, .int q16.1), (2, .int q12.1), (0, .ref (vO (VM g) + 0))]) hz dX5_choice_74 rfl (Nat.le_of_ble_eq_true rfl) rfl ?_
      exact s_sub [3, 0] rfl (wjX5_choice_75 hr hrc q16.2 hc v18 )
  · refine s_aload_n hz dX5_choice_8 rfl 0 rfl ?_
    refine s_iconst (v := (1 : Int32)) hz dX5_choice_9 (by decide) ?_
    refine rM_p_isBad hc rfl rfl dX5_choice_10 (fun σ21 => ?_)
    refine s_iconst (v := (0 : Int32)) hz dX5_choice_13 (by decide) ?_
    exact s_iretM hc dX5_choice_14 (Nat.le_of_ble_eq_true rfl) (Nat.le_of_ble_eq_true rfl)
theorem cfX5_choice {g : Geo} {N : Nat} {rc : Nat → Mem → Option (Int32 × Mem)} {r : Nat} (hr : 9 ≤ r) (hrc : ∀ (σ : Mem) (ρ : Int32 × Mem), (rc 0 σ = some ρ → ∀ l : Launch, Ct (VM g) l yX5_sum cX5_sum 5 (some .int) (rk r 0 0) [.ref (vO (VM g) + 0)] σ (oI ρ.1) ρ.2) ∧ (rc 1 σ = some ρ → ∀ l : Launch, Ct (VM g) l yX5_term cX5_term 2 (some .int) (rk r 0 0) [.ref (vO (VM g) + 0)] σ (oI ρ.1) ρ.2) ∧ (rc 2 σ = some ρ → ∀ l : Launch, Ct (VM g) l yX5_factor cX5_factor 3 (some .int) (rk r 0 0) [.ref (vO (VM g) + 0)] σ (oI ρ.1) ρ.2) ∧ (rc 3 σ = some ρ → ∀ l : Launch, Ct (VM g) l yX5_choice cX5_choice 4 (some .int) (rk r 0 0) [.ref (vO (VM g) + 0)] σ (oI ρ.1) ρ.2)) {σ : Mem}  {ρ : Int32 × Mem} (hF : fX5_choice N rc σ  = some ρ) (l : Launch) : Ct (VM g) l yX5_choice cX5_choice 4 (some .int) (rk (r + 1) 0 0) [.ref (vO (VM g) + 0)] σ (oI ρ.1) ρ.2 :=
  Ct.of (by decide) (Nat.le_of_ble_eq_true rfl) (fun Θ hc ls hl => wfX5_choice hr hrc σ  hc hF ls hl)
def fX5_latest (N : Nat) (σ : Mem)  : Option (Int32) :=
  if (gI σ 1 1) = (0 : Int32) then
  (some (0 : Int32))
  else (gb (inb ((104 : Int32) + ((8 : Int32) * ((gI σ 1 1) - (1 : Int32)))) 919) (
  some (gI σ 1 (ix ((104 : Int32) + ((8 : Int32) * ((gI σ 1 1) - (1 : Int32))))))))
set_option maxHeartbeats 4000000 in
theorem wfX5_latest {Θ : ThT Mem} {g : Geo} {N : Nat}  {ρ : Int32} (σ : Mem)  (hc : Cx Θ (VM g) cX5_latest 1 RX5 (rk 1 0 0) (some .int) [] false (oI ρ) σ) : Sim Θ 1 ρ σ (fX5_latest N σ ) (0, 0) 0 [(0, .ref (vO (VM g) + 0))] [] := by
  have hz := hc.z
  unfold fX5_latest
  refine s_aload_n hz dX5_latest_0 rfl 0 rfl ?_
  refine rM_g_s hc dX5_latest_1 ?_
  refine s_iconst (v := (1 : Int32)) hz dX5_latest_4 (by decide) ?_
  refine rM_ld_1 hc (j := 1) (by decide) (by decide) dX5_latest_5 ?_
  refine s_if_ne (tgt := 13) hz dX5_latest_6 rfl (fun h1 => ?_) (fun h1 => ?_)
  · refine s_aload_n hz dX5_latest_13 rfl 0 rfl ?_
    refine rM_g_s hc dX5_latest_14 ?_
    refine s_bipush (v := (104 : Int32)) hz dX5_latest_17 (by decide) ?_
    refine s_bipush (v := (8 : Int32)) hz dX5_latest_19 (by decide) ?_
    refine s_aload_n hz dX5_latest_21 rfl 0 rfl ?_
    refine rM_g_s hc dX5_latest_22 ?_
    refine s_iconst (v := (1 : Int32)) hz dX5_latest_25 (by decide) ?_
    refine rM_ld_1 hc (j := 1) (by decide) (by decide) dX5_latest_26 ?_
    refine s_iconst (v := (1 : Int32)) hz dX5_latest_27 (by decide) ?_
    refine s_isub hz dX5_latest_28 ?_
    refine s_imul hz dX5_latest_29 ?_
    refine s_iadd hz dX5_latest_30 ?_
    refine s_gb (fun h2 => ?_)
    refine rM_ld_1 hc h2 rfl dX5_latest_31 ?_
    exact s_iret hc dX5_latest_32 (Nat.le_of_ble_eq_true rfl) (Nat.le_of_ble_eq_true rfl)
  · refine s_iconst (v := (0 : Int32)) hz dX5_latest_9 (by decide) ?_
    refine s_goto (tgt := 32) hz dX5_latest_10 rfl ?_
    exact s_iret hc dX5_latest_32 (Nat.le_of_ble_eq_true rfl) (Nat.le_of_ble_eq_true rfl)
theorem cfX5_latest {g : Geo} {N : Nat}  {σ : Mem}  {ρ : Int32} (hF : fX5_latest N σ  = some ρ) (l : Launch) : Ct (VM g) l yX5_latest cX5_latest 1 (some .int) (rk 1 0 0) [.ref (vO (VM g) + 0)] σ (oI ρ) σ :=
  Ct.of (by decide) (Nat.le_of_ble_eq_true rfl) (fun Θ hc ls hl => wfX5_latest σ  hc hF ls hl)
def fX5_ones (N : Nat) (σ : Mem) (x1 : Int32) : Option (Int32) :=
  gb (inb x1 4096) (
  some (gI σ 6 (ix x1)))
set_option maxHeartbeats 4000000 in
theorem wfX5_ones {Θ : ThT Mem} {g : Geo} {N : Nat}  {ρ : Int32} (σ : Mem) (x1 : Int32) (hc : Cx Θ (VM g) cX5_ones 2 RX5 (rk 1 0 0) (some .int) [] false (oI ρ) σ) : Sim Θ 2 ρ σ (fX5_ones N σ x1) (0, 0) 0 [(0, .ref (vO (VM g) + 0)), (1, .int x1)] [] := by
  have hz := hc.z
  unfold fX5_ones
  refine s_aload_n hz dX5_ones_0 rfl 0 rfl ?_
  refine rM_g_bitsIn hc dX5_ones_1 ?_
  refine s_iload_n hz dX5_ones_4 rfl 1 rfl ?_
  refine s_gb (fun h1 => ?_)
  refine rM_ld_6 hc h1 rfl dX5_ones_5 ?_
  exact s_iret hc dX5_ones_6 (Nat.le_of_ble_eq_true rfl) (Nat.le_of_ble_eq_true rfl)
theorem cfX5_ones {g : Geo} {N : Nat}  {σ : Mem} {x1 : Int32} {ρ : Int32} (hF : fX5_ones N σ x1 = some ρ) (l : Launch) : Ct (VM g) l yX5_ones cX5_ones 2 (some .int) (rk 1 0 0) [.ref (vO (VM g) + 0), .int x1] σ (oI ρ) σ :=
  Ct.of (by decide) (Nat.le_of_ble_eq_true rfl) (fun Θ hc ls hl => wfX5_ones σ x1 hc hF ls hl)
def fX5_named (N : Nat) (σ : Mem) (x1 : Int32) : Option (Int32) :=
  if x1 = (99 : Int32) then
  (gb (inb (((5 : Int32) * (gI σ 0 17)) + (4 : Int32)) 2475) (
  some (gI σ 7 (ix (((5 : Int32) * (gI σ 0 17)) + (4 : Int32))))))
  else (if x1 = (100 : Int32) then
  (gb (inb (gI σ 0 17) 495) (
  (fX5_latest N σ).bind (fun q5 => 
  (fX5_ones N σ ((gI σ 4 (ix (gI σ 0 17))) &&& q5)).bind (fun q7 => 
  some q7))))
  else (if x1 = (101 : Int32) then
  (gb (inb (((5 : Int32) * (gI σ 0 17)) + (3 : Int32)) 2475) (
  some (gI σ 7 (ix (((5 : Int32) * (gI σ 0 17)) + (3 : Int32))))))
  else (if x1 = (103 : Int32) then
  (gb (inb (((5 : Int32) * (gI σ 0 17)) + (2 : Int32)) 2475) (
  some (gI σ 7 (ix (((5 : Int32) * (gI σ 0 17)) + (2 : Int32))))))
  else (if x1 = (108 : Int32) then
  (gb (inb (((5 : Int32) * (gI σ 0 17)) + (1 : Int32)) 2475) (
  some (gI σ 7 (ix (((5 : Int32) * (gI σ 0 17)) + (1 : Int32))))))
  else (if x1 = (115 : Int32) then
  (gb (inb ((5 : Int32) * (gI σ 0 17)) 2475) (
  some (gI σ 7 (ix ((5 : Int32) * (gI σ 0 17))))))
  else (if x1 = (119 : Int32) then
  (some (gI σ 1 1))
  else (some (-1 : Int32))))))))
set_option maxHeartbeats 4000000 in
theorem wfX5_named {Θ : ThT Mem} {g : Geo} {N : Nat}  {ρ : Int32} (σ : Mem) (x1 : Int32) (hc : Cx Θ (VM g) cX5_named 2 RX5 (rk 2 0 0) (some .int) [] false (oI ρ) σ) : Sim Θ 2 ρ σ (fX5_named N σ x1) (0, 0) 0 [(0, .ref (vO (VM g) + 0)), (1, .int x1)] [] := by
  have hz := hc.z
  unfold fX5_named
  refine s_iload_n hz dX5_named_0 rfl 1 rfl ?_
  refine s_ite (fun h1 => ?_) (fun h1 => ?_)
  · refine s_tblIn (off := 153) (tgt := 154) (k := (99 : Int32)) hz dX5_named_1 h1 (by decide) (by decide) rfl rfl ?_
    refine s_aload_n hz dX5_named_154 rfl 0 rfl ?_
    refine rM_g_factOf hc dX5_named_155 ?_
    refine s_iconst (v := (5 : Int32)) hz dX5_named_158 (by decide) ?_
    refine s_aload_n hz dX5_named_159 rfl 0 rfl ?_
    refine rM_g_placeRead hc dX5_named_160 ?_
    refine s_imul hz dX5_named_163 ?_
    refine s_iconst (v := (4 : Int32)) hz dX5_named_164 (by decide) ?_
    refine s_iadd hz dX5_named_165 ?_
    refine s_gb (fun h2 => ?_)
    refine rM_ld_7 hc h2 rfl dX5_named_166 ?_
    exact s_iret hc dX5_named_167 (Nat.le_of_ble_eq_true rfl) (Nat.le_of_ble_eq_true rfl)
  refine s_ite (fun h3 => ?_) (fun h3 => ?_)
  · refine s_tblIn (off := 167) (tgt := 168) (k := (100 : Int32)) hz dX5_named_1 h3 (by decide) (by decide) rfl rfl ?_
    refine s_aload_n hz dX5_named_168 rfl 0 rfl ?_
    refine s_aload_n hz dX5_named_169 rfl 0 rfl ?_
    refine rM_g_rowAt hc dX5_named_170 ?_
    refine s_aload_n hz dX5_named_173 rfl 0 rfl ?_
    refine rM_g_placeRead hc dX5_named_174 ?_
    refine s_gb (fun h4 => ?_)
    refine rM_ld_4 hc h4 rfl dX5_named_177 ?_
    refine s_aload_n hz dX5_named_178 rfl 0 rfl ?_
    refine s_bind (fun q5 e6 => ?_)
    refine kX5_129 hc (cfX5_latest e6) ⟨(Nat.le_of_ble_eq_true rfl), (Nat.le_of_ble_eq_true rfl)⟩ ⟨(Nat.le_of_ble_eq_true rfl), (Nat.le_of_ble_eq_true rfl)⟩ (Nat.le_of_ble_eq_true rfl) dX5_named_179 ?_
    refine s_iand hz dX5_named_182 ?_
    refine s_bind (fun q7 e8 => ?_)
    refine kX5_132 hc (cfX5_ones e8) ⟨(Nat.le_of_ble_eq_true rfl), (Nat.le_of_ble_eq_true rfl)⟩ ⟨(Nat.le_of_ble_eq_true rfl), (Nat.le_of_ble_eq_true rfl)⟩ (Nat.le_of_ble_eq_true rfl) dX5_named_183 ?_
    exact s_iret hc dX5_named_186 (Nat.le_of_ble_eq_true rfl) (Nat.le_of_ble_eq_true rfl)
  refine s_ite (fun h9 => ?_) (fun h9 => ?_)
  · refine s_tblIn (off := 139) (tgt := 140) (k := (101 : Int32)) hz dX5_named_1 h9 (by decide) (by decide) rfl rfl ?_
    refine s_aload_n hz dX5_named_140 rfl 0 rfl ?_
    refine rM_g_factOf hc dX5_named_141 ?_
    refine s_iconst (v := (5 : Int32)) hz dX5_named_144 (by decide) ?_
    refine s_aload_n hz dX5_named_145 rfl 0 rfl ?_
    refine rM_g_placeRead hc dX5_named_146 ?_
    refine s_imul hz dX5_named_149 ?_
    refine s_iconst (v := (3 : Int32)) hz dX5_named_150 (by decide) ?_
    refine s_iadd hz dX5_named_151 ?_
    refine s_gb (fun h10 => ?_)
    refine rM_ld_7 hc h10 rfl dX5_named_152 ?_
    exact s_iret hc dX5_named_153 (Nat.le_of_ble_eq_true rfl) (Nat.le_of_ble_eq_true rfl)
  refine s_ite (fun h11 => ?_) (fun h11 => ?_)
  · refine s_tblIn (off := 125) (tgt := 126) (k := (103 : Int32)) hz dX5_named_1 h11 (by decide) (by decide) rfl rfl ?_
    refine s_aload_n hz dX5_named_126 rfl 0 rfl ?_
    refine rM_g_factOf hc dX5_named_127 ?_
    refine s_iconst (v := (5 : Int32)) hz dX5_named_130 (by decide) ?_
    refine s_aload_n hz dX5_named_131 rfl 0 rfl ?_
    refine rM_g_placeRead hc dX5_named_132 ?_
    refine s_imul hz dX5_named_135 ?_
    refine s_iconst (v := (2 : Int32)) hz dX5_named_136 (by decide) ?_
    refine s_iadd hz dX5_named_137 ?_
    refine s_gb (fun h12 => ?_)
    refine rM_ld_7 hc h12 rfl dX5_named_138 ?_
    exact s_iret hc dX5_named_139 (Nat.le_of_ble_eq_true rfl) (Nat.le_of_ble_eq_true rfl)
  refine s_ite (fun h13 => ?_) (fun h13 => ?_)
  · refine s_tblIn (off := 111) (tgt := 112) (k := (108 : Int32)) hz dX5_named_1 h13 (by decide) (by decide) rfl rfl ?_
    refine s_aload_n hz dX5_named_112 rfl 0 rfl ?_
    refine rM_g_factOf hc dX5_named_113 ?_
    refine s_iconst (v := (5 : Int32)) hz dX5_named_116 (by decide) ?_
    refine s_aload_n hz dX5_named_117 rfl 0 rfl ?_
    refine rM_g_placeRead hc dX5_named_118 ?_
    refine s_imul hz dX5_named_121 ?_
    refine s_iconst (v := (1 : Int32)) hz dX5_named_122 (by decide) ?_
    refine s_iadd hz dX5_named_123 ?_
    refine s_gb (fun h14 => ?_)
    refine rM_ld_7 hc h14 rfl dX5_named_124 ?_
    exact s_iret hc dX5_named_125 (Nat.le_of_ble_eq_true rfl) (Nat.le_of_ble_eq_true rfl)
  refine s_ite (fun h15 => ?_) (fun h15 => ?_)
  · refine s_tblIn (off := 99) (tgt := 100) (k := (115 : Int32)) hz dX5_named_1 h15 (by decide) (by decide) rfl rfl ?_
    refine s_aload_n hz dX5_named_100 rfl 0 rfl ?_
    refine rM_g_factOf hc dX5_named_101 ?_
    refine s_iconst (v := (5 : Int32)) hz dX5_named_104 (by decide) ?_
    refine s_aload_n hz dX5_named_105 rfl 0 rfl ?_
    refine rM_g_placeRead hc dX5_named_106 ?_
    refine s_imul hz dX5_named_109 ?_
    refine s_gb (fun h16 => ?_)
    refine rM_ld_7 hc h16 rfl dX5_named_110 ?_
    exact s_iret hc dX5_named_111 (Nat.le_of_ble_eq_true rfl) (Nat.le_of_ble_eq_true rfl)
  refine s_ite (fun h17 => ?_) (fun h17 => ?_)
  · refine s_tblIn (off := 186) (tgt := 187) (k := (119 : Int32)) hz dX5_named_1 h17 (by decide) (by decide) rfl rfl ?_
    refine s_aload_n hz dX5_named_187 rfl 0 rfl ?_
    refine rM_g_s hc dX5_named_188 ?_
    refine s_iconst (v := (1 : Int32)) hz dX5_named_191 (by decide) ?_
    refine rM_ld_1 hc (j := 1) (by decide) (by decide) dX5_named_192 ?_
    exact s_iret hc dX5_named_193 (Nat.le_of_ble_eq_true rfl) (Nat.le_of_ble_eq_true rfl)
  refine s_tblD (tgt := 194) (us := [99, 100, 101, 103, 108, 115, 119]) hz dX5_named_1 (by decide) (by have a0 : (x1).toInt ≠ 99 := lc_ne h1; have a1 : (x1).toInt ≠ 100 := lc_ne h3; have a2 : (x1).toInt ≠ 101 := lc_ne h9; have a3 : (x1).toInt ≠ 103 := lc_ne h11; have a4 : (x1).toInt ≠ 108 := lc_ne h13; have a5 : (x1).toInt ≠ 115 := lc_ne h15; have a6 : (x1).toInt ≠ 119 := lc_ne h17; intro u hu; simp only [List.mem_cons, List.not_mem_nil, or_false] at hu; omega) rfl ?_
  refine s_iconst (v := (-1 : Int32)) hz dX5_named_194 (by decide) ?_
  exact s_iret hc dX5_named_195 (Nat.le_of_ble_eq_true rfl) (Nat.le_of_ble_eq_true rfl)
theorem cfX5_named {g : Geo} {N : Nat}  {σ : Mem} {x1 : Int32} {ρ : Int32} (hF : fX5_named N σ x1 = some ρ) (l : Launch) : Ct (VM g) l yX5_named cX5_named 2 (some .int) (rk 2 0 0) [.ref (vO (VM g) + 0), .int x1] σ (oI ρ) σ :=
  Ct.of (by decide) (Nat.le_of_ble_eq_true rfl) (fun Θ hc ls hl => wfX5_named σ x1 hc hF ls hl)
def fX5_factor (N : Nat) (rc : Nat → Mem → Option (Int32 × Mem)) (σ : Mem)  : Option (Int32 × Mem) :=
  if (gI σ 0 15) = (0 : Int32) then
  ((fX5_byteHere N σ).bind (fun q2 => 
  (fX5_isIn N σ ((q2).toInt64) (48 : Int64) (57 : Int64)).bind (fun q4 => 
  if q4 = (0 : Int32) then
  (if q2 = (40 : Int32) then
  ((rc 3 σ).bind (fun q16 => 
  some (q16.1, q16.2)))
  else ((fX5_named N σ q2).bind (fun q8 => 
  lt_ (pI σ 0 15 (if (0 : Int32) ≤ q8 then (0 : Int32) else (1 : Int32))) (fun σ10 => 
  lt_ (pI σ10 0 13 ((gI σ10 0 13) + (if (gI σ10 0 15) = (0 : Int32) then (1 : Int32) else (0 : Int32)))) (fun σ11 => 
  some (q8, σ11))))))
  else ((fX5_number N σ).bind (fun q18 => 
  some (q18.1, q18.2))))))
  else (some ((0 : Int32), σ))
set_option maxHeartbeats 4000000 in
theorem wfX5_factor {Θ : ThT Mem} {g : Geo} {N : Nat} {rc : Nat → Mem → Option (Int32 × Mem)} {r : Nat} (hr : 9 ≤ r) (hrc : ∀ (σ : Mem) (ρ : Int32 × Mem), (rc 0 σ = some ρ → ∀ l : Launch, Ct (VM g) l yX5_sum cX5_sum 5 (some .int) (rk r 0 0) [.ref (vO (VM g) + 0)] σ (oI ρ.1) ρ.2) ∧ (rc 1 σ = some ρ → ∀ l : Launch, Ct (VM g) l yX5_term cX5_term 2 (some .int) (rk r 0 0) [.ref (vO (VM g) + 0)] σ (oI ρ.1) ρ.2) ∧ (rc 2 σ = some ρ → ∀ l : Launch, Ct (VM g) l yX5_factor cX5_factor 3 (some .int) (rk r 0 0) [.ref (vO (VM g) + 0)] σ (oI ρ.1) ρ.2) ∧ (rc 3 σ = some ρ → ∀ l : Launch, Ct (VM g) l yX5_choice cX5_choice 4 (some .int) (rk r 0 0) [.ref (vO (VM g) + 0)] σ (oI ρ.1) ρ.2)) {ρ : Int32 × Mem} (σ : Mem)  (hc : Cx Θ (VM g) cX5_factor 3 RX5 (rk (r + 1) 0 0) (some .int) [] false (oI ρ.1) ρ.2) : Sim Θ 3 ρ σ (fX5_factor N rc σ ) (0, 0) 0 [(0, .ref (vO (VM g) + 0))] [] := by
  have hz := hc.z
  unfold fX5_factor
  refine s_aload_n hz dX5_factor_0 rfl 0 rfl ?_
  refine rM_g_isBad hc dX5_factor_1 ?_
  refine s_if_eq (tgt := 9) hz dX5_factor_4 rfl (fun h1 => ?_) (fun h1 => ?_)
  · refine s_aload_n hz dX5_factor_9 rfl 0 rfl ?_
    refine s_bind (fun q2 e3 => ?_)
    refine kX5_138 hc (cfX5_byteHere e3) ⟨by simp only [rk]; omega, by simp only [rk]; omega⟩ ⟨(Nat.le_of_ble_eq_true rfl), (Nat.le_of_ble_eq_true rfl)⟩ (Nat.le_of_ble_eq_true rfl) dX5_factor_10 ?_
    refine s_istore_n (lv' := [(1, .int q2), (0, .ref (vO (VM g) + 0))]) hz dX5_factor_13 rfl (Nat.le_of_ble_eq_true rfl) rfl ?_
    refine s_iload_n hz dX5_factor_14 rfl 0 rfl ?_
    refine s_i2l hz dX5_factor_15 ?_
    refine s_ldc2 hz dX5_factor_16 q1282 ?_
    refine s_ldc2 hz dX5_factor_19 q1283 ?_
    refine s_bind (fun q4 e5 => ?_)
    refine kX5_98 hc (cfX5_isIn e5) ⟨by simp only [rk]; omega, by simp only [rk]; omega⟩ ⟨(Nat.le_of_ble_eq_true rfl), (Nat.le_of_ble_eq_true rfl)⟩ (Nat.le_of_ble_eq_true rfl) dX5_factor_22 ?_
    refine s_if_eq (tgt := 33) hz dX5_factor_25 rfl (fun h6 => ?_) (fun h6 => ?_)
    · refine s_iload_n hz dX5_factor_33 rfl 0 rfl ?_
      refine s_bipush (v := (40 : Int32)) hz dX5_factor_34 (by decide) ?_
      refine s_icmp_ne (tgt := 44) hz dX5_factor_36 rfl (fun h7 => ?_) (fun h7 => ?_)
      · refine s_aload_n hz dX5_factor_44 rfl 1 rfl ?_
        refine s_iload_n hz dX5_factor_45 rfl 0 rfl ?_
        refine s_bind (fun q8 e9 => ?_)
        refine kX5_164 hc (cfX5_named e9) ⟨by simp only [rk]; omega, by simp only [rk]; omega⟩ ⟨(Nat.le_of_ble_eq_true rfl), (Nat.le_of_ble_eq_true rfl)⟩ (Nat.le_of_ble_eq_true rfl) dX5_factor_46 ?_
        refine s_istore_n (lv' := [(2, .int q8), (1, .int q2), (0, .ref (vO (VM g) + 0))]) hz dX5_factor_49 rfl (Nat.le_of_ble_eq_true rfl) rfl ?_
        refine s_aload_n hz dX5_factor_50 rfl 2 rfl ?_
        refine s_iload_n hz dX5_factor_51 rfl 0 rfl ?_
        refine s_dia (J := 60) (v := .int (if (0 : Int32) ≤ q8 then (0 : Int32) else (1 : Int32))) (st := [.ref (vO (VM g) + 0)]) (fun _ hj14 => ?_) ?_
        · refine s_if_ge_ (tgt := 59) hz dX5_factor_52 rfl (fun h15 => ?_) (fun h15 => ?_)
          · refine s_iconst (v := (0 : Int32)) hz dX5_factor_59 (by decide) ?_
            rw [if_pos h15] at hj14
            exact hj14
          · refine s_iconst (v := (1 : Int32)) hz dX5_factor_55 (by decide) ?_
            refine s_goto (tgt := 60) hz dX5_factor_56 rfl ?_
            rw [if_neg h15] at hj14
            exact hj14
        refine rM_p_isBad hc (nb_ite rfl rfl) (fb_ite rfl rfl) dX5_factor_60 (fun σ10 => ?_)
        refine s_aload_n hz dX5_factor_63 rfl 2 rfl ?_
        refine s_dup hz dX5_factor_64 rfl ?_
        refine rM_g_at hc dX5_factor_65 ?_
        refine s_aload_n hz dX5_factor_68 rfl 2 rfl ?_
        refine rM_g_isBad hc dX5_factor_69 ?_
        refine s_dia (J := 80) (v := .int (if (gI σ10 0 15) = (0 : Int32) then (1 : Int32) else (0 : Int32))) (st := [.int (gI σ10 0 13), .ref (vO (VM g) + 0)]) (fun _ hj12 => ?_) ?_
        · refine s_if_eq_ (tgt := 79) hz dX5_factor_72 rfl (fun h13 => ?_) (fun h13 => ?_)
          · refine s_iconst (v := (1 : Int32)) hz dX5_factor_79 (by decide) ?_
            rw [if_pos h13] at hj12
            exact hj12
          · refine s_iconst (v := (0 : Int32)) hz dX5_factor_75 (by decide) ?_
            refine s_goto (tgt := 80) hz dX5_factor_76 rfl ?_
            rw [if_neg h13] at hj12
            exact hj12
        refine s_iadd hz dX5_factor_80 ?_
        refine rM_p_at hc dX5_factor_81 (fun σ11 => ?_)
        refine s_iload_n hz dX5_factor_84 rfl 0 rfl ?_
        exact s_iretM hc dX5_factor_85 (Nat.le_of_ble_eq_true rfl) (Nat.le_of_ble_eq_true rfl)
      · refine s_aload_n hz dX5_factor_39 rfl 1 rfl ?_
        refine s_bind (fun q16 e17 => ?_)
        refine kX5_161 hc ((hrc _ _).2.2.2 e17) ⟨by simp only [rk]; omega, by simp only [rk]; omega⟩ ⟨(Nat.le_of_ble_eq_true rfl), (Nat.le_of_ble_eq_true rfl)⟩ (Nat.le_of_ble_eq_true rfl) dX5_factor_40 ?_
        exact s_iretM hc dX5_factor_43 (Nat.le_of_ble_eq_true rfl) (Nat.le_of_ble_eq_true rfl)
    · refine s_aload_n hz dX5_factor_28 rfl 1 rfl ?_
      refine s_bind (fun q18 e19 => ?_)
      refine kX5_158 hc (cfX5_number e19) ⟨by simp only [rk]; omega, by simp only [rk]; omega⟩ ⟨(Nat.le_of_ble_eq_true rfl), (Nat.le_of_ble_eq_true rfl)⟩ (Nat.le_of_ble_eq_true rfl) dX5_factor_29 ?_
      exact s_iretM hc dX5_factor_32 (Nat.le_of_ble_eq_true rfl) (Nat.le_of_ble_eq_true rfl)
  · refine s_iconst (v := (0 : Int32)) hz dX5_factor_7 (by decide) ?_
    exact s_iretM hc dX5_factor_8 (Nat.le_of_ble_eq_true rfl) (Nat.le_of_ble_eq_true rfl)
theorem cfX5_factor {g : Geo} {N : Nat} {rc : Nat → Mem → Option (Int32 × Mem)} {r : Nat} (hr : 9 ≤ r) (hrc : ∀ (σ : Mem) (ρ : Int32 × Mem), (rc 0 σ = some ρ → ∀ l : Launch, Ct (VM g) l yX5_sum cX5_sum 5 (some .int) (rk r 0 0) [.ref (vO (VM g) + 0)] σ (oI ρ.1) ρ.2) ∧ (rc 1 σ = some ρ → ∀ l : Launch, Ct (VM g) l yX5_term cX5_term 2 (some .int) (rk r 0 0) [.ref (vO (VM g) + 0)] σ (oI ρ.1) ρ.2) ∧ (rc 2 σ = some ρ → ∀ l : Launch, Ct (VM g) l yX5_factor cX5_factor 3 (some .int) (rk r 0 0) [.ref (vO (VM g) + 0)] σ (oI ρ.1) ρ.2) ∧ (rc 3 σ = some ρ → ∀ l : Launch, Ct (VM g) l yX5_choice cX5_choice 4 (some .int) (rk r 0 0) [.ref (vO (VM g) + 0)] σ (oI ρ.1) ρ.2)) {σ : Mem}  {ρ : Int32 × Mem} (hF : fX5_factor N rc σ  = some ρ) (l : Launch) : Ct (VM g) l yX5_factor cX5_factor 3 (some .int) (rk (r + 1) 0 0) [.ref (vO (VM g) + 0)] σ (oI ρ.1) ρ.2 :=
  Ct.of (by decide) (Nat.le_of_ble_eq_true rfl) (fun Θ hc ls hl => wfX5_factor hr hrc σ  hc hF ls hl)
def bX5_term_5 (N : Nat) (rc : Nat → Mem → Option (Int32 × Mem)) (σ : Mem)  (r5 : (Mem × Int32) → Option (Int32 × Mem)) (y5 : Mem × Int32) : Option (Int32 × Mem) :=
  (fX5_takes N y5.1 (42 : Int32)).bind (fun q3 => 
  if q3.1 = (0 : Int32) then
  (some (y5.2, q3.2))
  else ((rc 2 q3.2).bind (fun q6 => 
  lt_ (y5.2 * q6.1) (fun v8 => 
  r5 (q6.2, v8)))))
set_option maxHeartbeats 4000000 in
theorem wbX5_term_5 {Θ : ThT Mem} {g : Geo} {N : Nat} {rc : Nat → Mem → Option (Int32 × Mem)} {r : Nat} (hr : 9 ≤ r) (hrc : ∀ (σ : Mem) (ρ : Int32 × Mem), (rc 0 σ = some ρ → ∀ l : Launch, Ct (VM g) l yX5_sum cX5_sum 5 (some .int) (rk r 0 0) [.ref (vO (VM g) + 0)] σ (oI ρ.1) ρ.2) ∧ (rc 1 σ = some ρ → ∀ l : Launch, Ct (VM g) l yX5_term cX5_term 2 (some .int) (rk r 0 0) [.ref (vO (VM g) + 0)] σ (oI ρ.1) ρ.2) ∧ (rc 2 σ = some ρ → ∀ l : Launch, Ct (VM g) l yX5_factor cX5_factor 3 (some .int) (rk r 0 0) [.ref (vO (VM g) + 0)] σ (oI ρ.1) ρ.2) ∧ (rc 3 σ = some ρ → ∀ l : Launch, Ct (VM g) l yX5_choice cX5_choice 4 (some .int) (rk r 0 0) [.ref (vO (VM g) + 0)] σ (oI ρ.1) ρ.2)) {ρ : Int32 × Mem} (σ : Mem) (hc : Cx Θ (VM g) cX5_term 2 RX5 (rk (r + 1) 0 0) (some .int) [] false (oI ρ.1) ρ.2)  (r5 : (Mem × Int32) → Option (Int32 × Mem)) (hr5 : ∀ y : Mem × Int32, Sim Θ 2 ρ (y.1) (r5 y) (0, 0) 5 [(0, .ref (vO (VM g) + 0)), (1, .int y.2)] []) : ∀ y5 : Mem × Int32, Sim Θ 2 ρ (y5.1) (bX5_term_5 N rc σ  r5 y5) (0, 0) 5 [(0, .ref (vO (VM g) + 0)), (1, .int y5.2)] [] := by
  intro y5
  have hz := hc.z
  have hr5c : ∀ (z0_ : Mem) (z1_ : Int32), Sim Θ 2 ρ (z0_) (r5 (z0_, z1_)) (0, 0) 5 [(0, .ref (vO (VM g) + 0)), (1, .int z1_)] [] := fun z0_ z1_ => hr5 (z0_, z1_)
  unfold bX5_term_5
  refine s_aload_n hz dX5_term_5 rfl 0 rfl ?_
  refine s_bipush (v := (42 : Int32)) hz dX5_term_6 (by decide) ?_
  refine s_bind (fun q3 e4 => ?_)
  refine kX5_141 hc (cfX5_takes e4) ⟨by simp only [rk]; omega, by simp only [rk]; omega⟩ ⟨(Nat.le_of_ble_eq_true rfl), (Nat.le_of_ble_eq_true rfl)⟩ (Nat.le_of_ble_eq_true rfl) dX5_term_8 ?_
  refine s_if_eq (tgt := 24) hz dX5_term_11 rfl (fun h5 => ?_) (fun h5 => ?_)
  · refine s_iload_n hz dX5_term_24 rfl 1 rfl ?_
    exact s_iretM hc dX5_term_25 (Nat.le_of_ble_eq_true rfl) (Nat.le_of_ble_eq_true rfl)
  · refine s_iload_n hz dX5_term_14 rfl 1 rfl ?_
    refine s_aload_n hz dX5_term_15 rfl 0 rfl ?_
    refine s_bind (fun q6 e7 => ?_)
    refine kX5_167 hc ((hrc _ _).2.2.1 e7) ⟨by simp only [rk]; omega, by simp only [rk]; omega⟩ ⟨(Nat.le_of_ble_eq_true rfl), (Nat.le_of_ble_eq_true rfl)⟩ (Nat.le_of_ble_eq_true rfl) dX5_term_16 ?_
    refine s_imul hz dX5_term_19 ?_
    refine s_nmI (fun v8 => ?_)
    refine s_istore_n (lv' := [(1, .int v8), (0, .ref (vO (VM g) + 0))]) hz dX5_term_20 rfl (Nat.le_of_ble_eq_true rfl) rfl ?_
    refine s_goto (tgt := 5) hz dX5_term_21 rfl ?_
    exact s_sub [1, 0] rfl (hr5c q6.2 v8)
def fX5_term (N : Nat) (rc : Nat → Mem → Option (Int32 × Mem)) (σ : Mem)  : Option (Int32 × Mem) :=
  (rc 2 σ).bind (fun q1 => 
  lp (bX5_term_5 N rc q1.2) N (q1.2, q1.1))
set_option maxHeartbeats 4000000 in
theorem wfX5_term {Θ : ThT Mem} {g : Geo} {N : Nat} {rc : Nat → Mem → Option (Int32 × Mem)} {r : Nat} (hr : 9 ≤ r) (hrc : ∀ (σ : Mem) (ρ : Int32 × Mem), (rc 0 σ = some ρ → ∀ l : Launch, Ct (VM g) l yX5_sum cX5_sum 5 (some .int) (rk r 0 0) [.ref (vO (VM g) + 0)] σ (oI ρ.1) ρ.2) ∧ (rc 1 σ = some ρ → ∀ l : Launch, Ct (VM g) l yX5_term cX5_term 2 (some .int) (rk r 0 0) [.ref (vO (VM g) + 0)] σ (oI ρ.1) ρ.2) ∧ (rc 2 σ = some ρ → ∀ l : Launch, Ct (VM g) l yX5_factor cX5_factor 3 (some .int) (rk r 0 0) [.ref (vO (VM g) + 0)] σ (oI ρ.1) ρ.2) ∧ (rc 3 σ = some ρ → ∀ l : Launch, Ct (VM g) l yX5_choice cX5_choice 4 (some .int) (rk r 0 0) [.ref (vO (VM g) + 0)] σ (oI ρ.1) ρ.2)) {ρ : Int32 × Mem} (σ : Mem)  (hc : Cx Θ (VM g) cX5_term 2 RX5 (rk (r + 1) 0 0) (some .int) [] false (oI ρ.1) ρ.2) : Sim Θ 2 ρ σ (fX5_term N rc σ ) (0, 0) 0 [(0, .ref (vO (VM g) + 0))] [] := by
  have hz := hc.z
  unfold fX5_term
  refine s_aload_n hz dX5_term_0 rfl 0 rfl ?_
  refine s_bind (fun q1 e2 => ?_)
  refine kX5_167 hc ((hrc _ _).2.2.1 e2) ⟨by simp only [rk]; omega, by simp only [rk]; omega⟩ ⟨(Nat.le_of_ble_eq_true rfl), (Nat.le_of_ble_eq_true rfl)⟩ (Nat.le_of_ble_eq_true rfl) dX5_term_1 ?_
  refine s_istore_n (lv' := [(1, .int q1.1), (0, .ref (vO (VM g) + 0))]) hz dX5_term_4 rfl (Nat.le_of_ble_eq_true rfl) rfl ?_
  exact s_sub [1, 0] rfl (s_lp (sg := fun y : Mem × Int32 => y.1) (lvs := fun y : Mem × Int32 => [(0, .ref (vO (VM g) + 0)), (1, .int y.2)]) (fun rec hrec => wbX5_term_5 hr hrc q1.2 hc   rec hrec) N (q1.2, q1.1))
theorem cfX5_term {g : Geo} {N : Nat} {rc : Nat → Mem → Option (Int32 × Mem)} {r : Nat} (hr : 9 ≤ r) (hrc : ∀ (σ : Mem) (ρ : Int32 × Mem), (rc 0 σ = some ρ → ∀ l : Launch, Ct (VM g) l yX5_sum cX5_sum 5 (some .int) (rk r 0 0) [.ref (vO (VM g) + 0)] σ (oI ρ.1) ρ.2) ∧ (rc 1 σ = some ρ → ∀ l : Launch, Ct (VM g) l yX5_term cX5_term 2 (some .int) (rk r 0 0) [.ref (vO (VM g) + 0)] σ (oI ρ.1) ρ.2) ∧ (rc 2 σ = some ρ → ∀ l : Launch, Ct (VM g) l yX5_factor cX5_factor 3 (some .int) (rk r 0 0) [.ref (vO (VM g) + 0)] σ (oI ρ.1) ρ.2) ∧ (rc 3 σ = some ρ → ∀ l : Launch, Ct (VM g) l yX5_choice cX5_choice 4 (some .int) (rk r 0 0) [.ref (vO (VM g) + 0)] σ (oI ρ.1) ρ.2)) {σ : Mem}  {ρ : Int32 × Mem} (hF : fX5_term N rc σ  = some ρ) (l : Launch) : Ct (VM g) l yX5_term cX5_term 2 (some .int) (rk (r + 1) 0 0) [.ref (vO (VM g) + 0)] σ (oI ρ.1) ρ.2 :=
  Ct.of (by decide) (Nat.le_of_ble_eq_true rfl) (fun Θ hc ls hl => wfX5_term hr hrc σ  hc hF ls hl)
def jX5_sum_36 (N : Nat) (rc : Nat → Mem → Option (Int32 × Mem)) (σ : Mem) (x1 : Int32) (x3 : Int32) (t0 : Int32) (r7 : (Mem × Int32 × Int32) → Option (Int32 × Mem)) : Option (Int32 × Mem) :=
  if t0 = (0 : Int32) then
  (r7 (σ, x1, t0))
  else ((rc 1 σ).bind (fun q8 => 
  lt_ (if x3 = (0 : Int32) then (x1 - q8.1) else (x1 + q8.1)) (fun v10 => 
  r7 (q8.2, v10, t0))))
set_option maxHeartbeats 4000000 in
theorem wjX5_sum_36 {Θ : ThT Mem} {g : Geo} {N : Nat} {rc : Nat → Mem → Option (Int32 × Mem)} {r : Nat} (hr : 9 ≤ r) (hrc : ∀ (σ : Mem) (ρ : Int32 × Mem), (rc 0 σ = some ρ → ∀ l : Launch, Ct (VM g) l yX5_sum cX5_sum 5 (some .int) (rk r 0 0) [.ref (vO (VM g) + 0)] σ (oI ρ.1) ρ.2) ∧ (rc 1 σ = some ρ → ∀ l : Launch, Ct (VM g) l yX5_term cX5_term 2 (some .int) (rk r 0 0) [.ref (vO (VM g) + 0)] σ (oI ρ.1) ρ.2) ∧ (rc 2 σ = some ρ → ∀ l : Launch, Ct (VM g) l yX5_factor cX5_factor 3 (some .int) (rk r 0 0) [.ref (vO (VM g) + 0)] σ (oI ρ.1) ρ.2) ∧ (rc 3 σ = some ρ → ∀ l : Launch, Ct (VM g) l yX5_choice cX5_choice 4 (some .int) (rk r 0 0) [.ref (vO (VM g) + 0)] σ (oI ρ.1) ρ.2)) {ρ : Int32 × Mem} (σ : Mem) (hc : Cx Θ (VM g) cX5_sum 5 RX5 (rk (r + 1) 0 0) (some .int) [] false (oI ρ.1) ρ.2) (x1 : Int32) (x3 : Int32) (t0 : Int32) (r7 : (Mem × Int32 × Int32) → Option (Int32 × Mem)) (hr7 : ∀ y : Mem × Int32 × Int32, Sim Θ 5 ρ (y.1) (r7 y) (0, 0) 7 [(0, .ref (vO (VM g) + 0)), (1, .int y.2.1), (2, .int y.2.2)] []) : Sim Θ 5 ρ σ (jX5_sum_36 N rc σ x1 x3 t0 r7) (0, 0) 36 [(0, .ref (vO (VM g) + 0)), (1, .int x1), (3, .int x3)] [.int t0] := by
  have hz := hc.z
  have hr7c : ∀ (z0_ : Mem) (z1_ : Int32) (z2_ : Int32), Sim Θ 5 ρ (z0_) (r7 (z0_, z1_, z2_)) (0, 0) 7 [(0, .ref (vO (VM g) + 0)), (1, .int z1_), (2, .int z2_)] [] := fun z0_ z1_ z2_ => hr7 (z0_, z1_, z2_)
  unfold jX5_sum_36
  refine s_istore_n (lv' := [(2, .int t0), (0, .ref (vO (VM g) + 0)), (1, .int x1), (3, .int x3)]) hz dX5_sum_36 rfl (Nat.le_of_ble_eq_true rfl) rfl ?_
  refine s_iload_n hz dX5_sum_37 rfl 0 rfl ?_
  refine s_if_eq (tgt := 63) hz dX5_sum_38 rfl (fun h7 => ?_) (fun h7 => ?_)
  · refine s_goto (tgt := 7) hz dX5_sum_63 rfl ?_
    exact s_sub [1, 2, 0] rfl (hr7c σ x1 t0)
  · refine s_aload_n hz dX5_sum_41 rfl 1 rfl ?_
    refine s_bind (fun q8 e9 => ?_)
    refine kX5_170 hc ((hrc _ _).2.1 e9) ⟨by simp only [rk]; omega, by simp only [rk]; omega⟩ ⟨(Nat.le_of_ble_eq_true rfl), (Nat.le_of_ble_eq_true rfl)⟩ (Nat.le_of_ble_eq_true rfl) dX5_sum_42 ?_
    refine s_istore (lv' := [(4, .int q8.1), (2, .int t0), (0, .ref (vO (VM g) + 0)), (1, .int x1), (3, .int x3)]) hz dX5_sum_45 (Nat.le_of_ble_eq_true rfl) rfl ?_
    refine s_iload_n hz dX5_sum_47 rfl 4 rfl ?_
    refine s_dia (J := 62) (v := .int (if x3 = (0 : Int32) then (x1 - q8.1) else (x1 + q8.1))) (st := []) (fun _ hj11 => ?_) ?_
    · refine s_if_eq_ (tgt := 58) hz dX5_sum_48 rfl (fun h12 => ?_) (fun h12 => ?_)
      · refine s_iload_n hz dX5_sum_58 rfl 3 rfl ?_
        refine s_iload hz dX5_sum_59 0 rfl ?_
        refine s_isub hz dX5_sum_61 ?_
        rw [if_pos h12] at hj11
        exact hj11
      · refine s_iload_n hz dX5_sum_51 rfl 3 rfl ?_
        refine s_iload hz dX5_sum_52 0 rfl ?_
        refine s_iadd hz dX5_sum_54 ?_
        refine s_goto (tgt := 62) hz dX5_sum_55 rfl ?_
        rw [if_neg h12] at hj11
        exact hj11
    refine s_nmI (fun v10 => ?_)
    refine s_istore_n (lv' := [(1, .int v10), (4, .int q8.1), (2, .int t0), (0, .ref (vO (VM g) + 0)), (3, .int x3)]) hz dX5_sum_62 rfl (Nat.le_of_ble_eq_true rfl) rfl ?_
    refine s_goto (tgt := 7) hz dX5_sum_63 rfl ?_
    exact s_sub [3, 0, 2] rfl (hr7c q8.2 v10 t0)
def bX5_sum_7 (N : Nat) (rc : Nat → Mem → Option (Int32 × Mem)) (σ : Mem)  (r7 : (Mem × Int32 × Int32) → Option (Int32 × Mem)) (y7 : Mem × Int32 × Int32) : Option (Int32 × Mem) :=
  if y7.2.2 = (0 : Int32) then
  (some (y7.2.1, y7.1))
  else ((fX5_takes N y7.1 (43 : Int32)).bind (fun q4 => 
  if q4.1 = (0 : Int32) then
  ((fX5_takes N q4.2 (45 : Int32)).bind (fun q13 => 
  lt_ (if q13.1 = (0 : Int32) then (0 : Int32) else (1 : Int32)) (fun v15 => 
  if v15 = (0 : Int32) then
  (r7 (q13.2, y7.2.1, v15))
  else ((rc 1 q13.2).bind (fun q17 => 
  lt_ (if q4.1 = (0 : Int32) then (y7.2.1 - q17.1) else (y7.2.1 + q17.1)) (fun v19 => 
  r7 (q17.2, v19, v15)))))))
  else (jX5_sum_36 N rc q4.2 y7.2.1 q4.1 (1 : Int32) r7)))
set_option maxHeartbeats 4000000 in
theorem wbX5_sum_7 {Θ : ThT Mem} {g : Geo} {N : Nat} {rc : Nat → Mem → Option (Int32 × Mem)} {r : Nat} (hr : 9 ≤ r) (hrc : ∀ (σ : Mem) (ρ : Int32 × Mem), (rc 0 σ = some ρ → ∀ l : Launch, Ct (VM g) l yX5_sum cX5_sum 5 (some .int) (rk r 0 0) [.ref (vO (VM g) + 0)] σ (oI ρ.1) ρ.2) ∧ (rc 1 σ = some ρ → ∀ l : Launch, Ct (VM g) l yX5_term cX5_term 2 (some .int) (rk r 0 0) [.ref (vO (VM g) + 0)] σ (oI ρ.1) ρ.2) ∧ (rc 2 σ = some ρ → ∀ l : Launch, Ct (VM g) l yX5_factor cX5_factor 3 (some .int) (rk r 0 0) [.ref (vO (VM g) + 0)] σ (oI ρ.1) ρ.2) ∧ (rc 3 σ = some ρ → ∀ l : Launch, Ct (VM g) l yX5_choice cX5_choice 4 (some .int) (rk r 0 0) [.ref (vO (VM g) + 0)] σ (oI ρ.1) ρ.2)) {ρ : Int32 × Mem} (σ : Mem) (hc : Cx Θ (VM g) cX5_sum 5 RX5 (rk (r + 1) 0 0) (some .int) [] false (oI ρ.1) ρ.2)  (r7 : (Mem × Int32 × Int32) → Option (Int32 × Mem)) (hr7 : ∀ y : Mem × Int32 × Int32, Sim Θ 5 ρ (y.1) (r7 y) (0, 0) 7 [(0, .ref (vO (VM g) + 0)), (1, .int y.2.1), (2, .int y.2.2)] []) : ∀ y7 : Mem × Int32 × Int32, Sim Θ 5 ρ (y7.1) (bX5_sum_7 N rc σ  r7 y7) (0, 0) 7 [(0, .ref (vO (VM g) + 0)), (1, .int y7.2.1), (2, .int y7.2.2)] [] := by
  intro y7
  have hz := hc.z
  have hr7c : ∀ (z0_ : Mem) (z1_ : Int32) (z2_ : Int32), Sim Θ 5 ρ (z0_) (r7 (z0_, z1_, z2_)) (0, 0) 7 [(0, .ref (vO (VM g) + 0)), (1, .int z1_), (2, .int z2_)] [] := fun z0_ z1_ z2_ => hr7 (z0_, z1_, z2_)
  unfold bX5_sum_7
  refine s_iload_n hz dX5_sum_7 rfl 2 rfl ?_
  refine s_if_eq (tgt := 66) hz dX5_sum_8 rfl (fun h3 => ?_) (fun h3 => ?_)
  · refine s_iload_n hz dX5_sum_66 rfl 1 rfl ?_
    exact s_iretM hc dX5_sum_67 (Nat.le_of_ble_eq_true rfl) (Nat.le_of_ble_eq_true rfl)
  · refine s_aload_n hz dX5_sum_11 rfl 0 rfl ?_
    refine s_bipush (v := (43 : Int32)) hz dX5_sum_12 (by decide) ?_
    refine s_bind (fun q4 e5 => ?_)
    refine kX5_141 hc (cfX5_takes e5) ⟨by simp only [rk]; omega, by simp only [rk]; omega⟩ ⟨(Nat.le_of_ble_eq_true rfl), (Nat.le_of_ble_eq_true rfl)⟩ (Nat.le_of_ble_eq_true rfl) dX5_sum_14 ?_
    refine s_istore_n (lv' := [(3, .int q4.1), (0, .ref (vO (VM g) + 0)), (1, .int y7.2.1), (2, .int y7.2.2)]) hz dX5_sum_17 rfl (Nat.le_of_ble_eq_true rfl) rfl ?_
    refine s_iload_n hz dX5_sum_18 rfl 0 rfl ?_
    refine s_if_ne (tgt := 31) hz dX5_sum_19 rfl (fun h6 => ?_) (fun h6 => ?_)
    · refine s_iconst (v := (1 : Int32)) hz dX5_sum_31 (by decide) ?_
      refine s_goto (tgt := 36) hz dX5_sum_32 rfl ?_
      exact s_sub [1, 2, 0] rfl (wjX5_sum_36 hr hrc q4.2 hc y7.2.1 q4.1 (1 : Int32) r7 hr7)
    · refine s_aload_n hz dX5_sum_22 rfl 1 rfl ?_
      refine s_bipush (v := (45 : Int32)) hz dX5_sum_23 (by decide) ?_
      refine s_bind (fun q13 e14 => ?_)
      refine kX5_141 hc (cfX5_takes e14) ⟨by simp only [rk]; omega, by simp only [rk]; omega⟩ ⟨(Nat.le_of_ble_eq_true rfl), (Nat.le_of_ble_eq_true rfl)⟩ (Nat.le_of_ble_eq_true rfl) dX5_sum_25 ?_
      refine s_dia (J := 36) (v := .int (if q13.1 = (0 : Int32) then (0 : Int32) else (1 : Int32))) (st := []) (fun _ hj22 => ?_) ?_
      · refine s_if_eq_ (tgt := 35) hz dX5_sum_28 rfl (fun h23 => ?_) (fun h23 => ?_)
        · refine s_iconst (v := (0 : Int32)) hz dX5_sum_35 (by decide) ?_
          rw [if_pos h23] at hj22
          exact hj22
        · refine s_iconst (v := (1 : Int32)) hz dX5_sum_31 (by decide) ?_
          refine s_goto (tgt := 36) hz dX5_sum_32 rfl ?_
          rw [if_neg h23] at hj22
          exact hj22
      refine s_nmI (fun v15 => ?_)
      refine s_istore_n (lv' := [(2, .int v15), (3, .int q4.1), (0, .ref (vO (VM g) + 0)), (1, .int y7.2.1)]) hz dX5_sum_36 rfl (Nat.le_of_ble_eq_true rfl) rfl ?_
      refine s_iload_n hz dX5_sum_37 rfl 0 rfl ?_
      refine s_if_eq (tgt := 63) hz dX5_sum_38 rfl (fun h16 => ?_) (fun h16 => ?_)
      · refine s_goto (tgt := 7) hz dX5_sum_63 rfl ?_
        exact s_sub [2, 3, 0] rfl (hr7c q13.2 y7.2.1 v15)
      · refine s_aload_n hz dX5_sum_41 rfl 2 rfl ?_
        refine s_bind (fun q17 e18 => ?_)
        refine kX5_170 hc ((hrc _ _).2.1 e18) ⟨by simp only [rk]; omega, by simp only [rk]; omega⟩ ⟨(Nat.le_of_ble_eq_true rfl), (Nat.le_of_ble_eq_true rfl)⟩ (Nat.le_of_ble_eq_true rfl) dX5_sum_42 ?_
        refine s_istore (lv' := [(4, .int q17.1), (2, .int v15), (3, .int q4.1), (0, .ref (vO (VM g) + 0)), (1, .int y7.2.1)]) hz dX5_sum_45 (Nat.le_of_ble_eq_true rfl) rfl ?_
        refine s_iload_n hz dX5_sum_47 rfl 2 rfl ?_
        refine s_dia (J := 62) (v := .int (if q4.1 = (0 : Int32) then (y7.2.1 - q17.1) else (y7.2.1 + q17.1))) (st := []) (fun _ hj20 => ?_) ?_
        · refine s_if_eq_ (tgt := 58) hz dX5_sum_48 rfl (fun h21 => ?_) (fun h21 => ?_)
          · refine s_iload_n hz dX5_sum_58 rfl 4 rfl ?_
            refine s_iload hz dX5_sum_59 0 rfl ?_
            refine s_isub hz dX5_sum_61 ?_
            rw [if_pos h21] at hj20
            exact hj20
          · refine s_iload_n hz dX5_sum_51 rfl 4 rfl ?_
            refine s_iload hz dX5_sum_52 0 rfl ?_
            refine s_iadd hz dX5_sum_54 ?_
            refine s_goto (tgt := 62) hz dX5_sum_55 rfl ?_
            rw [if_neg h21] at hj20
            exact hj20
        refine s_nmI (fun v19 => ?_)
        refine s_istore_n (lv' := [(1, .int v19), (4, .int q17.1), (2, .int v15), (3, .int q4.1), (0, .ref (vO (VM g) + 0))]) hz dX5_sum_62 rfl (Nat.le_of_ble_eq_true rfl) rfl ?_
        refine s_goto (tgt := 7) hz dX5_sum_63 rfl ?_
        exact s_sub [4, 0, 2] rfl (hr7c q17.2 v19 v15)
def fX5_sum (N : Nat) (rc : Nat → Mem → Option (Int32 × Mem)) (σ : Mem)  : Option (Int32 × Mem) :=
  (rc 1 σ).bind (fun q1 => 
  lp (bX5_sum_7 N rc q1.2) N (q1.2, q1.1, (1 : Int32)))
set_option maxHeartbeats 4000000 in
theorem wfX5_sum {Θ : ThT Mem} {g : Geo} {N : Nat} {rc : Nat → Mem → Option (Int32 × Mem)} {r : Nat} (hr : 9 ≤ r) (hrc : ∀ (σ : Mem) (ρ : Int32 × Mem), (rc 0 σ = some ρ → ∀ l : Launch, Ct (VM g) l yX5_sum cX5_sum 5 (some .int) (rk r 0 0) [.ref (vO (VM g) + 0)] σ (oI ρ.1) ρ.2) ∧ (rc 1 σ = some ρ → ∀ l : Launch, Ct (VM g) l yX5_term cX5_term 2 (some .int) (rk r 0 0) [.ref (vO (VM g) + 0)] σ (oI ρ.1) ρ.2) ∧ (rc 2 σ = some ρ → ∀ l : Launch, Ct (VM g) l yX5_factor cX5_factor 3 (some .int) (rk r 0 0) [.ref (vO (VM g) + 0)] σ (oI ρ.1) ρ.2) ∧ (rc 3 σ = some ρ → ∀ l : Launch, Ct (VM g) l yX5_choice cX5_choice 4 (some .int) (rk r 0 0) [.ref (vO (VM g) + 0)] σ (oI ρ.1) ρ.2)) {ρ : Int32 × Mem} (σ : Mem)  (hc : Cx Θ (VM g) cX5_sum 5 RX5 (rk (r + 1) 0 0) (some .int) [] false (oI ρ.1) ρ.2) : Sim Θ 5 ρ σ (fX5_sum N rc σ ) (0, 0) 0 [(0, .ref (vO (VM g) + 0))] [] := by
  have hz := hc.z
  unfold fX5_sum
  refine s_aload_n hz dX5_sum_0 rfl 0 rfl ?_
  refine s_bind (fun q1 e2 => ?_)
  refine kX5_170 hc ((hrc _ _).2.1 e2) ⟨by simp only [rk]; omega, by simp only [rk]; omega⟩ ⟨(Nat.le_of_ble_eq_true rfl), (Nat.le_of_ble_eq_true rfl)⟩ (Nat.le_of_ble_eq_true rfl) dX5_sum_1 ?_
  refine s_istore_n (lv' := [(1, .int q1.1), (0, .ref (vO (VM g) + 0))]) hz dX5_sum_4 rfl (Nat.le_of_ble_eq_true rfl) rfl ?_
  refine s_iconst (v := (1 : Int32)) hz dX5_sum_5 (by decide) ?_
  refine s_istore_n (lv' := [(2, .int (1 : Int32)), (1, .int q1.1), (0, .ref (vO (VM g) + 0))]) hz dX5_sum_6 rfl (Nat.le_of_ble_eq_true rfl) rfl ?_
  exact s_sub [2, 1, 0] rfl (s_lp (sg := fun y : Mem × Int32 × Int32 => y.1) (lvs := fun y : Mem × Int32 × Int32 => [(0, .ref (vO (VM g) + 0)), (1, .int y.2.1), (2, .int y.2.2)]) (fun rec hrec => wbX5_sum_7 hr hrc q1.2 hc   rec hrec) N (q1.2, q1.1, (1 : Int32)))
theorem cfX5_sum {g : Geo} {N : Nat} {rc : Nat → Mem → Option (Int32 × Mem)} {r : Nat} (hr : 9 ≤ r) (hrc : ∀ (σ : Mem) (ρ : Int32 × Mem), (rc 0 σ = some ρ → ∀ l : Launch, Ct (VM g) l yX5_sum cX5_sum 5 (some .int) (rk r 0 0) [.ref (vO (VM g) + 0)] σ (oI ρ.1) ρ.2) ∧ (rc 1 σ = some ρ → ∀ l : Launch, Ct (VM g) l yX5_term cX5_term 2 (some .int) (rk r 0 0) [.ref (vO (VM g) + 0)] σ (oI ρ.1) ρ.2) ∧ (rc 2 σ = some ρ → ∀ l : Launch, Ct (VM g) l yX5_factor cX5_factor 3 (some .int) (rk r 0 0) [.ref (vO (VM g) + 0)] σ (oI ρ.1) ρ.2) ∧ (rc 3 σ = some ρ → ∀ l : Launch, Ct (VM g) l yX5_choice cX5_choice 4 (some .int) (rk r 0 0) [.ref (vO (VM g) + 0)] σ (oI ρ.1) ρ.2)) {σ : Mem}  {ρ : Int32 × Mem} (hF : fX5_sum N rc σ  = some ρ) (l : Launch) : Ct (VM g) l yX5_sum cX5_sum 5 (some .int) (rk (r + 1) 0 0) [.ref (vO (VM g) + 0)] σ (oI ρ.1) ρ.2 :=
  Ct.of (by decide) (Nat.le_of_ble_eq_true rfl) (fun Θ hc ls hl => wfX5_sum hr hrc σ  hc hF ls hl)
def recM (N : Nat) : Nat → Nat → Mem → Option (Int32 × Mem)
  | 0 => fun _ _ => none
  | d + 1 => fun t σ => if t = 0 then fX5_sum N (recM N d) σ else if t = 1 then fX5_term N (recM N d) σ else if t = 2 then fX5_factor N (recM N d) σ else if t = 3 then fX5_choice N (recM N d) σ else none
theorem recM_ct {g : Geo} {N : Nat} : ∀ (d : Nat) (σ : Mem) (ρ : Int32 × Mem), (recM N d 0 σ = some ρ → ∀ l : Launch, Ct (VM g) l yX5_sum cX5_sum 5 (some .int) (rk (9 + d) 0 0) [.ref (vO (VM g) + 0)] σ (oI ρ.1) ρ.2) ∧ (recM N d 1 σ = some ρ → ∀ l : Launch, Ct (VM g) l yX5_term cX5_term 2 (some .int) (rk (9 + d) 0 0) [.ref (vO (VM g) + 0)] σ (oI ρ.1) ρ.2) ∧ (recM N d 2 σ = some ρ → ∀ l : Launch, Ct (VM g) l yX5_factor cX5_factor 3 (some .int) (rk (9 + d) 0 0) [.ref (vO (VM g) + 0)] σ (oI ρ.1) ρ.2) ∧ (recM N d 3 σ = some ρ → ∀ l : Launch, Ct (VM g) l yX5_choice cX5_choice 4 (some .int) (rk (9 + d) 0 0) [.ref (vO (VM g) + 0)] σ (oI ρ.1) ρ.2) := by
  intro d
  induction d with
  | zero => intro σ ρ; exact ⟨(fun h => by cases h), (fun h => by cases h), (fun h => by cases h), (fun h => by cases h)⟩
  | succ d ih =>
    intro σ ρ
    exact ⟨fun h => cfX5_sum (r := 9 + d) (by omega) ih h, fun h => cfX5_term (r := 9 + d) (by omega) ih h, fun h => cfX5_factor (r := 9 + d) (by omega) ih h, fun h => cfX5_choice (r := 9 + d) (by omega) ih h⟩
theorem crecM_sum {g : Geo} {N : Nat} {σ : Mem} {ρ : Int32 × Mem} (h : recM N 24 0 σ = some ρ) (l : Launch) : Ct (VM g) l yX5_sum cX5_sum 5 (some .int) (rk 33 0 0) [.ref (vO (VM g) + 0)] σ (oI ρ.1) ρ.2 := (recM_ct 24 σ ρ).1 h l
def fX5_says (N : Nat) (σ : Mem) (x1 : Int32) : Option (Int32 × Mem) :=
  lt_ (pI σ 0 17 x1) (fun σ1 => 
  lt_ (pI σ1 0 13 (0 : Int32)) (fun σ2 => 
  lt_ (pI σ2 0 14 (0 : Int32)) (fun σ3 => 
  lt_ (pI σ3 0 15 (0 : Int32)) (fun σ4 => 
  (recM N 24 0 σ4).bind (fun q5 => 
  if (gI q5.2 0 15) = (0 : Int32) then
  ((fX5_end N q5.2).bind (fun q9 => 
  lt_ (pI q5.2 0 15 (if q9 ≤ (gI q5.2 0 13) then (0 : Int32) else (1 : Int32))) (fun σ11 => 
  some (q5.1, σ11))))
  else (lt_ (pI q5.2 0 15 (1 : Int32)) (fun σ8 => 
  some (q5.1, σ8))))))))
set_option maxHeartbeats 4000000 in
theorem wfX5_says {Θ : ThT Mem} {g : Geo} {N : Nat}  {ρ : Int32 × Mem} (σ : Mem) (x1 : Int32) (hc : Cx Θ (VM g) cX5_says 3 RX5 (rk 41 0 0) (some .int) [] false (oI ρ.1) ρ.2) : Sim Θ 3 ρ σ (fX5_says N σ x1) (0, 0) 0 [(0, .ref (vO (VM g) + 0)), (1, .int x1)] [] := by
  have hz := hc.z
  unfold fX5_says
  refine s_aload_n hz dX5_says_0 rfl 0 rfl ?_
  refine s_iload_n hz dX5_says_1 rfl 1 rfl ?_
  refine rM_p_placeRead hc dX5_says_2 (fun σ1 => ?_)
  refine s_aload_n hz dX5_says_5 rfl 0 rfl ?_
  refine s_iconst (v := (0 : Int32)) hz dX5_says_6 (by decide) ?_
  refine rM_p_at hc dX5_says_7 (fun σ2 => ?_)
  refine s_aload_n hz dX5_says_10 rfl 0 rfl ?_
  refine s_iconst (v := (0 : Int32)) hz dX5_says_11 (by decide) ?_
  refine rM_p_open hc dX5_says_12 (fun σ3 => ?_)
  refine s_aload_n hz dX5_says_15 rfl 0 rfl ?_
  refine s_iconst (v := (0 : Int32)) hz dX5_says_16 (by decide) ?_
  refine rM_p_isBad hc rfl rfl dX5_says_17 (fun σ4 => ?_)
  refine s_aload_n hz dX5_says_20 rfl 0 rfl ?_
  refine s_bind (fun q5 e6 => ?_)
  refine kX5_151 hc (crecM_sum e6) ⟨(Nat.le_of_ble_eq_true rfl), (Nat.le_of_ble_eq_true rfl)⟩ ⟨(Nat.le_of_ble_eq_true rfl), (Nat.le_of_ble_eq_true rfl)⟩ (Nat.le_of_ble_eq_true rfl) dX5_says_21 ?_
  refine s_istore_n (lv' := [(2, .int q5.1), (0, .ref (vO (VM g) + 0)), (1, .int x1)]) hz dX5_says_24 rfl (Nat.le_of_ble_eq_true rfl) rfl ?_
  refine s_aload_n hz dX5_says_25 rfl 1 rfl ?_
  refine s_aload_n hz dX5_says_26 rfl 1 rfl ?_
  refine rM_g_isBad hc dX5_says_27 ?_
  refine s_if_ne (tgt := 44) hz dX5_says_30 rfl (fun h7 => ?_) (fun h7 => ?_)
  · refine s_iconst (v := (1 : Int32)) hz dX5_says_44 (by decide) ?_
    refine s_goto (tgt := 49) hz dX5_says_45 rfl ?_
    refine rM_p_isBad hc rfl rfl dX5_says_49 (fun σ8 => ?_)
    refine s_iload_n hz dX5_says_52 rfl 0 rfl ?_
    exact s_iretM hc dX5_says_53 (Nat.le_of_ble_eq_true rfl) (Nat.le_of_ble_eq_true rfl)
  · refine s_aload_n hz dX5_says_33 rfl 1 rfl ?_
    refine rM_g_at hc dX5_says_34 ?_
    refine s_aload_n hz dX5_says_37 rfl 1 rfl ?_
    refine s_bind (fun q9 e10 => ?_)
    refine kX5_122 hc (cfX5_end e10) ⟨(Nat.le_of_ble_eq_true rfl), (Nat.le_of_ble_eq_true rfl)⟩ ⟨(Nat.le_of_ble_eq_true rfl), (Nat.le_of_ble_eq_true rfl)⟩ (Nat.le_of_ble_eq_true rfl) dX5_says_38 ?_
    refine s_dia (J := 49) (v := .int (if q9 ≤ (gI q5.2 0 13) then (0 : Int32) else (1 : Int32))) (st := [.ref (vO (VM g) + 0)]) (fun _ hj12 => ?_) ?_
    · refine s_icmp_ge_ (tgt := 48) hz dX5_says_41 rfl (fun h13 => ?_) (fun h13 => ?_)
      · refine s_iconst (v := (0 : Int32)) hz dX5_says_48 (by decide) ?_
        rw [if_pos h13] at hj12
        exact hj12
      · refine s_iconst (v := (1 : Int32)) hz dX5_says_44 (by decide) ?_
        refine s_goto (tgt := 49) hz dX5_says_45 rfl ?_
        rw [if_neg h13] at hj12
        exact hj12
    refine rM_p_isBad hc (nb_ite rfl rfl) (fb_ite rfl rfl) dX5_says_49 (fun σ11 => ?_)
    refine s_iload_n hz dX5_says_52 rfl 0 rfl ?_
    exact s_iretM hc dX5_says_53 (Nat.le_of_ble_eq_true rfl) (Nat.le_of_ble_eq_true rfl)
theorem cfX5_says {g : Geo} {N : Nat}  {σ : Mem} {x1 : Int32} {ρ : Int32 × Mem} (hF : fX5_says N σ x1 = some ρ) (l : Launch) : Ct (VM g) l yX5_says cX5_says 3 (some .int) (rk 41 0 0) [.ref (vO (VM g) + 0), .int x1] σ (oI ρ.1) ρ.2 :=
  Ct.of (by decide) (Nat.le_of_ble_eq_true rfl) (fun Θ hc ls hl => wfX5_says σ x1 hc hF ls hl)
def bX5_liking_32 (N : Nat) (σ : Mem)  (r32 : (Mem × Int32) → Option (Int32 × Mem)) (y32 : Mem × Int32) : Option (Int32 × Mem) :=
  if (gI y32.1 0 9) ≤ y32.2 then
  (lt_ (pI y32.1 1 4 (gI y32.1 0 9)) (fun σ7 => 
  lt_ (pI σ7 1 3 (1 : Int32)) (fun σ8 => 
  lt_ (pI σ8 0 9 (0 : Int32)) (fun σ9 => 
  lt_ (pI σ9 0 18 (1 : Int32)) (fun σ10 => 
  lt_ (pI σ10 0 19 (1 : Int32)) (fun σ11 => 
  some ((0 : Int32), σ11)))))))
  else (gb (inb y32.2 60) (
  gb (inb ((44 : Int32) + y32.2) 919) (
  lt_ (pI y32.1 1 (ix ((44 : Int32) + y32.2)) (gI y32.1 8 (ix y32.2))) (fun σ13 => 
  r32 (σ13, (y32.2 + (1 : Int32)))))))
set_option maxHeartbeats 4000000 in
theorem wbX5_liking_32 {Θ : ThT Mem} {g : Geo} {N : Nat}  {ρ : Int32 × Mem} (σ : Mem) (hc : Cx Θ (VM g) cX5_liking 3 RX5 (rk 42 0 0) (some .int) [] false (oI ρ.1) ρ.2)  (r32 : (Mem × Int32) → Option (Int32 × Mem)) (hr32 : ∀ y : Mem × Int32, Sim Θ 3 ρ (y.1) (r32 y) (0, 0) 32 [(0, .ref (vO (VM g) + 0)), (2, .int y.2)] []) : ∀ y32 : Mem × Int32, Sim Θ 3 ρ (y32.1) (bX5_liking_32 N σ  r32 y32) (0, 0) 32 [(0, .ref (vO (VM g) + 0)), (2, .int y32.2)] [] := by
  intro y32
  have hz := hc.z
  have hr32c : ∀ (z0_ : Mem) (z1_ : Int32), Sim Θ 3 ρ (z0_) (r32 (z0_, z1_)) (0, 0) 32 [(0, .ref (vO (VM g) + 0)), (2, .int z1_)] [] := fun z0_ z1_ => hr32 (z0_, z1_)
  unfold bX5_liking_32
  refine s_iload_n hz dX5_liking_32 rfl 1 rfl ?_
  refine s_aload_n hz dX5_liking_33 rfl 0 rfl ?_
  refine rM_g_taped hc dX5_liking_34 ?_
  refine s_icmp_ge (tgt := 61) hz dX5_liking_37 rfl (fun h6 => ?_) (fun h6 => ?_)
  · refine s_aload_n hz dX5_liking_61 rfl 0 rfl ?_
    refine rM_g_s hc dX5_liking_62 ?_
    refine s_iconst (v := (4 : Int32)) hz dX5_liking_65 (by decide) ?_
    refine s_aload_n hz dX5_liking_66 rfl 0 rfl ?_
    refine rM_g_taped hc dX5_liking_67 ?_
    refine rM_st_1 hc (j := 4) (by decide) (by decide) dX5_liking_70 (fun σ7 => ?_)
    refine s_aload_n hz dX5_liking_71 rfl 0 rfl ?_
    refine rM_g_s hc dX5_liking_72 ?_
    refine s_iconst (v := (3 : Int32)) hz dX5_liking_75 (by decide) ?_
    refine s_iconst (v := (1 : Int32)) hz dX5_liking_76 (by decide) ?_
    refine rM_st_1 hc (j := 3) (by decide) (by decide) dX5_liking_77 (fun σ8 => ?_)
    refine s_aload_n hz dX5_liking_78 rfl 0 rfl ?_
    refine s_iconst (v := (0 : Int32)) hz dX5_liking_79 (by decide) ?_
    refine rM_p_taped hc dX5_liking_80 (fun σ9 => ?_)
    refine s_aload_n hz dX5_liking_83 rfl 0 rfl ?_
    refine s_iconst (v := (1 : Int32)) hz dX5_liking_84 (by decide) ?_
    refine rM_p_isNew hc rfl rfl dX5_liking_85 (fun σ10 => ?_)
    refine s_aload_n hz dX5_liking_88 rfl 0 rfl ?_
    refine s_iconst (v := (1 : Int32)) hz dX5_liking_89 (by decide) ?_
    refine rM_p_isSaidNew hc rfl rfl dX5_liking_90 (fun σ11 => ?_)
    refine s_iconst (v := (0 : Int32)) hz dX5_liking_93 (by decide) ?_
    exact s_iretM hc dX5_liking_94 (Nat.le_of_ble_eq_true rfl) (Nat.le_of_ble_eq_true rfl)
  · refine s_aload_n hz dX5_liking_40 rfl 0 rfl ?_
    refine rM_g_s hc dX5_liking_41 ?_
    refine s_bipush (v := (44 : Int32)) hz dX5_liking_44 (by decide) ?_
    refine s_iload_n hz dX5_liking_46 rfl 1 rfl ?_
    refine s_iadd hz dX5_liking_47 ?_
    refine s_aload_n hz dX5_liking_48 rfl 0 rfl ?_
    refine rM_g_tape hc dX5_liking_49 ?_
    refine s_iload_n hz dX5_liking_52 rfl 1 rfl ?_
    refine s_gb (fun h12 => ?_)
    refine rM_ld_8 hc h12 rfl dX5_liking_53 ?_
    refine s_gb (fun h14 => ?_)
    refine rM_st_1 hc h14 rfl dX5_liking_54 (fun σ13 => ?_)
    refine s_iinc (v := (1 : Int32)) (lv' := [(2, .int (y32.2 + (1 : Int32))), (0, .ref (vO (VM g) + 0))]) hz dX5_liking_55 1 rfl (by decide) (Nat.le_of_ble_eq_true rfl) rfl ?_
    refine s_goto (tgt := 32) hz dX5_liking_58 rfl ?_
    exact s_sub [1, 0] rfl (hr32c σ13 (y32.2 + (1 : Int32)))
def fX5_liking (N : Nat) (σ : Mem)  : Option (Int32 × Mem) :=
  lt_ (pI σ 0 16 (1 : Int32)) (fun σ1 => 
  (fX5_says N σ1 (0 : Int32)).bind (fun q2 => 
  lt_ (pI q2.2 0 16 (0 : Int32)) (fun σ4 => 
  if (gI σ4 0 15) = (0 : Int32) then
  (lp (bX5_liking_32 N σ4) N (σ4, (0 : Int32)))
  else (some (((-1 : Int32) - (gI σ4 0 13)), σ4)))))
set_option maxHeartbeats 4000000 in
theorem wfX5_liking {Θ : ThT Mem} {g : Geo} {N : Nat}  {ρ : Int32 × Mem} (σ : Mem)  (hc : Cx Θ (VM g) cX5_liking 3 RX5 (rk 42 0 0) (some .int) [] false (oI ρ.1) ρ.2) : Sim Θ 3 ρ σ (fX5_liking N σ ) (0, 0) 0 [(0, .ref (vO (VM g) + 0))] [] := by
  have hz := hc.z
  unfold fX5_liking
  refine s_aload_n hz dX5_liking_0 rfl 0 rfl ?_
  refine s_iconst (v := (1 : Int32)) hz dX5_liking_1 (by decide) ?_
  refine rM_p_isTaped hc rfl rfl dX5_liking_2 (fun σ1 => ?_)
  refine s_aload_n hz dX5_liking_5 rfl 0 rfl ?_
  refine s_iconst (v := (0 : Int32)) hz dX5_liking_6 (by decide) ?_
  refine s_bind (fun q2 e3 => ?_)
  refine kX5_175 hc (cfX5_says e3) ⟨(Nat.le_of_ble_eq_true rfl), (Nat.le_of_ble_eq_true rfl)⟩ ⟨(Nat.le_of_ble_eq_true rfl), (Nat.le_of_ble_eq_true rfl)⟩ (Nat.le_of_ble_eq_true rfl) dX5_liking_7 ?_
  refine s_istore_n (lv' := [(1, .int q2.1), (0, .ref (vO (VM g) + 0))]) hz dX5_liking_10 rfl (Nat.le_of_ble_eq_true rfl) rfl ?_
  refine s_aload_n hz dX5_liking_11 rfl 1 rfl ?_
  refine s_iconst (v := (0 : Int32)) hz dX5_liking_12 (by decide) ?_
  refine rM_p_isTaped hc rfl rfl dX5_liking_13 (fun σ4 => ?_)
  refine s_aload_n hz dX5_liking_16 rfl 1 rfl ?_
  refine rM_g_isBad hc dX5_liking_17 ?_
  refine s_if_eq (tgt := 30) hz dX5_liking_20 rfl (fun h5 => ?_) (fun h5 => ?_)
  · refine s_iconst (v := (0 : Int32)) hz dX5_liking_30 (by decide) ?_
    refine s_istore_n (lv' := [(2, .int (0 : Int32)), (1, .int q2.1), (0, .ref (vO (VM g) + 0))]) hz dX5_liking_31 rfl (Nat.le_of_ble_eq_true rfl) rfl ?_
    exact s_sub [2, 0] rfl (s_lp (sg := fun y : Mem × Int32 => y.1) (lvs := fun y : Mem × Int32 => [(0, .ref (vO (VM g) + 0)), (2, .int y.2)]) (fun rec hrec => wbX5_liking_32 σ4 hc   rec hrec) N (σ4, (0 : Int32)))
  · refine s_iconst (v := (-1 : Int32)) hz dX5_liking_23 (by decide) ?_
    refine s_aload_n hz dX5_liking_24 rfl 1 rfl ?_
    refine rM_g_at hc dX5_liking_25 ?_
    refine s_isub hz dX5_liking_28 ?_
    exact s_iretM hc dX5_liking_29 (Nat.le_of_ble_eq_true rfl) (Nat.le_of_ble_eq_true rfl)
theorem cfX5_liking {g : Geo} {N : Nat}  {σ : Mem}  {ρ : Int32 × Mem} (hF : fX5_liking N σ  = some ρ) (l : Launch) : Ct (VM g) l yX5_liking cX5_liking 3 (some .int) (rk 42 0 0) [.ref (vO (VM g) + 0)] σ (oI ρ.1) ρ.2 :=
  Ct.of (by decide) (Nat.le_of_ble_eq_true rfl) (fun Θ hc ls hl => wfX5_liking σ  hc hF ls hl)
def fX5_even (N : Nat) (σ : Mem)  : Option (Int32 × Mem) :=
  lt_ (gI σ 1 3) (fun v1 => 
  lt_ (pI σ 1 3 (0 : Int32)) (fun σ2 => 
  lt_ (pI σ2 0 18 (1 : Int32)) (fun σ3 => 
  lt_ (pI σ3 0 19 (1 : Int32)) (fun σ4 => 
  some (v1, σ4)))))
set_option maxHeartbeats 4000000 in
theorem wfX5_even {Θ : ThT Mem} {g : Geo} {N : Nat}  {ρ : Int32 × Mem} (σ : Mem)  (hc : Cx Θ (VM g) cX5_even 2 RX5 (rk 1 0 0) (some .int) [] false (oI ρ.1) ρ.2) : Sim Θ 2 ρ σ (fX5_even N σ ) (0, 0) 0 [(0, .ref (vO (VM g) + 0))] [] := by
  have hz := hc.z
  unfold fX5_even
  refine s_aload_n hz dX5_even_0 rfl 0 rfl ?_
  refine rM_g_s hc dX5_even_1 ?_
  refine s_iconst (v := (3 : Int32)) hz dX5_even_4 (by decide) ?_
  refine rM_ld_1 hc (j := 3) (by decide) (by decide) dX5_even_5 ?_
  refine s_nmI (fun v1 => ?_)
  refine s_istore_n (lv' := [(1, .int v1), (0, .ref (vO (VM g) + 0))]) hz dX5_even_6 rfl (Nat.le_of_ble_eq_true rfl) rfl ?_
  refine s_aload_n hz dX5_even_7 rfl 1 rfl ?_
  refine rM_g_s hc dX5_even_8 ?_
  refine s_iconst (v := (3 : Int32)) hz dX5_even_11 (by decide) ?_
  refine s_iconst (v := (0 : Int32)) hz dX5_even_12 (by decide) ?_
  refine rM_st_1 hc (j := 3) (by decide) (by decide) dX5_even_13 (fun σ2 => ?_)
  refine s_aload_n hz dX5_even_14 rfl 1 rfl ?_
  refine s_iconst (v := (1 : Int32)) hz dX5_even_15 (by decide) ?_
  refine rM_p_isNew hc rfl rfl dX5_even_16 (fun σ3 => ?_)
  refine s_aload_n hz dX5_even_19 rfl 1 rfl ?_
  refine s_iconst (v := (1 : Int32)) hz dX5_even_20 (by decide) ?_
  refine rM_p_isSaidNew hc rfl rfl dX5_even_21 (fun σ4 => ?_)
  refine s_iload_n hz dX5_even_24 rfl 0 rfl ?_
  exact s_iretM hc dX5_even_25 (Nat.le_of_ble_eq_true rfl) (Nat.le_of_ble_eq_true rfl)
theorem cfX5_even {g : Geo} {N : Nat}  {σ : Mem}  {ρ : Int32 × Mem} (hF : fX5_even N σ  = some ρ) (l : Launch) : Ct (VM g) l yX5_even cX5_even 2 (some .int) (rk 1 0 0) [.ref (vO (VM g) + 0)] σ (oI ρ.1) ρ.2 :=
  Ct.of (by decide) (Nat.le_of_ble_eq_true rfl) (fun Θ hc ls hl => wfX5_even σ  hc hF ls hl)
def fX5_isOneLine (N : Nat) (σ : Mem) (x0 : Int32) : Option (Int32) :=
  some (if (x0 &&& (-16 : Int32)) = (0 : Int32) then (1 : Int32) else (if (x0 &&& (-241 : Int32)) = (0 : Int32) then (1 : Int32) else (if (x0 &&& (-3841 : Int32)) = (0 : Int32) then (1 : Int32) else (0 : Int32))))
set_option maxHeartbeats 4000000 in
theorem wfX5_isOneLine {Θ : ThT Mem} {g : Geo} {N : Nat}  {ρ : Int32} (σ : Mem) (x0 : Int32) (hc : Cx Θ (VM g) cX5_isOneLine 1 RX5 (rk 1 0 0) (some .boolean) [] false (oI ρ) σ) : Sim Θ 1 ρ σ (fX5_isOneLine N σ x0) (0, 0) 0 [(0, .int x0)] [] := by
  have hz := hc.z
  unfold fX5_isOneLine
  refine s_iload_n hz dX5_isOneLine_0 rfl 0 rfl ?_
  refine s_bipush (v := (-16 : Int32)) hz dX5_isOneLine_1 (by decide) ?_
  refine s_iand hz dX5_isOneLine_3 ?_
  refine s_dia (J := 28) (v := .int (if (x0 &&& (-16 : Int32)) = (0 : Int32) then (1 : Int32) else (if (x0 &&& (-241 : Int32)) = (0 : Int32) then (1 : Int32) else (if (x0 &&& (-3841 : Int32)) = (0 : Int32) then (1 : Int32) else (0 : Int32))))) (st := []) (fun _ hj1 => ?_) ?_
  · refine s_if_eq_ (tgt := 23) hz dX5_isOneLine_4 rfl (fun h2 => ?_) (fun h2 => ?_)
    · refine s_iconst (v := (1 : Int32)) hz dX5_isOneLine_23 (by decide) ?_
      refine s_goto (tgt := 28) hz dX5_isOneLine_24 rfl ?_
      rw [if_pos h2] at hj1
      exact hj1
    · refine s_iload_n hz dX5_isOneLine_7 rfl 0 rfl ?_
      refine s_sipush (v := (-241 : Int32)) hz dX5_isOneLine_8 (by decide) ?_
      refine s_iand hz dX5_isOneLine_11 ?_
      refine s_if_eq_ (tgt := 23) hz dX5_isOneLine_12 rfl (fun h3 => ?_) (fun h3 => ?_)
      · refine s_iconst (v := (1 : Int32)) hz dX5_isOneLine_23 (by decide) ?_
        refine s_goto (tgt := 28) hz dX5_isOneLine_24 rfl ?_
        rw [if_neg h2, if_pos h3] at hj1
        exact hj1
      · refine s_iload_n hz dX5_isOneLine_15 rfl 0 rfl ?_
        refine s_sipush (v := (-3841 : Int32)) hz dX5_isOneLine_16 (by decide) ?_
        refine s_iand hz dX5_isOneLine_19 ?_
        refine s_if_ne_ (tgt := 27) hz dX5_isOneLine_20 rfl (fun h4 => ?_) (fun h4 => ?_)
        · refine s_iconst (v := (0 : Int32)) hz dX5_isOneLine_27 (by decide) ?_
          rw [if_neg h2, if_neg h3, if_neg h4] at hj1
          exact hj1
        · refine s_iconst (v := (1 : Int32)) hz dX5_isOneLine_23 (by decide) ?_
          refine s_goto (tgt := 28) hz dX5_isOneLine_24 rfl ?_
          rw [if_neg h2, if_neg h3, if_pos h4] at hj1
          exact hj1
  exact s_zret hc (nb_ite rfl (nb_ite rfl (nb_ite rfl rfl))) dX5_isOneLine_28 (Nat.le_of_ble_eq_true rfl) (Nat.le_of_ble_eq_true rfl)
theorem cfX5_isOneLine {g : Geo} {N : Nat}  {σ : Mem} {x0 : Int32} {ρ : Int32} (hF : fX5_isOneLine N σ x0 = some ρ) (l : Launch) : Ct (VM g) l yX5_isOneLine cX5_isOneLine 1 (some .boolean) (rk 1 0 0) [.int x0] σ (oI ρ) σ :=
  Ct.of (by decide) (Nat.le_of_ble_eq_true rfl) (fun Θ hc ls hl => wfX5_isOneLine σ x0 hc hF ls hl)
def bX5_isThreeUp_4 (N : Nat) (σ : Mem) (x1 : Int32) (r4 : (Int32 × Int32) → Option (Int32)) (y4 : Int32 × Int32) : Option (Int32) :=
  if (4 : Int32) ≤ y4.2 then
  (gb (zb y4.1) (some y4.1))
  else (if y4.1 = (0 : Int32) then
  ((fX5_ones N σ (x1 &&& ((273 : Int32) <<< (y4.2 &&& 31)))).bind (fun q4 => 
  lt_ (if q4 = (3 : Int32) then (1 : Int32) else (0 : Int32)) (fun v6 => 
  r4 (v6, (y4.2 + (1 : Int32))))))
  else (r4 ((1 : Int32), (y4.2 + (1 : Int32)))))
set_option maxHeartbeats 4000000 in
theorem wbX5_isThreeUp_4 {Θ : ThT Mem} {g : Geo} {N : Nat}  {ρ : Int32} (σ : Mem) (hc : Cx Θ (VM g) cX5_isThreeUp 4 RX5 (rk 2 0 0) (some .boolean) [] false (oI ρ) σ) (x1 : Int32) (r4 : (Int32 × Int32) → Option (Int32)) (hr4 : ∀ y : Int32 × Int32, Sim Θ 4 ρ (σ) (r4 y) (0, 0) 4 [(0, .ref (vO (VM g) + 0)), (1, .int x1), (2, .int y.1), (3, .int y.2)] []) : ∀ y4 : Int32 × Int32, Sim Θ 4 ρ (σ) (bX5_isThreeUp_4 N σ x1 r4 y4) (0, 0) 4 [(0, .ref (vO (VM g) + 0)), (1, .int x1), (2, .int y4.1), (3, .int y4.2)] [] := by
  intro y4
  have hz := hc.z
  have hr4c : ∀ (z0_ : Int32) (z1_ : Int32), Sim Θ 4 ρ (σ) (r4 (z0_, z1_)) (0, 0) 4 [(0, .ref (vO (VM g) + 0)), (1, .int x1), (2, .int z0_), (3, .int z1_)] [] := fun z0_ z1_ => hr4 (z0_, z1_)
  unfold bX5_isThreeUp_4
  refine s_iload_n hz dX5_isThreeUp_4 rfl 3 rfl ?_
  refine s_iconst (v := (4 : Int32)) hz dX5_isThreeUp_5 (by decide) ?_
  refine s_icmp_ge (tgt := 40) hz dX5_isThreeUp_6 rfl (fun h1 => ?_) (fun h1 => ?_)
  · refine s_iload_n hz dX5_isThreeUp_40 rfl 2 rfl ?_
    refine s_gb (fun h2 => ?_)
    exact s_zret hc (zb_spec h2) dX5_isThreeUp_41 (Nat.le_of_ble_eq_true rfl) (Nat.le_of_ble_eq_true rfl)
  · refine s_iload_n hz dX5_isThreeUp_9 rfl 2 rfl ?_
    refine s_if_ne (tgt := 28) hz dX5_isThreeUp_10 rfl (fun h3 => ?_) (fun h3 => ?_)
    · refine s_iconst (v := (1 : Int32)) hz dX5_isThreeUp_28 (by decide) ?_
      refine s_goto (tgt := 33) hz dX5_isThreeUp_29 rfl ?_
      refine s_istore_n (lv' := [(2, .int (1 : Int32)), (0, .ref (vO (VM g) + 0)), (1, .int x1), (3, .int y4.2)]) hz dX5_isThreeUp_33 rfl (Nat.le_of_ble_eq_true rfl) rfl ?_
      refine s_iinc (v := (1 : Int32)) (lv' := [(3, .int (y4.2 + (1 : Int32))), (2, .int (1 : Int32)), (0, .ref (vO (VM g) + 0)), (1, .int x1)]) hz dX5_isThreeUp_34 3 rfl (by decide) (Nat.le_of_ble_eq_true rfl) rfl ?_
      refine s_goto (tgt := 4) hz dX5_isThreeUp_37 rfl ?_
      exact s_sub [2, 3, 1, 0] rfl (hr4c (1 : Int32) (y4.2 + (1 : Int32)))
    · refine s_aload_n hz dX5_isThreeUp_13 rfl 0 rfl ?_
      refine s_iload_n hz dX5_isThreeUp_14 rfl 1 rfl ?_
      refine s_sipush (v := (273 : Int32)) hz dX5_isThreeUp_15 (by decide) ?_
      refine s_iload_n hz dX5_isThreeUp_18 rfl 3 rfl ?_
      refine s_ishl hz dX5_isThreeUp_19 ?_
      refine s_iand hz dX5_isThreeUp_20 ?_
      refine s_bind (fun q4 e5 => ?_)
      refine kX5_132 hc (cfX5_ones e5) ⟨(Nat.le_of_ble_eq_true rfl), (Nat.le_of_ble_eq_true rfl)⟩ ⟨(Nat.le_of_ble_eq_true rfl), (Nat.le_of_ble_eq_true rfl)⟩ (Nat.le_of_ble_eq_true rfl) dX5_isThreeUp_21 ?_
      refine s_iconst (v := (3 : Int32)) hz dX5_isThreeUp_24 (by decide) ?_
      refine s_dia (J := 33) (v := .int (if q4 = (3 : Int32) then (1 : Int32) else (0 : Int32))) (st := []) (fun _ hj7 => ?_) ?_
      · refine s_icmp_ne_ (tgt := 32) hz dX5_isThreeUp_25 rfl (fun h8 => ?_) (fun h8 => ?_)
        · refine s_iconst (v := (0 : Int32)) hz dX5_isThreeUp_32 (by decide) ?_
          rw [if_neg h8] at hj7
          exact hj7
        · refine s_iconst (v := (1 : Int32)) hz dX5_isThreeUp_28 (by decide) ?_
          refine s_goto (tgt := 33) hz dX5_isThreeUp_29 rfl ?_
          rw [if_pos h8] at hj7
          exact hj7
      refine s_nmI (fun v6 => ?_)
      refine s_istore_n (lv' := [(2, .int v6), (0, .ref (vO (VM g) + 0)), (1, .int x1), (3, .int y4.2)]) hz dX5_isThreeUp_33 rfl (Nat.le_of_ble_eq_true rfl) rfl ?_
      refine s_iinc (v := (1 : Int32)) (lv' := [(3, .int (y4.2 + (1 : Int32))), (2, .int v6), (0, .ref (vO (VM g) + 0)), (1, .int x1)]) hz dX5_isThreeUp_34 3 rfl (by decide) (Nat.le_of_ble_eq_true rfl) rfl ?_
      refine s_goto (tgt := 4) hz dX5_isThreeUp_37 rfl ?_
      exact s_sub [2, 3, 1, 0] rfl (hr4c v6 (y4.2 + (1 : Int32)))
def fX5_isThreeUp (N : Nat) (σ : Mem) (x1 : Int32) : Option (Int32) :=
  lp (bX5_isThreeUp_4 N σ x1) N ((0 : Int32), (0 : Int32))
set_option maxHeartbeats 4000000 in
theorem wfX5_isThreeUp {Θ : ThT Mem} {g : Geo} {N : Nat}  {ρ : Int32} (σ : Mem) (x1 : Int32) (hc : Cx Θ (VM g) cX5_isThreeUp 4 RX5 (rk 2 0 0) (some .boolean) [] false (oI ρ) σ) : Sim Θ 4 ρ σ (fX5_isThreeUp N σ x1) (0, 0) 0 [(0, .ref (vO (VM g) + 0)), (1, .int x1)] [] := by
  have hz := hc.z
  unfold fX5_isThreeUp
  refine s_iconst (v := (0 : Int32)) hz dX5_isThreeUp_0 (by decide) ?_
  refine s_istore_n (lv' := [(2, .int (0 : Int32)), (0, .ref (vO (VM g) + 0)), (1, .int x1)]) hz dX5_isThreeUp_1 rfl (Nat.le_of_ble_eq_true rfl) rfl ?_
  refine s_iconst (v := (0 : Int32)) hz dX5_isThreeUp_2 (by decide) ?_
  refine s_istore_n (lv' := [(3, .int (0 : Int32)), (2, .int (0 : Int32)), (0, .ref (vO (VM g) + 0)), (1, .int x1)]) hz dX5_isThreeUp_3 rfl (Nat.le_of_ble_eq_true rfl) rfl ?_
  exact s_sub [2, 3, 1, 0] rfl (s_lp (sg := fun y : Int32 × Int32 => σ) (lvs := fun y : Int32 × Int32 => [(0, .ref (vO (VM g) + 0)), (1, .int x1), (2, .int y.1), (3, .int y.2)]) (fun rec hrec => wbX5_isThreeUp_4 σ hc x1  rec hrec) N ((0 : Int32), (0 : Int32)))
theorem cfX5_isThreeUp {g : Geo} {N : Nat}  {σ : Mem} {x1 : Int32} {ρ : Int32} (hF : fX5_isThreeUp N σ x1 = some ρ) (l : Launch) : Ct (VM g) l yX5_isThreeUp cX5_isThreeUp 4 (some .boolean) (rk 2 0 0) [.ref (vO (VM g) + 0), .int x1] σ (oI ρ) σ :=
  Ct.of (by decide) (Nat.le_of_ble_eq_true rfl) (fun Θ hc ls hl => wfX5_isThreeUp σ x1 hc hF ls hl)
def fX5_fancied (N : Nat) (σ : Mem) (x1 : Int32) (x2 : Int32) (x3 : Int32) (x4 : Int32) : Option (Int32) :=
  gb (inb x3 495) (
  lt_ (gI σ 4 (ix x3)) (fun v2 => 
  if x1 = (0 : Int32) then
  (some x4)
  else (if x1 = (1 : Int32) then
  ((fX5_ones N σ (v2 &&& (63 : Int32))).bind (fun q5 => 
  some (x4 + ((2 : Int32) * q5))))
  else (if x1 = (2 : Int32) then
  ((fX5_isOneLine N σ v2).bind (fun q8 => 
  (fX5_isThreeUp N σ v2).bind (fun q10 => 
  some ((x4 + (if q8 = (0 : Int32) then (0 : Int32) else (20 : Int32))) + (if q10 = (0 : Int32) then (0 : Int32) else (10 : Int32))))))
  else (if x1 = (3 : Int32) then
  (some (1 : Int32))
  else (if x1 = (4 : Int32) then
  ((fX5_latest N σ).bind (fun q18 => 
  (fX5_ones N σ (v2 &&& q18)).bind (fun q20 => 
  some (x4 + ((3 : Int32) * q20)))))
  else (if x1 = (5 : Int32) then
  ((fX5_ones N σ (v2 &&& (63 : Int32))).bind (fun q23 => 
  (fX5_has N σ v2 (7 : Int32)).bind (fun q25 => 
  some ((x4 + ((2 : Int32) * q23)) * (if q25 = (0 : Int32) then (1 : Int32) else (2 : Int32))))))
  else (if x1 = (6 : Int32) then
  ((fX5_ones N σ (v2 &&& (3840 : Int32))).bind (fun q30 => 
  some ((1 : Int32) + q30)))
  else (if x2 ≤ x3 then
  (some (0 : Int32))
  else ((fX5_ones N σ (v2 &&& (3840 : Int32))).bind (fun q33 => 
  some ((1 : Int32) + q33))))))))))))
set_option maxHeartbeats 4000000 in
theorem wfX5_fancied {Θ : ThT Mem} {g : Geo} {N : Nat}  {ρ : Int32} (σ : Mem) (x1 : Int32) (x2 : Int32) (x3 : Int32) (x4 : Int32) (hc : Cx Θ (VM g) cX5_fancied 6 RX5 (rk 3 0 0) (some .int) [] false (oI ρ) σ) : Sim Θ 6 ρ σ (fX5_fancied N σ x1 x2 x3 x4) (0, 0) 0 [(0, .ref (vO (VM g) + 0)), (1, .int x1), (2, .int x2), (3, .int x3), (4, .int x4)] [] := by
  have hz := hc.z
  unfold fX5_fancied
  refine s_aload_n hz dX5_fancied_0 rfl 0 rfl ?_
  refine rM_g_rowAt hc dX5_fancied_1 ?_
  refine s_iload_n hz dX5_fancied_4 rfl 3 rfl ?_
  refine s_gb (fun h1 => ?_)
  refine rM_ld_4 hc h1 rfl dX5_fancied_5 ?_
  refine s_nmI (fun v2 => ?_)
  refine s_istore (lv' := [(5, .int v2), (0, .ref (vO (VM g) + 0)), (1, .int x1), (2, .int x2), (3, .int x3), (4, .int x4)]) hz dX5_fancied_6 (Nat.le_of_ble_eq_true rfl) rfl ?_
  refine s_iload_n hz dX5_fancied_8 rfl 2 rfl ?_
  refine s_ite (fun h3 => ?_) (fun h3 => ?_)
  · refine s_tblIn (off := 43) (tgt := 52) (k := (0 : Int32)) hz dX5_fancied_9 h3 (by decide) (by decide) rfl rfl ?_
    refine s_iload hz dX5_fancied_52 5 rfl ?_
    exact s_iret hc dX5_fancied_54 (Nat.le_of_ble_eq_true rfl) (Nat.le_of_ble_eq_true rfl)
  refine s_ite (fun h4 => ?_) (fun h4 => ?_)
  · refine s_tblIn (off := 46) (tgt := 55) (k := (1 : Int32)) hz dX5_fancied_9 h4 (by decide) (by decide) rfl rfl ?_
    refine s_iload hz dX5_fancied_55 5 rfl ?_
    refine s_iconst (v := (2 : Int32)) hz dX5_fancied_57 (by decide) ?_
    refine s_aload_n hz dX5_fancied_58 rfl 1 rfl ?_
    refine s_iload hz dX5_fancied_59 0 rfl ?_
    refine s_bipush (v := (63 : Int32)) hz dX5_fancied_61 (by decide) ?_
    refine s_iand hz dX5_fancied_63 ?_
    refine s_bind (fun q5 e6 => ?_)
    refine kX5_132 hc (cfX5_ones e6) ⟨(Nat.le_of_ble_eq_true rfl), (Nat.le_of_ble_eq_true rfl)⟩ ⟨(Nat.le_of_ble_eq_true rfl), (Nat.le_of_ble_eq_true rfl)⟩ (Nat.le_of_ble_eq_true rfl) dX5_fancied_64 ?_
    refine s_imul hz dX5_fancied_67 ?_
    refine s_iadd hz dX5_fancied_68 ?_
    exact s_iret hc dX5_fancied_69 (Nat.le_of_ble_eq_true rfl) (Nat.le_of_ble_eq_true rfl)
  refine s_ite (fun h7 => ?_) (fun h7 => ?_)
  · refine s_tblIn (off := 61) (tgt := 70) (k := (2 : Int32)) hz dX5_fancied_9 h7 (by decide) (by decide) rfl rfl ?_
    refine s_iload hz dX5_fancied_70 5 rfl ?_
    refine s_iload hz dX5_fancied_72 0 rfl ?_
    refine s_bind (fun q8 e9 => ?_)
    refine kX5_178 hc (cfX5_isOneLine e9) ⟨(Nat.le_of_ble_eq_true rfl), (Nat.le_of_ble_eq_true rfl)⟩ ⟨(Nat.le_of_ble_eq_true rfl), (Nat.le_of_ble_eq_true rfl)⟩ (Nat.le_of_ble_eq_true rfl) dX5_fancied_74 ?_
    refine s_dia (J := 86) (v := .int (if q8 = (0 : Int32) then (0 : Int32) else (20 : Int32))) (st := [.int x4]) (fun _ hj14 => ?_) ?_
    · refine s_if_eq_ (tgt := 85) hz dX5_fancied_77 rfl (fun h15 => ?_) (fun h15 => ?_)
      · refine s_iconst (v := (0 : Int32)) hz dX5_fancied_85 (by decide) ?_
        rw [if_pos h15] at hj14
        exact hj14
      · refine s_bipush (v := (20 : Int32)) hz dX5_fancied_80 (by decide) ?_
        refine s_goto (tgt := 86) hz dX5_fancied_82 rfl ?_
        rw [if_neg h15] at hj14
        exact hj14
    refine s_iadd hz dX5_fancied_86 ?_
    refine s_aload_n hz dX5_fancied_87 rfl 1 rfl ?_
    refine s_iload hz dX5_fancied_88 0 rfl ?_
    refine s_bind (fun q10 e11 => ?_)
    refine kX5_181 hc (cfX5_isThreeUp e11) ⟨(Nat.le_of_ble_eq_true rfl), (Nat.le_of_ble_eq_true rfl)⟩ ⟨(Nat.le_of_ble_eq_true rfl), (Nat.le_of_ble_eq_true rfl)⟩ (Nat.le_of_ble_eq_true rfl) dX5_fancied_90 ?_
    refine s_dia (J := 102) (v := .int (if q10 = (0 : Int32) then (0 : Int32) else (10 : Int32))) (st := [.int (x4 + (if q8 = (0 : Int32) then (0 : Int32) else (20 : Int32)))]) (fun _ hj12 => ?_) ?_
    · refine s_if_eq_ (tgt := 101) hz dX5_fancied_93 rfl (fun h13 => ?_) (fun h13 => ?_)
      · refine s_iconst (v := (0 : Int32)) hz dX5_fancied_101 (by decide) ?_
        rw [if_pos h13] at hj12
        exact hj12
      · refine s_bipush (v := (10 : Int32)) hz dX5_fancied_96 (by decide) ?_
        refine s_goto (tgt := 102) hz dX5_fancied_98 rfl ?_
        rw [if_neg h13] at hj12
        exact hj12
    refine s_iadd hz dX5_fancied_102 ?_
    exact s_iret hc dX5_fancied_103 (Nat.le_of_ble_eq_true rfl) (Nat.le_of_ble_eq_true rfl)
  refine s_ite (fun h16 => ?_) (fun h16 => ?_)
  · refine s_tblIn (off := 95) (tgt := 104) (k := (3 : Int32)) hz dX5_fancied_9 h16 (by decide) (by decide) rfl rfl ?_
    refine s_iconst (v := (1 : Int32)) hz dX5_fancied_104 (by decide) ?_
    exact s_iret hc dX5_fancied_105 (Nat.le_of_ble_eq_true rfl) (Nat.le_of_ble_eq_true rfl)
  refine s_ite (fun h17 => ?_) (fun h17 => ?_)
  · refine s_tblIn (off := 97) (tgt := 106) (k := (4 : Int32)) hz dX5_fancied_9 h17 (by decide) (by decide) rfl rfl ?_
    refine s_iload hz dX5_fancied_106 5 rfl ?_
    refine s_iconst (v := (3 : Int32)) hz dX5_fancied_108 (by decide) ?_
    refine s_aload_n hz dX5_fancied_109 rfl 1 rfl ?_
    refine s_iload hz dX5_fancied_110 0 rfl ?_
    refine s_aload_n hz dX5_fancied_112 rfl 1 rfl ?_
    refine s_bind (fun q18 e19 => ?_)
    refine kX5_129 hc (cfX5_latest e19) ⟨(Nat.le_of_ble_eq_true rfl), (Nat.le_of_ble_eq_true rfl)⟩ ⟨(Nat.le_of_ble_eq_true rfl), (Nat.le_of_ble_eq_true rfl)⟩ (Nat.le_of_ble_eq_true rfl) dX5_fancied_113 ?_
    refine s_iand hz dX5_fancied_116 ?_
    refine s_bind (fun q20 e21 => ?_)
    refine kX5_132 hc (cfX5_ones e21) ⟨(Nat.le_of_ble_eq_true rfl), (Nat.le_of_ble_eq_true rfl)⟩ ⟨(Nat.le_of_ble_eq_true rfl), (Nat.le_of_ble_eq_true rfl)⟩ (Nat.le_of_ble_eq_true rfl) dX5_fancied_117 ?_
    refine s_imul hz dX5_fancied_120 ?_
    refine s_iadd hz dX5_fancied_121 ?_
    exact s_iret hc dX5_fancied_122 (Nat.le_of_ble_eq_true rfl) (Nat.le_of_ble_eq_true rfl)
  refine s_ite (fun h22 => ?_) (fun h22 => ?_)
  · refine s_tblIn (off := 114) (tgt := 123) (k := (5 : Int32)) hz dX5_fancied_9 h22 (by decide) (by decide) rfl rfl ?_
    refine s_iload hz dX5_fancied_123 5 rfl ?_
    refine s_iconst (v := (2 : Int32)) hz dX5_fancied_125 (by decide) ?_
    refine s_aload_n hz dX5_fancied_126 rfl 1 rfl ?_
    refine s_iload hz dX5_fancied_127 0 rfl ?_
    refine s_bipush (v := (63 : Int32)) hz dX5_fancied_129 (by decide) ?_
    refine s_iand hz dX5_fancied_131 ?_
    refine s_bind (fun q23 e24 => ?_)
    refine kX5_132 hc (cfX5_ones e24) ⟨(Nat.le_of_ble_eq_true rfl), (Nat.le_of_ble_eq_true rfl)⟩ ⟨(Nat.le_of_ble_eq_true rfl), (Nat.le_of_ble_eq_true rfl)⟩ (Nat.le_of_ble_eq_true rfl) dX5_fancied_132 ?_
    refine s_imul hz dX5_fancied_135 ?_
    refine s_iadd hz dX5_fancied_136 ?_
    refine s_iload hz dX5_fancied_137 0 rfl ?_
    refine s_bipush (v := (7 : Int32)) hz dX5_fancied_139 (by decide) ?_
    refine s_bind (fun q25 e26 => ?_)
    refine kX5_83 hc (cfX5_has e26) ⟨(Nat.le_of_ble_eq_true rfl), (Nat.le_of_ble_eq_true rfl)⟩ ⟨(Nat.le_of_ble_eq_true rfl), (Nat.le_of_ble_eq_true rfl)⟩ (Nat.le_of_ble_eq_true rfl) dX5_fancied_141 ?_
    refine s_dia (J := 152) (v := .int (if q25 = (0 : Int32) then (1 : Int32) else (2 : Int32))) (st := [.int (x4 + ((2 : Int32) * q23))]) (fun _ hj27 => ?_) ?_
    · refine s_if_eq_ (tgt := 151) hz dX5_fancied_144 rfl (fun h28 => ?_) (fun h28 => ?_)
      · refine s_iconst (v := (1 : Int32)) hz dX5_fancied_151 (by decide) ?_
        rw [if_pos h28] at hj27
        exact hj27
      · refine s_iconst (v := (2 : Int32)) hz dX5_fancied_147 (by decide) ?_
        refine s_goto (tgt := 152) hz dX5_fancied_148 rfl ?_
        rw [if_neg h28] at hj27
        exact hj27
    refine s_imul hz dX5_fancied_152 ?_
    exact s_iret hc dX5_fancied_153 (Nat.le_of_ble_eq_true rfl) (Nat.le_of_ble_eq_true rfl)
  refine s_ite (fun h29 => ?_) (fun h29 => ?_)
  · refine s_tblIn (off := 145) (tgt := 154) (k := (6 : Int32)) hz dX5_fancied_9 h29 (by decide) (by decide) rfl rfl ?_
    refine s_iconst (v := (1 : Int32)) hz dX5_fancied_154 (by decide) ?_
    refine s_aload_n hz dX5_fancied_155 rfl 1 rfl ?_
    refine s_iload hz dX5_fancied_156 0 rfl ?_
    refine s_sipush (v := (3840 : Int32)) hz dX5_fancied_158 (by decide) ?_
    refine s_iand hz dX5_fancied_161 ?_
    refine s_bind (fun q30 e31 => ?_)
    refine kX5_132 hc (cfX5_ones e31) ⟨(Nat.le_of_ble_eq_true rfl), (Nat.le_of_ble_eq_true rfl)⟩ ⟨(Nat.le_of_ble_eq_true rfl), (Nat.le_of_ble_eq_true rfl)⟩ (Nat.le_of_ble_eq_true rfl) dX5_fancied_162 ?_
    refine s_iadd hz dX5_fancied_165 ?_
    exact s_iret hc dX5_fancied_166 (Nat.le_of_ble_eq_true rfl) (Nat.le_of_ble_eq_true rfl)
  refine s_tblOut (tgt := 167) hz dX5_fancied_9 (by have a0 : (x1).toInt ≠ 0 := lc_ne h3; have a1 : (x1).toInt ≠ 1 := lc_ne h4; have a2 : (x1).toInt ≠ 2 := lc_ne h7; have a3 : (x1).toInt ≠ 3 := lc_ne h16; have a4 : (x1).toInt ≠ 4 := lc_ne h17; have a5 : (x1).toInt ≠ 5 := lc_ne h22; have a6 : (x1).toInt ≠ 6 := lc_ne h29; omega) rfl ?_
  refine s_iload_n hz dX5_fancied_167 rfl 4 rfl ?_
  refine s_iload_n hz dX5_fancied_168 rfl 3 rfl ?_
  refine s_icmp_ge (tgt := 187) hz dX5_fancied_169 rfl (fun h32 => ?_) (fun h32 => ?_)
  · refine s_iconst (v := (0 : Int32)) hz dX5_fancied_187 (by decide) ?_
    exact s_iret hc dX5_fancied_188 (Nat.le_of_ble_eq_true rfl) (Nat.le_of_ble_eq_true rfl)
  · refine s_iconst (v := (1 : Int32)) hz dX5_fancied_172 (by decide) ?_
    refine s_aload_n hz dX5_fancied_173 rfl 1 rfl ?_
    refine s_iload hz dX5_fancied_174 0 rfl ?_
    refine s_sipush (v := (3840 : Int32)) hz dX5_fancied_176 (by decide) ?_
    refine s_iand hz dX5_fancied_179 ?_
    refine s_bind (fun q33 e34 => ?_)
    refine kX5_132 hc (cfX5_ones e34) ⟨(Nat.le_of_ble_eq_true rfl), (Nat.le_of_ble_eq_true rfl)⟩ ⟨(Nat.le_of_ble_eq_true rfl), (Nat.le_of_ble_eq_true rfl)⟩ (Nat.le_of_ble_eq_true rfl) dX5_fancied_180 ?_
    refine s_iadd hz dX5_fancied_183 ?_
    refine s_goto (tgt := 188) hz dX5_fancied_184 rfl ?_
    exact s_iret hc dX5_fancied_188 (Nat.le_of_ble_eq_true rfl) (Nat.le_of_ble_eq_true rfl)
theorem cfX5_fancied {g : Geo} {N : Nat}  {σ : Mem} {x1 : Int32} {x2 : Int32} {x3 : Int32} {x4 : Int32} {ρ : Int32} (hF : fX5_fancied N σ x1 x2 x3 x4 = some ρ) (l : Launch) : Ct (VM g) l yX5_fancied cX5_fancied 6 (some .int) (rk 3 0 0) [.ref (vO (VM g) + 0), .int x1, .int x2, .int x3, .int x4] σ (oI ρ) σ :=
  Ct.of (by decide) (Nat.le_of_ble_eq_true rfl) (fun Θ hc ls hl => wfX5_fancied σ x1 x2 x3 x4 hc hF ls hl)
def fX5_likesBy (N : Nat) (σ : Mem) (x1 : Int32) (x2 : Int32) : Option (Int32) :=
  gb (inb ((20 : Int32) + x1) 919) (
  gb (inb ((32 : Int32) + x1) 919) (
  gb (inb x2 495) (
  (fX5_fancied N σ (gI σ 1 (ix ((20 : Int32) + x1))) (gI σ 1 (ix ((32 : Int32) + x1))) x2 (gI σ 12 (ix x2))).bind (fun q4 => 
  some q4))))
set_option maxHeartbeats 4000000 in
theorem wfX5_likesBy {Θ : ThT Mem} {g : Geo} {N : Nat}  {ρ : Int32} (σ : Mem) (x1 : Int32) (x2 : Int32) (hc : Cx Θ (VM g) cX5_likesBy 3 RX5 (rk 4 0 0) (some .int) [] false (oI ρ) σ) : Sim Θ 3 ρ σ (fX5_likesBy N σ x1 x2) (0, 0) 0 [(0, .ref (vO (VM g) + 0)), (1, .int x1), (2, .int x2)] [] := by
  have hz := hc.z
  unfold fX5_likesBy
  refine s_aload_n hz dX5_likesBy_0 rfl 0 rfl ?_
  refine s_aload_n hz dX5_likesBy_1 rfl 0 rfl ?_
  refine rM_g_s hc dX5_likesBy_2 ?_
  refine s_bipush (v := (20 : Int32)) hz dX5_likesBy_5 (by decide) ?_
  refine s_iload_n hz dX5_likesBy_7 rfl 1 rfl ?_
  refine s_iadd hz dX5_likesBy_8 ?_
  refine s_gb (fun h1 => ?_)
  refine rM_ld_1 hc h1 rfl dX5_likesBy_9 ?_
  refine s_aload_n hz dX5_likesBy_10 rfl 0 rfl ?_
  refine rM_g_s hc dX5_likesBy_11 ?_
  refine s_bipush (v := (32 : Int32)) hz dX5_likesBy_14 (by decide) ?_
  refine s_iload_n hz dX5_likesBy_16 rfl 1 rfl ?_
  refine s_iadd hz dX5_likesBy_17 ?_
  refine s_gb (fun h2 => ?_)
  refine rM_ld_1 hc h2 rfl dX5_likesBy_18 ?_
  refine s_iload_n hz dX5_likesBy_19 rfl 2 rfl ?_
  refine s_aload_n hz dX5_likesBy_20 rfl 0 rfl ?_
  refine rM_g_liked hc dX5_likesBy_21 ?_
  refine s_iload_n hz dX5_likesBy_24 rfl 2 rfl ?_
  refine s_gb (fun h3 => ?_)
  refine rM_ld_12 hc h3 rfl dX5_likesBy_25 ?_
  refine s_bind (fun q4 e5 => ?_)
  refine kX5_184 hc (cfX5_fancied e5) ⟨(Nat.le_of_ble_eq_true rfl), (Nat.le_of_ble_eq_true rfl)⟩ ⟨(Nat.le_of_ble_eq_true rfl), (Nat.le_of_ble_eq_true rfl)⟩ (Nat.le_of_ble_eq_true rfl) dX5_likesBy_26 ?_
  exact s_iret hc dX5_likesBy_29 (Nat.le_of_ble_eq_true rfl) (Nat.le_of_ble_eq_true rfl)
theorem cfX5_likesBy {g : Geo} {N : Nat}  {σ : Mem} {x1 : Int32} {x2 : Int32} {ρ : Int32} (hF : fX5_likesBy N σ x1 x2 = some ρ) (l : Launch) : Ct (VM g) l yX5_likesBy cX5_likesBy 3 (some .int) (rk 4 0 0) [.ref (vO (VM g) + 0), .int x1, .int x2] σ (oI ρ) σ :=
  Ct.of (by decide) (Nat.le_of_ble_eq_true rfl) (fun Θ hc ls hl => wfX5_likesBy σ x1 x2 hc hF ls hl)
def fX5_crossedBy (N : Nat) (σ : Mem) (x1 : Int32) (x2 : Int32) : Option (Int32) :=
  gb (inb x1 12) (
  if (gI σ 14 (ix x1)) = (0 : Int32) then
  (some (0 : Int32))
  else (gb (inb ((32 : Int32) + x1) 919) (
  (fX5_likesBy N σ x1 x2).bind (fun q4 => 
  gb (inb x1 12) (
  gb (nzI (gI σ 14 (ix x1))) (
  some (((gI σ 1 (ix ((32 : Int32) + x1))) * q4) / (gI σ 14 (ix x1)))))))))
set_option maxHeartbeats 4000000 in
theorem wfX5_crossedBy {Θ : ThT Mem} {g : Geo} {N : Nat}  {ρ : Int32} (σ : Mem) (x1 : Int32) (x2 : Int32) (hc : Cx Θ (VM g) cX5_crossedBy 3 RX5 (rk 5 0 0) (some .int) [] false (oI ρ) σ) : Sim Θ 3 ρ σ (fX5_crossedBy N σ x1 x2) (0, 0) 0 [(0, .ref (vO (VM g) + 0)), (1, .int x1), (2, .int x2)] [] := by
  have hz := hc.z
  unfold fX5_crossedBy
  refine s_aload_n hz dX5_crossedBy_0 rfl 0 rfl ?_
  refine rM_g_likesOf hc dX5_crossedBy_1 ?_
  refine s_iload_n hz dX5_crossedBy_4 rfl 1 rfl ?_
  refine s_gb (fun h1 => ?_)
  refine rM_ld_14 hc h1 rfl dX5_crossedBy_5 ?_
  refine s_if_ne (tgt := 13) hz dX5_crossedBy_6 rfl (fun h2 => ?_) (fun h2 => ?_)
  · refine s_aload_n hz dX5_crossedBy_13 rfl 0 rfl ?_
    refine rM_g_s hc dX5_crossedBy_14 ?_
    refine s_bipush (v := (32 : Int32)) hz dX5_crossedBy_17 (by decide) ?_
    refine s_iload_n hz dX5_crossedBy_19 rfl 1 rfl ?_
    refine s_iadd hz dX5_crossedBy_20 ?_
    refine s_gb (fun h3 => ?_)
    refine rM_ld_1 hc h3 rfl dX5_crossedBy_21 ?_
    refine s_aload_n hz dX5_crossedBy_22 rfl 0 rfl ?_
    refine s_iload_n hz dX5_crossedBy_23 rfl 1 rfl ?_
    refine s_iload_n hz dX5_crossedBy_24 rfl 2 rfl ?_
    refine s_bind (fun q4 e5 => ?_)
    refine kX5_188 hc (cfX5_likesBy e5) ⟨(Nat.le_of_ble_eq_true rfl), (Nat.le_of_ble_eq_true rfl)⟩ ⟨(Nat.le_of_ble_eq_true rfl), (Nat.le_of_ble_eq_true rfl)⟩ (Nat.le_of_ble_eq_true rfl) dX5_crossedBy_25 ?_
    refine s_imul hz dX5_crossedBy_28 ?_
    refine s_aload_n hz dX5_crossedBy_29 rfl 0 rfl ?_
    refine rM_g_likesOf hc dX5_crossedBy_30 ?_
    refine s_iload_n hz dX5_crossedBy_33 rfl 1 rfl ?_
    refine s_gb (fun h6 => ?_)
    refine rM_ld_14 hc h6 rfl dX5_crossedBy_34 ?_
    refine s_gb (fun h7 => ?_)
    refine s_idiv hz dX5_crossedBy_35 (nzI_ne h7) ?_
    exact s_iret hc dX5_crossedBy_36 (Nat.le_of_ble_eq_true rfl) (Nat.le_of_ble_eq_true rfl)
  · refine s_iconst (v := (0 : Int32)) hz dX5_crossedBy_9 (by decide) ?_
    refine s_goto (tgt := 36) hz dX5_crossedBy_10 rfl ?_
    exact s_iret hc dX5_crossedBy_36 (Nat.le_of_ble_eq_true rfl) (Nat.le_of_ble_eq_true rfl)
theorem cfX5_crossedBy {g : Geo} {N : Nat}  {σ : Mem} {x1 : Int32} {x2 : Int32} {ρ : Int32} (hF : fX5_crossedBy N σ x1 x2 = some ρ) (l : Launch) : Ct (VM g) l yX5_crossedBy cX5_crossedBy 3 (some .int) (rk 5 0 0) [.ref (vO (VM g) + 0), .int x1, .int x2] σ (oI ρ) σ :=
  Ct.of (by decide) (Nat.le_of_ble_eq_true rfl) (fun Θ hc ls hl => wfX5_crossedBy σ x1 x2 hc hF ls hl)
def bX5_works_214 (N : Nat) (σ : Mem)  (r214 : (Mem × Int32) → Option (Unit × Mem)) (y214 : Mem × Int32) : Option (Unit × Mem) :=
  if (495 : Int32) ≤ y214.2 then
  (some ((), y214.1))
  else (gb (inb y214.2 495) (
  lt_ (pI y214.1 0 24 ((gI y214.1 0 24) + (gI y214.1 13 (ix y214.2)))) (fun σ11 => 
  r214 (σ11, (y214.2 + (1 : Int32))))))
set_option maxHeartbeats 4000000 in
theorem wbX5_works_214 {Θ : ThT Mem} {g : Geo} {N : Nat}  {ρ : Unit × Mem} (σ : Mem) (hc : Cx Θ (VM g) cX5_works 3 RX5 (rk 42 0 0) none [] false (oV) ρ.2)  (r214 : (Mem × Int32) → Option (Unit × Mem)) (hr214 : ∀ y : Mem × Int32, Sim Θ 3 ρ (y.1) (r214 y) (0, 0) 214 [(0, .ref (vO (VM g) + 0)), (1, .int y.2)] []) : ∀ y214 : Mem × Int32, Sim Θ 3 ρ (y214.1) (bX5_works_214 N σ  r214 y214) (0, 0) 214 [(0, .ref (vO (VM g) + 0)), (1, .int y214.2)] [] := by
  intro y214
  have hz := hc.z
  have hr214c : ∀ (z0_ : Mem) (z1_ : Int32), Sim Θ 3 ρ (z0_) (r214 (z0_, z1_)) (0, 0) 214 [(0, .ref (vO (VM g) + 0)), (1, .int z1_)] [] := fun z0_ z1_ => hr214 (z0_, z1_)
  unfold bX5_works_214
  refine s_iload_n hz dX5_works_214 rfl 1 rfl ?_
  refine s_sipush (v := (495 : Int32)) hz dX5_works_215 (by decide) ?_
  refine s_icmp_ge (tgt := 242) hz dX5_works_218 rfl (fun h9 => ?_) (fun h9 => ?_)
  · exact s_vretM hc dX5_works_242 (Nat.le_of_ble_eq_true rfl) (Nat.le_of_ble_eq_true rfl)
  · refine s_aload_n hz dX5_works_221 rfl 0 rfl ?_
    refine s_dup hz dX5_works_222 rfl ?_
    refine rM_g_allCrossed hc dX5_works_223 ?_
    refine s_aload_n hz dX5_works_226 rfl 0 rfl ?_
    refine rM_g_all hc dX5_works_227 ?_
    refine s_iload_n hz dX5_works_230 rfl 1 rfl ?_
    refine s_gb (fun h10 => ?_)
    refine rM_ld_13 hc h10 rfl dX5_works_231 ?_
    refine s_iadd hz dX5_works_232 ?_
    refine rM_p_allCrossed hc dX5_works_233 (fun σ11 => ?_)
    refine s_iinc (v := (1 : Int32)) (lv' := [(1, .int (y214.2 + (1 : Int32))), (0, .ref (vO (VM g) + 0))]) hz dX5_works_236 1 rfl (by decide) (Nat.le_of_ble_eq_true rfl) rfl ?_
    refine s_goto (tgt := 214) hz dX5_works_239 rfl ?_
    exact s_sub [1, 0] rfl (hr214c σ11 (y214.2 + (1 : Int32)))
def bX5_works_178 (N : Nat) (σ : Mem) (x1 : Int32) (r129 : (Mem × Int32) → Option (Unit × Mem)) (r178 : (Mem × Int32) → Option (Unit × Mem)) (y178 : Mem × Int32) : Option (Unit × Mem) :=
  if (495 : Int32) ≤ y178.2 then
  (r129 (y178.1, (x1 + (1 : Int32))))
  else (gb (inb y178.2 495) (
  (fX5_crossedBy N y178.1 x1 y178.2).bind (fun q17 => 
  gb (inb y178.2 495) (
  lt_ (pI y178.1 13 (ix y178.2) ((gI y178.1 13 (ix y178.2)) + q17)) (fun σ19 => 
  r178 (σ19, (y178.2 + (1 : Int32))))))))
set_option maxHeartbeats 4000000 in
theorem wbX5_works_178 {Θ : ThT Mem} {g : Geo} {N : Nat}  {ρ : Unit × Mem} (σ : Mem) (hc : Cx Θ (VM g) cX5_works 3 RX5 (rk 42 0 0) none [] false (oV) ρ.2) (x1 : Int32) (r129 : (Mem × Int32) → Option (Unit × Mem)) (hr129 : ∀ y : Mem × Int32, Sim Θ 3 ρ (y.1) (r129 y) (0, 0) 129 [(0, .ref (vO (VM g) + 0)), (1, .int y.2)] []) (r178 : (Mem × Int32) → Option (Unit × Mem)) (hr178 : ∀ y : Mem × Int32, Sim Θ 3 ρ (y.1) (r178 y) (0, 0) 178 [(0, .ref (vO (VM g) + 0)), (1, .int x1), (2, .int y.2)] []) : ∀ y178 : Mem × Int32, Sim Θ 3 ρ (y178.1) (bX5_works_178 N σ x1 r129 r178 y178) (0, 0) 178 [(0, .ref (vO (VM g) + 0)), (1, .int x1), (2, .int y178.2)] [] := by
  intro y178
  have hz := hc.z
  have hr129c : ∀ (z0_ : Mem) (z1_ : Int32), Sim Θ 3 ρ (z0_) (r129 (z0_, z1_)) (0, 0) 129 [(0, .ref (vO (VM g) + 0)), (1, .int z1_)] [] := fun z0_ z1_ => hr129 (z0_, z1_)
  have hr178c : ∀ (z0_ : Mem) (z1_ : Int32), Sim Θ 3 ρ (z0_) (r178 (z0_, z1_)) (0, 0) 178 [(0, .ref (vO (VM g) + 0)), (1, .int x1), (2, .int z1_)] [] := fun z0_ z1_ => hr178 (z0_, z1_)
  unfold bX5_works_178
  refine s_iload_n hz dX5_works_178 rfl 2 rfl ?_
  refine s_sipush (v := (495 : Int32)) hz dX5_works_179 (by decide) ?_
  refine s_icmp_ge (tgt := 206) hz dX5_works_182 rfl (fun h15 => ?_) (fun h15 => ?_)
  · refine s_iinc (v := (1 : Int32)) (lv' := [(1, .int (x1 + (1 : Int32))), (0, .ref (vO (VM g) + 0)), (2, .int y178.2)]) hz dX5_works_206 1 rfl (by decide) (Nat.le_of_ble_eq_true rfl) rfl ?_
    refine s_goto (tgt := 129) hz dX5_works_209 rfl ?_
    exact s_sub [1, 0] rfl (hr129c y178.1 (x1 + (1 : Int32)))
  · refine s_aload_n hz dX5_works_185 rfl 0 rfl ?_
    refine rM_g_all hc dX5_works_186 ?_
    refine s_iload_n hz dX5_works_189 rfl 2 rfl ?_
    refine s_dup2 hz dX5_works_190 rfl rfl ?_
    refine s_gb (fun h16 => ?_)
    refine rM_ld_13 hc h16 rfl dX5_works_191 ?_
    refine s_aload_n hz dX5_works_192 rfl 0 rfl ?_
    refine s_iload_n hz dX5_works_193 rfl 1 rfl ?_
    refine s_iload_n hz dX5_works_194 rfl 2 rfl ?_
    refine s_bind (fun q17 e18 => ?_)
    refine kX5_195 hc (cfX5_crossedBy e18) ⟨(Nat.le_of_ble_eq_true rfl), (Nat.le_of_ble_eq_true rfl)⟩ ⟨(Nat.le_of_ble_eq_true rfl), (Nat.le_of_ble_eq_true rfl)⟩ (Nat.le_of_ble_eq_true rfl) dX5_works_195 ?_
    refine s_iadd hz dX5_works_198 ?_
    refine s_gb (fun h20 => ?_)
    refine rM_st_13 hc h20 rfl dX5_works_199 (fun σ19 => ?_)
    refine s_iinc (v := (1 : Int32)) (lv' := [(2, .int (y178.2 + (1 : Int32))), (0, .ref (vO (VM g) + 0)), (1, .int x1)]) hz dX5_works_200 2 rfl (by decide) (Nat.le_of_ble_eq_true rfl) rfl ?_
    refine s_goto (tgt := 178) hz dX5_works_203 rfl ?_
    exact s_sub [1, 2, 0] rfl (hr178c σ19 (y178.2 + (1 : Int32)))
def bX5_works_148 (N : Nat) (σ : Mem) (x1 : Int32) (r129 : (Mem × Int32) → Option (Unit × Mem)) (r148 : (Mem × Int32) → Option (Unit × Mem)) (y148 : Mem × Int32) : Option (Unit × Mem) :=
  if (495 : Int32) ≤ y148.2 then
  (lp (bX5_works_178 N y148.1 x1 r129) N (y148.1, (0 : Int32)))
  else (gb (inb x1 12) (
  (fX5_likesBy N y148.1 x1 y148.2).bind (fun q22 => 
  gb (inb x1 12) (
  lt_ (pI y148.1 14 (ix x1) ((gI y148.1 14 (ix x1)) + q22)) (fun σ24 => 
  r148 (σ24, (y148.2 + (1 : Int32))))))))
set_option maxHeartbeats 4000000 in
theorem wbX5_works_148 {Θ : ThT Mem} {g : Geo} {N : Nat}  {ρ : Unit × Mem} (σ : Mem) (hc : Cx Θ (VM g) cX5_works 3 RX5 (rk 42 0 0) none [] false (oV) ρ.2) (x1 : Int32) (r129 : (Mem × Int32) → Option (Unit × Mem)) (hr129 : ∀ y : Mem × Int32, Sim Θ 3 ρ (y.1) (r129 y) (0, 0) 129 [(0, .ref (vO (VM g) + 0)), (1, .int y.2)] []) (r148 : (Mem × Int32) → Option (Unit × Mem)) (hr148 : ∀ y : Mem × Int32, Sim Θ 3 ρ (y.1) (r148 y) (0, 0) 148 [(0, .ref (vO (VM g) + 0)), (1, .int x1), (2, .int y.2)] []) : ∀ y148 : Mem × Int32, Sim Θ 3 ρ (y148.1) (bX5_works_148 N σ x1 r129 r148 y148) (0, 0) 148 [(0, .ref (vO (VM g) + 0)), (1, .int x1), (2, .int y148.2)] [] := by
  intro y148
  have hz := hc.z
  have hr129c : ∀ (z0_ : Mem) (z1_ : Int32), Sim Θ 3 ρ (z0_) (r129 (z0_, z1_)) (0, 0) 129 [(0, .ref (vO (VM g) + 0)), (1, .int z1_)] [] := fun z0_ z1_ => hr129 (z0_, z1_)
  have hr148c : ∀ (z0_ : Mem) (z1_ : Int32), Sim Θ 3 ρ (z0_) (r148 (z0_, z1_)) (0, 0) 148 [(0, .ref (vO (VM g) + 0)), (1, .int x1), (2, .int z1_)] [] := fun z0_ z1_ => hr148 (z0_, z1_)
  unfold bX5_works_148
  refine s_iload_n hz dX5_works_148 rfl 2 rfl ?_
  refine s_sipush (v := (495 : Int32)) hz dX5_works_149 (by decide) ?_
  refine s_icmp_ge (tgt := 176) hz dX5_works_152 rfl (fun h14 => ?_) (fun h14 => ?_)
  · refine s_iconst (v := (0 : Int32)) hz dX5_works_176 (by decide) ?_
    refine s_istore_n (lv' := [(2, .int (0 : Int32)), (0, .ref (vO (VM g) + 0)), (1, .int x1)]) hz dX5_works_177 rfl (Nat.le_of_ble_eq_true rfl) rfl ?_
    exact s_sub [1, 2, 0] rfl (s_lp (sg := fun y : Mem × Int32 => y.1) (lvs := fun y : Mem × Int32 => [(0, .ref (vO (VM g) + 0)), (1, .int x1), (2, .int y.2)]) (fun rec hrec => wbX5_works_178 y148.1 hc x1 (r129) hr129 rec hrec) N (y148.1, (0 : Int32)))
  · refine s_aload_n hz dX5_works_155 rfl 0 rfl ?_
    refine rM_g_likesOf hc dX5_works_156 ?_
    refine s_iload_n hz dX5_works_159 rfl 1 rfl ?_
    refine s_dup2 hz dX5_works_160 rfl rfl ?_
    refine s_gb (fun h21 => ?_)
    refine rM_ld_14 hc h21 rfl dX5_works_161 ?_
    refine s_aload_n hz dX5_works_162 rfl 0 rfl ?_
    refine s_iload_n hz dX5_works_163 rfl 1 rfl ?_
    refine s_iload_n hz dX5_works_164 rfl 2 rfl ?_
    refine s_bind (fun q22 e23 => ?_)
    refine kX5_188 hc (cfX5_likesBy e23) ⟨(Nat.le_of_ble_eq_true rfl), (Nat.le_of_ble_eq_true rfl)⟩ ⟨(Nat.le_of_ble_eq_true rfl), (Nat.le_of_ble_eq_true rfl)⟩ (Nat.le_of_ble_eq_true rfl) dX5_works_165 ?_
    refine s_iadd hz dX5_works_168 ?_
    refine s_gb (fun h25 => ?_)
    refine rM_st_14 hc h25 rfl dX5_works_169 (fun σ24 => ?_)
    refine s_iinc (v := (1 : Int32)) (lv' := [(2, .int (y148.2 + (1 : Int32))), (0, .ref (vO (VM g) + 0)), (1, .int x1)]) hz dX5_works_170 2 rfl (by decide) (Nat.le_of_ble_eq_true rfl) rfl ?_
    refine s_goto (tgt := 148) hz dX5_works_173 rfl ?_
    exact s_sub [1, 2, 0] rfl (hr148c σ24 (y148.2 + (1 : Int32)))
def bX5_works_129 (N : Nat) (σ : Mem)  (r129 : (Mem × Int32) → Option (Unit × Mem)) (y129 : Mem × Int32) : Option (Unit × Mem) :=
  if (gI y129.1 1 0) ≤ y129.2 then
  (lp (bX5_works_214 N y129.1) N (y129.1, (0 : Int32)))
  else (gb (inb y129.2 12) (
  lt_ (pI y129.1 14 (ix y129.2) (0 : Int32)) (fun σ12 => 
  lp (bX5_works_148 N σ12 y129.2 r129) N (σ12, (0 : Int32)))))
set_option maxHeartbeats 4000000 in
theorem wbX5_works_129 {Θ : ThT Mem} {g : Geo} {N : Nat}  {ρ : Unit × Mem} (σ : Mem) (hc : Cx Θ (VM g) cX5_works 3 RX5 (rk 42 0 0) none [] false (oV) ρ.2)  (r129 : (Mem × Int32) → Option (Unit × Mem)) (hr129 : ∀ y : Mem × Int32, Sim Θ 3 ρ (y.1) (r129 y) (0, 0) 129 [(0, .ref (vO (VM g) + 0)), (1, .int y.2)] []) : ∀ y129 : Mem × Int32, Sim Θ 3 ρ (y129.1) (bX5_works_129 N σ  r129 y129) (0, 0) 129 [(0, .ref (vO (VM g) + 0)), (1, .int y129.2)] [] := by
  intro y129
  have hz := hc.z
  have hr129c : ∀ (z0_ : Mem) (z1_ : Int32), Sim Θ 3 ρ (z0_) (r129 (z0_, z1_)) (0, 0) 129 [(0, .ref (vO (VM g) + 0)), (1, .int z1_)] [] := fun z0_ z1_ => hr129 (z0_, z1_)
  unfold bX5_works_129
  refine s_iload_n hz dX5_works_129 rfl 1 rfl ?_
  refine s_aload_n hz dX5_works_130 rfl 0 rfl ?_
  refine rM_g_s hc dX5_works_131 ?_
  refine s_iconst (v := (0 : Int32)) hz dX5_works_134 (by decide) ?_
  refine rM_ld_1 hc (j := 0) (by decide) (by decide) dX5_works_135 ?_
  refine s_icmp_ge (tgt := 212) hz dX5_works_136 rfl (fun h8 => ?_) (fun h8 => ?_)
  · refine s_iconst (v := (0 : Int32)) hz dX5_works_212 (by decide) ?_
    refine s_istore_n (lv' := [(1, .int (0 : Int32)), (0, .ref (vO (VM g) + 0))]) hz dX5_works_213 rfl (Nat.le_of_ble_eq_true rfl) rfl ?_
    exact s_sub [1, 0] rfl (s_lp (sg := fun y : Mem × Int32 => y.1) (lvs := fun y : Mem × Int32 => [(0, .ref (vO (VM g) + 0)), (1, .int y.2)]) (fun rec hrec => wbX5_works_214 y129.1 hc   rec hrec) N (y129.1, (0 : Int32)))
  · refine s_aload_n hz dX5_works_139 rfl 0 rfl ?_
    refine rM_g_likesOf hc dX5_works_140 ?_
    refine s_iload_n hz dX5_works_143 rfl 1 rfl ?_
    refine s_iconst (v := (0 : Int32)) hz dX5_works_144 (by decide) ?_
    refine s_gb (fun h13 => ?_)
    refine rM_st_14 hc h13 rfl dX5_works_145 (fun σ12 => ?_)
    refine s_iconst (v := (0 : Int32)) hz dX5_works_146 (by decide) ?_
    refine s_istore_n (lv' := [(2, .int (0 : Int32)), (0, .ref (vO (VM g) + 0)), (1, .int y129.2)]) hz dX5_works_147 rfl (Nat.le_of_ble_eq_true rfl) rfl ?_
    exact s_sub [1, 2, 0] rfl (s_lp (sg := fun y : Mem × Int32 => y.1) (lvs := fun y : Mem × Int32 => [(0, .ref (vO (VM g) + 0)), (1, .int y129.2), (2, .int y.2)]) (fun rec hrec => wbX5_works_148 σ12 hc y129.2 (r129) hr129 rec hrec) N (σ12, (0 : Int32)))
def bX5_works_98 (N : Nat) (σ : Mem)  (r98 : (Mem × Int32) → Option (Unit × Mem)) (y98 : Mem × Int32) : Option (Unit × Mem) :=
  if (495 : Int32) ≤ y98.2 then
  (lp (bX5_works_129 N y98.1) N (y98.1, (0 : Int32)))
  else (gb (inb ((424 : Int32) + y98.2) 919) (
  gb (inb y98.2 495) (
  lt_ (pI y98.1 13 (ix y98.2) (gI y98.1 1 (ix ((424 : Int32) + y98.2)))) (fun σ27 => 
  r98 (σ27, (y98.2 + (1 : Int32)))))))
set_option maxHeartbeats 4000000 in
theorem wbX5_works_98 {Θ : ThT Mem} {g : Geo} {N : Nat}  {ρ : Unit × Mem} (σ : Mem) (hc : Cx Θ (VM g) cX5_works 3 RX5 (rk 42 0 0) none [] false (oV) ρ.2)  (r98 : (Mem × Int32) → Option (Unit × Mem)) (hr98 : ∀ y : Mem × Int32, Sim Θ 3 ρ (y.1) (r98 y) (0, 0) 98 [(0, .ref (vO (VM g) + 0)), (1, .int y.2)] []) : ∀ y98 : Mem × Int32, Sim Θ 3 ρ (y98.1) (bX5_works_98 N σ  r98 y98) (0, 0) 98 [(0, .ref (vO (VM g) + 0)), (1, .int y98.2)] [] := by
  intro y98
  have hz := hc.z
  have hr98c : ∀ (z0_ : Mem) (z1_ : Int32), Sim Θ 3 ρ (z0_) (r98 (z0_, z1_)) (0, 0) 98 [(0, .ref (vO (VM g) + 0)), (1, .int z1_)] [] := fun z0_ z1_ => hr98 (z0_, z1_)
  unfold bX5_works_98
  refine s_iload_n hz dX5_works_98 rfl 1 rfl ?_
  refine s_sipush (v := (495 : Int32)) hz dX5_works_99 (by decide) ?_
  refine s_icmp_ge (tgt := 127) hz dX5_works_102 rfl (fun h7 => ?_) (fun h7 => ?_)
  · refine s_iconst (v := (0 : Int32)) hz dX5_works_127 (by decide) ?_
    refine s_istore_n (lv' := [(1, .int (0 : Int32)), (0, .ref (vO (VM g) + 0))]) hz dX5_works_128 rfl (Nat.le_of_ble_eq_true rfl) rfl ?_
    exact s_sub [1, 0] rfl (s_lp (sg := fun y : Mem × Int32 => y.1) (lvs := fun y : Mem × Int32 => [(0, .ref (vO (VM g) + 0)), (1, .int y.2)]) (fun rec hrec => wbX5_works_129 y98.1 hc   rec hrec) N (y98.1, (0 : Int32)))
  · refine s_aload_n hz dX5_works_105 rfl 0 rfl ?_
    refine rM_g_all hc dX5_works_106 ?_
    refine s_iload_n hz dX5_works_109 rfl 1 rfl ?_
    refine s_aload_n hz dX5_works_110 rfl 0 rfl ?_
    refine rM_g_s hc dX5_works_111 ?_
    refine s_sipush (v := (424 : Int32)) hz dX5_works_114 (by decide) ?_
    refine s_iload_n hz dX5_works_117 rfl 1 rfl ?_
    refine s_iadd hz dX5_works_118 ?_
    refine s_gb (fun h26 => ?_)
    refine rM_ld_1 hc h26 rfl dX5_works_119 ?_
    refine s_gb (fun h28 => ?_)
    refine rM_st_13 hc h28 rfl dX5_works_120 (fun σ27 => ?_)
    refine s_iinc (v := (1 : Int32)) (lv' := [(1, .int (y98.2 + (1 : Int32))), (0, .ref (vO (VM g) + 0))]) hz dX5_works_121 1 rfl (by decide) (Nat.le_of_ble_eq_true rfl) rfl ?_
    refine s_goto (tgt := 98) hz dX5_works_124 rfl ?_
    exact s_sub [1, 0] rfl (hr98c σ27 (y98.2 + (1 : Int32)))
def jX5_works_53 (N : Nat) (σ : Mem) (x1 : Int32) (t0 : Int32) (r20 : (Mem × Int32) → Option (Unit × Mem)) : Option (Unit × Mem) :=
  gb (inb x1 495) (
  lt_ (pI σ 12 (ix x1) (if (0 : Int32) ≤ t0 then (if t0 ≤ (99 : Int32) then t0 else (99 : Int32)) else (0 : Int32))) (fun σ33 => 
  r20 (σ33, (x1 + (1 : Int32)))))
set_option maxHeartbeats 4000000 in
theorem wjX5_works_53 {Θ : ThT Mem} {g : Geo} {N : Nat}  {ρ : Unit × Mem} (σ : Mem) (hc : Cx Θ (VM g) cX5_works 3 RX5 (rk 42 0 0) none [] false (oV) ρ.2) (x1 : Int32) (t0 : Int32) (r20 : (Mem × Int32) → Option (Unit × Mem)) (hr20 : ∀ y : Mem × Int32, Sim Θ 3 ρ (y.1) (r20 y) (0, 0) 20 [(0, .ref (vO (VM g) + 0)), (1, .int y.2)] []) : Sim Θ 3 ρ σ (jX5_works_53 N σ x1 t0 r20) (0, 0) 53 [(0, .ref (vO (VM g) + 0)), (1, .int x1)] [.int t0] := by
  have hz := hc.z
  have hr20c : ∀ (z0_ : Mem) (z1_ : Int32), Sim Θ 3 ρ (z0_) (r20 (z0_, z1_)) (0, 0) 20 [(0, .ref (vO (VM g) + 0)), (1, .int z1_)] [] := fun z0_ z1_ => hr20 (z0_, z1_)
  unfold jX5_works_53
  refine s_istore_n (lv' := [(2, .int t0), (0, .ref (vO (VM g) + 0)), (1, .int x1)]) hz dX5_works_53 rfl (Nat.le_of_ble_eq_true rfl) rfl ?_
  refine s_aload_n hz dX5_works_54 rfl 1 rfl ?_
  refine rM_g_liked hc dX5_works_55 ?_
  refine s_iload_n hz dX5_works_58 rfl 2 rfl ?_
  refine s_iload_n hz dX5_works_59 rfl 0 rfl ?_
  refine s_dia (J := 79) (v := .int (if (0 : Int32) ≤ t0 then (if t0 ≤ (99 : Int32) then t0 else (99 : Int32)) else (0 : Int32))) (st := [.int x1, .ref (vO (VM g) + 12)]) (fun _ hj35 => ?_) ?_
  · refine s_if_ge_ (tgt := 67) hz dX5_works_60 rfl (fun h36 => ?_) (fun h36 => ?_)
    · refine s_iload_n hz dX5_works_67 rfl 0 rfl ?_
      refine s_bipush (v := (99 : Int32)) hz dX5_works_68 (by decide) ?_
      refine s_icmp_le_ (tgt := 78) hz dX5_works_70 rfl (fun h37 => ?_) (fun h37 => ?_)
      · refine s_iload_n hz dX5_works_78 rfl 0 rfl ?_
        rw [if_pos h36, if_pos h37] at hj35
        exact hj35
      · refine s_bipush (v := (99 : Int32)) hz dX5_works_73 (by decide) ?_
        refine s_goto (tgt := 79) hz dX5_works_75 rfl ?_
        rw [if_pos h36, if_neg h37] at hj35
        exact hj35
    · refine s_iconst (v := (0 : Int32)) hz dX5_works_63 (by decide) ?_
      refine s_goto (tgt := 79) hz dX5_works_64 rfl ?_
      rw [if_neg h36] at hj35
      exact hj35
  refine s_gb (fun h34 => ?_)
  refine rM_st_12 hc h34 rfl dX5_works_79 (fun σ33 => ?_)
  refine s_iinc (v := (1 : Int32)) (lv' := [(1, .int (x1 + (1 : Int32))), (2, .int t0), (0, .ref (vO (VM g) + 0))]) hz dX5_works_80 2 rfl (by decide) (Nat.le_of_ble_eq_true rfl) rfl ?_
  refine s_goto (tgt := 20) hz dX5_works_83 rfl ?_
  exact s_sub [2, 0] rfl (hr20c σ33 (x1 + (1 : Int32)))
def bX5_works_20 (N : Nat) (σ : Mem)  (r20 : (Mem × Int32) → Option (Unit × Mem)) (y20 : Mem × Int32) : Option (Unit × Mem) :=
  if (495 : Int32) ≤ y20.2 then
  (lt_ (pI y20.1 0 19 (0 : Int32)) (fun σ5 => 
  lt_ (pI σ5 0 24 (0 : Int32)) (fun σ6 => 
  lp (bX5_works_98 N σ6) N (σ6, (0 : Int32)))))
  else (if (gI y20.1 0 19) = (0 : Int32) then
  (lt_ (pI y20.1 0 19 (0 : Int32)) (fun σ30 => 
  lt_ (pI σ30 0 24 (0 : Int32)) (fun σ31 => 
  lp (bX5_works_98 N σ31) N (σ31, (0 : Int32)))))
  else (if (gI y20.1 1 3) = (1 : Int32) then
  ((fX5_says N y20.1 y20.2).bind (fun q38 => 
  jX5_works_53 N q38.2 y20.2 q38.1 r20))
  else (jX5_works_53 N y20.1 y20.2 (1 : Int32) r20)))
set_option maxHeartbeats 4000000 in
theorem wbX5_works_20 {Θ : ThT Mem} {g : Geo} {N : Nat}  {ρ : Unit × Mem} (σ : Mem) (hc : Cx Θ (VM g) cX5_works 3 RX5 (rk 42 0 0) none [] false (oV) ρ.2)  (r20 : (Mem × Int32) → Option (Unit × Mem)) (hr20 : ∀ y : Mem × Int32, Sim Θ 3 ρ (y.1) (r20 y) (0, 0) 20 [(0, .ref (vO (VM g) + 0)), (1, .int y.2)] []) : ∀ y20 : Mem × Int32, Sim Θ 3 ρ (y20.1) (bX5_works_20 N σ  r20 y20) (0, 0) 20 [(0, .ref (vO (VM g) + 0)), (1, .int y20.2)] [] := by
  intro y20
  have hz := hc.z
  have hr20c : ∀ (z0_ : Mem) (z1_ : Int32), Sim Θ 3 ρ (z0_) (r20 (z0_, z1_)) (0, 0) 20 [(0, .ref (vO (VM g) + 0)), (1, .int z1_)] [] := fun z0_ z1_ => hr20 (z0_, z1_)
  unfold bX5_works_20
  refine s_iload_n hz dX5_works_20 rfl 1 rfl ?_
  refine s_sipush (v := (495 : Int32)) hz dX5_works_21 (by decide) ?_
  refine s_icmp_ge (tgt := 86) hz dX5_works_24 rfl (fun h4 => ?_) (fun h4 => ?_)
  · refine s_aload_n hz dX5_works_86 rfl 0 rfl ?_
    refine s_iconst (v := (0 : Int32)) hz dX5_works_87 (by decide) ?_
    refine rM_p_isSaidNew hc rfl rfl dX5_works_88 (fun σ5 => ?_)
    refine s_aload_n hz dX5_works_91 rfl 0 rfl ?_
    refine s_iconst (v := (0 : Int32)) hz dX5_works_92 (by decide) ?_
    refine rM_p_allCrossed hc dX5_works_93 (fun σ6 => ?_)
    refine s_iconst (v := (0 : Int32)) hz dX5_works_96 (by decide) ?_
    refine s_istore_n (lv' := [(1, .int (0 : Int32)), (0, .ref (vO (VM g) + 0))]) hz dX5_works_97 rfl (Nat.le_of_ble_eq_true rfl) rfl ?_
    exact s_sub [1, 0] rfl (s_lp (sg := fun y : Mem × Int32 => y.1) (lvs := fun y : Mem × Int32 => [(0, .ref (vO (VM g) + 0)), (1, .int y.2)]) (fun rec hrec => wbX5_works_98 σ6 hc   rec hrec) N (σ6, (0 : Int32)))
  · refine s_aload_n hz dX5_works_27 rfl 0 rfl ?_
    refine rM_g_isSaidNew hc dX5_works_28 ?_
    refine s_if_eq (tgt := 86) hz dX5_works_31 rfl (fun h29 => ?_) (fun h29 => ?_)
    · refine s_aload_n hz dX5_works_86 rfl 0 rfl ?_
      refine s_iconst (v := (0 : Int32)) hz dX5_works_87 (by decide) ?_
      refine rM_p_isSaidNew hc rfl rfl dX5_works_88 (fun σ30 => ?_)
      refine s_aload_n hz dX5_works_91 rfl 0 rfl ?_
      refine s_iconst (v := (0 : Int32)) hz dX5_works_92 (by decide) ?_
      refine rM_p_allCrossed hc dX5_works_93 (fun σ31 => ?_)
      refine s_iconst (v := (0 : Int32)) hz dX5_works_96 (by decide) ?_
      refine s_istore_n (lv' := [(1, .int (0 : Int32)), (0, .ref (vO (VM g) + 0))]) hz dX5_works_97 rfl (Nat.le_of_ble_eq_true rfl) rfl ?_
      exact s_sub [1, 0] rfl (s_lp (sg := fun y : Mem × Int32 => y.1) (lvs := fun y : Mem × Int32 => [(0, .ref (vO (VM g) + 0)), (1, .int y.2)]) (fun rec hrec => wbX5_works_98 σ31 hc   rec hrec) N (σ31, (0 : Int32)))
    · refine s_aload_n hz dX5_works_34 rfl 0 rfl ?_
      refine rM_g_s hc dX5_works_35 ?_
      refine s_iconst (v := (3 : Int32)) hz dX5_works_38 (by decide) ?_
      refine rM_ld_1 hc (j := 3) (by decide) (by decide) dX5_works_39 ?_
      refine s_iconst (v := (1 : Int32)) hz dX5_works_40 (by decide) ?_
      refine s_icmp_ne (tgt := 52) hz dX5_works_41 rfl (fun h32 => ?_) (fun h32 => ?_)
      · refine s_iconst (v := (1 : Int32)) hz dX5_works_52 (by decide) ?_
        exact s_sub [0, 1] rfl (wjX5_works_53 y20.1 hc y20.2 (1 : Int32) r20 hr20)
      · refine s_aload_n hz dX5_works_44 rfl 0 rfl ?_
        refine s_iload_n hz dX5_works_45 rfl 1 rfl ?_
        refine s_bind (fun q38 e39 => ?_)
        refine kX5_175 hc (cfX5_says e39) ⟨(Nat.le_of_ble_eq_true rfl), (Nat.le_of_ble_eq_true rfl)⟩ ⟨(Nat.le_of_ble_eq_true rfl), (Nat.le_of_ble_eq_true rfl)⟩ (Nat.le_of_ble_eq_true rfl) dX5_works_46 ?_
        refine s_goto (tgt := 53) hz dX5_works_49 rfl ?_
        exact s_sub [0, 1] rfl (wjX5_works_53 q38.2 hc y20.2 q38.1 r20 hr20)
def fX5_works (N : Nat) (σ : Mem)  : Option (Unit × Mem) :=
  if (gI σ 0 18) = (0 : Int32) then
  (some ((), σ))
  else (lt_ (pI σ 0 18 (0 : Int32)) (fun σ2 => 
  lt_ (pI σ2 0 20 (1 : Int32)) (fun σ3 => 
  lp (bX5_works_20 N σ3) N (σ3, (0 : Int32)))))
set_option maxHeartbeats 4000000 in
theorem wfX5_works {Θ : ThT Mem} {g : Geo} {N : Nat}  {ρ : Unit × Mem} (σ : Mem)  (hc : Cx Θ (VM g) cX5_works 3 RX5 (rk 42 0 0) none [] false (oV) ρ.2) : Sim Θ 3 ρ σ (fX5_works N σ ) (0, 0) 0 [(0, .ref (vO (VM g) + 0))] [] := by
  have hz := hc.z
  unfold fX5_works
  refine s_aload_n hz dX5_works_0 rfl 0 rfl ?_
  refine rM_g_isNew hc dX5_works_1 ?_
  refine s_if_ne (tgt := 8) hz dX5_works_4 rfl (fun h1 => ?_) (fun h1 => ?_)
  · refine s_aload_n hz dX5_works_8 rfl 0 rfl ?_
    refine s_iconst (v := (0 : Int32)) hz dX5_works_9 (by decide) ?_
    refine rM_p_isNew hc rfl rfl dX5_works_10 (fun σ2 => ?_)
    refine s_aload_n hz dX5_works_13 rfl 0 rfl ?_
    refine s_iconst (v := (1 : Int32)) hz dX5_works_14 (by decide) ?_
    refine rM_p_isWinnerNew hc rfl rfl dX5_works_15 (fun σ3 => ?_)
    refine s_iconst (v := (0 : Int32)) hz dX5_works_18 (by decide) ?_
    refine s_istore_n (lv' := [(1, .int (0 : Int32)), (0, .ref (vO (VM g) + 0))]) hz dX5_works_19 rfl (Nat.le_of_ble_eq_true rfl) rfl ?_
    exact s_sub [1, 0] rfl (s_lp (sg := fun y : Mem × Int32 => y.1) (lvs := fun y : Mem × Int32 => [(0, .ref (vO (VM g) + 0)), (1, .int y.2)]) (fun rec hrec => wbX5_works_20 σ3 hc   rec hrec) N (σ3, (0 : Int32)))
  · exact s_vretM hc dX5_works_7 (Nat.le_of_ble_eq_true rfl) (Nat.le_of_ble_eq_true rfl)
theorem cfX5_works {g : Geo} {N : Nat}  {σ : Mem}  {ρ : Unit × Mem} (hF : fX5_works N σ  = some ρ) (l : Launch) : Ct (VM g) l yX5_works cX5_works 3 none (rk 42 0 0) [.ref (vO (VM g) + 0)] σ (oV) ρ.2 :=
  Ct.of (by decide) (Nat.le_of_ble_eq_true rfl) (fun Θ hc ls hl => wfX5_works σ  hc hF ls hl)
def fX5_likes (N : Nat) (σ : Mem) (x1 : Int32) (x2 : Int32) : Option (Int32 × Mem) :=
  (fX5_isPeople N σ x1).bind (fun q1 => 
  if q1 = (0 : Int32) then
  ((fX5_finds N σ (-1000000001 : Int32)).bind (fun q4 => 
  some (q4.1, q4.2)))
  else ((fX5_isPlace N σ x2).bind (fun q6 => 
  if q6 = (0 : Int32) then
  ((fX5_finds N σ (-1000000001 : Int32)).bind (fun q13 => 
  some (q13.1, q13.2)))
  else ((fX5_works N σ).bind (fun q9 => 
  (fX5_likesBy N q9.2 x1 x2).bind (fun q11 => 
  some (q11, q9.2)))))))
set_option maxHeartbeats 4000000 in
theorem wfX5_likes {Θ : ThT Mem} {g : Geo} {N : Nat}  {ρ : Int32 × Mem} (σ : Mem) (x1 : Int32) (x2 : Int32) (hc : Cx Θ (VM g) cX5_likes 3 RX5 (rk 43 0 0) (some .int) [] false (oI ρ.1) ρ.2) : Sim Θ 3 ρ σ (fX5_likes N σ x1 x2) (0, 0) 0 [(0, .ref (vO (VM g) + 0)), (1, .int x1), (2, .int x2)] [] := by
  have hz := hc.z
  unfold fX5_likes
  refine s_aload_n hz dX5_likes_0 rfl 0 rfl ?_
  refine s_iload_n hz dX5_likes_1 rfl 1 rfl ?_
  refine s_bind (fun q1 e2 => ?_)
  refine kX5_105 hc (cfX5_isPeople e2) ⟨(Nat.le_of_ble_eq_true rfl), (Nat.le_of_ble_eq_true rfl)⟩ ⟨(Nat.le_of_ble_eq_true rfl), (Nat.le_of_ble_eq_true rfl)⟩ (Nat.le_of_ble_eq_true rfl) dX5_likes_2 ?_
  refine s_if_eq (tgt := 15) hz dX5_likes_5 rfl (fun h3 => ?_) (fun h3 => ?_)
  · refine s_aload_n hz dX5_likes_15 rfl 0 rfl ?_
    refine s_ldc hz dX5_likes_16 q1203 ?_
    refine s_bind (fun q4 e5 => ?_)
    refine kX5_88 hc (cfX5_finds e5) ⟨(Nat.le_of_ble_eq_true rfl), (Nat.le_of_ble_eq_true rfl)⟩ ⟨(Nat.le_of_ble_eq_true rfl), (Nat.le_of_ble_eq_true rfl)⟩ (Nat.le_of_ble_eq_true rfl) dX5_likes_18 ?_
    exact s_iretM hc dX5_likes_21 (Nat.le_of_ble_eq_true rfl) (Nat.le_of_ble_eq_true rfl)
  · refine s_iload_n hz dX5_likes_8 rfl 2 rfl ?_
    refine s_bind (fun q6 e7 => ?_)
    refine kX5_92 hc (cfX5_isPlace e7) ⟨(Nat.le_of_ble_eq_true rfl), (Nat.le_of_ble_eq_true rfl)⟩ ⟨(Nat.le_of_ble_eq_true rfl), (Nat.le_of_ble_eq_true rfl)⟩ (Nat.le_of_ble_eq_true rfl) dX5_likes_9 ?_
    refine s_if_ne (tgt := 22) hz dX5_likes_12 rfl (fun h8 => ?_) (fun h8 => ?_)
    · refine s_aload_n hz dX5_likes_22 rfl 0 rfl ?_
      refine s_bind (fun q9 e10 => ?_)
      refine kX5_198 hc (cfX5_works e10) ⟨(Nat.le_of_ble_eq_true rfl), (Nat.le_of_ble_eq_true rfl)⟩ ⟨(Nat.le_of_ble_eq_true rfl), (Nat.le_of_ble_eq_true rfl)⟩ (Nat.le_of_ble_eq_true rfl) dX5_likes_23 ?_
      refine s_aload_n hz dX5_likes_26 rfl 0 rfl ?_
      refine s_iload_n hz dX5_likes_27 rfl 1 rfl ?_
      refine s_iload_n hz dX5_likes_28 rfl 2 rfl ?_
      refine s_bind (fun q11 e12 => ?_)
      refine kX5_188 hc (cfX5_likesBy e12) ⟨(Nat.le_of_ble_eq_true rfl), (Nat.le_of_ble_eq_true rfl)⟩ ⟨(Nat.le_of_ble_eq_true rfl), (Nat.le_of_ble_eq_true rfl)⟩ (Nat.le_of_ble_eq_true rfl) dX5_likes_29 ?_
      exact s_iretM hc dX5_likes_32 (Nat.le_of_ble_eq_true rfl) (Nat.le_of_ble_eq_true rfl)
    · refine s_aload_n hz dX5_likes_15 rfl 0 rfl ?_
      refine s_ldc hz dX5_likes_16 q1203 ?_
      refine s_bind (fun q13 e14 => ?_)
      refine kX5_88 hc (cfX5_finds e14) ⟨(Nat.le_of_ble_eq_true rfl), (Nat.le_of_ble_eq_true rfl)⟩ ⟨(Nat.le_of_ble_eq_true rfl), (Nat.le_of_ble_eq_true rfl)⟩ (Nat.le_of_ble_eq_true rfl) dX5_likes_18 ?_
      exact s_iretM hc dX5_likes_21 (Nat.le_of_ble_eq_true rfl) (Nat.le_of_ble_eq_true rfl)
theorem cfX5_likes {g : Geo} {N : Nat}  {σ : Mem} {x1 : Int32} {x2 : Int32} {ρ : Int32 × Mem} (hF : fX5_likes N σ x1 x2 = some ρ) (l : Launch) : Ct (VM g) l yX5_likes cX5_likes 3 (some .int) (rk 43 0 0) [.ref (vO (VM g) + 0), .int x1, .int x2] σ (oI ρ.1) ρ.2 :=
  Ct.of (by decide) (Nat.le_of_ble_eq_true rfl) (fun Θ hc ls hl => wfX5_likes σ x1 x2 hc hF ls hl)
def jX5_crossed_13 (N : Nat) (σ : Mem) (x1 : Int32) (x2 : Int32)  : Option (Int32 × Mem) :=
  (fX5_isPlace N σ x2).bind (fun q2 => 
  if q2 = (0 : Int32) then
  ((fX5_finds N σ (-1000000001 : Int32)).bind (fun q11 => 
  some (q11.1, q11.2)))
  else ((fX5_works N σ).bind (fun q5 => 
  if (0 : Int32) ≤ x1 then
  ((fX5_crossedBy N q5.2 x1 x2).bind (fun q8 => 
  some (q8, q5.2)))
  else (gb (inb x2 495) (
  some ((gI q5.2 13 (ix x2)), q5.2))))))
set_option maxHeartbeats 4000000 in
theorem wjX5_crossed_13 {Θ : ThT Mem} {g : Geo} {N : Nat}  {ρ : Int32 × Mem} (σ : Mem) (hc : Cx Θ (VM g) cX5_crossed 3 RX5 (rk 43 0 0) (some .int) [] false (oI ρ.1) ρ.2) (x1 : Int32) (x2 : Int32)  : Sim Θ 3 ρ σ (jX5_crossed_13 N σ x1 x2 ) (0, 0) 13 [(0, .ref (vO (VM g) + 0)), (1, .int x1), (2, .int x2)] [] := by
  have hz := hc.z
  unfold jX5_crossed_13
  refine s_iload_n hz dX5_crossed_13 rfl 2 rfl ?_
  refine s_bind (fun q2 e3 => ?_)
  refine kX5_92 hc (cfX5_isPlace e3) ⟨(Nat.le_of_ble_eq_true rfl), (Nat.le_of_ble_eq_true rfl)⟩ ⟨(Nat.le_of_ble_eq_true rfl), (Nat.le_of_ble_eq_true rfl)⟩ (Nat.le_of_ble_eq_true rfl) dX5_crossed_14 ?_
  refine s_if_ne (tgt := 27) hz dX5_crossed_17 rfl (fun h4 => ?_) (fun h4 => ?_)
  · refine s_aload_n hz dX5_crossed_27 rfl 0 rfl ?_
    refine s_bind (fun q5 e6 => ?_)
    refine kX5_198 hc (cfX5_works e6) ⟨(Nat.le_of_ble_eq_true rfl), (Nat.le_of_ble_eq_true rfl)⟩ ⟨(Nat.le_of_ble_eq_true rfl), (Nat.le_of_ble_eq_true rfl)⟩ (Nat.le_of_ble_eq_true rfl) dX5_crossed_28 ?_
    refine s_iload_n hz dX5_crossed_31 rfl 1 rfl ?_
    refine s_if_ge (tgt := 44) hz dX5_crossed_32 rfl (fun h7 => ?_) (fun h7 => ?_)
    · refine s_aload_n hz dX5_crossed_44 rfl 0 rfl ?_
      refine s_iload_n hz dX5_crossed_45 rfl 1 rfl ?_
      refine s_iload_n hz dX5_crossed_46 rfl 2 rfl ?_
      refine s_bind (fun q8 e9 => ?_)
      refine kX5_195 hc (cfX5_crossedBy e9) ⟨(Nat.le_of_ble_eq_true rfl), (Nat.le_of_ble_eq_true rfl)⟩ ⟨(Nat.le_of_ble_eq_true rfl), (Nat.le_of_ble_eq_true rfl)⟩ (Nat.le_of_ble_eq_true rfl) dX5_crossed_47 ?_
      exact s_iretM hc dX5_crossed_50 (Nat.le_of_ble_eq_true rfl) (Nat.le_of_ble_eq_true rfl)
    · refine s_aload_n hz dX5_crossed_35 rfl 0 rfl ?_
      refine rM_g_all hc dX5_crossed_36 ?_
      refine s_iload_n hz dX5_crossed_39 rfl 2 rfl ?_
      refine s_gb (fun h10 => ?_)
      refine rM_ld_13 hc h10 rfl dX5_crossed_40 ?_
      refine s_goto (tgt := 50) hz dX5_crossed_41 rfl ?_
      exact s_iretM hc dX5_crossed_50 (Nat.le_of_ble_eq_true rfl) (Nat.le_of_ble_eq_true rfl)
  · refine s_aload_n hz dX5_crossed_20 rfl 0 rfl ?_
    refine s_ldc hz dX5_crossed_21 q1203 ?_
    refine s_bind (fun q11 e12 => ?_)
    refine kX5_88 hc (cfX5_finds e12) ⟨(Nat.le_of_ble_eq_true rfl), (Nat.le_of_ble_eq_true rfl)⟩ ⟨(Nat.le_of_ble_eq_true rfl), (Nat.le_of_ble_eq_true rfl)⟩ (Nat.le_of_ble_eq_true rfl) dX5_crossed_23 ?_
    exact s_iretM hc dX5_crossed_26 (Nat.le_of_ble_eq_true rfl) (Nat.le_of_ble_eq_true rfl)
def fX5_crossed (N : Nat) (σ : Mem) (x1 : Int32) (x2 : Int32) : Option (Int32 × Mem) :=
  if x1 = (-1 : Int32) then
  (jX5_crossed_13 N σ x1 x2)
  else ((fX5_isPeople N σ x1).bind (fun q13 => 
  if q13 = (0 : Int32) then
  ((fX5_finds N σ (-1000000001 : Int32)).bind (fun q16 => 
  some (q16.1, q16.2)))
  else (jX5_crossed_13 N σ x1 x2)))
set_option maxHeartbeats 4000000 in
theorem wfX5_crossed {Θ : ThT Mem} {g : Geo} {N : Nat}  {ρ : Int32 × Mem} (σ : Mem) (x1 : Int32) (x2 : Int32) (hc : Cx Θ (VM g) cX5_crossed 3 RX5 (rk 43 0 0) (some .int) [] false (oI ρ.1) ρ.2) : Sim Θ 3 ρ σ (fX5_crossed N σ x1 x2) (0, 0) 0 [(0, .ref (vO (VM g) + 0)), (1, .int x1), (2, .int x2)] [] := by
  have hz := hc.z
  unfold fX5_crossed
  refine s_iload_n hz dX5_crossed_0 rfl 1 rfl ?_
  refine s_iconst (v := (-1 : Int32)) hz dX5_crossed_1 (by decide) ?_
  refine s_icmp_eq (tgt := 13) hz dX5_crossed_2 rfl (fun h1 => ?_) (fun h1 => ?_)
  · exact s_sub [0, 1, 2] rfl (wjX5_crossed_13 σ hc x1 x2 )
  · refine s_aload_n hz dX5_crossed_5 rfl 0 rfl ?_
    refine s_iload_n hz dX5_crossed_6 rfl 1 rfl ?_
    refine s_bind (fun q13 e14 => ?_)
    refine kX5_105 hc (cfX5_isPeople e14) ⟨(Nat.le_of_ble_eq_true rfl), (Nat.le_of_ble_eq_true rfl)⟩ ⟨(Nat.le_of_ble_eq_true rfl), (Nat.le_of_ble_eq_true rfl)⟩ (Nat.le_of_ble_eq_true rfl) dX5_crossed_7 ?_
    refine s_if_eq (tgt := 20) hz dX5_crossed_10 rfl (fun h15 => ?_) (fun h15 => ?_)
    · refine s_aload_n hz dX5_crossed_20 rfl 0 rfl ?_
      refine s_ldc hz dX5_crossed_21 q1203 ?_
      refine s_bind (fun q16 e17 => ?_)
      refine kX5_88 hc (cfX5_finds e17) ⟨(Nat.le_of_ble_eq_true rfl), (Nat.le_of_ble_eq_true rfl)⟩ ⟨(Nat.le_of_ble_eq_true rfl), (Nat.le_of_ble_eq_true rfl)⟩ (Nat.le_of_ble_eq_true rfl) dX5_crossed_23 ?_
      exact s_iretM hc dX5_crossed_26 (Nat.le_of_ble_eq_true rfl) (Nat.le_of_ble_eq_true rfl)
    · exact s_sub [0, 1, 2] rfl (wjX5_crossed_13 σ hc x1 x2 )
theorem cfX5_crossed {g : Geo} {N : Nat}  {σ : Mem} {x1 : Int32} {x2 : Int32} {ρ : Int32 × Mem} (hF : fX5_crossed N σ x1 x2 = some ρ) (l : Launch) : Ct (VM g) l yX5_crossed cX5_crossed 3 (some .int) (rk 43 0 0) [.ref (vO (VM g) + 0), .int x1, .int x2] σ (oI ρ.1) ρ.2 :=
  Ct.of (by decide) (Nat.le_of_ble_eq_true rfl) (fun Θ hc ls hl => wfX5_crossed σ x1 x2 hc hF ls hl)
def jX5_buys_52 (N : Nat) (σ : Mem) (x1 : Int32) (x2 : Int32) (x3 : Int32)  : Option (Int32 × Mem) :=
  if (x3 + x2) ≤ (99999 : Int32) then
  (lt_ (pI σ 1 5 ((gI σ 1 5) + (if x3 = (0 : Int32) then (1 : Int32) else (0 : Int32)))) (fun σ13 => 
  gb (inb ((424 : Int32) + x1) 919) (
  lt_ (pI σ13 1 (ix ((424 : Int32) + x1)) (x3 + x2)) (fun σ14 => 
  lt_ (pI σ14 0 18 (1 : Int32)) (fun σ16 => 
  some ((x3 + x2), σ16))))))
  else ((fX5_finds N σ (-1000000002 : Int32)).bind (fun q19 => 
  some (q19.1, q19.2)))
set_option maxHeartbeats 4000000 in
theorem wjX5_buys_52 {Θ : ThT Mem} {g : Geo} {N : Nat}  {ρ : Int32 × Mem} (σ : Mem) (hc : Cx Θ (VM g) cX5_buys 4 RX5 (rk 2 0 0) (some .int) [] false (oI ρ.1) ρ.2) (x1 : Int32) (x2 : Int32) (x3 : Int32)  : Sim Θ 4 ρ σ (jX5_buys_52 N σ x1 x2 x3 ) (0, 0) 52 [(0, .ref (vO (VM g) + 0)), (1, .int x1), (2, .int x2), (3, .int x3)] [] := by
  have hz := hc.z
  unfold jX5_buys_52
  refine s_iload_n hz dX5_buys_52 rfl 3 rfl ?_
  refine s_iload_n hz dX5_buys_53 rfl 2 rfl ?_
  refine s_iadd hz dX5_buys_54 ?_
  refine s_ldc hz dX5_buys_55 q1352 ?_
  refine s_icmp_le (tgt := 67) hz dX5_buys_57 rfl (fun h12 => ?_) (fun h12 => ?_)
  · refine s_aload_n hz dX5_buys_67 rfl 0 rfl ?_
    refine rM_g_s hc dX5_buys_68 ?_
    refine s_iconst (v := (5 : Int32)) hz dX5_buys_71 (by decide) ?_
    refine s_dup2 hz dX5_buys_72 rfl rfl ?_
    refine rM_ld_1 hc (j := 5) (by decide) (by decide) dX5_buys_73 ?_
    refine s_iload_n hz dX5_buys_74 rfl 3 rfl ?_
    refine s_dia (J := 83) (v := .int (if x3 = (0 : Int32) then (1 : Int32) else (0 : Int32))) (st := [.int (gI σ 1 5), .int (5 : Int32), .ref (vO (VM g) + 1)]) (fun _ hj17 => ?_) ?_
    · refine s_if_ne_ (tgt := 82) hz dX5_buys_75 rfl (fun h18 => ?_) (fun h18 => ?_)
      · refine s_iconst (v := (0 : Int32)) hz dX5_buys_82 (by decide) ?_
        rw [if_neg h18] at hj17
        exact hj17
      · refine s_iconst (v := (1 : Int32)) hz dX5_buys_78 (by decide) ?_
        refine s_goto (tgt := 83) hz dX5_buys_79 rfl ?_
        rw [if_pos h18] at hj17
        exact hj17
    refine s_iadd hz dX5_buys_83 ?_
    refine rM_st_1 hc (j := 5) (by decide) (by decide) dX5_buys_84 (fun σ13 => ?_)
    refine s_aload_n hz dX5_buys_85 rfl 0 rfl ?_
    refine rM_g_s hc dX5_buys_86 ?_
    refine s_sipush (v := (424 : Int32)) hz dX5_buys_89 (by decide) ?_
    refine s_iload_n hz dX5_buys_92 rfl 1 rfl ?_
    refine s_iadd hz dX5_buys_93 ?_
    refine s_iload_n hz dX5_buys_94 rfl 3 rfl ?_
    refine s_iload_n hz dX5_buys_95 rfl 2 rfl ?_
    refine s_iadd hz dX5_buys_96 ?_
    refine s_gb (fun h15 => ?_)
    refine rM_st_1 hc h15 rfl dX5_buys_97 (fun σ14 => ?_)
    refine s_aload_n hz dX5_buys_98 rfl 0 rfl ?_
    refine s_iconst (v := (1 : Int32)) hz dX5_buys_99 (by decide) ?_
    refine rM_p_isNew hc rfl rfl dX5_buys_100 (fun σ16 => ?_)
    refine s_iload_n hz dX5_buys_103 rfl 3 rfl ?_
    refine s_iload_n hz dX5_buys_104 rfl 2 rfl ?_
    refine s_iadd hz dX5_buys_105 ?_
    exact s_iretM hc dX5_buys_106 (Nat.le_of_ble_eq_true rfl) (Nat.le_of_ble_eq_true rfl)
  · refine s_aload_n hz dX5_buys_60 rfl 0 rfl ?_
    refine s_ldc hz dX5_buys_61 q1224 ?_
    refine s_bind (fun q19 e20 => ?_)
    refine kX5_88 hc (cfX5_finds e20) ⟨(Nat.le_of_ble_eq_true rfl), (Nat.le_of_ble_eq_true rfl)⟩ ⟨(Nat.le_of_ble_eq_true rfl), (Nat.le_of_ble_eq_true rfl)⟩ (Nat.le_of_ble_eq_true rfl) dX5_buys_63 ?_
    exact s_iretM hc dX5_buys_66 (Nat.le_of_ble_eq_true rfl) (Nat.le_of_ble_eq_true rfl)
def fX5_buys (N : Nat) (σ : Mem) (x1 : Int32) (x2 : Int32) : Option (Int32 × Mem) :=
  (fX5_isPlace N σ x1).bind (fun q1 => 
  if q1 = (0 : Int32) then
  ((fX5_finds N σ (-1000000001 : Int32)).bind (fun q4 => 
  some (q4.1, q4.2)))
  else ((fX5_isIn N σ ((x2).toInt64) (1 : Int64) (9999 : Int64)).bind (fun q6 => 
  if q6 = (0 : Int32) then
  ((fX5_finds N σ (-1000000001 : Int32)).bind (fun q24 => 
  some (q24.1, q24.2)))
  else (gb (inb ((424 : Int32) + x1) 919) (
  lt_ (gI σ 1 (ix ((424 : Int32) + x1))) (fun v10 => 
  if v10 = (0 : Int32) then
  (if (gI σ 1 5) = (40 : Int32) then
  ((fX5_finds N σ (-1000000002 : Int32)).bind (fun q22 => 
  some (q22.1, q22.2)))
  else (jX5_buys_52 N σ x1 x2 v10))
  else (jX5_buys_52 N σ x1 x2 v10)))))))
set_option maxHeartbeats 4000000 in
theorem wfX5_buys {Θ : ThT Mem} {g : Geo} {N : Nat}  {ρ : Int32 × Mem} (σ : Mem) (x1 : Int32) (x2 : Int32) (hc : Cx Θ (VM g) cX5_buys 4 RX5 (rk 2 0 0) (some .int) [] false (oI ρ.1) ρ.2) : Sim Θ 4 ρ σ (fX5_buys N σ x1 x2) (0, 0) 0 [(0, .ref (vO (VM g) + 0)), (1, .int x1), (2, .int x2)] [] := by
  have hz := hc.z
  unfold fX5_buys
  refine s_iload_n hz dX5_buys_0 rfl 1 rfl ?_
  refine s_bind (fun q1 e2 => ?_)
  refine kX5_92 hc (cfX5_isPlace e2) ⟨(Nat.le_of_ble_eq_true rfl), (Nat.le_of_ble_eq_true rfl)⟩ ⟨(Nat.le_of_ble_eq_true rfl), (Nat.le_of_ble_eq_true rfl)⟩ (Nat.le_of_ble_eq_true rfl) dX5_buys_1 ?_
  refine s_if_eq (tgt := 19) hz dX5_buys_4 rfl (fun h3 => ?_) (fun h3 => ?_)
  · refine s_aload_n hz dX5_buys_19 rfl 0 rfl ?_
    refine s_ldc hz dX5_buys_20 q1203 ?_
    refine s_bind (fun q4 e5 => ?_)
    refine kX5_88 hc (cfX5_finds e5) ⟨(Nat.le_of_ble_eq_true rfl), (Nat.le_of_ble_eq_true rfl)⟩ ⟨(Nat.le_of_ble_eq_true rfl), (Nat.le_of_ble_eq_true rfl)⟩ (Nat.le_of_ble_eq_true rfl) dX5_buys_22 ?_
    exact s_iretM hc dX5_buys_25 (Nat.le_of_ble_eq_true rfl) (Nat.le_of_ble_eq_true rfl)
  · refine s_iload_n hz dX5_buys_7 rfl 2 rfl ?_
    refine s_i2l hz dX5_buys_8 ?_
    refine s_lconst (v := (1 : Int64)) hz dX5_buys_9 (by decide) ?_
    refine s_ldc2 hz dX5_buys_10 q1351 ?_
    refine s_bind (fun q6 e7 => ?_)
    refine kX5_98 hc (cfX5_isIn e7) ⟨(Nat.le_of_ble_eq_true rfl), (Nat.le_of_ble_eq_true rfl)⟩ ⟨(Nat.le_of_ble_eq_true rfl), (Nat.le_of_ble_eq_true rfl)⟩ (Nat.le_of_ble_eq_true rfl) dX5_buys_13 ?_
    refine s_if_ne (tgt := 26) hz dX5_buys_16 rfl (fun h8 => ?_) (fun h8 => ?_)
    · refine s_aload_n hz dX5_buys_26 rfl 0 rfl ?_
      refine rM_g_s hc dX5_buys_27 ?_
      refine s_sipush (v := (424 : Int32)) hz dX5_buys_30 (by decide) ?_
      refine s_iload_n hz dX5_buys_33 rfl 1 rfl ?_
      refine s_iadd hz dX5_buys_34 ?_
      refine s_gb (fun h9 => ?_)
      refine rM_ld_1 hc h9 rfl dX5_buys_35 ?_
      refine s_nmI (fun v10 => ?_)
      refine s_istore_n (lv' := [(3, .int v10), (0, .ref (vO (VM g) + 0)), (1, .int x1), (2, .int x2)]) hz dX5_buys_36 rfl (Nat.le_of_ble_eq_true rfl) rfl ?_
      refine s_iload_n hz dX5_buys_37 rfl 0 rfl ?_
      refine s_if_ne (tgt := 52) hz dX5_buys_38 rfl (fun h11 => ?_) (fun h11 => ?_)
      · exact s_sub [1, 2, 3, 0] rfl (wjX5_buys_52 σ hc x1 x2 v10 )
      · refine s_aload_n hz dX5_buys_41 rfl 1 rfl ?_
        refine rM_g_s hc dX5_buys_42 ?_
        refine s_iconst (v := (5 : Int32)) hz dX5_buys_45 (by decide) ?_
        refine rM_ld_1 hc (j := 5) (by decide) (by decide) dX5_buys_46 ?_
        refine s_bipush (v := (40 : Int32)) hz dX5_buys_47 (by decide) ?_
        refine s_icmp_eq (tgt := 60) hz dX5_buys_49 rfl (fun h21 => ?_) (fun h21 => ?_)
        · refine s_aload_n hz dX5_buys_60 rfl 1 rfl ?_
          refine s_ldc hz dX5_buys_61 q1224 ?_
          refine s_bind (fun q22 e23 => ?_)
          refine kX5_88 hc (cfX5_finds e23) ⟨(Nat.le_of_ble_eq_true rfl), (Nat.le_of_ble_eq_true rfl)⟩ ⟨(Nat.le_of_ble_eq_true rfl), (Nat.le_of_ble_eq_true rfl)⟩ (Nat.le_of_ble_eq_true rfl) dX5_buys_63 ?_
          exact s_iretM hc dX5_buys_66 (Nat.le_of_ble_eq_true rfl) (Nat.le_of_ble_eq_true rfl)
        · exact s_sub [1, 2, 3, 0] rfl (wjX5_buys_52 σ hc x1 x2 v10 )
    · refine s_aload_n hz dX5_buys_19 rfl 0 rfl ?_
      refine s_ldc hz dX5_buys_20 q1203 ?_
      refine s_bind (fun q24 e25 => ?_)
      refine kX5_88 hc (cfX5_finds e25) ⟨(Nat.le_of_ble_eq_true rfl), (Nat.le_of_ble_eq_true rfl)⟩ ⟨(Nat.le_of_ble_eq_true rfl), (Nat.le_of_ble_eq_true rfl)⟩ (Nat.le_of_ble_eq_true rfl) dX5_buys_22 ?_
      exact s_iretM hc dX5_buys_25 (Nat.le_of_ble_eq_true rfl) (Nat.le_of_ble_eq_true rfl)
theorem cfX5_buys {g : Geo} {N : Nat}  {σ : Mem} {x1 : Int32} {x2 : Int32} {ρ : Int32 × Mem} (hF : fX5_buys N σ x1 x2 = some ρ) (l : Launch) : Ct (VM g) l yX5_buys cX5_buys 4 (some .int) (rk 2 0 0) [.ref (vO (VM g) + 0), .int x1, .int x2] σ (oI ρ.1) ρ.2 :=
  Ct.of (by decide) (Nat.le_of_ble_eq_true rfl) (fun Θ hc ls hl => wfX5_buys σ x1 x2 hc hF ls hl)
def bX5_returned_4 (N : Nat) (σ : Mem)  (r4 : (Mem × Int32 × Int32) → Option (Int32 × Mem)) (y4 : Mem × Int32 × Int32) : Option (Int32 × Mem) :=
  if (495 : Int32) ≤ y4.2.2 then
  (lt_ (pI y4.1 1 5 (0 : Int32)) (fun σ2 => 
  lt_ (pI σ2 0 18 (1 : Int32)) (fun σ3 => 
  some (y4.2.1, σ3))))
  else (gb (inb ((424 : Int32) + y4.2.2) 919) (
  lt_ (y4.2.1 + (gI y4.1 1 (ix ((424 : Int32) + y4.2.2)))) (fun v5 => 
  gb (inb ((424 : Int32) + y4.2.2) 919) (
  lt_ (pI y4.1 1 (ix ((424 : Int32) + y4.2.2)) (0 : Int32)) (fun σ6 => 
  r4 (σ6, v5, (y4.2.2 + (1 : Int32))))))))
set_option maxHeartbeats 4000000 in
theorem wbX5_returned_4 {Θ : ThT Mem} {g : Geo} {N : Nat}  {ρ : Int32 × Mem} (σ : Mem) (hc : Cx Θ (VM g) cX5_returned 3 RX5 (rk 1 0 0) (some .int) [] false (oI ρ.1) ρ.2)  (r4 : (Mem × Int32 × Int32) → Option (Int32 × Mem)) (hr4 : ∀ y : Mem × Int32 × Int32, Sim Θ 3 ρ (y.1) (r4 y) (0, 0) 4 [(0, .ref (vO (VM g) + 0)), (1, .int y.2.1), (2, .int y.2.2)] []) : ∀ y4 : Mem × Int32 × Int32, Sim Θ 3 ρ (y4.1) (bX5_returned_4 N σ  r4 y4) (0, 0) 4 [(0, .ref (vO (VM g) + 0)), (1, .int y4.2.1), (2, .int y4.2.2)] [] := by
  intro y4
  have hz := hc.z
  have hr4c : ∀ (z0_ : Mem) (z1_ : Int32) (z2_ : Int32), Sim Θ 3 ρ (z0_) (r4 (z0_, z1_, z2_)) (0, 0) 4 [(0, .ref (vO (VM g) + 0)), (1, .int z1_), (2, .int z2_)] [] := fun z0_ z1_ z2_ => hr4 (z0_, z1_, z2_)
  unfold bX5_returned_4
  refine s_iload_n hz dX5_returned_4 rfl 2 rfl ?_
  refine s_sipush (v := (495 : Int32)) hz dX5_returned_5 (by decide) ?_
  refine s_icmp_ge (tgt := 41) hz dX5_returned_8 rfl (fun h1 => ?_) (fun h1 => ?_)
  · refine s_aload_n hz dX5_returned_41 rfl 0 rfl ?_
    refine rM_g_s hc dX5_returned_42 ?_
    refine s_iconst (v := (5 : Int32)) hz dX5_returned_45 (by decide) ?_
    refine s_iconst (v := (0 : Int32)) hz dX5_returned_46 (by decide) ?_
    refine rM_st_1 hc (j := 5) (by decide) (by decide) dX5_returned_47 (fun σ2 => ?_)
    refine s_aload_n hz dX5_returned_48 rfl 0 rfl ?_
    refine s_iconst (v := (1 : Int32)) hz dX5_returned_49 (by decide) ?_
    refine rM_p_isNew hc rfl rfl dX5_returned_50 (fun σ3 => ?_)
    refine s_iload_n hz dX5_returned_53 rfl 1 rfl ?_
    exact s_iretM hc dX5_returned_54 (Nat.le_of_ble_eq_true rfl) (Nat.le_of_ble_eq_true rfl)
  · refine s_iload_n hz dX5_returned_11 rfl 1 rfl ?_
    refine s_aload_n hz dX5_returned_12 rfl 0 rfl ?_
    refine rM_g_s hc dX5_returned_13 ?_
    refine s_sipush (v := (424 : Int32)) hz dX5_returned_16 (by decide) ?_
    refine s_iload_n hz dX5_returned_19 rfl 2 rfl ?_
    refine s_iadd hz dX5_returned_20 ?_
    refine s_gb (fun h4 => ?_)
    refine rM_ld_1 hc h4 rfl dX5_returned_21 ?_
    refine s_iadd hz dX5_returned_22 ?_
    refine s_nmI (fun v5 => ?_)
    refine s_istore_n (lv' := [(1, .int v5), (0, .ref (vO (VM g) + 0)), (2, .int y4.2.2)]) hz dX5_returned_23 rfl (Nat.le_of_ble_eq_true rfl) rfl ?_
    refine s_aload_n hz dX5_returned_24 rfl 1 rfl ?_
    refine rM_g_s hc dX5_returned_25 ?_
    refine s_sipush (v := (424 : Int32)) hz dX5_returned_28 (by decide) ?_
    refine s_iload_n hz dX5_returned_31 rfl 2 rfl ?_
    refine s_iadd hz dX5_returned_32 ?_
    refine s_iconst (v := (0 : Int32)) hz dX5_returned_33 (by decide) ?_
    refine s_gb (fun h7 => ?_)
    refine rM_st_1 hc h7 rfl dX5_returned_34 (fun σ6 => ?_)
    refine s_iinc (v := (1 : Int32)) (lv' := [(2, .int (y4.2.2 + (1 : Int32))), (1, .int v5), (0, .ref (vO (VM g) + 0))]) hz dX5_returned_35 2 rfl (by decide) (Nat.le_of_ble_eq_true rfl) rfl ?_
    refine s_goto (tgt := 4) hz dX5_returned_38 rfl ?_
    exact s_sub [2, 1, 0] rfl (hr4c σ6 v5 (y4.2.2 + (1 : Int32)))
def fX5_returned (N : Nat) (σ : Mem)  : Option (Int32 × Mem) :=
  lp (bX5_returned_4 N σ) N (σ, (0 : Int32), (0 : Int32))
set_option maxHeartbeats 4000000 in
theorem wfX5_returned {Θ : ThT Mem} {g : Geo} {N : Nat}  {ρ : Int32 × Mem} (σ : Mem)  (hc : Cx Θ (VM g) cX5_returned 3 RX5 (rk 1 0 0) (some .int) [] false (oI ρ.1) ρ.2) : Sim Θ 3 ρ σ (fX5_returned N σ ) (0, 0) 0 [(0, .ref (vO (VM g) + 0))] [] := by
  have hz := hc.z
  unfold fX5_returned
  refine s_iconst (v := (0 : Int32)) hz dX5_returned_0 (by decide) ?_
  refine s_istore_n (lv' := [(1, .int (0 : Int32)), (0, .ref (vO (VM g) + 0))]) hz dX5_returned_1 rfl (Nat.le_of_ble_eq_true rfl) rfl ?_
  refine s_iconst (v := (0 : Int32)) hz dX5_returned_2 (by decide) ?_
  refine s_istore_n (lv' := [(2, .int (0 : Int32)), (1, .int (0 : Int32)), (0, .ref (vO (VM g) + 0))]) hz dX5_returned_3 rfl (Nat.le_of_ble_eq_true rfl) rfl ?_
  exact s_sub [2, 1, 0] rfl (s_lp (sg := fun y : Mem × Int32 × Int32 => y.1) (lvs := fun y : Mem × Int32 × Int32 => [(0, .ref (vO (VM g) + 0)), (1, .int y.2.1), (2, .int y.2.2)]) (fun rec hrec => wbX5_returned_4 σ hc   rec hrec) N (σ, (0 : Int32), (0 : Int32)))
theorem cfX5_returned {g : Geo} {N : Nat}  {σ : Mem}  {ρ : Int32 × Mem} (hF : fX5_returned N σ  = some ρ) (l : Launch) : Ct (VM g) l yX5_returned cX5_returned 3 (some .int) (rk 1 0 0) [.ref (vO (VM g) + 0)] σ (oI ρ.1) ρ.2 :=
  Ct.of (by decide) (Nat.le_of_ble_eq_true rfl) (fun Θ hc ls hl => wfX5_returned σ  hc hF ls hl)
def fX5_rule (N : Nat) (σ : Mem) (x1 : Int32) (x2 : Int32) : Option (Int32 × Mem) :=
  (fX5_isIn N σ ((x1).toInt64) (0 : Int64) (7 : Int64)).bind (fun q1 => 
  if q1 = (0 : Int32) then
  ((fX5_finds N σ (-1000000001 : Int32)).bind (fun q20 => 
  some (q20.1, q20.2)))
  else (lt_ (if x1 = (0 : Int32) then (99 : Int32) else (if x1 = (6 : Int32) then (999999 : Int32) else (if x1 = (7 : Int32) then (99999999 : Int32) else (100 : Int32)))) (fun v4 => 
  (fX5_isIn N σ ((x2).toInt64) (if x1 = (0 : Int32) then (1 : Int64) else (0 : Int64)) ((v4).toInt64)).bind (fun q5 => 
  if q5 = (0 : Int32) then
  ((fX5_finds N σ (-1000000001 : Int32)).bind (fun q12 => 
  some (q12.1, q12.2)))
  else (gb (inb ((10 : Int32) + x1) 919) (
  lt_ (gI σ 1 (ix ((10 : Int32) + x1))) (fun v9 => 
  gb (inb ((10 : Int32) + x1) 919) (
  lt_ (pI σ 1 (ix ((10 : Int32) + x1)) x2) (fun σ10 => 
  some (v9, σ10))))))))))
set_option maxHeartbeats 4000000 in
theorem wfX5_rule {Θ : ThT Mem} {g : Geo} {N : Nat}  {ρ : Int32 × Mem} (σ : Mem) (x1 : Int32) (x2 : Int32) (hc : Cx Θ (VM g) cX5_rule 5 RX5 (rk 2 0 0) (some .int) [] false (oI ρ.1) ρ.2) : Sim Θ 5 ρ σ (fX5_rule N σ x1 x2) (0, 0) 0 [(0, .ref (vO (VM g) + 0)), (1, .int x1), (2, .int x2)] [] := by
  have hz := hc.z
  unfold fX5_rule
  refine s_iload_n hz dX5_rule_0 rfl 1 rfl ?_
  refine s_i2l hz dX5_rule_1 ?_
  refine s_lconst (v := (0 : Int64)) hz dX5_rule_2 (by decide) ?_
  refine s_ldc2 hz dX5_rule_3 q1219 ?_
  refine s_bind (fun q1 e2 => ?_)
  refine kX5_98 hc (cfX5_isIn e2) ⟨(Nat.le_of_ble_eq_true rfl), (Nat.le_of_ble_eq_true rfl)⟩ ⟨(Nat.le_of_ble_eq_true rfl), (Nat.le_of_ble_eq_true rfl)⟩ (Nat.le_of_ble_eq_true rfl) dX5_rule_6 ?_
  refine s_if_ne (tgt := 19) hz dX5_rule_9 rfl (fun h3 => ?_) (fun h3 => ?_)
  · refine s_iload_n hz dX5_rule_19 rfl 1 rfl ?_
    refine s_dia (J := 52) (v := .int (if x1 = (0 : Int32) then (99 : Int32) else (if x1 = (6 : Int32) then (999999 : Int32) else (if x1 = (7 : Int32) then (99999999 : Int32) else (100 : Int32))))) (st := []) (fun _ hj16 => ?_) ?_
    · refine s_if_ne_ (tgt := 28) hz dX5_rule_20 rfl (fun h17 => ?_) (fun h17 => ?_)
      · refine s_iload_n hz dX5_rule_28 rfl 1 rfl ?_
        refine s_bipush (v := (6 : Int32)) hz dX5_rule_29 (by decide) ?_
        refine s_icmp_ne_ (tgt := 39) hz dX5_rule_31 rfl (fun h18 => ?_) (fun h18 => ?_)
        · refine s_iload_n hz dX5_rule_39 rfl 1 rfl ?_
          refine s_bipush (v := (7 : Int32)) hz dX5_rule_40 (by decide) ?_
          refine s_icmp_ne_ (tgt := 50) hz dX5_rule_42 rfl (fun h19 => ?_) (fun h19 => ?_)
          · refine s_bipush (v := (100 : Int32)) hz dX5_rule_50 (by decide) ?_
            rw [if_neg h17, if_neg h18, if_neg h19] at hj16
            exact hj16
          · refine s_ldc hz dX5_rule_45 q1362 ?_
            refine s_goto (tgt := 52) hz dX5_rule_47 rfl ?_
            rw [if_neg h17, if_neg h18, if_pos h19] at hj16
            exact hj16
        · refine s_ldc hz dX5_rule_34 q1361 ?_
          refine s_goto (tgt := 52) hz dX5_rule_36 rfl ?_
          rw [if_neg h17, if_pos h18] at hj16
          exact hj16
      · refine s_bipush (v := (99 : Int32)) hz dX5_rule_23 (by decide) ?_
        refine s_goto (tgt := 52) hz dX5_rule_25 rfl ?_
        rw [if_pos h17] at hj16
        exact hj16
    refine s_nmI (fun v4 => ?_)
    refine s_istore_n (lv' := [(3, .int v4), (0, .ref (vO (VM g) + 0)), (1, .int x1), (2, .int x2)]) hz dX5_rule_52 rfl (Nat.le_of_ble_eq_true rfl) rfl ?_
    refine s_iload_n hz dX5_rule_53 rfl 3 rfl ?_
    refine s_i2l hz dX5_rule_54 ?_
    refine s_iload_n hz dX5_rule_55 rfl 2 rfl ?_
    refine s_dia (J := 64) (v := .long (if x1 = (0 : Int32) then (1 : Int64) else (0 : Int64))) (st := [.long ((x2).toInt64)]) (fun _ hj14 => ?_) ?_
    · refine s_if_ne_ (tgt := 63) hz dX5_rule_56 rfl (fun h15 => ?_) (fun h15 => ?_)
      · refine s_lconst (v := (0 : Int64)) hz dX5_rule_63 (by decide) ?_
        rw [if_neg h15] at hj14
        exact hj14
      · refine s_lconst (v := (1 : Int64)) hz dX5_rule_59 (by decide) ?_
        refine s_goto (tgt := 64) hz dX5_rule_60 rfl ?_
        rw [if_pos h15] at hj14
        exact hj14
    refine s_iload_n hz dX5_rule_64 rfl 0 rfl ?_
    refine s_i2l hz dX5_rule_65 ?_
    refine s_bind (fun q5 e6 => ?_)
    refine kX5_98 hc (cfX5_isIn e6) ⟨(Nat.le_of_ble_eq_true rfl), (Nat.le_of_ble_eq_true rfl)⟩ ⟨(Nat.le_of_ble_eq_true rfl), (Nat.le_of_ble_eq_true rfl)⟩ (Nat.le_of_ble_eq_true rfl) dX5_rule_66 ?_
    refine s_if_ne (tgt := 79) hz dX5_rule_69 rfl (fun h7 => ?_) (fun h7 => ?_)
    · refine s_aload_n hz dX5_rule_79 rfl 1 rfl ?_
      refine rM_g_s hc dX5_rule_80 ?_
      refine s_bipush (v := (10 : Int32)) hz dX5_rule_83 (by decide) ?_
      refine s_iload_n hz dX5_rule_85 rfl 2 rfl ?_
      refine s_iadd hz dX5_rule_86 ?_
      refine s_gb (fun h8 => ?_)
      refine rM_ld_1 hc h8 rfl dX5_rule_87 ?_
      refine s_nmI (fun v9 => ?_)
      refine s_istore (lv' := [(4, .int v9), (3, .int v4), (0, .ref (vO (VM g) + 0)), (1, .int x1), (2, .int x2)]) hz dX5_rule_88 (Nat.le_of_ble_eq_true rfl) rfl ?_
      refine s_aload_n hz dX5_rule_90 rfl 2 rfl ?_
      refine rM_g_s hc dX5_rule_91 ?_
      refine s_bipush (v := (10 : Int32)) hz dX5_rule_94 (by decide) ?_
      refine s_iload_n hz dX5_rule_96 rfl 3 rfl ?_
      refine s_iadd hz dX5_rule_97 ?_
      refine s_iload_n hz dX5_rule_98 rfl 4 rfl ?_
      refine s_gb (fun h11 => ?_)
      refine rM_st_1 hc h11 rfl dX5_rule_99 (fun σ10 => ?_)
      refine s_iload hz dX5_rule_100 0 rfl ?_
      exact s_iretM hc dX5_rule_102 (Nat.le_of_ble_eq_true rfl) (Nat.le_of_ble_eq_true rfl)
    · refine s_aload_n hz dX5_rule_72 rfl 1 rfl ?_
      refine s_ldc hz dX5_rule_73 q1203 ?_
      refine s_bind (fun q12 e13 => ?_)
      refine kX5_88 hc (cfX5_finds e13) ⟨(Nat.le_of_ble_eq_true rfl), (Nat.le_of_ble_eq_true rfl)⟩ ⟨(Nat.le_of_ble_eq_true rfl), (Nat.le_of_ble_eq_true rfl)⟩ (Nat.le_of_ble_eq_true rfl) dX5_rule_75 ?_
      exact s_iretM hc dX5_rule_78 (Nat.le_of_ble_eq_true rfl) (Nat.le_of_ble_eq_true rfl)
  · refine s_aload_n hz dX5_rule_12 rfl 0 rfl ?_
    refine s_ldc hz dX5_rule_13 q1203 ?_
    refine s_bind (fun q20 e21 => ?_)
    refine kX5_88 hc (cfX5_finds e21) ⟨(Nat.le_of_ble_eq_true rfl), (Nat.le_of_ble_eq_true rfl)⟩ ⟨(Nat.le_of_ble_eq_true rfl), (Nat.le_of_ble_eq_true rfl)⟩ (Nat.le_of_ble_eq_true rfl) dX5_rule_15 ?_
    exact s_iretM hc dX5_rule_18 (Nat.le_of_ble_eq_true rfl) (Nat.le_of_ble_eq_true rfl)
theorem cfX5_rule {g : Geo} {N : Nat}  {σ : Mem} {x1 : Int32} {x2 : Int32} {ρ : Int32 × Mem} (hF : fX5_rule N σ x1 x2 = some ρ) (l : Launch) : Ct (VM g) l yX5_rule cX5_rule 5 (some .int) (rk 2 0 0) [.ref (vO (VM g) + 0), .int x1, .int x2] σ (oI ρ.1) ρ.2 :=
  Ct.of (by decide) (Nat.le_of_ble_eq_true rfl) (fun Θ hc ls hl => wfX5_rule σ x1 x2 hc hF ls hl)
def fX5_seed (N : Nat) (σ : Mem) (x1 : Int32) : Option (Int32 × Mem) :=
  lt_ (gI σ 1 2) (fun v1 => 
  lt_ (pI σ 1 2 x1) (fun σ2 => 
  some (v1, σ2)))
set_option maxHeartbeats 4000000 in
theorem wfX5_seed {Θ : ThT Mem} {g : Geo} {N : Nat}  {ρ : Int32 × Mem} (σ : Mem) (x1 : Int32) (hc : Cx Θ (VM g) cX5_seed 3 RX5 (rk 1 0 0) (some .int) [] false (oI ρ.1) ρ.2) : Sim Θ 3 ρ σ (fX5_seed N σ x1) (0, 0) 0 [(0, .ref (vO (VM g) + 0)), (1, .int x1)] [] := by
  have hz := hc.z
  unfold fX5_seed
  refine s_aload_n hz dX5_seed_0 rfl 0 rfl ?_
  refine rM_g_s hc dX5_seed_1 ?_
  refine s_iconst (v := (2 : Int32)) hz dX5_seed_4 (by decide) ?_
  refine rM_ld_1 hc (j := 2) (by decide) (by decide) dX5_seed_5 ?_
  refine s_nmI (fun v1 => ?_)
  refine s_istore_n (lv' := [(2, .int v1), (0, .ref (vO (VM g) + 0)), (1, .int x1)]) hz dX5_seed_6 rfl (Nat.le_of_ble_eq_true rfl) rfl ?_
  refine s_aload_n hz dX5_seed_7 rfl 1 rfl ?_
  refine rM_g_s hc dX5_seed_8 ?_
  refine s_iconst (v := (2 : Int32)) hz dX5_seed_11 (by decide) ?_
  refine s_iload_n hz dX5_seed_12 rfl 2 rfl ?_
  refine rM_st_1 hc (j := 2) (by decide) (by decide) dX5_seed_13 (fun σ2 => ?_)
  refine s_iload_n hz dX5_seed_14 rfl 0 rfl ?_
  exact s_iretM hc dX5_seed_15 (Nat.le_of_ble_eq_true rfl) (Nat.le_of_ble_eq_true rfl)
theorem cfX5_seed {g : Geo} {N : Nat}  {σ : Mem} {x1 : Int32} {ρ : Int32 × Mem} (hF : fX5_seed N σ x1 = some ρ) (l : Launch) : Ct (VM g) l yX5_seed cX5_seed 3 (some .int) (rk 1 0 0) [.ref (vO (VM g) + 0), .int x1] σ (oI ρ.1) ρ.2 :=
  Ct.of (by decide) (Nat.le_of_ble_eq_true rfl) (fun Θ hc ls hl => wfX5_seed σ x1 hc hF ls hl)
def fX5_potWith (N : Nat) (σ : Mem) (x1 : Int32) : Option (Int64 × Mem) :=
  (fX5_works N σ).bind (fun q1 => 
  some ((((x1).toInt64) + ((((((gI q1.2 0 24)).toInt64) * (((gI q1.2 1 10)).toInt64)) * (((gI q1.2 1 11)).toInt64)) / (100 : Int64))), q1.2))
set_option maxHeartbeats 4000000 in
theorem wfX5_potWith {Θ : ThT Mem} {g : Geo} {N : Nat}  {ρ : Int64 × Mem} (σ : Mem) (x1 : Int32) (hc : Cx Θ (VM g) cX5_potWith 2 RX5 (rk 43 0 0) (some .long) [] false (oL ρ.1) ρ.2) : Sim Θ 2 ρ σ (fX5_potWith N σ x1) (0, 0) 0 [(0, .ref (vO (VM g) + 0)), (1, .int x1)] [] := by
  have hz := hc.z
  unfold fX5_potWith
  refine s_aload_n hz dX5_potWith_0 rfl 0 rfl ?_
  refine s_bind (fun q1 e2 => ?_)
  refine kX5_198 hc (cfX5_works e2) ⟨(Nat.le_of_ble_eq_true rfl), (Nat.le_of_ble_eq_true rfl)⟩ ⟨(Nat.le_of_ble_eq_true rfl), (Nat.le_of_ble_eq_true rfl)⟩ (Nat.le_of_ble_eq_true rfl) dX5_potWith_1 ?_
  refine s_iload_n hz dX5_potWith_4 rfl 1 rfl ?_
  refine s_i2l hz dX5_potWith_5 ?_
  refine s_aload_n hz dX5_potWith_6 rfl 0 rfl ?_
  refine rM_g_allCrossed hc dX5_potWith_7 ?_
  refine s_i2l hz dX5_potWith_10 ?_
  refine s_aload_n hz dX5_potWith_11 rfl 0 rfl ?_
  refine rM_g_s hc dX5_potWith_12 ?_
  refine s_bipush (v := (10 : Int32)) hz dX5_potWith_15 (by decide) ?_
  refine rM_ld_1 hc (j := 10) (by decide) (by decide) dX5_potWith_17 ?_
  refine s_i2l hz dX5_potWith_18 ?_
  refine s_lmul hz dX5_potWith_19 ?_
  refine s_aload_n hz dX5_potWith_20 rfl 0 rfl ?_
  refine rM_g_s hc dX5_potWith_21 ?_
  refine s_bipush (v := (11 : Int32)) hz dX5_potWith_24 (by decide) ?_
  refine rM_ld_1 hc (j := 11) (by decide) (by decide) dX5_potWith_26 ?_
  refine s_i2l hz dX5_potWith_27 ?_
  refine s_lmul hz dX5_potWith_28 ?_
  refine s_ldc2 hz dX5_potWith_29 q1380 ?_
  refine s_ldiv hz dX5_potWith_32 (by decide) ?_
  refine s_ladd hz dX5_potWith_33 ?_
  exact s_lretM hc dX5_potWith_34 (Nat.le_of_ble_eq_true rfl) (Nat.le_of_ble_eq_true rfl)
theorem cfX5_potWith {g : Geo} {N : Nat}  {σ : Mem} {x1 : Int32} {ρ : Int64 × Mem} (hF : fX5_potWith N σ x1 = some ρ) (l : Launch) : Ct (VM g) l yX5_potWith cX5_potWith 2 (some .long) (rk 43 0 0) [.ref (vO (VM g) + 0), .int x1] σ (oL ρ.1) ρ.2 :=
  Ct.of (by decide) (Nat.le_of_ble_eq_true rfl) (fun Θ hc ls hl => wfX5_potWith σ x1 hc hF ls hl)
def fX5_shareOf (N : Nat) (σ : Mem) (x1 : Int64) (x3 : Int32) : Option (Int64) :=
  gb (inb ((16 : Int32) - x3) 919) (
  some ((x1 * (((gI σ 1 (ix ((16 : Int32) - x3)))).toInt64)) / (100 : Int64)))
set_option maxHeartbeats 4000000 in
theorem wfX5_shareOf {Θ : ThT Mem} {g : Geo} {N : Nat}  {ρ : Int64} (σ : Mem) (x1 : Int64) (x3 : Int32) (hc : Cx Θ (VM g) cX5_shareOf 4 RX5 (rk 1 0 0) (some .long) [] false (oL ρ) σ) : Sim Θ 4 ρ σ (fX5_shareOf N σ x1 x3) (0, 0) 0 [(0, .ref (vO (VM g) + 0)), (1, .long x1), (3, .int x3)] [] := by
  have hz := hc.z
  unfold fX5_shareOf
  refine s_lload_n hz dX5_shareOf_0 rfl 1 rfl ?_
  refine s_aload_n hz dX5_shareOf_1 rfl 0 rfl ?_
  refine rM_g_s hc dX5_shareOf_2 ?_
  refine s_bipush (v := (16 : Int32)) hz dX5_shareOf_5 (by decide) ?_
  refine s_iload_n hz dX5_shareOf_7 rfl 2 rfl ?_
  refine s_isub hz dX5_shareOf_8 ?_
  refine s_gb (fun h1 => ?_)
  refine rM_ld_1 hc h1 rfl dX5_shareOf_9 ?_
  refine s_i2l hz dX5_shareOf_10 ?_
  refine s_lmul hz dX5_shareOf_11 ?_
  refine s_ldc2 hz dX5_shareOf_12 q1380 ?_
  refine s_ldiv hz dX5_shareOf_15 (by decide) ?_
  exact s_lret hc dX5_shareOf_16 (Nat.le_of_ble_eq_true rfl) (Nat.le_of_ble_eq_true rfl)
theorem cfX5_shareOf {g : Geo} {N : Nat}  {σ : Mem} {x1 : Int64} {x3 : Int32} {ρ : Int64} (hF : fX5_shareOf N σ x1 x3 = some ρ) (l : Launch) : Ct (VM g) l yX5_shareOf cX5_shareOf 4 (some .long) (rk 1 0 0) [.ref (vO (VM g) + 0), .long x1, .int x3] σ (oL ρ) σ :=
  Ct.of (by decide) (Nat.le_of_ble_eq_true rfl) (fun Θ hc ls hl => wfX5_shareOf σ x1 x3 hc hF ls hl)
def jX5_goes_124 (N : Nat) (σ : Mem) (x1 : Int32) (x2 : Int64) (x4 : Int32) (x5 : Int64) (x7 : Int32) (x8 : Int32) (t0 : Int64) (r44 : (Mem × Int64 × Int32) → Option (Unit × Mem)) : Option (Unit × Mem) :=
  lt_ (x5 - (t0 * ((x8).toInt64))) (fun v23 => 
  gb (inb ((x4 + (5 : Int32)) - x7) 919) (
  lt_ (pI σ 1 (ix ((x4 + (5 : Int32)) - x7)) x8) (fun σ24 => 
  gb (inb ((x4 + (8 : Int32)) - x7) 919) (
  lt_ (pI σ24 1 (ix ((x4 + (8 : Int32)) - x7)) ((t0).toInt32)) (fun σ26 => 
  r44 (σ26, v23, (x7 + (-1 : Int32))))))))
set_option maxHeartbeats 4000000 in
theorem wjX5_goes_124 {Θ : ThT Mem} {g : Geo} {N : Nat}  {ρ : Unit × Mem} (σ : Mem) (hc : Cx Θ (VM g) cX5_goes 11 RX5 (rk 44 0 0) none [] false (oV) ρ.2) (x1 : Int32) (x2 : Int64) (x4 : Int32) (x5 : Int64) (x7 : Int32) (x8 : Int32) (t0 : Int64) (r44 : (Mem × Int64 × Int32) → Option (Unit × Mem)) (hr44 : ∀ y : Mem × Int64 × Int32, Sim Θ 11 ρ (y.1) (r44 y) (0, 0) 44 [(0, .ref (vO (VM g) + 0)), (1, .int x1), (2, .long x2), (4, .int x4), (5, .long y.2.1), (7, .int y.2.2)] []) : Sim Θ 11 ρ σ (jX5_goes_124 N σ x1 x2 x4 x5 x7 x8 t0 r44) (0, 0) 124 [(0, .ref (vO (VM g) + 0)), (1, .int x1), (2, .long x2), (4, .int x4), (5, .long x5), (7, .int x7), (8, .int x8)] [.long t0] := by
  have hz := hc.z
  have hr44c : ∀ (z0_ : Mem) (z1_ : Int64) (z2_ : Int32), Sim Θ 11 ρ (z0_) (r44 (z0_, z1_, z2_)) (0, 0) 44 [(0, .ref (vO (VM g) + 0)), (1, .int x1), (2, .long x2), (4, .int x4), (5, .long z1_), (7, .int z2_)] [] := fun z0_ z1_ z2_ => hr44 (z0_, z1_, z2_)
  unfold jX5_goes_124
  refine s_lstore (lv' := [(9, .long t0), (0, .ref (vO (VM g) + 0)), (1, .int x1), (2, .long x2), (4, .int x4), (5, .long x5), (7, .int x7), (8, .int x8)]) hz dX5_goes_124 (Nat.le_of_ble_eq_true rfl) rfl ?_
  refine s_lload hz dX5_goes_126 5 rfl ?_
  refine s_lload hz dX5_goes_128 0 rfl ?_
  refine s_iload hz dX5_goes_130 7 rfl ?_
  refine s_i2l hz dX5_goes_132 ?_
  refine s_lmul hz dX5_goes_133 ?_
  refine s_lsub hz dX5_goes_134 ?_
  refine s_nmL (fun v23 => ?_)
  refine s_lstore (lv' := [(5, .long v23), (9, .long t0), (0, .ref (vO (VM g) + 0)), (1, .int x1), (2, .long x2), (4, .int x4), (7, .int x7), (8, .int x8)]) hz dX5_goes_135 (Nat.le_of_ble_eq_true rfl) rfl ?_
  refine s_aload_n hz dX5_goes_137 rfl 2 rfl ?_
  refine rM_g_s hc dX5_goes_138 ?_
  refine s_iload hz dX5_goes_141 5 rfl ?_
  refine s_iconst (v := (5 : Int32)) hz dX5_goes_143 (by decide) ?_
  refine s_iadd hz dX5_goes_144 ?_
  refine s_iload hz dX5_goes_145 6 rfl ?_
  refine s_isub hz dX5_goes_147 ?_
  refine s_iload hz dX5_goes_148 7 rfl ?_
  refine s_gb (fun h25 => ?_)
  refine rM_st_1 hc h25 rfl dX5_goes_150 (fun σ24 => ?_)
  refine s_aload_n hz dX5_goes_151 rfl 2 rfl ?_
  refine rM_g_s hc dX5_goes_152 ?_
  refine s_iload hz dX5_goes_155 5 rfl ?_
  refine s_bipush (v := (8 : Int32)) hz dX5_goes_157 (by decide) ?_
  refine s_iadd hz dX5_goes_159 ?_
  refine s_iload hz dX5_goes_160 6 rfl ?_
  refine s_isub hz dX5_goes_162 ?_
  refine s_lload hz dX5_goes_163 1 rfl ?_
  refine s_l2i hz dX5_goes_165 ?_
  refine s_gb (fun h27 => ?_)
  refine rM_st_1 hc h27 rfl dX5_goes_166 (fun σ26 => ?_)
  refine s_iinc (v := (-1 : Int32)) (lv' := [(7, .int (x7 + (-1 : Int32))), (5, .long v23), (9, .long t0), (0, .ref (vO (VM g) + 0)), (1, .int x1), (2, .long x2), (4, .int x4), (8, .int x8)]) hz dX5_goes_167 6 rfl (by decide) (Nat.le_of_ble_eq_true rfl) rfl ?_
  refine s_goto (tgt := 44) hz dX5_goes_170 rfl ?_
  exact s_sub [3, 4, 5, 6, 1, 0] rfl (hr44c σ26 v23 (x7 + (-1 : Int32)))
def bX5_goes_56 (N : Nat) (σ : Mem) (x1 : Int32) (x2 : Int64) (x4 : Int32) (x5 : Int64) (x7 : Int32) (r44 : (Mem × Int64 × Int32) → Option (Unit × Mem)) (r56 : (Int32 × Int32) → Option (Unit × Mem)) (y56 : Int32 × Int32) : Option (Unit × Mem) :=
  if (495 : Int32) ≤ y56.2 then
  (if y56.1 = (0 : Int32) then
  (jX5_goes_124 N σ x1 x2 x4 x5 x7 y56.1 (0 : Int64) r44)
  else ((fX5_shareOf N σ x2 x7).bind (fun q20 => 
  gb (nzL ((y56.1).toInt64)) (
  jX5_goes_124 N σ x1 x2 x4 x5 x7 y56.1 (q20 / ((y56.1).toInt64)) r44))))
  else (gb (inb y56.2 495) (
  (fX5_ones N σ ((gI σ 4 (ix y56.2)) &&& x1)).bind (fun q29 => 
  if q29 = x7 then
  (gb (inb y56.2 495) (
  lt_ (y56.1 + (gI σ 13 (ix y56.2))) (fun v34 => 
  r56 (v34, (y56.2 + (1 : Int32))))))
  else (lt_ (y56.1 + (0 : Int32)) (fun v32 => 
  r56 (v32, (y56.2 + (1 : Int32))))))))
set_option maxHeartbeats 4000000 in
theorem wbX5_goes_56 {Θ : ThT Mem} {g : Geo} {N : Nat}  {ρ : Unit × Mem} (σ : Mem) (hc : Cx Θ (VM g) cX5_goes 11 RX5 (rk 44 0 0) none [] false (oV) ρ.2) (x1 : Int32) (x2 : Int64) (x4 : Int32) (x5 : Int64) (x7 : Int32) (r44 : (Mem × Int64 × Int32) → Option (Unit × Mem)) (hr44 : ∀ y : Mem × Int64 × Int32, Sim Θ 11 ρ (y.1) (r44 y) (0, 0) 44 [(0, .ref (vO (VM g) + 0)), (1, .int x1), (2, .long x2), (4, .int x4), (5, .long y.2.1), (7, .int y.2.2)] []) (r56 : (Int32 × Int32) → Option (Unit × Mem)) (hr56 : ∀ y : Int32 × Int32, Sim Θ 11 ρ (σ) (r56 y) (0, 0) 56 [(0, .ref (vO (VM g) + 0)), (1, .int x1), (2, .long x2), (4, .int x4), (5, .long x5), (7, .int x7), (8, .int y.1), (9, .int y.2)] []) : ∀ y56 : Int32 × Int32, Sim Θ 11 ρ (σ) (bX5_goes_56 N σ x1 x2 x4 x5 x7 r44 r56 y56) (0, 0) 56 [(0, .ref (vO (VM g) + 0)), (1, .int x1), (2, .long x2), (4, .int x4), (5, .long x5), (7, .int x7), (8, .int y56.1), (9, .int y56.2)] [] := by
  intro y56
  have hz := hc.z
  have hr44c : ∀ (z0_ : Mem) (z1_ : Int64) (z2_ : Int32), Sim Θ 11 ρ (z0_) (r44 (z0_, z1_, z2_)) (0, 0) 44 [(0, .ref (vO (VM g) + 0)), (1, .int x1), (2, .long x2), (4, .int x4), (5, .long z1_), (7, .int z2_)] [] := fun z0_ z1_ z2_ => hr44 (z0_, z1_, z2_)
  have hr56c : ∀ (z0_ : Int32) (z1_ : Int32), Sim Θ 11 ρ (σ) (r56 (z0_, z1_)) (0, 0) 56 [(0, .ref (vO (VM g) + 0)), (1, .int x1), (2, .long x2), (4, .int x4), (5, .long x5), (7, .int x7), (8, .int z0_), (9, .int z1_)] [] := fun z0_ z1_ => hr56 (z0_, z1_)
  unfold bX5_goes_56
  refine s_iload hz dX5_goes_56 7 rfl ?_
  refine s_sipush (v := (495 : Int32)) hz dX5_goes_58 (by decide) ?_
  refine s_icmp_ge (tgt := 104) hz dX5_goes_61 rfl (fun h18 => ?_) (fun h18 => ?_)
  · refine s_iload hz dX5_goes_104 6 rfl ?_
    refine s_if_ne (tgt := 113) hz dX5_goes_106 rfl (fun h19 => ?_) (fun h19 => ?_)
    · refine s_aload_n hz dX5_goes_113 rfl 0 rfl ?_
      refine s_lload_n hz dX5_goes_114 rfl 2 rfl ?_
      refine s_iload hz dX5_goes_115 5 rfl ?_
      refine s_bind (fun q20 e21 => ?_)
      refine kX5_212 hc (cfX5_shareOf e21) ⟨(Nat.le_of_ble_eq_true rfl), (Nat.le_of_ble_eq_true rfl)⟩ ⟨(Nat.le_of_ble_eq_true rfl), (Nat.le_of_ble_eq_true rfl)⟩ (Nat.le_of_ble_eq_true rfl) dX5_goes_117 ?_
      refine s_iload hz dX5_goes_120 6 rfl ?_
      refine s_i2l hz dX5_goes_122 ?_
      refine s_gb (fun h22 => ?_)
      refine s_ldiv hz dX5_goes_123 (nzL_ne h22) ?_
      exact s_sub [0, 1, 2, 3, 4, 5, 6] rfl (wjX5_goes_124 σ hc x1 x2 x4 x5 x7 y56.1 (q20 / ((y56.1).toInt64)) r44 hr44)
    · refine s_lconst (v := (0 : Int64)) hz dX5_goes_109 (by decide) ?_
      refine s_goto (tgt := 124) hz dX5_goes_110 rfl ?_
      exact s_sub [0, 1, 2, 3, 4, 5, 6] rfl (wjX5_goes_124 σ hc x1 x2 x4 x5 x7 y56.1 (0 : Int64) r44 hr44)
  · refine s_iload hz dX5_goes_64 6 rfl ?_
    refine s_aload_n hz dX5_goes_66 rfl 0 rfl ?_
    refine s_aload_n hz dX5_goes_67 rfl 0 rfl ?_
    refine rM_g_rowAt hc dX5_goes_68 ?_
    refine s_iload hz dX5_goes_71 7 rfl ?_
    refine s_gb (fun h28 => ?_)
    refine rM_ld_4 hc h28 rfl dX5_goes_73 ?_
    refine s_iload_n hz dX5_goes_74 rfl 1 rfl ?_
    refine s_iand hz dX5_goes_75 ?_
    refine s_bind (fun q29 e30 => ?_)
    refine kX5_132 hc (cfX5_ones e30) ⟨(Nat.le_of_ble_eq_true rfl), (Nat.le_of_ble_eq_true rfl)⟩ ⟨(Nat.le_of_ble_eq_true rfl), (Nat.le_of_ble_eq_true rfl)⟩ (Nat.le_of_ble_eq_true rfl) dX5_goes_76 ?_
    refine s_iload hz dX5_goes_79 5 rfl ?_
    refine s_icmp_ne (tgt := 94) hz dX5_goes_81 rfl (fun h31 => ?_) (fun h31 => ?_)
    · refine s_iconst (v := (0 : Int32)) hz dX5_goes_94 (by decide) ?_
      refine s_iadd hz dX5_goes_95 ?_
      refine s_nmI (fun v32 => ?_)
      refine s_istore (lv' := [(8, .int v32), (0, .ref (vO (VM g) + 0)), (1, .int x1), (2, .long x2), (4, .int x4), (5, .long x5), (7, .int x7), (9, .int y56.2)]) hz dX5_goes_96 (Nat.le_of_ble_eq_true rfl) rfl ?_
      refine s_iinc (v := (1 : Int32)) (lv' := [(9, .int (y56.2 + (1 : Int32))), (8, .int v32), (0, .ref (vO (VM g) + 0)), (1, .int x1), (2, .long x2), (4, .int x4), (5, .long x5), (7, .int x7)]) hz dX5_goes_98 7 rfl (by decide) (Nat.le_of_ble_eq_true rfl) rfl ?_
      refine s_goto (tgt := 56) hz dX5_goes_101 rfl ?_
      exact s_sub [2, 3, 4, 5, 6, 7, 1, 0] rfl (hr56c v32 (y56.2 + (1 : Int32)))
    · refine s_aload_n hz dX5_goes_84 rfl 0 rfl ?_
      refine rM_g_all hc dX5_goes_85 ?_
      refine s_iload hz dX5_goes_88 7 rfl ?_
      refine s_gb (fun h33 => ?_)
      refine rM_ld_13 hc h33 rfl dX5_goes_90 ?_
      refine s_goto (tgt := 95) hz dX5_goes_91 rfl ?_
      refine s_iadd hz dX5_goes_95 ?_
      refine s_nmI (fun v34 => ?_)
      refine s_istore (lv' := [(8, .int v34), (0, .ref (vO (VM g) + 0)), (1, .int x1), (2, .long x2), (4, .int x4), (5, .long x5), (7, .int x7), (9, .int y56.2)]) hz dX5_goes_96 (Nat.le_of_ble_eq_true rfl) rfl ?_
      refine s_iinc (v := (1 : Int32)) (lv' := [(9, .int (y56.2 + (1 : Int32))), (8, .int v34), (0, .ref (vO (VM g) + 0)), (1, .int x1), (2, .long x2), (4, .int x4), (5, .long x5), (7, .int x7)]) hz dX5_goes_98 7 rfl (by decide) (Nat.le_of_ble_eq_true rfl) rfl ?_
      refine s_goto (tgt := 56) hz dX5_goes_101 rfl ?_
      exact s_sub [2, 3, 4, 5, 6, 7, 1, 0] rfl (hr56c v34 (y56.2 + (1 : Int32)))
def bX5_goes_44 (N : Nat) (σ : Mem) (x1 : Int32) (x2 : Int64) (x4 : Int32) (r44 : (Mem × Int64 × Int32) → Option (Unit × Mem)) (y44 : Mem × Int64 × Int32) : Option (Unit × Mem) :=
  if y44.2.2 ≤ (1 : Int32) then
  (lt_ (pI y44.1 1 17 (((if (0 : Int64) ≤ y44.2.1 then (if y44.2.1 ≤ (99999999 : Int64) then y44.2.1 else (99999999 : Int64)) else (0 : Int64))).toInt32)) (fun σ9 => 
  gb (inb (x4 + (7 : Int32)) 919) (
  lt_ (pI σ9 1 (ix (x4 + (7 : Int32))) (gI σ9 1 17)) (fun σ10 => 
  lt_ (pI σ10 1 1 ((gI σ10 1 1) + (1 : Int32))) (fun σ12 => 
  lt_ (pI σ12 0 18 (1 : Int32)) (fun σ13 => 
  lt_ (pI σ13 0 19 (1 : Int32)) (fun σ14 => 
  some ((), σ14))))))))
  else (lp (bX5_goes_56 N y44.1 x1 x2 x4 y44.2.1 y44.2.2 r44) N ((0 : Int32), (0 : Int32)))
set_option maxHeartbeats 4000000 in
theorem wbX5_goes_44 {Θ : ThT Mem} {g : Geo} {N : Nat}  {ρ : Unit × Mem} (σ : Mem) (hc : Cx Θ (VM g) cX5_goes 11 RX5 (rk 44 0 0) none [] false (oV) ρ.2) (x1 : Int32) (x2 : Int64) (x4 : Int32) (r44 : (Mem × Int64 × Int32) → Option (Unit × Mem)) (hr44 : ∀ y : Mem × Int64 × Int32, Sim Θ 11 ρ (y.1) (r44 y) (0, 0) 44 [(0, .ref (vO (VM g) + 0)), (1, .int x1), (2, .long x2), (4, .int x4), (5, .long y.2.1), (7, .int y.2.2)] []) : ∀ y44 : Mem × Int64 × Int32, Sim Θ 11 ρ (y44.1) (bX5_goes_44 N σ x1 x2 x4 r44 y44) (0, 0) 44 [(0, .ref (vO (VM g) + 0)), (1, .int x1), (2, .long x2), (4, .int x4), (5, .long y44.2.1), (7, .int y44.2.2)] [] := by
  intro y44
  have hz := hc.z
  have hr44c : ∀ (z0_ : Mem) (z1_ : Int64) (z2_ : Int32), Sim Θ 11 ρ (z0_) (r44 (z0_, z1_, z2_)) (0, 0) 44 [(0, .ref (vO (VM g) + 0)), (1, .int x1), (2, .long x2), (4, .int x4), (5, .long z1_), (7, .int z2_)] [] := fun z0_ z1_ z2_ => hr44 (z0_, z1_, z2_)
  unfold bX5_goes_44
  refine s_iload hz dX5_goes_44 5 rfl ?_
  refine s_iconst (v := (1 : Int32)) hz dX5_goes_46 (by decide) ?_
  refine s_icmp_le (tgt := 173) hz dX5_goes_47 rfl (fun h8 => ?_) (fun h8 => ?_)
  · refine s_aload_n hz dX5_goes_173 rfl 0 rfl ?_
    refine rM_g_s hc dX5_goes_174 ?_
    refine s_bipush (v := (17 : Int32)) hz dX5_goes_177 (by decide) ?_
    refine s_lload hz dX5_goes_179 4 rfl ?_
    refine s_lconst (v := (0 : Int64)) hz dX5_goes_181 (by decide) ?_
    refine s_dia (J := 207) (v := .long (if (0 : Int64) ≤ y44.2.1 then (if y44.2.1 ≤ (99999999 : Int64) then y44.2.1 else (99999999 : Int64)) else (0 : Int64))) (st := [.int (17 : Int32), .ref (vO (VM g) + 1)]) (fun _ hj15 => ?_) ?_
    · refine s_lcmp_ge_ (tgt := 190) hz dX5_goes_182 dX5_goes_183 rfl (fun h16 => ?_) (fun h16 => ?_)
      · refine s_lload hz dX5_goes_190 4 rfl ?_
        refine s_ldc2 hz dX5_goes_192 q1385 ?_
        refine s_lcmp_le_ (tgt := 205) hz dX5_goes_195 dX5_goes_196 rfl (fun h17 => ?_) (fun h17 => ?_)
        · refine s_lload hz dX5_goes_205 4 rfl ?_
          rw [if_pos h16, if_pos h17] at hj15
          exact hj15
        · refine s_ldc2 hz dX5_goes_199 q1385 ?_
          refine s_goto (tgt := 207) hz dX5_goes_202 rfl ?_
          rw [if_pos h16, if_neg h17] at hj15
          exact hj15
      · refine s_lconst (v := (0 : Int64)) hz dX5_goes_186 (by decide) ?_
        refine s_goto (tgt := 207) hz dX5_goes_187 rfl ?_
        rw [if_neg h16] at hj15
        exact hj15
    refine s_l2i hz dX5_goes_207 ?_
    refine rM_st_1 hc (j := 17) (by decide) (by decide) dX5_goes_208 (fun σ9 => ?_)
    refine s_aload_n hz dX5_goes_209 rfl 0 rfl ?_
    refine rM_g_s hc dX5_goes_210 ?_
    refine s_iload hz dX5_goes_213 3 rfl ?_
    refine s_bipush (v := (7 : Int32)) hz dX5_goes_215 (by decide) ?_
    refine s_iadd hz dX5_goes_217 ?_
    refine s_aload_n hz dX5_goes_218 rfl 0 rfl ?_
    refine rM_g_s hc dX5_goes_219 ?_
    refine s_bipush (v := (17 : Int32)) hz dX5_goes_222 (by decide) ?_
    refine rM_ld_1 hc (j := 17) (by decide) (by decide) dX5_goes_224 ?_
    refine s_gb (fun h11 => ?_)
    refine rM_st_1 hc h11 rfl dX5_goes_225 (fun σ10 => ?_)
    refine s_aload_n hz dX5_goes_226 rfl 0 rfl ?_
    refine rM_g_s hc dX5_goes_227 ?_
    refine s_iconst (v := (1 : Int32)) hz dX5_goes_230 (by decide) ?_
    refine s_dup2 hz dX5_goes_231 rfl rfl ?_
    refine rM_ld_1 hc (j := 1) (by decide) (by decide) dX5_goes_232 ?_
    refine s_iconst (v := (1 : Int32)) hz dX5_goes_233 (by decide) ?_
    refine s_iadd hz dX5_goes_234 ?_
    refine rM_st_1 hc (j := 1) (by decide) (by decide) dX5_goes_235 (fun σ12 => ?_)
    refine s_aload_n hz dX5_goes_236 rfl 0 rfl ?_
    refine s_iconst (v := (1 : Int32)) hz dX5_goes_237 (by decide) ?_
    refine rM_p_isNew hc rfl rfl dX5_goes_238 (fun σ13 => ?_)
    refine s_aload_n hz dX5_goes_241 rfl 0 rfl ?_
    refine s_iconst (v := (1 : Int32)) hz dX5_goes_242 (by decide) ?_
    refine rM_p_isSaidNew hc rfl rfl dX5_goes_243 (fun σ14 => ?_)
    exact s_vretM hc dX5_goes_246 (Nat.le_of_ble_eq_true rfl) (Nat.le_of_ble_eq_true rfl)
  · refine s_iconst (v := (0 : Int32)) hz dX5_goes_50 (by decide) ?_
    refine s_istore (lv' := [(8, .int (0 : Int32)), (0, .ref (vO (VM g) + 0)), (1, .int x1), (2, .long x2), (4, .int x4), (5, .long y44.2.1), (7, .int y44.2.2)]) hz dX5_goes_51 (Nat.le_of_ble_eq_true rfl) rfl ?_
    refine s_iconst (v := (0 : Int32)) hz dX5_goes_53 (by decide) ?_
    refine s_istore (lv' := [(9, .int (0 : Int32)), (8, .int (0 : Int32)), (0, .ref (vO (VM g) + 0)), (1, .int x1), (2, .long x2), (4, .int x4), (5, .long y44.2.1), (7, .int y44.2.2)]) hz dX5_goes_54 (Nat.le_of_ble_eq_true rfl) rfl ?_
    exact s_sub [2, 3, 4, 5, 6, 7, 1, 0] rfl (s_lp (sg := fun y : Int32 × Int32 => y44.1) (lvs := fun y : Int32 × Int32 => [(0, .ref (vO (VM g) + 0)), (1, .int x1), (2, .long x2), (4, .int x4), (5, .long y44.2.1), (7, .int y44.2.2), (8, .int y.1), (9, .int y.2)]) (fun rec hrec => wbX5_goes_56 y44.1 hc x1 x2 x4 y44.2.1 y44.2.2 (r44) hr44 rec hrec) N ((0 : Int32), (0 : Int32)))
def fX5_goes (N : Nat) (σ : Mem) (x1 : Int32) : Option (Unit × Mem) :=
  (fX5_works N σ).bind (fun q1 => 
  (fX5_potWith N q1.2 (gI q1.2 1 17)).bind (fun q3 => 
  lt_ ((104 : Int32) + ((8 : Int32) * (gI q3.2 1 1))) (fun v5 => 
  gb (inb v5 919) (
  lt_ (pI q3.2 1 (ix v5) x1) (fun σ6 => 
  lp (bX5_goes_44 N σ6 x1 q3.1 v5) N (σ6, q3.1, (4 : Int32)))))))
set_option maxHeartbeats 4000000 in
theorem wfX5_goes {Θ : ThT Mem} {g : Geo} {N : Nat}  {ρ : Unit × Mem} (σ : Mem) (x1 : Int32) (hc : Cx Θ (VM g) cX5_goes 11 RX5 (rk 44 0 0) none [] false (oV) ρ.2) : Sim Θ 11 ρ σ (fX5_goes N σ x1) (0, 0) 0 [(0, .ref (vO (VM g) + 0)), (1, .int x1)] [] := by
  have hz := hc.z
  unfold fX5_goes
  refine s_aload_n hz dX5_goes_0 rfl 0 rfl ?_
  refine s_bind (fun q1 e2 => ?_)
  refine kX5_198 hc (cfX5_works e2) ⟨(Nat.le_of_ble_eq_true rfl), (Nat.le_of_ble_eq_true rfl)⟩ ⟨(Nat.le_of_ble_eq_true rfl), (Nat.le_of_ble_eq_true rfl)⟩ (Nat.le_of_ble_eq_true rfl) dX5_goes_1 ?_
  refine s_aload_n hz dX5_goes_4 rfl 0 rfl ?_
  refine s_aload_n hz dX5_goes_5 rfl 0 rfl ?_
  refine rM_g_s hc dX5_goes_6 ?_
  refine s_bipush (v := (17 : Int32)) hz dX5_goes_9 (by decide) ?_
  refine rM_ld_1 hc (j := 17) (by decide) (by decide) dX5_goes_11 ?_
  refine s_bind (fun q3 e4 => ?_)
  refine kX5_208 hc (cfX5_potWith e4) ⟨(Nat.le_of_ble_eq_true rfl), (Nat.le_of_ble_eq_true rfl)⟩ ⟨(Nat.le_of_ble_eq_true rfl), (Nat.le_of_ble_eq_true rfl)⟩ (Nat.le_of_ble_eq_true rfl) dX5_goes_12 ?_
  refine s_lstore_n (lv' := [(2, .long q3.1), (0, .ref (vO (VM g) + 0)), (1, .int x1)]) hz dX5_goes_15 rfl (Nat.le_of_ble_eq_true rfl) rfl ?_
  refine s_bipush (v := (104 : Int32)) hz dX5_goes_16 (by decide) ?_
  refine s_bipush (v := (8 : Int32)) hz dX5_goes_18 (by decide) ?_
  refine s_aload_n hz dX5_goes_20 rfl 1 rfl ?_
  refine rM_g_s hc dX5_goes_21 ?_
  refine s_iconst (v := (1 : Int32)) hz dX5_goes_24 (by decide) ?_
  refine rM_ld_1 hc (j := 1) (by decide) (by decide) dX5_goes_25 ?_
  refine s_imul hz dX5_goes_26 ?_
  refine s_iadd hz dX5_goes_27 ?_
  refine s_nmI (fun v5 => ?_)
  refine s_istore (lv' := [(4, .int v5), (2, .long q3.1), (0, .ref (vO (VM g) + 0)), (1, .int x1)]) hz dX5_goes_28 (Nat.le_of_ble_eq_true rfl) rfl ?_
  refine s_aload_n hz dX5_goes_30 rfl 2 rfl ?_
  refine rM_g_s hc dX5_goes_31 ?_
  refine s_iload hz dX5_goes_34 0 rfl ?_
  refine s_iload_n hz dX5_goes_36 rfl 3 rfl ?_
  refine s_gb (fun h7 => ?_)
  refine rM_st_1 hc h7 rfl dX5_goes_37 (fun σ6 => ?_)
  refine s_lload_n hz dX5_goes_38 rfl 1 rfl ?_
  refine s_lstore (lv' := [(5, .long q3.1), (4, .int v5), (2, .long q3.1), (0, .ref (vO (VM g) + 0)), (1, .int x1)]) hz dX5_goes_39 (Nat.le_of_ble_eq_true rfl) rfl ?_
  refine s_iconst (v := (4 : Int32)) hz dX5_goes_41 (by decide) ?_
  refine s_istore (lv' := [(7, .int (4 : Int32)), (5, .long q3.1), (4, .int v5), (2, .long q3.1), (0, .ref (vO (VM g) + 0)), (1, .int x1)]) hz dX5_goes_42 (Nat.le_of_ble_eq_true rfl) rfl ?_
  exact s_sub [4, 5, 3, 2, 1, 0] rfl (s_lp (sg := fun y : Mem × Int64 × Int32 => y.1) (lvs := fun y : Mem × Int64 × Int32 => [(0, .ref (vO (VM g) + 0)), (1, .int x1), (2, .long q3.1), (4, .int v5), (5, .long y.2.1), (7, .int y.2.2)]) (fun rec hrec => wbX5_goes_44 σ6 hc x1 q3.1 v5  rec hrec) N (σ6, q3.1, (4 : Int32)))
theorem cfX5_goes {g : Geo} {N : Nat}  {σ : Mem} {x1 : Int32} {ρ : Unit × Mem} (hF : fX5_goes N σ x1 = some ρ) (l : Launch) : Ct (VM g) l yX5_goes cX5_goes 11 none (rk 44 0 0) [.ref (vO (VM g) + 0), .int x1] σ (oV) ρ.2 :=
  Ct.of (by decide) (Nat.le_of_ble_eq_true rfl) (fun Θ hc ls hl => wfX5_goes σ x1 hc hF ls hl)
def bX5_week_20 (N : Nat) (σ : Mem)  (r20 : (Mem × Int32) → Option (Int32 × Mem)) (y20 : Mem × Int32) : Option (Int32 × Mem) :=
  (fX5_ones N y20.1 y20.2).bind (fun q2 => 
  if (4 : Int32) ≤ q2 then
  ((fX5_goes N y20.1 y20.2).bind (fun q5 => 
  some (y20.2, q5.2)))
  else (lt_ (pI y20.1 1 2 (((gI y20.1 1 2) * (1103515245 : Int32)) + (12345 : Int32))) (fun σ7 => 
  lt_ (y20.2 ||| ((1 : Int32) <<< (((((gI σ7 1 2)).toUInt32 >>> (((16 : Int32)).toUInt32 &&& Int32.toUInt32 31)).toInt32 - (((gI σ7 1 2)).toUInt32 >>> (((16 : Int32)).toUInt32 &&& Int32.toUInt32 31)).toInt32 / (12 : Int32) * (12 : Int32)) &&& 31))) (fun v8 => 
  r20 (σ7, v8)))))
set_option maxHeartbeats 4000000 in
theorem wbX5_week_20 {Θ : ThT Mem} {g : Geo} {N : Nat}  {ρ : Int32 × Mem} (σ : Mem) (hc : Cx Θ (VM g) cX5_week 2 RX5 (rk 45 0 0) (some .int) [] false (oI ρ.1) ρ.2)  (r20 : (Mem × Int32) → Option (Int32 × Mem)) (hr20 : ∀ y : Mem × Int32, Sim Θ 2 ρ (y.1) (r20 y) (0, 0) 20 [(0, .ref (vO (VM g) + 0)), (1, .int y.2)] []) : ∀ y20 : Mem × Int32, Sim Θ 2 ρ (y20.1) (bX5_week_20 N σ  r20 y20) (0, 0) 20 [(0, .ref (vO (VM g) + 0)), (1, .int y20.2)] [] := by
  intro y20
  have hz := hc.z
  have hr20c : ∀ (z0_ : Mem) (z1_ : Int32), Sim Θ 2 ρ (z0_) (r20 (z0_, z1_)) (0, 0) 20 [(0, .ref (vO (VM g) + 0)), (1, .int z1_)] [] := fun z0_ z1_ => hr20 (z0_, z1_)
  unfold bX5_week_20
  refine s_aload_n hz dX5_week_20 rfl 0 rfl ?_
  refine s_iload_n hz dX5_week_21 rfl 1 rfl ?_
  refine s_bind (fun q2 e3 => ?_)
  refine kX5_132 hc (cfX5_ones e3) ⟨(Nat.le_of_ble_eq_true rfl), (Nat.le_of_ble_eq_true rfl)⟩ ⟨(Nat.le_of_ble_eq_true rfl), (Nat.le_of_ble_eq_true rfl)⟩ (Nat.le_of_ble_eq_true rfl) dX5_week_22 ?_
  refine s_iconst (v := (4 : Int32)) hz dX5_week_25 (by decide) ?_
  refine s_icmp_ge (tgt := 68) hz dX5_week_26 rfl (fun h4 => ?_) (fun h4 => ?_)
  · refine s_aload_n hz dX5_week_68 rfl 0 rfl ?_
    refine s_iload_n hz dX5_week_69 rfl 1 rfl ?_
    refine s_bind (fun q5 e6 => ?_)
    refine kX5_219 hc (cfX5_goes e6) ⟨(Nat.le_of_ble_eq_true rfl), (Nat.le_of_ble_eq_true rfl)⟩ ⟨(Nat.le_of_ble_eq_true rfl), (Nat.le_of_ble_eq_true rfl)⟩ (Nat.le_of_ble_eq_true rfl) dX5_week_70 ?_
    refine s_iload_n hz dX5_week_73 rfl 1 rfl ?_
    exact s_iretM hc dX5_week_74 (Nat.le_of_ble_eq_true rfl) (Nat.le_of_ble_eq_true rfl)
  · refine s_aload_n hz dX5_week_29 rfl 0 rfl ?_
    refine rM_g_s hc dX5_week_30 ?_
    refine s_iconst (v := (2 : Int32)) hz dX5_week_33 (by decide) ?_
    refine s_aload_n hz dX5_week_34 rfl 0 rfl ?_
    refine rM_g_s hc dX5_week_35 ?_
    refine s_iconst (v := (2 : Int32)) hz dX5_week_38 (by decide) ?_
    refine rM_ld_1 hc (j := 2) (by decide) (by decide) dX5_week_39 ?_
    refine s_ldc hz dX5_week_40 q1371 ?_
    refine s_imul hz dX5_week_42 ?_
    refine s_sipush (v := (12345 : Int32)) hz dX5_week_43 (by decide) ?_
    refine s_iadd hz dX5_week_46 ?_
    refine rM_st_1 hc (j := 2) (by decide) (by decide) dX5_week_47 (fun σ7 => ?_)
    refine s_iload_n hz dX5_week_48 rfl 1 rfl ?_
    refine s_iconst (v := (1 : Int32)) hz dX5_week_49 (by decide) ?_
    refine s_aload_n hz dX5_week_50 rfl 0 rfl ?_
    refine rM_g_s hc dX5_week_51 ?_
    refine s_iconst (v := (2 : Int32)) hz dX5_week_54 (by decide) ?_
    refine rM_ld_1 hc (j := 2) (by decide) (by decide) dX5_week_55 ?_
    refine s_bipush (v := (16 : Int32)) hz dX5_week_56 (by decide) ?_
    refine s_iushr hz dX5_week_58 ?_
    refine s_bipush (v := (12 : Int32)) hz dX5_week_59 (by decide) ?_
    refine s_irem hz dX5_week_61 (by decide) ?_
    refine s_ishl hz dX5_week_62 ?_
    refine s_ior hz dX5_week_63 ?_
    refine s_nmI (fun v8 => ?_)
    refine s_istore_n (lv' := [(1, .int v8), (0, .ref (vO (VM g) + 0))]) hz dX5_week_64 rfl (Nat.le_of_ble_eq_true rfl) rfl ?_
    refine s_goto (tgt := 20) hz dX5_week_65 rfl ?_
    exact s_sub [1, 0] rfl (hr20c σ7 v8)
def fX5_week (N : Nat) (σ : Mem)  : Option (Int32 × Mem) :=
  if (gI σ 1 1) = (40 : Int32) then
  ((fX5_finds N σ (-1000000002 : Int32)).bind (fun q9 => 
  some (q9.1, q9.2)))
  else (lp (bX5_week_20 N σ) N (σ, (0 : Int32)))
set_option maxHeartbeats 4000000 in
theorem wfX5_week {Θ : ThT Mem} {g : Geo} {N : Nat}  {ρ : Int32 × Mem} (σ : Mem)  (hc : Cx Θ (VM g) cX5_week 2 RX5 (rk 45 0 0) (some .int) [] false (oI ρ.1) ρ.2) : Sim Θ 2 ρ σ (fX5_week N σ ) (0, 0) 0 [(0, .ref (vO (VM g) + 0))] [] := by
  have hz := hc.z
  unfold fX5_week
  refine s_aload_n hz dX5_week_0 rfl 0 rfl ?_
  refine rM_g_s hc dX5_week_1 ?_
  refine s_iconst (v := (1 : Int32)) hz dX5_week_4 (by decide) ?_
  refine rM_ld_1 hc (j := 1) (by decide) (by decide) dX5_week_5 ?_
  refine s_bipush (v := (40 : Int32)) hz dX5_week_6 (by decide) ?_
  refine s_icmp_ne (tgt := 18) hz dX5_week_8 rfl (fun h1 => ?_) (fun h1 => ?_)
  · refine s_iconst (v := (0 : Int32)) hz dX5_week_18 (by decide) ?_
    refine s_istore_n (lv' := [(1, .int (0 : Int32)), (0, .ref (vO (VM g) + 0))]) hz dX5_week_19 rfl (Nat.le_of_ble_eq_true rfl) rfl ?_
    exact s_sub [1, 0] rfl (s_lp (sg := fun y : Mem × Int32 => y.1) (lvs := fun y : Mem × Int32 => [(0, .ref (vO (VM g) + 0)), (1, .int y.2)]) (fun rec hrec => wbX5_week_20 σ hc   rec hrec) N (σ, (0 : Int32)))
  · refine s_aload_n hz dX5_week_11 rfl 0 rfl ?_
    refine s_ldc hz dX5_week_12 q1224 ?_
    refine s_bind (fun q9 e10 => ?_)
    refine kX5_88 hc (cfX5_finds e10) ⟨(Nat.le_of_ble_eq_true rfl), (Nat.le_of_ble_eq_true rfl)⟩ ⟨(Nat.le_of_ble_eq_true rfl), (Nat.le_of_ble_eq_true rfl)⟩ (Nat.le_of_ble_eq_true rfl) dX5_week_14 ?_
    exact s_iretM hc dX5_week_17 (Nat.le_of_ble_eq_true rfl) (Nat.le_of_ble_eq_true rfl)
theorem cfX5_week {g : Geo} {N : Nat}  {σ : Mem}  {ρ : Int32 × Mem} (hF : fX5_week N σ  = some ρ) (l : Launch) : Ct (VM g) l yX5_week cX5_week 2 (some .int) (rk 45 0 0) [.ref (vO (VM g) + 0)] σ (oI ρ.1) ρ.2 :=
  Ct.of (by decide) (Nat.le_of_ble_eq_true rfl) (fun Θ hc ls hl => wfX5_week σ  hc hF ls hl)
def fX5_told (N : Nat) (σ : Mem) (x1 : Int32) : Option (Int32 × Mem) :=
  if x1 < (0 : Int32) then
  ((fX5_finds N σ (-1000000001 : Int32)).bind (fun q2 => 
  some (q2.1, q2.2)))
  else (if (4095 : Int32) < x1 then
  ((fX5_finds N σ (-1000000001 : Int32)).bind (fun q5 => 
  some (q5.1, q5.2)))
  else (gb (inb x1 4096) (
  if (0 : Int32) ≤ (gI σ 5 (ix x1)) then
  (if (gI σ 1 1) = (40 : Int32) then
  ((fX5_finds N σ (-1000000002 : Int32)).bind (fun q13 => 
  some (q13.1, q13.2)))
  else ((fX5_goes N σ x1).bind (fun q10 => 
  gb (inb (((104 : Int32) + ((8 : Int32) * ((gI q10.2 1 1) - (1 : Int32)))) + (1 : Int32)) 919) (
  some ((gI q10.2 1 (ix (((104 : Int32) + ((8 : Int32) * ((gI q10.2 1 1) - (1 : Int32)))) + (1 : Int32)))), q10.2)))))
  else ((fX5_finds N σ (-1000000001 : Int32)).bind (fun q15 => 
  some (q15.1, q15.2))))))
set_option maxHeartbeats 4000000 in
theorem wfX5_told {Θ : ThT Mem} {g : Geo} {N : Nat}  {ρ : Int32 × Mem} (σ : Mem) (x1 : Int32) (hc : Cx Θ (VM g) cX5_told 2 RX5 (rk 45 0 0) (some .int) [] false (oI ρ.1) ρ.2) : Sim Θ 2 ρ σ (fX5_told N σ x1) (0, 0) 0 [(0, .ref (vO (VM g) + 0)), (1, .int x1)] [] := by
  have hz := hc.z
  unfold fX5_told
  refine s_iload_n hz dX5_told_0 rfl 1 rfl ?_
  refine s_if_lt (tgt := 20) hz dX5_told_1 rfl (fun h1 => ?_) (fun h1 => ?_)
  · refine s_aload_n hz dX5_told_20 rfl 0 rfl ?_
    refine s_ldc hz dX5_told_21 q1203 ?_
    refine s_bind (fun q2 e3 => ?_)
    refine kX5_88 hc (cfX5_finds e3) ⟨(Nat.le_of_ble_eq_true rfl), (Nat.le_of_ble_eq_true rfl)⟩ ⟨(Nat.le_of_ble_eq_true rfl), (Nat.le_of_ble_eq_true rfl)⟩ (Nat.le_of_ble_eq_true rfl) dX5_told_23 ?_
    exact s_iretM hc dX5_told_26 (Nat.le_of_ble_eq_true rfl) (Nat.le_of_ble_eq_true rfl)
  · refine s_iload_n hz dX5_told_4 rfl 1 rfl ?_
    refine s_sipush (v := (4095 : Int32)) hz dX5_told_5 (by decide) ?_
    refine s_icmp_gt (tgt := 20) hz dX5_told_8 rfl (fun h4 => ?_) (fun h4 => ?_)
    · refine s_aload_n hz dX5_told_20 rfl 0 rfl ?_
      refine s_ldc hz dX5_told_21 q1203 ?_
      refine s_bind (fun q5 e6 => ?_)
      refine kX5_88 hc (cfX5_finds e6) ⟨(Nat.le_of_ble_eq_true rfl), (Nat.le_of_ble_eq_true rfl)⟩ ⟨(Nat.le_of_ble_eq_true rfl), (Nat.le_of_ble_eq_true rfl)⟩ (Nat.le_of_ble_eq_true rfl) dX5_told_23 ?_
      exact s_iretM hc dX5_told_26 (Nat.le_of_ble_eq_true rfl) (Nat.le_of_ble_eq_true rfl)
    · refine s_aload_n hz dX5_told_11 rfl 0 rfl ?_
      refine rM_g_placeAt hc dX5_told_12 ?_
      refine s_iload_n hz dX5_told_15 rfl 1 rfl ?_
      refine s_gb (fun h7 => ?_)
      refine rM_ld_5 hc h7 rfl dX5_told_16 ?_
      refine s_if_ge (tgt := 27) hz dX5_told_17 rfl (fun h8 => ?_) (fun h8 => ?_)
      · refine s_aload_n hz dX5_told_27 rfl 0 rfl ?_
        refine rM_g_s hc dX5_told_28 ?_
        refine s_iconst (v := (1 : Int32)) hz dX5_told_31 (by decide) ?_
        refine rM_ld_1 hc (j := 1) (by decide) (by decide) dX5_told_32 ?_
        refine s_bipush (v := (40 : Int32)) hz dX5_told_33 (by decide) ?_
        refine s_icmp_ne (tgt := 45) hz dX5_told_35 rfl (fun h9 => ?_) (fun h9 => ?_)
        · refine s_aload_n hz dX5_told_45 rfl 0 rfl ?_
          refine s_iload_n hz dX5_told_46 rfl 1 rfl ?_
          refine s_bind (fun q10 e11 => ?_)
          refine kX5_219 hc (cfX5_goes e11) ⟨(Nat.le_of_ble_eq_true rfl), (Nat.le_of_ble_eq_true rfl)⟩ ⟨(Nat.le_of_ble_eq_true rfl), (Nat.le_of_ble_eq_true rfl)⟩ (Nat.le_of_ble_eq_true rfl) dX5_told_47 ?_
          refine s_aload_n hz dX5_told_50 rfl 0 rfl ?_
          refine rM_g_s hc dX5_told_51 ?_
          refine s_bipush (v := (104 : Int32)) hz dX5_told_54 (by decide) ?_
          refine s_bipush (v := (8 : Int32)) hz dX5_told_56 (by decide) ?_
          refine s_aload_n hz dX5_told_58 rfl 0 rfl ?_
          refine rM_g_s hc dX5_told_59 ?_
          refine s_iconst (v := (1 : Int32)) hz dX5_told_62 (by decide) ?_
          refine rM_ld_1 hc (j := 1) (by decide) (by decide) dX5_told_63 ?_
          refine s_iconst (v := (1 : Int32)) hz dX5_told_64 (by decide) ?_
          refine s_isub hz dX5_told_65 ?_
          refine s_imul hz dX5_told_66 ?_
          refine s_iadd hz dX5_told_67 ?_
          refine s_iconst (v := (1 : Int32)) hz dX5_told_68 (by decide) ?_
          refine s_iadd hz dX5_told_69 ?_
          refine s_gb (fun h12 => ?_)
          refine rM_ld_1 hc h12 rfl dX5_told_70 ?_
          exact s_iretM hc dX5_told_71 (Nat.le_of_ble_eq_true rfl) (Nat.le_of_ble_eq_true rfl)
        · refine s_aload_n hz dX5_told_38 rfl 0 rfl ?_
          refine s_ldc hz dX5_told_39 q1224 ?_
          refine s_bind (fun q13 e14 => ?_)
          refine kX5_88 hc (cfX5_finds e14) ⟨(Nat.le_of_ble_eq_true rfl), (Nat.le_of_ble_eq_true rfl)⟩ ⟨(Nat.le_of_ble_eq_true rfl), (Nat.le_of_ble_eq_true rfl)⟩ (Nat.le_of_ble_eq_true rfl) dX5_told_41 ?_
          exact s_iretM hc dX5_told_44 (Nat.le_of_ble_eq_true rfl) (Nat.le_of_ble_eq_true rfl)
      · refine s_aload_n hz dX5_told_20 rfl 0 rfl ?_
        refine s_ldc hz dX5_told_21 q1203 ?_
        refine s_bind (fun q15 e16 => ?_)
        refine kX5_88 hc (cfX5_finds e16) ⟨(Nat.le_of_ble_eq_true rfl), (Nat.le_of_ble_eq_true rfl)⟩ ⟨(Nat.le_of_ble_eq_true rfl), (Nat.le_of_ble_eq_true rfl)⟩ (Nat.le_of_ble_eq_true rfl) dX5_told_23 ?_
        exact s_iretM hc dX5_told_26 (Nat.le_of_ble_eq_true rfl) (Nat.le_of_ble_eq_true rfl)
theorem cfX5_told {g : Geo} {N : Nat}  {σ : Mem} {x1 : Int32} {ρ : Int32 × Mem} (hF : fX5_told N σ x1 = some ρ) (l : Launch) : Ct (VM g) l yX5_told cX5_told 2 (some .int) (rk 45 0 0) [.ref (vO (VM g) + 0), .int x1] σ (oI ρ.1) ρ.2 :=
  Ct.of (by decide) (Nat.le_of_ble_eq_true rfl) (fun Θ hc ls hl => wfX5_told σ x1 hc hF ls hl)
def fX5_book (N : Nat) (σ : Mem) (x1 : Int32) (x2 : Int32) : Option (Int32 × Mem) :=
  (fX5_isIn N σ ((x1).toInt64) (0 : Int64) ((((gI σ 1 1) - (1 : Int32))).toInt64)).bind (fun q1 => 
  if q1 = (0 : Int32) then
  ((fX5_finds N σ (-1000000001 : Int32)).bind (fun q4 => 
  some (q4.1, q4.2)))
  else ((fX5_isIn N σ ((x2).toInt64) (0 : Int64) (7 : Int64)).bind (fun q6 => 
  if q6 = (0 : Int32) then
  ((fX5_finds N σ (-1000000001 : Int32)).bind (fun q9 => 
  some (q9.1, q9.2)))
  else (gb (inb (((104 : Int32) + ((8 : Int32) * x1)) + x2) 919) (
  some ((gI σ 1 (ix (((104 : Int32) + ((8 : Int32) * x1)) + x2))), σ))))))
set_option maxHeartbeats 4000000 in
theorem wfX5_book {Θ : ThT Mem} {g : Geo} {N : Nat}  {ρ : Int32 × Mem} (σ : Mem) (x1 : Int32) (x2 : Int32) (hc : Cx Θ (VM g) cX5_book 3 RX5 (rk 2 0 0) (some .int) [] false (oI ρ.1) ρ.2) : Sim Θ 3 ρ σ (fX5_book N σ x1 x2) (0, 0) 0 [(0, .ref (vO (VM g) + 0)), (1, .int x1), (2, .int x2)] [] := by
  have hz := hc.z
  unfold fX5_book
  refine s_iload_n hz dX5_book_0 rfl 1 rfl ?_
  refine s_i2l hz dX5_book_1 ?_
  refine s_lconst (v := (0 : Int64)) hz dX5_book_2 (by decide) ?_
  refine s_aload_n hz dX5_book_3 rfl 0 rfl ?_
  refine rM_g_s hc dX5_book_4 ?_
  refine s_iconst (v := (1 : Int32)) hz dX5_book_7 (by decide) ?_
  refine rM_ld_1 hc (j := 1) (by decide) (by decide) dX5_book_8 ?_
  refine s_iconst (v := (1 : Int32)) hz dX5_book_9 (by decide) ?_
  refine s_isub hz dX5_book_10 ?_
  refine s_i2l hz dX5_book_11 ?_
  refine s_bind (fun q1 e2 => ?_)
  refine kX5_98 hc (cfX5_isIn e2) ⟨(Nat.le_of_ble_eq_true rfl), (Nat.le_of_ble_eq_true rfl)⟩ ⟨(Nat.le_of_ble_eq_true rfl), (Nat.le_of_ble_eq_true rfl)⟩ (Nat.le_of_ble_eq_true rfl) dX5_book_12 ?_
  refine s_if_eq (tgt := 47) hz dX5_book_15 rfl (fun h3 => ?_) (fun h3 => ?_)
  · refine s_aload_n hz dX5_book_47 rfl 0 rfl ?_
    refine s_ldc hz dX5_book_48 q1203 ?_
    refine s_bind (fun q4 e5 => ?_)
    refine kX5_88 hc (cfX5_finds e5) ⟨(Nat.le_of_ble_eq_true rfl), (Nat.le_of_ble_eq_true rfl)⟩ ⟨(Nat.le_of_ble_eq_true rfl), (Nat.le_of_ble_eq_true rfl)⟩ (Nat.le_of_ble_eq_true rfl) dX5_book_50 ?_
    exact s_iretM hc dX5_book_53 (Nat.le_of_ble_eq_true rfl) (Nat.le_of_ble_eq_true rfl)
  · refine s_iload_n hz dX5_book_18 rfl 2 rfl ?_
    refine s_i2l hz dX5_book_19 ?_
    refine s_lconst (v := (0 : Int64)) hz dX5_book_20 (by decide) ?_
    refine s_ldc2 hz dX5_book_21 q1219 ?_
    refine s_bind (fun q6 e7 => ?_)
    refine kX5_98 hc (cfX5_isIn e7) ⟨(Nat.le_of_ble_eq_true rfl), (Nat.le_of_ble_eq_true rfl)⟩ ⟨(Nat.le_of_ble_eq_true rfl), (Nat.le_of_ble_eq_true rfl)⟩ (Nat.le_of_ble_eq_true rfl) dX5_book_24 ?_
    refine s_if_eq (tgt := 47) hz dX5_book_27 rfl (fun h8 => ?_) (fun h8 => ?_)
    · refine s_aload_n hz dX5_book_47 rfl 0 rfl ?_
      refine s_ldc hz dX5_book_48 q1203 ?_
      refine s_bind (fun q9 e10 => ?_)
      refine kX5_88 hc (cfX5_finds e10) ⟨(Nat.le_of_ble_eq_true rfl), (Nat.le_of_ble_eq_true rfl)⟩ ⟨(Nat.le_of_ble_eq_true rfl), (Nat.le_of_ble_eq_true rfl)⟩ (Nat.le_of_ble_eq_true rfl) dX5_book_50 ?_
      exact s_iretM hc dX5_book_53 (Nat.le_of_ble_eq_true rfl) (Nat.le_of_ble_eq_true rfl)
    · refine s_aload_n hz dX5_book_30 rfl 0 rfl ?_
      refine rM_g_s hc dX5_book_31 ?_
      refine s_bipush (v := (104 : Int32)) hz dX5_book_34 (by decide) ?_
      refine s_bipush (v := (8 : Int32)) hz dX5_book_36 (by decide) ?_
      refine s_iload_n hz dX5_book_38 rfl 1 rfl ?_
      refine s_imul hz dX5_book_39 ?_
      refine s_iadd hz dX5_book_40 ?_
      refine s_iload_n hz dX5_book_41 rfl 2 rfl ?_
      refine s_iadd hz dX5_book_42 ?_
      refine s_gb (fun h11 => ?_)
      refine rM_ld_1 hc h11 rfl dX5_book_43 ?_
      refine s_goto (tgt := 53) hz dX5_book_44 rfl ?_
      exact s_iretM hc dX5_book_53 (Nat.le_of_ble_eq_true rfl) (Nat.le_of_ble_eq_true rfl)
theorem cfX5_book {g : Geo} {N : Nat}  {σ : Mem} {x1 : Int32} {x2 : Int32} {ρ : Int32 × Mem} (hF : fX5_book N σ x1 x2 = some ρ) (l : Launch) : Ct (VM g) l yX5_book cX5_book 3 (some .int) (rk 2 0 0) [.ref (vO (VM g) + 0), .int x1, .int x2] σ (oI ρ.1) ρ.2 :=
  Ct.of (by decide) (Nat.le_of_ble_eq_true rfl) (fun Θ hc ls hl => wfX5_book σ x1 x2 hc hF ls hl)
def fX5_now (N : Nat) (σ : Mem)  : Option (Int32 × Mem) :=
  (fX5_potWith N σ (gI σ 1 17)).bind (fun q1 => 
  some (((q1.1).toInt32), q1.2))
set_option maxHeartbeats 4000000 in
theorem wfX5_now {Θ : ThT Mem} {g : Geo} {N : Nat}  {ρ : Int32 × Mem} (σ : Mem)  (hc : Cx Θ (VM g) cX5_now 1 RX5 (rk 44 0 0) (some .int) [] false (oI ρ.1) ρ.2) : Sim Θ 1 ρ σ (fX5_now N σ ) (0, 0) 0 [(0, .ref (vO (VM g) + 0))] [] := by
  have hz := hc.z
  unfold fX5_now
  refine s_aload_n hz dX5_now_0 rfl 0 rfl ?_
  refine s_aload_n hz dX5_now_1 rfl 0 rfl ?_
  refine rM_g_s hc dX5_now_2 ?_
  refine s_bipush (v := (17 : Int32)) hz dX5_now_5 (by decide) ?_
  refine rM_ld_1 hc (j := 17) (by decide) (by decide) dX5_now_7 ?_
  refine s_bind (fun q1 e2 => ?_)
  refine kX5_208 hc (cfX5_potWith e2) ⟨(Nat.le_of_ble_eq_true rfl), (Nat.le_of_ble_eq_true rfl)⟩ ⟨(Nat.le_of_ble_eq_true rfl), (Nat.le_of_ble_eq_true rfl)⟩ (Nat.le_of_ble_eq_true rfl) dX5_now_8 ?_
  refine s_l2i hz dX5_now_11 ?_
  exact s_iretM hc dX5_now_12 (Nat.le_of_ble_eq_true rfl) (Nat.le_of_ble_eq_true rfl)
theorem cfX5_now {g : Geo} {N : Nat}  {σ : Mem}  {ρ : Int32 × Mem} (hF : fX5_now N σ  = some ρ) (l : Launch) : Ct (VM g) l yX5_now cX5_now 1 (some .int) (rk 44 0 0) [.ref (vO (VM g) + 0)] σ (oI ρ.1) ρ.2 :=
  Ct.of (by decide) (Nat.le_of_ble_eq_true rfl) (fun Θ hc ls hl => wfX5_now σ  hc hF ls hl)
def bX5_counts_52 (N : Nat) (σ : Mem) (x1 : Int32) (r19 : (Mem × Int32) → Option (Unit × Mem)) (r52 : (Mem × Int32) → Option (Unit × Mem)) (y52 : Mem × Int32) : Option (Unit × Mem) :=
  if (495 : Int32) ≤ y52.2 then
  (r19 (y52.1, (x1 + (1 : Int32))))
  else (gb (inb y52.2 495) (
  gb (inb x1 495) (
  gb (inb ((gI y52.1 4 (ix y52.2)) &&& (gI y52.1 4 (ix x1))) 4096) (
  lt_ (gI y52.1 6 (ix ((gI y52.1 4 (ix y52.2)) &&& (gI y52.1 4 (ix x1))))) (fun v11 => 
  if v11 ≤ (1 : Int32) then
  (r52 (y52.1, (y52.2 + (1 : Int32))))
  else (gb (inb ((((3 : Int32) * x1) + v11) - (2 : Int32)) 1485) (
  gb (inb y52.2 495) (
  gb (inb ((((3 : Int32) * x1) + v11) - (2 : Int32)) 1485) (
  lt_ (pI y52.1 15 (ix ((((3 : Int32) * x1) + v11) - (2 : Int32))) ((gI y52.1 15 (ix ((((3 : Int32) * x1) + v11) - (2 : Int32)))) + (gI y52.1 13 (ix y52.2)))) (fun σ15 => 
  r52 (σ15, (y52.2 + (1 : Int32)))))))))))))
set_option maxHeartbeats 4000000 in
theorem wbX5_counts_52 {Θ : ThT Mem} {g : Geo} {N : Nat}  {ρ : Unit × Mem} (σ : Mem) (hc : Cx Θ (VM g) cX5_counts 4 RX5 (rk 43 0 0) none [] false (oV) ρ.2) (x1 : Int32) (r19 : (Mem × Int32) → Option (Unit × Mem)) (hr19 : ∀ y : Mem × Int32, Sim Θ 4 ρ (y.1) (r19 y) (0, 0) 19 [(0, .ref (vO (VM g) + 0)), (1, .int y.2)] []) (r52 : (Mem × Int32) → Option (Unit × Mem)) (hr52 : ∀ y : Mem × Int32, Sim Θ 4 ρ (y.1) (r52 y) (0, 0) 52 [(0, .ref (vO (VM g) + 0)), (1, .int x1), (2, .int y.2)] []) : ∀ y52 : Mem × Int32, Sim Θ 4 ρ (y52.1) (bX5_counts_52 N σ x1 r19 r52 y52) (0, 0) 52 [(0, .ref (vO (VM g) + 0)), (1, .int x1), (2, .int y52.2)] [] := by
  intro y52
  have hz := hc.z
  have hr19c : ∀ (z0_ : Mem) (z1_ : Int32), Sim Θ 4 ρ (z0_) (r19 (z0_, z1_)) (0, 0) 19 [(0, .ref (vO (VM g) + 0)), (1, .int z1_)] [] := fun z0_ z1_ => hr19 (z0_, z1_)
  have hr52c : ∀ (z0_ : Mem) (z1_ : Int32), Sim Θ 4 ρ (z0_) (r52 (z0_, z1_)) (0, 0) 52 [(0, .ref (vO (VM g) + 0)), (1, .int x1), (2, .int z1_)] [] := fun z0_ z1_ => hr52 (z0_, z1_)
  unfold bX5_counts_52
  refine s_iload_n hz dX5_counts_52 rfl 2 rfl ?_
  refine s_sipush (v := (495 : Int32)) hz dX5_counts_53 (by decide) ?_
  refine s_icmp_ge (tgt := 110) hz dX5_counts_56 rfl (fun h7 => ?_) (fun h7 => ?_)
  · refine s_iinc (v := (1 : Int32)) (lv' := [(1, .int (x1 + (1 : Int32))), (0, .ref (vO (VM g) + 0)), (2, .int y52.2)]) hz dX5_counts_110 1 rfl (by decide) (Nat.le_of_ble_eq_true rfl) rfl ?_
    refine s_goto (tgt := 19) hz dX5_counts_113 rfl ?_
    exact s_sub [1, 0] rfl (hr19c y52.1 (x1 + (1 : Int32)))
  · refine s_aload_n hz dX5_counts_59 rfl 0 rfl ?_
    refine rM_g_bitsIn hc dX5_counts_60 ?_
    refine s_aload_n hz dX5_counts_63 rfl 0 rfl ?_
    refine rM_g_rowAt hc dX5_counts_64 ?_
    refine s_iload_n hz dX5_counts_67 rfl 2 rfl ?_
    refine s_gb (fun h8 => ?_)
    refine rM_ld_4 hc h8 rfl dX5_counts_68 ?_
    refine s_aload_n hz dX5_counts_69 rfl 0 rfl ?_
    refine rM_g_rowAt hc dX5_counts_70 ?_
    refine s_iload_n hz dX5_counts_73 rfl 1 rfl ?_
    refine s_gb (fun h9 => ?_)
    refine rM_ld_4 hc h9 rfl dX5_counts_74 ?_
    refine s_iand hz dX5_counts_75 ?_
    refine s_gb (fun h10 => ?_)
    refine rM_ld_6 hc h10 rfl dX5_counts_76 ?_
    refine s_nmI (fun v11 => ?_)
    refine s_istore_n (lv' := [(3, .int v11), (0, .ref (vO (VM g) + 0)), (1, .int x1), (2, .int y52.2)]) hz dX5_counts_77 rfl (Nat.le_of_ble_eq_true rfl) rfl ?_
    refine s_iload_n hz dX5_counts_78 rfl 0 rfl ?_
    refine s_iconst (v := (1 : Int32)) hz dX5_counts_79 (by decide) ?_
    refine s_icmp_le (tgt := 104) hz dX5_counts_80 rfl (fun h12 => ?_) (fun h12 => ?_)
    · refine s_iinc (v := (1 : Int32)) (lv' := [(2, .int (y52.2 + (1 : Int32))), (3, .int v11), (0, .ref (vO (VM g) + 0)), (1, .int x1)]) hz dX5_counts_104 3 rfl (by decide) (Nat.le_of_ble_eq_true rfl) rfl ?_
      refine s_goto (tgt := 52) hz dX5_counts_107 rfl ?_
      exact s_sub [2, 3, 0] rfl (hr52c y52.1 (y52.2 + (1 : Int32)))
    · refine s_aload_n hz dX5_counts_83 rfl 1 rfl ?_
      refine rM_g_winners hc dX5_counts_84 ?_
      refine s_iconst (v := (3 : Int32)) hz dX5_counts_87 (by decide) ?_
      refine s_iload_n hz dX5_counts_88 rfl 2 rfl ?_
      refine s_imul hz dX5_counts_89 ?_
      refine s_iload_n hz dX5_counts_90 rfl 0 rfl ?_
      refine s_iadd hz dX5_counts_91 ?_
      refine s_iconst (v := (2 : Int32)) hz dX5_counts_92 (by decide) ?_
      refine s_isub hz dX5_counts_93 ?_
      refine s_dup2 hz dX5_counts_94 rfl rfl ?_
      refine s_gb (fun h13 => ?_)
      refine rM_ld_15 hc h13 rfl dX5_counts_95 ?_
      refine s_aload_n hz dX5_counts_96 rfl 1 rfl ?_
      refine rM_g_all hc dX5_counts_97 ?_
      refine s_iload_n hz dX5_counts_100 rfl 3 rfl ?_
      refine s_gb (fun h14 => ?_)
      refine rM_ld_13 hc h14 rfl dX5_counts_101 ?_
      refine s_iadd hz dX5_counts_102 ?_
      refine s_gb (fun h16 => ?_)
      refine rM_st_15 hc h16 rfl dX5_counts_103 (fun σ15 => ?_)
      refine s_iinc (v := (1 : Int32)) (lv' := [(2, .int (y52.2 + (1 : Int32))), (3, .int v11), (0, .ref (vO (VM g) + 0)), (1, .int x1)]) hz dX5_counts_104 3 rfl (by decide) (Nat.le_of_ble_eq_true rfl) rfl ?_
      refine s_goto (tgt := 52) hz dX5_counts_107 rfl ?_
      exact s_sub [2, 3, 0] rfl (hr52c σ15 (y52.2 + (1 : Int32)))
def bX5_counts_28 (N : Nat) (σ : Mem) (x1 : Int32) (r19 : (Mem × Int32) → Option (Unit × Mem)) (r28 : (Mem × Int32) → Option (Unit × Mem)) (y28 : Mem × Int32) : Option (Unit × Mem) :=
  if (3 : Int32) ≤ y28.2 then
  (lp (bX5_counts_52 N y28.1 x1 r19) N (y28.1, (0 : Int32)))
  else (gb (inb (((3 : Int32) * x1) + y28.2) 1485) (
  lt_ (pI y28.1 15 (ix (((3 : Int32) * x1) + y28.2)) (0 : Int32)) (fun σ17 => 
  r28 (σ17, (y28.2 + (1 : Int32))))))
set_option maxHeartbeats 4000000 in
theorem wbX5_counts_28 {Θ : ThT Mem} {g : Geo} {N : Nat}  {ρ : Unit × Mem} (σ : Mem) (hc : Cx Θ (VM g) cX5_counts 4 RX5 (rk 43 0 0) none [] false (oV) ρ.2) (x1 : Int32) (r19 : (Mem × Int32) → Option (Unit × Mem)) (hr19 : ∀ y : Mem × Int32, Sim Θ 4 ρ (y.1) (r19 y) (0, 0) 19 [(0, .ref (vO (VM g) + 0)), (1, .int y.2)] []) (r28 : (Mem × Int32) → Option (Unit × Mem)) (hr28 : ∀ y : Mem × Int32, Sim Θ 4 ρ (y.1) (r28 y) (0, 0) 28 [(0, .ref (vO (VM g) + 0)), (1, .int x1), (2, .int y.2)] []) : ∀ y28 : Mem × Int32, Sim Θ 4 ρ (y28.1) (bX5_counts_28 N σ x1 r19 r28 y28) (0, 0) 28 [(0, .ref (vO (VM g) + 0)), (1, .int x1), (2, .int y28.2)] [] := by
  intro y28
  have hz := hc.z
  have hr19c : ∀ (z0_ : Mem) (z1_ : Int32), Sim Θ 4 ρ (z0_) (r19 (z0_, z1_)) (0, 0) 19 [(0, .ref (vO (VM g) + 0)), (1, .int z1_)] [] := fun z0_ z1_ => hr19 (z0_, z1_)
  have hr28c : ∀ (z0_ : Mem) (z1_ : Int32), Sim Θ 4 ρ (z0_) (r28 (z0_, z1_)) (0, 0) 28 [(0, .ref (vO (VM g) + 0)), (1, .int x1), (2, .int z1_)] [] := fun z0_ z1_ => hr28 (z0_, z1_)
  unfold bX5_counts_28
  refine s_iload_n hz dX5_counts_28 rfl 2 rfl ?_
  refine s_iconst (v := (3 : Int32)) hz dX5_counts_29 (by decide) ?_
  refine s_icmp_ge (tgt := 50) hz dX5_counts_30 rfl (fun h6 => ?_) (fun h6 => ?_)
  · refine s_iconst (v := (0 : Int32)) hz dX5_counts_50 (by decide) ?_
    refine s_istore_n (lv' := [(2, .int (0 : Int32)), (0, .ref (vO (VM g) + 0)), (1, .int x1)]) hz dX5_counts_51 rfl (Nat.le_of_ble_eq_true rfl) rfl ?_
    exact s_sub [1, 2, 0] rfl (s_lp (sg := fun y : Mem × Int32 => y.1) (lvs := fun y : Mem × Int32 => [(0, .ref (vO (VM g) + 0)), (1, .int x1), (2, .int y.2)]) (fun rec hrec => wbX5_counts_52 y28.1 hc x1 (r19) hr19 rec hrec) N (y28.1, (0 : Int32)))
  · refine s_aload_n hz dX5_counts_33 rfl 0 rfl ?_
    refine rM_g_winners hc dX5_counts_34 ?_
    refine s_iconst (v := (3 : Int32)) hz dX5_counts_37 (by decide) ?_
    refine s_iload_n hz dX5_counts_38 rfl 1 rfl ?_
    refine s_imul hz dX5_counts_39 ?_
    refine s_iload_n hz dX5_counts_40 rfl 2 rfl ?_
    refine s_iadd hz dX5_counts_41 ?_
    refine s_iconst (v := (0 : Int32)) hz dX5_counts_42 (by decide) ?_
    refine s_gb (fun h18 => ?_)
    refine rM_st_15 hc h18 rfl dX5_counts_43 (fun σ17 => ?_)
    refine s_iinc (v := (1 : Int32)) (lv' := [(2, .int (y28.2 + (1 : Int32))), (0, .ref (vO (VM g) + 0)), (1, .int x1)]) hz dX5_counts_44 2 rfl (by decide) (Nat.le_of_ble_eq_true rfl) rfl ?_
    refine s_goto (tgt := 28) hz dX5_counts_47 rfl ?_
    exact s_sub [1, 2, 0] rfl (hr28c σ17 (y28.2 + (1 : Int32)))
def bX5_counts_19 (N : Nat) (σ : Mem)  (r19 : (Mem × Int32) → Option (Unit × Mem)) (y19 : Mem × Int32) : Option (Unit × Mem) :=
  if (495 : Int32) ≤ y19.2 then
  (some ((), y19.1))
  else (lp (bX5_counts_28 N y19.1 y19.2 r19) N (y19.1, (0 : Int32)))
set_option maxHeartbeats 4000000 in
theorem wbX5_counts_19 {Θ : ThT Mem} {g : Geo} {N : Nat}  {ρ : Unit × Mem} (σ : Mem) (hc : Cx Θ (VM g) cX5_counts 4 RX5 (rk 43 0 0) none [] false (oV) ρ.2)  (r19 : (Mem × Int32) → Option (Unit × Mem)) (hr19 : ∀ y : Mem × Int32, Sim Θ 4 ρ (y.1) (r19 y) (0, 0) 19 [(0, .ref (vO (VM g) + 0)), (1, .int y.2)] []) : ∀ y19 : Mem × Int32, Sim Θ 4 ρ (y19.1) (bX5_counts_19 N σ  r19 y19) (0, 0) 19 [(0, .ref (vO (VM g) + 0)), (1, .int y19.2)] [] := by
  intro y19
  have hz := hc.z
  have hr19c : ∀ (z0_ : Mem) (z1_ : Int32), Sim Θ 4 ρ (z0_) (r19 (z0_, z1_)) (0, 0) 19 [(0, .ref (vO (VM g) + 0)), (1, .int z1_)] [] := fun z0_ z1_ => hr19 (z0_, z1_)
  unfold bX5_counts_19
  refine s_iload_n hz dX5_counts_19 rfl 1 rfl ?_
  refine s_sipush (v := (495 : Int32)) hz dX5_counts_20 (by decide) ?_
  refine s_icmp_ge (tgt := 116) hz dX5_counts_23 rfl (fun h5 => ?_) (fun h5 => ?_)
  · exact s_vretM hc dX5_counts_116 (Nat.le_of_ble_eq_true rfl) (Nat.le_of_ble_eq_true rfl)
  · refine s_iconst (v := (0 : Int32)) hz dX5_counts_26 (by decide) ?_
    refine s_istore_n (lv' := [(2, .int (0 : Int32)), (0, .ref (vO (VM g) + 0)), (1, .int y19.2)]) hz dX5_counts_27 rfl (Nat.le_of_ble_eq_true rfl) rfl ?_
    exact s_sub [1, 2, 0] rfl (s_lp (sg := fun y : Mem × Int32 => y.1) (lvs := fun y : Mem × Int32 => [(0, .ref (vO (VM g) + 0)), (1, .int y19.2), (2, .int y.2)]) (fun rec hrec => wbX5_counts_28 y19.1 hc y19.2 (r19) hr19 rec hrec) N (y19.1, (0 : Int32)))
def fX5_counts (N : Nat) (σ : Mem)  : Option (Unit × Mem) :=
  (fX5_works N σ).bind (fun q1 => 
  if (gI q1.2 0 20) = (0 : Int32) then
  (some ((), q1.2))
  else (lt_ (pI q1.2 0 20 (0 : Int32)) (fun σ4 => 
  lp (bX5_counts_19 N σ4) N (σ4, (0 : Int32)))))
set_option maxHeartbeats 4000000 in
theorem wfX5_counts {Θ : ThT Mem} {g : Geo} {N : Nat}  {ρ : Unit × Mem} (σ : Mem)  (hc : Cx Θ (VM g) cX5_counts 4 RX5 (rk 43 0 0) none [] false (oV) ρ.2) : Sim Θ 4 ρ σ (fX5_counts N σ ) (0, 0) 0 [(0, .ref (vO (VM g) + 0))] [] := by
  have hz := hc.z
  unfold fX5_counts
  refine s_aload_n hz dX5_counts_0 rfl 0 rfl ?_
  refine s_bind (fun q1 e2 => ?_)
  refine kX5_198 hc (cfX5_works e2) ⟨(Nat.le_of_ble_eq_true rfl), (Nat.le_of_ble_eq_true rfl)⟩ ⟨(Nat.le_of_ble_eq_true rfl), (Nat.le_of_ble_eq_true rfl)⟩ (Nat.le_of_ble_eq_true rfl) dX5_counts_1 ?_
  refine s_aload_n hz dX5_counts_4 rfl 0 rfl ?_
  refine rM_g_isWinnerNew hc dX5_counts_5 ?_
  refine s_if_ne (tgt := 12) hz dX5_counts_8 rfl (fun h3 => ?_) (fun h3 => ?_)
  · refine s_aload_n hz dX5_counts_12 rfl 0 rfl ?_
    refine s_iconst (v := (0 : Int32)) hz dX5_counts_13 (by decide) ?_
    refine rM_p_isWinnerNew hc rfl rfl dX5_counts_14 (fun σ4 => ?_)
    refine s_iconst (v := (0 : Int32)) hz dX5_counts_17 (by decide) ?_
    refine s_istore_n (lv' := [(1, .int (0 : Int32)), (0, .ref (vO (VM g) + 0))]) hz dX5_counts_18 rfl (Nat.le_of_ble_eq_true rfl) rfl ?_
    exact s_sub [1, 0] rfl (s_lp (sg := fun y : Mem × Int32 => y.1) (lvs := fun y : Mem × Int32 => [(0, .ref (vO (VM g) + 0)), (1, .int y.2)]) (fun rec hrec => wbX5_counts_19 σ4 hc   rec hrec) N (σ4, (0 : Int32)))
  · exact s_vretM hc dX5_counts_11 (Nat.le_of_ble_eq_true rfl) (Nat.le_of_ble_eq_true rfl)
theorem cfX5_counts {g : Geo} {N : Nat}  {σ : Mem}  {ρ : Unit × Mem} (hF : fX5_counts N σ  = some ρ) (l : Launch) : Ct (VM g) l yX5_counts cX5_counts 4 none (rk 43 0 0) [.ref (vO (VM g) + 0)] σ (oV) ρ.2 :=
  Ct.of (by decide) (Nat.le_of_ble_eq_true rfl) (fun Θ hc ls hl => wfX5_counts σ  hc hF ls hl)
def fX5_taxed (N : Nat) (σ : Mem) (x1 : Int64) : Option (Int64) :=
  if x1 ≤ (((gI σ 1 16)).toInt64) then
  (some x1)
  else (some (x1 - (((x1 - (((gI σ 1 16)).toInt64)) * (((gI σ 1 15)).toInt64)) / (100 : Int64))))
set_option maxHeartbeats 4000000 in
theorem wfX5_taxed {Θ : ThT Mem} {g : Geo} {N : Nat}  {ρ : Int64} (σ : Mem) (x1 : Int64) (hc : Cx Θ (VM g) cX5_taxed 3 RX5 (rk 1 0 0) (some .long) [] false (oL ρ) σ) : Sim Θ 3 ρ σ (fX5_taxed N σ x1) (0, 0) 0 [(0, .ref (vO (VM g) + 0)), (1, .long x1)] [] := by
  have hz := hc.z
  unfold fX5_taxed
  refine s_lload_n hz dX5_taxed_0 rfl 1 rfl ?_
  refine s_aload_n hz dX5_taxed_1 rfl 0 rfl ?_
  refine rM_g_s hc dX5_taxed_2 ?_
  refine s_bipush (v := (16 : Int32)) hz dX5_taxed_5 (by decide) ?_
  refine rM_ld_1 hc (j := 16) (by decide) (by decide) dX5_taxed_7 ?_
  refine s_i2l hz dX5_taxed_8 ?_
  refine s_lcmp_le (tgt := 41) hz dX5_taxed_9 dX5_taxed_10 rfl (fun h1 => ?_) (fun h1 => ?_)
  · refine s_lload_n hz dX5_taxed_41 rfl 1 rfl ?_
    exact s_lret hc dX5_taxed_42 (Nat.le_of_ble_eq_true rfl) (Nat.le_of_ble_eq_true rfl)
  · refine s_lload_n hz dX5_taxed_13 rfl 1 rfl ?_
    refine s_lload_n hz dX5_taxed_14 rfl 1 rfl ?_
    refine s_aload_n hz dX5_taxed_15 rfl 0 rfl ?_
    refine rM_g_s hc dX5_taxed_16 ?_
    refine s_bipush (v := (16 : Int32)) hz dX5_taxed_19 (by decide) ?_
    refine rM_ld_1 hc (j := 16) (by decide) (by decide) dX5_taxed_21 ?_
    refine s_i2l hz dX5_taxed_22 ?_
    refine s_lsub hz dX5_taxed_23 ?_
    refine s_aload_n hz dX5_taxed_24 rfl 0 rfl ?_
    refine rM_g_s hc dX5_taxed_25 ?_
    refine s_bipush (v := (15 : Int32)) hz dX5_taxed_28 (by decide) ?_
    refine rM_ld_1 hc (j := 15) (by decide) (by decide) dX5_taxed_30 ?_
    refine s_i2l hz dX5_taxed_31 ?_
    refine s_lmul hz dX5_taxed_32 ?_
    refine s_ldc2 hz dX5_taxed_33 q1380 ?_
    refine s_ldiv hz dX5_taxed_36 (by decide) ?_
    refine s_lsub hz dX5_taxed_37 ?_
    refine s_goto (tgt := 42) hz dX5_taxed_38 rfl ?_
    exact s_lret hc dX5_taxed_42 (Nat.le_of_ble_eq_true rfl) (Nat.le_of_ble_eq_true rfl)
theorem cfX5_taxed {g : Geo} {N : Nat}  {σ : Mem} {x1 : Int64} {ρ : Int64} (hF : fX5_taxed N σ x1 = some ρ) (l : Launch) : Ct (VM g) l yX5_taxed cX5_taxed 3 (some .long) (rk 1 0 0) [.ref (vO (VM g) + 0), .long x1] σ (oL ρ) σ :=
  Ct.of (by decide) (Nat.le_of_ble_eq_true rfl) (fun Θ hc ls hl => wfX5_taxed σ x1 hc hF ls hl)
def bX5_getsAll_10 (N : Nat) (σ : Mem) (x1 : Int32) (x2 : Int64) (r10 : (Int64 × Int32) → Option (Int64 × Mem)) (y10 : Int64 × Int32) : Option (Int64 × Mem) :=
  if (495 : Int32) ≤ y10.2 then
  (some (y10.1, σ))
  else (gb (inb x1 495) (
  gb (inb y10.2 495) (
  (fX5_ones N σ ((gI σ 4 (ix x1)) &&& (gI σ 4 (ix y10.2)))).bind (fun q6 => 
  if q6 ≤ (1 : Int32) then
  (r10 (y10.1, (y10.2 + (1 : Int32))))
  else ((fX5_shareOf N σ x2 q6).bind (fun q9 => 
  gb (inb ((((3 : Int32) * y10.2) + q6) - (2 : Int32)) 1485) (
  gb (nzL ((((gI σ 15 (ix ((((3 : Int32) * y10.2) + q6) - (2 : Int32)))) + (1 : Int32))).toInt64)) (
  (fX5_taxed N σ (q9 / ((((gI σ 15 (ix ((((3 : Int32) * y10.2) + q6) - (2 : Int32)))) + (1 : Int32))).toInt64))).bind (fun q13 => 
  lt_ (y10.1 + q13) (fun v15 => 
  r10 (v15, (y10.2 + (1 : Int32)))))))))))))
set_option maxHeartbeats 4000000 in
theorem wbX5_getsAll_10 {Θ : ThT Mem} {g : Geo} {N : Nat}  {ρ : Int64 × Mem} (σ : Mem) (hc : Cx Θ (VM g) cX5_getsAll 8 RX5 (rk 44 0 0) (some .long) [] false (oL ρ.1) ρ.2) (x1 : Int32) (x2 : Int64) (r10 : (Int64 × Int32) → Option (Int64 × Mem)) (hr10 : ∀ y : Int64 × Int32, Sim Θ 8 ρ (σ) (r10 y) (0, 0) 10 [(0, .ref (vO (VM g) + 0)), (1, .int x1), (2, .long x2), (4, .long y.1), (6, .int y.2)] []) : ∀ y10 : Int64 × Int32, Sim Θ 8 ρ (σ) (bX5_getsAll_10 N σ x1 x2 r10 y10) (0, 0) 10 [(0, .ref (vO (VM g) + 0)), (1, .int x1), (2, .long x2), (4, .long y10.1), (6, .int y10.2)] [] := by
  intro y10
  have hz := hc.z
  have hr10c : ∀ (z0_ : Int64) (z1_ : Int32), Sim Θ 8 ρ (σ) (r10 (z0_, z1_)) (0, 0) 10 [(0, .ref (vO (VM g) + 0)), (1, .int x1), (2, .long x2), (4, .long z0_), (6, .int z1_)] [] := fun z0_ z1_ => hr10 (z0_, z1_)
  unfold bX5_getsAll_10
  refine s_iload hz dX5_getsAll_10 4 rfl ?_
  refine s_sipush (v := (495 : Int32)) hz dX5_getsAll_12 (by decide) ?_
  refine s_icmp_ge (tgt := 84) hz dX5_getsAll_15 rfl (fun h3 => ?_) (fun h3 => ?_)
  · refine s_lload hz dX5_getsAll_84 3 rfl ?_
    exact s_lretM hc dX5_getsAll_86 (Nat.le_of_ble_eq_true rfl) (Nat.le_of_ble_eq_true rfl)
  · refine s_aload_n hz dX5_getsAll_18 rfl 0 rfl ?_
    refine s_aload_n hz dX5_getsAll_19 rfl 0 rfl ?_
    refine rM_g_rowAt hc dX5_getsAll_20 ?_
    refine s_iload_n hz dX5_getsAll_23 rfl 1 rfl ?_
    refine s_gb (fun h4 => ?_)
    refine rM_ld_4 hc h4 rfl dX5_getsAll_24 ?_
    refine s_aload_n hz dX5_getsAll_25 rfl 0 rfl ?_
    refine rM_g_rowAt hc dX5_getsAll_26 ?_
    refine s_iload hz dX5_getsAll_29 4 rfl ?_
    refine s_gb (fun h5 => ?_)
    refine rM_ld_4 hc h5 rfl dX5_getsAll_31 ?_
    refine s_iand hz dX5_getsAll_32 ?_
    refine s_bind (fun q6 e7 => ?_)
    refine kX5_132 hc (cfX5_ones e7) ⟨(Nat.le_of_ble_eq_true rfl), (Nat.le_of_ble_eq_true rfl)⟩ ⟨(Nat.le_of_ble_eq_true rfl), (Nat.le_of_ble_eq_true rfl)⟩ (Nat.le_of_ble_eq_true rfl) dX5_getsAll_33 ?_
    refine s_istore (lv' := [(7, .int q6), (0, .ref (vO (VM g) + 0)), (1, .int x1), (2, .long x2), (4, .long y10.1), (6, .int y10.2)]) hz dX5_getsAll_36 (Nat.le_of_ble_eq_true rfl) rfl ?_
    refine s_iload hz dX5_getsAll_38 0 rfl ?_
    refine s_iconst (v := (1 : Int32)) hz dX5_getsAll_40 (by decide) ?_
    refine s_icmp_le (tgt := 78) hz dX5_getsAll_41 rfl (fun h8 => ?_) (fun h8 => ?_)
    · refine s_iinc (v := (1 : Int32)) (lv' := [(6, .int (y10.2 + (1 : Int32))), (7, .int q6), (0, .ref (vO (VM g) + 0)), (1, .int x1), (2, .long x2), (4, .long y10.1)]) hz dX5_getsAll_78 5 rfl (by decide) (Nat.le_of_ble_eq_true rfl) rfl ?_
      refine s_goto (tgt := 10) hz dX5_getsAll_81 rfl ?_
      exact s_sub [2, 3, 4, 5, 0] rfl (hr10c y10.1 (y10.2 + (1 : Int32)))
    · refine s_lload hz dX5_getsAll_44 4 rfl ?_
      refine s_aload_n hz dX5_getsAll_46 rfl 1 rfl ?_
      refine s_aload_n hz dX5_getsAll_47 rfl 1 rfl ?_
      refine s_lload_n hz dX5_getsAll_48 rfl 3 rfl ?_
      refine s_iload hz dX5_getsAll_49 0 rfl ?_
      refine s_bind (fun q9 e10 => ?_)
      refine kX5_212 hc (cfX5_shareOf e10) ⟨(Nat.le_of_ble_eq_true rfl), (Nat.le_of_ble_eq_true rfl)⟩ ⟨(Nat.le_of_ble_eq_true rfl), (Nat.le_of_ble_eq_true rfl)⟩ (Nat.le_of_ble_eq_true rfl) dX5_getsAll_51 ?_
      refine s_aload_n hz dX5_getsAll_54 rfl 1 rfl ?_
      refine rM_g_winners hc dX5_getsAll_55 ?_
      refine s_iconst (v := (3 : Int32)) hz dX5_getsAll_58 (by decide) ?_
      refine s_iload hz dX5_getsAll_59 5 rfl ?_
      refine s_imul hz dX5_getsAll_61 ?_
      refine s_iload hz dX5_getsAll_62 0 rfl ?_
      refine s_iadd hz dX5_getsAll_64 ?_
      refine s_iconst (v := (2 : Int32)) hz dX5_getsAll_65 (by decide) ?_
      refine s_isub hz dX5_getsAll_66 ?_
      refine s_gb (fun h11 => ?_)
      refine rM_ld_15 hc h11 rfl dX5_getsAll_67 ?_
      refine s_iconst (v := (1 : Int32)) hz dX5_getsAll_68 (by decide) ?_
      refine s_iadd hz dX5_getsAll_69 ?_
      refine s_i2l hz dX5_getsAll_70 ?_
      refine s_gb (fun h12 => ?_)
      refine s_ldiv hz dX5_getsAll_71 (nzL_ne h12) ?_
      refine s_bind (fun q13 e14 => ?_)
      refine kX5_225 hc (cfX5_taxed e14) ⟨(Nat.le_of_ble_eq_true rfl), (Nat.le_of_ble_eq_true rfl)⟩ ⟨(Nat.le_of_ble_eq_true rfl), (Nat.le_of_ble_eq_true rfl)⟩ (Nat.le_of_ble_eq_true rfl) dX5_getsAll_72 ?_
      refine s_ladd hz dX5_getsAll_75 ?_
      refine s_nmL (fun v15 => ?_)
      refine s_lstore (lv' := [(4, .long v15), (7, .int q6), (0, .ref (vO (VM g) + 0)), (1, .int x1), (2, .long x2), (6, .int y10.2)]) hz dX5_getsAll_76 (Nat.le_of_ble_eq_true rfl) rfl ?_
      refine s_iinc (v := (1 : Int32)) (lv' := [(6, .int (y10.2 + (1 : Int32))), (4, .long v15), (7, .int q6), (0, .ref (vO (VM g) + 0)), (1, .int x1), (2, .long x2)]) hz dX5_getsAll_78 5 rfl (by decide) (Nat.le_of_ble_eq_true rfl) rfl ?_
      refine s_goto (tgt := 10) hz dX5_getsAll_81 rfl ?_
      exact s_sub [3, 4, 5, 1, 0] rfl (hr10c v15 (y10.2 + (1 : Int32)))
def fX5_getsAll (N : Nat) (σ : Mem) (x1 : Int32) (x2 : Int64) : Option (Int64 × Mem) :=
  (fX5_counts N σ).bind (fun q1 => 
  lp (bX5_getsAll_10 N q1.2 x1 x2) N ((0 : Int64), (0 : Int32)))
set_option maxHeartbeats 4000000 in
theorem wfX5_getsAll {Θ : ThT Mem} {g : Geo} {N : Nat}  {ρ : Int64 × Mem} (σ : Mem) (x1 : Int32) (x2 : Int64) (hc : Cx Θ (VM g) cX5_getsAll 8 RX5 (rk 44 0 0) (some .long) [] false (oL ρ.1) ρ.2) : Sim Θ 8 ρ σ (fX5_getsAll N σ x1 x2) (0, 0) 0 [(0, .ref (vO (VM g) + 0)), (1, .int x1), (2, .long x2)] [] := by
  have hz := hc.z
  unfold fX5_getsAll
  refine s_aload_n hz dX5_getsAll_0 rfl 0 rfl ?_
  refine s_bind (fun q1 e2 => ?_)
  refine kX5_222 hc (cfX5_counts e2) ⟨(Nat.le_of_ble_eq_true rfl), (Nat.le_of_ble_eq_true rfl)⟩ ⟨(Nat.le_of_ble_eq_true rfl), (Nat.le_of_ble_eq_true rfl)⟩ (Nat.le_of_ble_eq_true rfl) dX5_getsAll_1 ?_
  refine s_lconst (v := (0 : Int64)) hz dX5_getsAll_4 (by decide) ?_
  refine s_lstore (lv' := [(4, .long (0 : Int64)), (0, .ref (vO (VM g) + 0)), (1, .int x1), (2, .long x2)]) hz dX5_getsAll_5 (Nat.le_of_ble_eq_true rfl) rfl ?_
  refine s_iconst (v := (0 : Int32)) hz dX5_getsAll_7 (by decide) ?_
  refine s_istore (lv' := [(6, .int (0 : Int32)), (4, .long (0 : Int64)), (0, .ref (vO (VM g) + 0)), (1, .int x1), (2, .long x2)]) hz dX5_getsAll_8 (Nat.le_of_ble_eq_true rfl) rfl ?_
  exact s_sub [2, 3, 4, 1, 0] rfl (s_lp (sg := fun y : Int64 × Int32 => q1.2) (lvs := fun y : Int64 × Int32 => [(0, .ref (vO (VM g) + 0)), (1, .int x1), (2, .long x2), (4, .long y.1), (6, .int y.2)]) (fun rec hrec => wbX5_getsAll_10 q1.2 hc x1 x2  rec hrec) N ((0 : Int64), (0 : Int32)))
theorem cfX5_getsAll {g : Geo} {N : Nat}  {σ : Mem} {x1 : Int32} {x2 : Int64} {ρ : Int64 × Mem} (hF : fX5_getsAll N σ x1 x2 = some ρ) (l : Launch) : Ct (VM g) l yX5_getsAll cX5_getsAll 8 (some .long) (rk 44 0 0) [.ref (vO (VM g) + 0), .int x1, .long x2] σ (oL ρ.1) ρ.2 :=
  Ct.of (by decide) (Nat.le_of_ble_eq_true rfl) (fun Θ hc ls hl => wfX5_getsAll σ x1 x2 hc hF ls hl)
def fX5_worthOf (N : Nat) (σ : Mem) (x1 : Int32) (x2 : Int64) : Option (Int32 × Mem) :=
  (fX5_getsAll N σ x1 x2).bind (fun q1 => 
  some ((((q1.1 / (495 : Int64))).toInt32), q1.2))
set_option maxHeartbeats 4000000 in
theorem wfX5_worthOf {Θ : ThT Mem} {g : Geo} {N : Nat}  {ρ : Int32 × Mem} (σ : Mem) (x1 : Int32) (x2 : Int64) (hc : Cx Θ (VM g) cX5_worthOf 4 RX5 (rk 45 0 0) (some .int) [] false (oI ρ.1) ρ.2) : Sim Θ 4 ρ σ (fX5_worthOf N σ x1 x2) (0, 0) 0 [(0, .ref (vO (VM g) + 0)), (1, .int x1), (2, .long x2)] [] := by
  have hz := hc.z
  unfold fX5_worthOf
  refine s_aload_n hz dX5_worthOf_0 rfl 0 rfl ?_
  refine s_iload_n hz dX5_worthOf_1 rfl 1 rfl ?_
  refine s_lload_n hz dX5_worthOf_2 rfl 2 rfl ?_
  refine s_bind (fun q1 e2 => ?_)
  refine kX5_229 hc (cfX5_getsAll e2) ⟨(Nat.le_of_ble_eq_true rfl), (Nat.le_of_ble_eq_true rfl)⟩ ⟨(Nat.le_of_ble_eq_true rfl), (Nat.le_of_ble_eq_true rfl)⟩ (Nat.le_of_ble_eq_true rfl) dX5_worthOf_3 ?_
  refine s_ldc2 hz dX5_worthOf_6 q1418 ?_
  refine s_ldiv hz dX5_worthOf_9 (by decide) ?_
  refine s_l2i hz dX5_worthOf_10 ?_
  exact s_iretM hc dX5_worthOf_11 (Nat.le_of_ble_eq_true rfl) (Nat.le_of_ble_eq_true rfl)
theorem cfX5_worthOf {g : Geo} {N : Nat}  {σ : Mem} {x1 : Int32} {x2 : Int64} {ρ : Int32 × Mem} (hF : fX5_worthOf N σ x1 x2 = some ρ) (l : Launch) : Ct (VM g) l yX5_worthOf cX5_worthOf 4 (some .int) (rk 45 0 0) [.ref (vO (VM g) + 0), .int x1, .long x2] σ (oI ρ.1) ρ.2 :=
  Ct.of (by decide) (Nat.le_of_ble_eq_true rfl) (fun Θ hc ls hl => wfX5_worthOf σ x1 x2 hc hF ls hl)
def fX5_worth (N : Nat) (σ : Mem) (x1 : Int32) : Option (Int32 × Mem) :=
  (fX5_isPlace N σ x1).bind (fun q1 => 
  if q1 = (0 : Int32) then
  ((fX5_finds N σ (-1000000001 : Int32)).bind (fun q4 => 
  some (q4.1, q4.2)))
  else ((fX5_potWith N σ (gI σ 1 17)).bind (fun q6 => 
  (fX5_worthOf N q6.2 x1 q6.1).bind (fun q8 => 
  some (q8.1, q8.2)))))
set_option maxHeartbeats 4000000 in
theorem wfX5_worth {Θ : ThT Mem} {g : Geo} {N : Nat}  {ρ : Int32 × Mem} (σ : Mem) (x1 : Int32) (hc : Cx Θ (VM g) cX5_worth 2 RX5 (rk 46 0 0) (some .int) [] false (oI ρ.1) ρ.2) : Sim Θ 2 ρ σ (fX5_worth N σ x1) (0, 0) 0 [(0, .ref (vO (VM g) + 0)), (1, .int x1)] [] := by
  have hz := hc.z
  unfold fX5_worth
  refine s_iload_n hz dX5_worth_0 rfl 1 rfl ?_
  refine s_bind (fun q1 e2 => ?_)
  refine kX5_92 hc (cfX5_isPlace e2) ⟨(Nat.le_of_ble_eq_true rfl), (Nat.le_of_ble_eq_true rfl)⟩ ⟨(Nat.le_of_ble_eq_true rfl), (Nat.le_of_ble_eq_true rfl)⟩ (Nat.le_of_ble_eq_true rfl) dX5_worth_1 ?_
  refine s_if_eq (tgt := 26) hz dX5_worth_4 rfl (fun h3 => ?_) (fun h3 => ?_)
  · refine s_aload_n hz dX5_worth_26 rfl 0 rfl ?_
    refine s_ldc hz dX5_worth_27 q1203 ?_
    refine s_bind (fun q4 e5 => ?_)
    refine kX5_88 hc (cfX5_finds e5) ⟨(Nat.le_of_ble_eq_true rfl), (Nat.le_of_ble_eq_true rfl)⟩ ⟨(Nat.le_of_ble_eq_true rfl), (Nat.le_of_ble_eq_true rfl)⟩ (Nat.le_of_ble_eq_true rfl) dX5_worth_29 ?_
    exact s_iretM hc dX5_worth_32 (Nat.le_of_ble_eq_true rfl) (Nat.le_of_ble_eq_true rfl)
  · refine s_aload_n hz dX5_worth_7 rfl 0 rfl ?_
    refine s_iload_n hz dX5_worth_8 rfl 1 rfl ?_
    refine s_aload_n hz dX5_worth_9 rfl 0 rfl ?_
    refine s_aload_n hz dX5_worth_10 rfl 0 rfl ?_
    refine rM_g_s hc dX5_worth_11 ?_
    refine s_bipush (v := (17 : Int32)) hz dX5_worth_14 (by decide) ?_
    refine rM_ld_1 hc (j := 17) (by decide) (by decide) dX5_worth_16 ?_
    refine s_bind (fun q6 e7 => ?_)
    refine kX5_208 hc (cfX5_potWith e7) ⟨(Nat.le_of_ble_eq_true rfl), (Nat.le_of_ble_eq_true rfl)⟩ ⟨(Nat.le_of_ble_eq_true rfl), (Nat.le_of_ble_eq_true rfl)⟩ (Nat.le_of_ble_eq_true rfl) dX5_worth_17 ?_
    refine s_bind (fun q8 e9 => ?_)
    refine kX5_235 hc (cfX5_worthOf e9) ⟨(Nat.le_of_ble_eq_true rfl), (Nat.le_of_ble_eq_true rfl)⟩ ⟨(Nat.le_of_ble_eq_true rfl), (Nat.le_of_ble_eq_true rfl)⟩ (Nat.le_of_ble_eq_true rfl) dX5_worth_20 ?_
    refine s_goto (tgt := 32) hz dX5_worth_23 rfl ?_
    exact s_iretM hc dX5_worth_32 (Nat.le_of_ble_eq_true rfl) (Nat.le_of_ble_eq_true rfl)
theorem cfX5_worth {g : Geo} {N : Nat}  {σ : Mem} {x1 : Int32} {ρ : Int32 × Mem} (hF : fX5_worth N σ x1 = some ρ) (l : Launch) : Ct (VM g) l yX5_worth cX5_worth 2 (some .int) (rk 46 0 0) [.ref (vO (VM g) + 0), .int x1] σ (oI ρ.1) ρ.2 :=
  Ct.of (by decide) (Nat.le_of_ble_eq_true rfl) (fun Θ hc ls hl => wfX5_worth σ x1 hc hF ls hl)
def bX5_best_43 (N : Nat) (σ : Mem) (x1 : Int32) (x2 : Int64) (r43 : (Mem × Int32 × Int32 × Int32) → Option (Int32 × Mem)) (y43 : Mem × Int32 × Int32 × Int32) : Option (Int32 × Mem) :=
  if (495 : Int32) ≤ y43.2.2.2 then
  (some ((if x1 = (0 : Int32) then y43.2.1 else y43.2.2.1), y43.1))
  else ((fX5_worthOf N y43.1 y43.2.2.2 x2).bind (fun q11 => 
  lt_ (if q11.1 ≤ y43.2.2.1 then y43.2.1 else y43.2.2.2) (fun v13 => 
  lt_ (if q11.1 ≤ y43.2.2.1 then y43.2.2.1 else q11.1) (fun v14 => 
  r43 (q11.2, v13, v14, (y43.2.2.2 + (1 : Int32)))))))
set_option maxHeartbeats 4000000 in
theorem wbX5_best_43 {Θ : ThT Mem} {g : Geo} {N : Nat}  {ρ : Int32 × Mem} (σ : Mem) (hc : Cx Θ (VM g) cX5_best 8 RX5 (rk 46 0 0) (some .int) [] false (oI ρ.1) ρ.2) (x1 : Int32) (x2 : Int64) (r43 : (Mem × Int32 × Int32 × Int32) → Option (Int32 × Mem)) (hr43 : ∀ y : Mem × Int32 × Int32 × Int32, Sim Θ 8 ρ (y.1) (r43 y) (0, 0) 43 [(0, .ref (vO (VM g) + 0)), (1, .int x1), (2, .long x2), (4, .int y.2.1), (5, .int y.2.2.1), (6, .int y.2.2.2)] []) : ∀ y43 : Mem × Int32 × Int32 × Int32, Sim Θ 8 ρ (y43.1) (bX5_best_43 N σ x1 x2 r43 y43) (0, 0) 43 [(0, .ref (vO (VM g) + 0)), (1, .int x1), (2, .long x2), (4, .int y43.2.1), (5, .int y43.2.2.1), (6, .int y43.2.2.2)] [] := by
  intro y43
  have hz := hc.z
  have hr43c : ∀ (z0_ : Mem) (z1_ : Int32) (z2_ : Int32) (z3_ : Int32), Sim Θ 8 ρ (z0_) (r43 (z0_, z1_, z2_, z3_)) (0, 0) 43 [(0, .ref (vO (VM g) + 0)), (1, .int x1), (2, .long x2), (4, .int z1_), (5, .int z2_), (6, .int z3_)] [] := fun z0_ z1_ z2_ z3_ => hr43 (z0_, z1_, z2_, z3_)
  unfold bX5_best_43
  refine s_iload hz dX5_best_43 5 rfl ?_
  refine s_sipush (v := (495 : Int32)) hz dX5_best_45 (by decide) ?_
  refine s_icmp_ge (tgt := 98) hz dX5_best_48 rfl (fun h8 => ?_) (fun h8 => ?_)
  · refine s_iload_n hz dX5_best_98 rfl 1 rfl ?_
    refine s_dia (J := 109) (v := .int (if x1 = (0 : Int32) then y43.2.1 else y43.2.2.1)) (st := []) (fun _ hj9 => ?_) ?_
    · refine s_if_ne_ (tgt := 107) hz dX5_best_99 rfl (fun h10 => ?_) (fun h10 => ?_)
      · refine s_iload hz dX5_best_107 4 rfl ?_
        rw [if_neg h10] at hj9
        exact hj9
      · refine s_iload hz dX5_best_102 3 rfl ?_
        refine s_goto (tgt := 109) hz dX5_best_104 rfl ?_
        rw [if_pos h10] at hj9
        exact hj9
    exact s_iretM hc dX5_best_109 (Nat.le_of_ble_eq_true rfl) (Nat.le_of_ble_eq_true rfl)
  · refine s_aload_n hz dX5_best_51 rfl 0 rfl ?_
    refine s_iload hz dX5_best_52 5 rfl ?_
    refine s_lload_n hz dX5_best_54 rfl 2 rfl ?_
    refine s_bind (fun q11 e12 => ?_)
    refine kX5_235 hc (cfX5_worthOf e12) ⟨(Nat.le_of_ble_eq_true rfl), (Nat.le_of_ble_eq_true rfl)⟩ ⟨(Nat.le_of_ble_eq_true rfl), (Nat.le_of_ble_eq_true rfl)⟩ (Nat.le_of_ble_eq_true rfl) dX5_best_55 ?_
    refine s_istore (lv' := [(7, .int q11.1), (0, .ref (vO (VM g) + 0)), (1, .int x1), (2, .long x2), (4, .int y43.2.1), (5, .int y43.2.2.1), (6, .int y43.2.2.2)]) hz dX5_best_58 (Nat.le_of_ble_eq_true rfl) rfl ?_
    refine s_iload hz dX5_best_60 0 rfl ?_
    refine s_iload hz dX5_best_62 5 rfl ?_
    refine s_dia (J := 74) (v := .int (if q11.1 ≤ y43.2.2.1 then y43.2.1 else y43.2.2.2)) (st := []) (fun _ hj17 => ?_) ?_
    · refine s_icmp_le_ (tgt := 72) hz dX5_best_64 rfl (fun h18 => ?_) (fun h18 => ?_)
      · refine s_iload hz dX5_best_72 4 rfl ?_
        rw [if_pos h18] at hj17
        exact hj17
      · refine s_iload hz dX5_best_67 6 rfl ?_
        refine s_goto (tgt := 74) hz dX5_best_69 rfl ?_
        rw [if_neg h18] at hj17
        exact hj17
    refine s_nmI (fun v13 => ?_)
    refine s_istore (lv' := [(4, .int v13), (7, .int q11.1), (0, .ref (vO (VM g) + 0)), (1, .int x1), (2, .long x2), (5, .int y43.2.2.1), (6, .int y43.2.2.2)]) hz dX5_best_74 (Nat.le_of_ble_eq_true rfl) rfl ?_
    refine s_iload hz dX5_best_76 1 rfl ?_
    refine s_iload hz dX5_best_78 5 rfl ?_
    refine s_dia (J := 90) (v := .int (if q11.1 ≤ y43.2.2.1 then y43.2.2.1 else q11.1)) (st := []) (fun _ hj15 => ?_) ?_
    · refine s_icmp_le_ (tgt := 88) hz dX5_best_80 rfl (fun h16 => ?_) (fun h16 => ?_)
      · refine s_iload hz dX5_best_88 5 rfl ?_
        rw [if_pos h16] at hj15
        exact hj15
      · refine s_iload hz dX5_best_83 1 rfl ?_
        refine s_goto (tgt := 90) hz dX5_best_85 rfl ?_
        rw [if_neg h16] at hj15
        exact hj15
    refine s_nmI (fun v14 => ?_)
    refine s_istore (lv' := [(5, .int v14), (4, .int v13), (7, .int q11.1), (0, .ref (vO (VM g) + 0)), (1, .int x1), (2, .long x2), (6, .int y43.2.2.2)]) hz dX5_best_90 (Nat.le_of_ble_eq_true rfl) rfl ?_
    refine s_iinc (v := (1 : Int32)) (lv' := [(6, .int (y43.2.2.2 + (1 : Int32))), (5, .int v14), (4, .int v13), (7, .int q11.1), (0, .ref (vO (VM g) + 0)), (1, .int x1), (2, .long x2)]) hz dX5_best_92 6 rfl (by decide) (Nat.le_of_ble_eq_true rfl) rfl ?_
    refine s_goto (tgt := 43) hz dX5_best_95 rfl ?_
    exact s_sub [4, 5, 6, 2, 1, 0] rfl (hr43c q11.2 v13 v14 (y43.2.2.2 + (1 : Int32)))
def fX5_best (N : Nat) (σ : Mem) (x1 : Int32) : Option (Int32 × Mem) :=
  (fX5_isIn N σ ((x1).toInt64) (0 : Int64) (1 : Int64)).bind (fun q1 => 
  if q1 = (0 : Int32) then
  ((fX5_finds N σ (-1000000001 : Int32)).bind (fun q19 => 
  some (q19.1, q19.2)))
  else ((fX5_potWith N σ (gI σ 1 17)).bind (fun q4 => 
  (fX5_worthOf N q4.2 (0 : Int32) q4.1).bind (fun q6 => 
  lp (bX5_best_43 N q6.2 x1 q4.1) N (q6.2, (0 : Int32), q6.1, (1 : Int32))))))
set_option maxHeartbeats 4000000 in
theorem wfX5_best {Θ : ThT Mem} {g : Geo} {N : Nat}  {ρ : Int32 × Mem} (σ : Mem) (x1 : Int32) (hc : Cx Θ (VM g) cX5_best 8 RX5 (rk 46 0 0) (some .int) [] false (oI ρ.1) ρ.2) : Sim Θ 8 ρ σ (fX5_best N σ x1) (0, 0) 0 [(0, .ref (vO (VM g) + 0)), (1, .int x1)] [] := by
  have hz := hc.z
  unfold fX5_best
  refine s_iload_n hz dX5_best_0 rfl 1 rfl ?_
  refine s_i2l hz dX5_best_1 ?_
  refine s_lconst (v := (0 : Int64)) hz dX5_best_2 (by decide) ?_
  refine s_lconst (v := (1 : Int64)) hz dX5_best_3 (by decide) ?_
  refine s_bind (fun q1 e2 => ?_)
  refine kX5_98 hc (cfX5_isIn e2) ⟨(Nat.le_of_ble_eq_true rfl), (Nat.le_of_ble_eq_true rfl)⟩ ⟨(Nat.le_of_ble_eq_true rfl), (Nat.le_of_ble_eq_true rfl)⟩ (Nat.le_of_ble_eq_true rfl) dX5_best_4 ?_
  refine s_if_ne (tgt := 17) hz dX5_best_7 rfl (fun h3 => ?_) (fun h3 => ?_)
  · refine s_aload_n hz dX5_best_17 rfl 0 rfl ?_
    refine s_aload_n hz dX5_best_18 rfl 0 rfl ?_
    refine rM_g_s hc dX5_best_19 ?_
    refine s_bipush (v := (17 : Int32)) hz dX5_best_22 (by decide) ?_
    refine rM_ld_1 hc (j := 17) (by decide) (by decide) dX5_best_24 ?_
    refine s_bind (fun q4 e5 => ?_)
    refine kX5_208 hc (cfX5_potWith e5) ⟨(Nat.le_of_ble_eq_true rfl), (Nat.le_of_ble_eq_true rfl)⟩ ⟨(Nat.le_of_ble_eq_true rfl), (Nat.le_of_ble_eq_true rfl)⟩ (Nat.le_of_ble_eq_true rfl) dX5_best_25 ?_
    refine s_lstore_n (lv' := [(2, .long q4.1), (0, .ref (vO (VM g) + 0)), (1, .int x1)]) hz dX5_best_28 rfl (Nat.le_of_ble_eq_true rfl) rfl ?_
    refine s_iconst (v := (0 : Int32)) hz dX5_best_29 (by decide) ?_
    refine s_istore (lv' := [(4, .int (0 : Int32)), (2, .long q4.1), (0, .ref (vO (VM g) + 0)), (1, .int x1)]) hz dX5_best_30 (Nat.le_of_ble_eq_true rfl) rfl ?_
    refine s_aload_n hz dX5_best_32 rfl 2 rfl ?_
    refine s_iconst (v := (0 : Int32)) hz dX5_best_33 (by decide) ?_
    refine s_lload_n hz dX5_best_34 rfl 1 rfl ?_
    refine s_bind (fun q6 e7 => ?_)
    refine kX5_235 hc (cfX5_worthOf e7) ⟨(Nat.le_of_ble_eq_true rfl), (Nat.le_of_ble_eq_true rfl)⟩ ⟨(Nat.le_of_ble_eq_true rfl), (Nat.le_of_ble_eq_true rfl)⟩ (Nat.le_of_ble_eq_true rfl) dX5_best_35 ?_
    refine s_istore (lv' := [(5, .int q6.1), (4, .int (0 : Int32)), (2, .long q4.1), (0, .ref (vO (VM g) + 0)), (1, .int x1)]) hz dX5_best_38 (Nat.le_of_ble_eq_true rfl) rfl ?_
    refine s_iconst (v := (1 : Int32)) hz dX5_best_40 (by decide) ?_
    refine s_istore (lv' := [(6, .int (1 : Int32)), (5, .int q6.1), (4, .int (0 : Int32)), (2, .long q4.1), (0, .ref (vO (VM g) + 0)), (1, .int x1)]) hz dX5_best_41 (Nat.le_of_ble_eq_true rfl) rfl ?_
    exact s_sub [4, 5, 3, 2, 1, 0] rfl (s_lp (sg := fun y : Mem × Int32 × Int32 × Int32 => y.1) (lvs := fun y : Mem × Int32 × Int32 × Int32 => [(0, .ref (vO (VM g) + 0)), (1, .int x1), (2, .long q4.1), (4, .int y.2.1), (5, .int y.2.2.1), (6, .int y.2.2.2)]) (fun rec hrec => wbX5_best_43 q6.2 hc x1 q4.1  rec hrec) N (q6.2, (0 : Int32), q6.1, (1 : Int32)))
  · refine s_aload_n hz dX5_best_10 rfl 0 rfl ?_
    refine s_ldc hz dX5_best_11 q1203 ?_
    refine s_bind (fun q19 e20 => ?_)
    refine kX5_88 hc (cfX5_finds e20) ⟨(Nat.le_of_ble_eq_true rfl), (Nat.le_of_ble_eq_true rfl)⟩ ⟨(Nat.le_of_ble_eq_true rfl), (Nat.le_of_ble_eq_true rfl)⟩ (Nat.le_of_ble_eq_true rfl) dX5_best_13 ?_
    exact s_iretM hc dX5_best_16 (Nat.le_of_ble_eq_true rfl) (Nat.le_of_ble_eq_true rfl)
theorem cfX5_best {g : Geo} {N : Nat}  {σ : Mem} {x1 : Int32} {ρ : Int32 × Mem} (hF : fX5_best N σ x1 = some ρ) (l : Launch) : Ct (VM g) l yX5_best cX5_best 8 (some .int) (rk 46 0 0) [.ref (vO (VM g) + 0), .int x1] σ (oI ρ.1) ρ.2 :=
  Ct.of (by decide) (Nat.le_of_ble_eq_true rfl) (fun Θ hc ls hl => wfX5_best σ x1 hc hF ls hl)
def bX5_alone_28 (N : Nat) (σ : Mem) (x1 : Int32) (r28 : (Int32 × Int32 × Int32) → Option (Int32 × Mem)) (y28 : Int32 × Int32 × Int32) : Option (Int32 × Mem) :=
  if (495 : Int32) ≤ y28.2.2 then
  (if x1 = (0 : Int32) then
  (some (y28.1, σ))
  else (if (0 : Int32) ≤ y28.2.1 then
  (some (y28.2.1, σ))
  else ((fX5_finds N σ (-1000000004 : Int32)).bind (fun q9 => 
  some (q9.1, q9.2)))))
  else (gb (inb y28.2.2 495) (
  lt_ (if (gI σ 13 (ix y28.2.2)) = (0 : Int32) then (if (0 : Int32) ≤ y28.2.1 then y28.2.1 else y28.2.2) else y28.2.1) (fun v12 => 
  gb (inb y28.2.2 495) (
  lt_ (y28.1 + (if (gI σ 13 (ix y28.2.2)) = (0 : Int32) then (1 : Int32) else (0 : Int32))) (fun v14 => 
  r28 (v14, v12, (y28.2.2 + (1 : Int32))))))))
set_option maxHeartbeats 4000000 in
theorem wbX5_alone_28 {Θ : ThT Mem} {g : Geo} {N : Nat}  {ρ : Int32 × Mem} (σ : Mem) (hc : Cx Θ (VM g) cX5_alone 5 RX5 (rk 43 0 0) (some .int) [] false (oI ρ.1) ρ.2) (x1 : Int32) (r28 : (Int32 × Int32 × Int32) → Option (Int32 × Mem)) (hr28 : ∀ y : Int32 × Int32 × Int32, Sim Θ 5 ρ (σ) (r28 y) (0, 0) 28 [(0, .ref (vO (VM g) + 0)), (1, .int x1), (2, .int y.1), (3, .int y.2.1), (4, .int y.2.2)] []) : ∀ y28 : Int32 × Int32 × Int32, Sim Θ 5 ρ (σ) (bX5_alone_28 N σ x1 r28 y28) (0, 0) 28 [(0, .ref (vO (VM g) + 0)), (1, .int x1), (2, .int y28.1), (3, .int y28.2.1), (4, .int y28.2.2)] [] := by
  intro y28
  have hz := hc.z
  have hr28c : ∀ (z0_ : Int32) (z1_ : Int32) (z2_ : Int32), Sim Θ 5 ρ (σ) (r28 (z0_, z1_, z2_)) (0, 0) 28 [(0, .ref (vO (VM g) + 0)), (1, .int x1), (2, .int z0_), (3, .int z1_), (4, .int z2_)] [] := fun z0_ z1_ z2_ => hr28 (z0_, z1_, z2_)
  unfold bX5_alone_28
  refine s_iload hz dX5_alone_28 4 rfl ?_
  refine s_sipush (v := (495 : Int32)) hz dX5_alone_30 (by decide) ?_
  refine s_icmp_ge (tgt := 81) hz dX5_alone_33 rfl (fun h6 => ?_) (fun h6 => ?_)
  · refine s_iload_n hz dX5_alone_81 rfl 1 rfl ?_
    refine s_if_ne (tgt := 89) hz dX5_alone_82 rfl (fun h7 => ?_) (fun h7 => ?_)
    · refine s_iload_n hz dX5_alone_89 rfl 3 rfl ?_
      refine s_if_ge (tgt := 102) hz dX5_alone_90 rfl (fun h8 => ?_) (fun h8 => ?_)
      · refine s_iload_n hz dX5_alone_102 rfl 3 rfl ?_
        exact s_iretM hc dX5_alone_103 (Nat.le_of_ble_eq_true rfl) (Nat.le_of_ble_eq_true rfl)
      · refine s_aload_n hz dX5_alone_93 rfl 0 rfl ?_
        refine s_ldc hz dX5_alone_94 q1427 ?_
        refine s_bind (fun q9 e10 => ?_)
        refine kX5_88 hc (cfX5_finds e10) ⟨(Nat.le_of_ble_eq_true rfl), (Nat.le_of_ble_eq_true rfl)⟩ ⟨(Nat.le_of_ble_eq_true rfl), (Nat.le_of_ble_eq_true rfl)⟩ (Nat.le_of_ble_eq_true rfl) dX5_alone_96 ?_
        refine s_goto (tgt := 103) hz dX5_alone_99 rfl ?_
        exact s_iretM hc dX5_alone_103 (Nat.le_of_ble_eq_true rfl) (Nat.le_of_ble_eq_true rfl)
    · refine s_iload_n hz dX5_alone_85 rfl 2 rfl ?_
      refine s_goto (tgt := 103) hz dX5_alone_86 rfl ?_
      exact s_iretM hc dX5_alone_103 (Nat.le_of_ble_eq_true rfl) (Nat.le_of_ble_eq_true rfl)
  · refine s_aload_n hz dX5_alone_36 rfl 0 rfl ?_
    refine rM_g_all hc dX5_alone_37 ?_
    refine s_iload hz dX5_alone_40 4 rfl ?_
    refine s_gb (fun h11 => ?_)
    refine rM_ld_13 hc h11 rfl dX5_alone_42 ?_
    refine s_dia (J := 56) (v := .int (if (gI σ 13 (ix y28.2.2)) = (0 : Int32) then (if (0 : Int32) ≤ y28.2.1 then y28.2.1 else y28.2.2) else y28.2.1)) (st := []) (fun _ hj17 => ?_) ?_
    · refine s_if_ne_ (tgt := 55) hz dX5_alone_43 rfl (fun h18 => ?_) (fun h18 => ?_)
      · refine s_iload_n hz dX5_alone_55 rfl 3 rfl ?_
        rw [if_neg h18] at hj17
        exact hj17
      · refine s_iload_n hz dX5_alone_46 rfl 3 rfl ?_
        refine s_if_ge_ (tgt := 55) hz dX5_alone_47 rfl (fun h19 => ?_) (fun h19 => ?_)
        · refine s_iload_n hz dX5_alone_55 rfl 3 rfl ?_
          rw [if_pos h18, if_pos h19] at hj17
          exact hj17
        · refine s_iload hz dX5_alone_50 4 rfl ?_
          refine s_goto (tgt := 56) hz dX5_alone_52 rfl ?_
          rw [if_pos h18, if_neg h19] at hj17
          exact hj17
    refine s_nmI (fun v12 => ?_)
    refine s_istore_n (lv' := [(3, .int v12), (0, .ref (vO (VM g) + 0)), (1, .int x1), (2, .int y28.1), (4, .int y28.2.2)]) hz dX5_alone_56 rfl (Nat.le_of_ble_eq_true rfl) rfl ?_
    refine s_iload_n hz dX5_alone_57 rfl 3 rfl ?_
    refine s_aload_n hz dX5_alone_58 rfl 1 rfl ?_
    refine rM_g_all hc dX5_alone_59 ?_
    refine s_iload hz dX5_alone_62 4 rfl ?_
    refine s_gb (fun h13 => ?_)
    refine rM_ld_13 hc h13 rfl dX5_alone_64 ?_
    refine s_dia (J := 73) (v := .int (if (gI σ 13 (ix y28.2.2)) = (0 : Int32) then (1 : Int32) else (0 : Int32))) (st := [.int y28.1]) (fun _ hj15 => ?_) ?_
    · refine s_if_ne_ (tgt := 72) hz dX5_alone_65 rfl (fun h16 => ?_) (fun h16 => ?_)
      · refine s_iconst (v := (0 : Int32)) hz dX5_alone_72 (by decide) ?_
        rw [if_neg h16] at hj15
        exact hj15
      · refine s_iconst (v := (1 : Int32)) hz dX5_alone_68 (by decide) ?_
        refine s_goto (tgt := 73) hz dX5_alone_69 rfl ?_
        rw [if_pos h16] at hj15
        exact hj15
    refine s_iadd hz dX5_alone_73 ?_
    refine s_nmI (fun v14 => ?_)
    refine s_istore_n (lv' := [(2, .int v14), (3, .int v12), (0, .ref (vO (VM g) + 0)), (1, .int x1), (4, .int y28.2.2)]) hz dX5_alone_74 rfl (Nat.le_of_ble_eq_true rfl) rfl ?_
    refine s_iinc (v := (1 : Int32)) (lv' := [(4, .int (y28.2.2 + (1 : Int32))), (2, .int v14), (3, .int v12), (0, .ref (vO (VM g) + 0)), (1, .int x1)]) hz dX5_alone_75 4 rfl (by decide) (Nat.le_of_ble_eq_true rfl) rfl ?_
    refine s_goto (tgt := 28) hz dX5_alone_78 rfl ?_
    exact s_sub [3, 4, 1, 2, 0] rfl (hr28c v14 v12 (y28.2.2 + (1 : Int32)))
def fX5_alone (N : Nat) (σ : Mem) (x1 : Int32) : Option (Int32 × Mem) :=
  (fX5_isIn N σ ((x1).toInt64) (0 : Int64) (1 : Int64)).bind (fun q1 => 
  if q1 = (0 : Int32) then
  ((fX5_finds N σ (-1000000001 : Int32)).bind (fun q20 => 
  some (q20.1, q20.2)))
  else ((fX5_works N σ).bind (fun q4 => 
  lp (bX5_alone_28 N q4.2 x1) N ((0 : Int32), (-1 : Int32), (0 : Int32)))))
set_option maxHeartbeats 4000000 in
theorem wfX5_alone {Θ : ThT Mem} {g : Geo} {N : Nat}  {ρ : Int32 × Mem} (σ : Mem) (x1 : Int32) (hc : Cx Θ (VM g) cX5_alone 5 RX5 (rk 43 0 0) (some .int) [] false (oI ρ.1) ρ.2) : Sim Θ 5 ρ σ (fX5_alone N σ x1) (0, 0) 0 [(0, .ref (vO (VM g) + 0)), (1, .int x1)] [] := by
  have hz := hc.z
  unfold fX5_alone
  refine s_iload_n hz dX5_alone_0 rfl 1 rfl ?_
  refine s_i2l hz dX5_alone_1 ?_
  refine s_lconst (v := (0 : Int64)) hz dX5_alone_2 (by decide) ?_
  refine s_lconst (v := (1 : Int64)) hz dX5_alone_3 (by decide) ?_
  refine s_bind (fun q1 e2 => ?_)
  refine kX5_98 hc (cfX5_isIn e2) ⟨(Nat.le_of_ble_eq_true rfl), (Nat.le_of_ble_eq_true rfl)⟩ ⟨(Nat.le_of_ble_eq_true rfl), (Nat.le_of_ble_eq_true rfl)⟩ (Nat.le_of_ble_eq_true rfl) dX5_alone_4 ?_
  refine s_if_ne (tgt := 17) hz dX5_alone_7 rfl (fun h3 => ?_) (fun h3 => ?_)
  · refine s_aload_n hz dX5_alone_17 rfl 0 rfl ?_
    refine s_bind (fun q4 e5 => ?_)
    refine kX5_198 hc (cfX5_works e5) ⟨(Nat.le_of_ble_eq_true rfl), (Nat.le_of_ble_eq_true rfl)⟩ ⟨(Nat.le_of_ble_eq_true rfl), (Nat.le_of_ble_eq_true rfl)⟩ (Nat.le_of_ble_eq_true rfl) dX5_alone_18 ?_
    refine s_iconst (v := (0 : Int32)) hz dX5_alone_21 (by decide) ?_
    refine s_istore_n (lv' := [(2, .int (0 : Int32)), (0, .ref (vO (VM g) + 0)), (1, .int x1)]) hz dX5_alone_22 rfl (Nat.le_of_ble_eq_true rfl) rfl ?_
    refine s_iconst (v := (-1 : Int32)) hz dX5_alone_23 (by decide) ?_
    refine s_istore_n (lv' := [(3, .int (-1 : Int32)), (2, .int (0 : Int32)), (0, .ref (vO (VM g) + 0)), (1, .int x1)]) hz dX5_alone_24 rfl (Nat.le_of_ble_eq_true rfl) rfl ?_
    refine s_iconst (v := (0 : Int32)) hz dX5_alone_25 (by decide) ?_
    refine s_istore (lv' := [(4, .int (0 : Int32)), (3, .int (-1 : Int32)), (2, .int (0 : Int32)), (0, .ref (vO (VM g) + 0)), (1, .int x1)]) hz dX5_alone_26 (Nat.le_of_ble_eq_true rfl) rfl ?_
    exact s_sub [3, 4, 2, 1, 0] rfl (s_lp (sg := fun y : Int32 × Int32 × Int32 => q4.2) (lvs := fun y : Int32 × Int32 × Int32 => [(0, .ref (vO (VM g) + 0)), (1, .int x1), (2, .int y.1), (3, .int y.2.1), (4, .int y.2.2)]) (fun rec hrec => wbX5_alone_28 q4.2 hc x1  rec hrec) N ((0 : Int32), (-1 : Int32), (0 : Int32)))
  · refine s_aload_n hz dX5_alone_10 rfl 0 rfl ?_
    refine s_ldc hz dX5_alone_11 q1203 ?_
    refine s_bind (fun q20 e21 => ?_)
    refine kX5_88 hc (cfX5_finds e21) ⟨(Nat.le_of_ble_eq_true rfl), (Nat.le_of_ble_eq_true rfl)⟩ ⟨(Nat.le_of_ble_eq_true rfl), (Nat.le_of_ble_eq_true rfl)⟩ (Nat.le_of_ble_eq_true rfl) dX5_alone_13 ?_
    exact s_iretM hc dX5_alone_16 (Nat.le_of_ble_eq_true rfl) (Nat.le_of_ble_eq_true rfl)
theorem cfX5_alone {g : Geo} {N : Nat}  {σ : Mem} {x1 : Int32} {ρ : Int32 × Mem} (hF : fX5_alone N σ x1 = some ρ) (l : Launch) : Ct (VM g) l yX5_alone cX5_alone 5 (some .int) (rk 43 0 0) [.ref (vO (VM g) + 0), .int x1] σ (oI ρ.1) ρ.2 :=
  Ct.of (by decide) (Nat.le_of_ble_eq_true rfl) (fun Θ hc ls hl => wfX5_alone σ x1 hc hF ls hl)
def bX5_line_47 (N : Nat) (σ : Mem) (x1 : Int32) (r47 : (Mem × Int32 × Int32) → Option (Int32 × Mem)) (y47 : Mem × Int32 × Int32) : Option (Int32 × Mem) :=
  if y47.2.2 ≤ y47.2.1 then
  (some (y47.2.1, y47.1))
  else (lt_ ((y47.2.1 + y47.2.2) / (2 : Int32)) (fun v10 => 
  (fX5_potWith N y47.1 v10).bind (fun q11 => 
  (fX5_worthOf N q11.2 x1 q11.1).bind (fun q13 => 
  lt_ (if q13.1 < (gI q13.2 1 10) then (0 : Int32) else (1 : Int32)) (fun v15 => 
  lt_ (if v15 = (0 : Int32) then y47.2.2 else v10) (fun v16 => 
  lt_ (if v15 = (0 : Int32) then (v10 + (1 : Int32)) else y47.2.1) (fun v17 => 
  r47 (q13.2, v17, v16))))))))
set_option maxHeartbeats 4000000 in
theorem wbX5_line_47 {Θ : ThT Mem} {g : Geo} {N : Nat}  {ρ : Int32 × Mem} (σ : Mem) (hc : Cx Θ (VM g) cX5_line 6 RX5 (rk 46 0 0) (some .int) [] false (oI ρ.1) ρ.2) (x1 : Int32) (r47 : (Mem × Int32 × Int32) → Option (Int32 × Mem)) (hr47 : ∀ y : Mem × Int32 × Int32, Sim Θ 6 ρ (y.1) (r47 y) (0, 0) 47 [(0, .ref (vO (VM g) + 0)), (1, .int x1), (2, .int y.2.1), (3, .int y.2.2)] []) : ∀ y47 : Mem × Int32 × Int32, Sim Θ 6 ρ (y47.1) (bX5_line_47 N σ x1 r47 y47) (0, 0) 47 [(0, .ref (vO (VM g) + 0)), (1, .int x1), (2, .int y47.2.1), (3, .int y47.2.2)] [] := by
  intro y47
  have hz := hc.z
  have hr47c : ∀ (z0_ : Mem) (z1_ : Int32) (z2_ : Int32), Sim Θ 6 ρ (z0_) (r47 (z0_, z1_, z2_)) (0, 0) 47 [(0, .ref (vO (VM g) + 0)), (1, .int x1), (2, .int z1_), (3, .int z2_)] [] := fun z0_ z1_ z2_ => hr47 (z0_, z1_, z2_)
  unfold bX5_line_47
  refine s_iload_n hz dX5_line_47 rfl 2 rfl ?_
  refine s_iload_n hz dX5_line_48 rfl 3 rfl ?_
  refine s_icmp_ge (tgt := 116) hz dX5_line_49 rfl (fun h9 => ?_) (fun h9 => ?_)
  · refine s_iload_n hz dX5_line_116 rfl 2 rfl ?_
    exact s_iretM hc dX5_line_117 (Nat.le_of_ble_eq_true rfl) (Nat.le_of_ble_eq_true rfl)
  · refine s_iload_n hz dX5_line_52 rfl 2 rfl ?_
    refine s_iload_n hz dX5_line_53 rfl 3 rfl ?_
    refine s_iadd hz dX5_line_54 ?_
    refine s_iconst (v := (2 : Int32)) hz dX5_line_55 (by decide) ?_
    refine s_idiv hz dX5_line_56 (by decide) ?_
    refine s_nmI (fun v10 => ?_)
    refine s_istore (lv' := [(4, .int v10), (0, .ref (vO (VM g) + 0)), (1, .int x1), (2, .int y47.2.1), (3, .int y47.2.2)]) hz dX5_line_57 (Nat.le_of_ble_eq_true rfl) rfl ?_
    refine s_aload_n hz dX5_line_59 rfl 1 rfl ?_
    refine s_iload_n hz dX5_line_60 rfl 2 rfl ?_
    refine s_aload_n hz dX5_line_61 rfl 1 rfl ?_
    refine s_iload hz dX5_line_62 0 rfl ?_
    refine s_bind (fun q11 e12 => ?_)
    refine kX5_208 hc (cfX5_potWith e12) ⟨(Nat.le_of_ble_eq_true rfl), (Nat.le_of_ble_eq_true rfl)⟩ ⟨(Nat.le_of_ble_eq_true rfl), (Nat.le_of_ble_eq_true rfl)⟩ (Nat.le_of_ble_eq_true rfl) dX5_line_64 ?_
    refine s_bind (fun q13 e14 => ?_)
    refine kX5_235 hc (cfX5_worthOf e14) ⟨(Nat.le_of_ble_eq_true rfl), (Nat.le_of_ble_eq_true rfl)⟩ ⟨(Nat.le_of_ble_eq_true rfl), (Nat.le_of_ble_eq_true rfl)⟩ (Nat.le_of_ble_eq_true rfl) dX5_line_67 ?_
    refine s_aload_n hz dX5_line_70 rfl 1 rfl ?_
    refine rM_g_s hc dX5_line_71 ?_
    refine s_bipush (v := (10 : Int32)) hz dX5_line_74 (by decide) ?_
    refine rM_ld_1 hc (j := 10) (by decide) (by decide) dX5_line_76 ?_
    refine s_dia (J := 85) (v := .int (if q13.1 < (gI q13.2 1 10) then (0 : Int32) else (1 : Int32))) (st := []) (fun _ hj22 => ?_) ?_
    · refine s_icmp_lt_ (tgt := 84) hz dX5_line_77 rfl (fun h23 => ?_) (fun h23 => ?_)
      · refine s_iconst (v := (0 : Int32)) hz dX5_line_84 (by decide) ?_
        rw [if_pos h23] at hj22
        exact hj22
      · refine s_iconst (v := (1 : Int32)) hz dX5_line_80 (by decide) ?_
        refine s_goto (tgt := 85) hz dX5_line_81 rfl ?_
        rw [if_neg h23] at hj22
        exact hj22
    refine s_nmI (fun v15 => ?_)
    refine s_istore (lv' := [(5, .int v15), (4, .int v10), (0, .ref (vO (VM g) + 0)), (1, .int x1), (2, .int y47.2.1), (3, .int y47.2.2)]) hz dX5_line_85 (Nat.le_of_ble_eq_true rfl) rfl ?_
    refine s_iload hz dX5_line_87 0 rfl ?_
    refine s_dia (J := 98) (v := .int (if v15 = (0 : Int32) then y47.2.2 else v10)) (st := []) (fun _ hj20 => ?_) ?_
    · refine s_if_eq_ (tgt := 97) hz dX5_line_89 rfl (fun h21 => ?_) (fun h21 => ?_)
      · refine s_iload_n hz dX5_line_97 rfl 5 rfl ?_
        rw [if_pos h21] at hj20
        exact hj20
      · refine s_iload hz dX5_line_92 1 rfl ?_
        refine s_goto (tgt := 98) hz dX5_line_94 rfl ?_
        rw [if_neg h21] at hj20
        exact hj20
    refine s_nmI (fun v16 => ?_)
    refine s_istore_n (lv' := [(3, .int v16), (5, .int v15), (4, .int v10), (0, .ref (vO (VM g) + 0)), (1, .int x1), (2, .int y47.2.1)]) hz dX5_line_98 rfl (Nat.le_of_ble_eq_true rfl) rfl ?_
    refine s_iload hz dX5_line_99 1 rfl ?_
    refine s_dia (J := 112) (v := .int (if v15 = (0 : Int32) then (v10 + (1 : Int32)) else y47.2.1)) (st := []) (fun _ hj18 => ?_) ?_
    · refine s_if_eq_ (tgt := 108) hz dX5_line_101 rfl (fun h19 => ?_) (fun h19 => ?_)
      · refine s_iload hz dX5_line_108 2 rfl ?_
        refine s_iconst (v := (1 : Int32)) hz dX5_line_110 (by decide) ?_
        refine s_iadd hz dX5_line_111 ?_
        rw [if_pos h19] at hj18
        exact hj18
      · refine s_iload_n hz dX5_line_104 rfl 5 rfl ?_
        refine s_goto (tgt := 112) hz dX5_line_105 rfl ?_
        rw [if_neg h19] at hj18
        exact hj18
    refine s_nmI (fun v17 => ?_)
    refine s_istore_n (lv' := [(2, .int v17), (3, .int v16), (5, .int v15), (4, .int v10), (0, .ref (vO (VM g) + 0)), (1, .int x1)]) hz dX5_line_112 rfl (Nat.le_of_ble_eq_true rfl) rfl ?_
    refine s_goto (tgt := 47) hz dX5_line_113 rfl ?_
    exact s_sub [4, 5, 0, 1] rfl (hr47c q13.2 v17 v16)
def fX5_line (N : Nat) (σ : Mem) (x1 : Int32) : Option (Int32 × Mem) :=
  (fX5_isPlace N σ x1).bind (fun q1 => 
  if q1 = (0 : Int32) then
  ((fX5_finds N σ (-1000000001 : Int32)).bind (fun q26 => 
  some (q26.1, q26.2)))
  else ((fX5_potWith N σ (99999999 : Int32)).bind (fun q4 => 
  (fX5_worthOf N q4.2 x1 q4.1).bind (fun q6 => 
  if (gI q6.2 1 10) ≤ q6.1 then
  (lp (bX5_line_47 N q6.2 x1) N (q6.2, (0 : Int32), (99999999 : Int32)))
  else ((fX5_finds N q6.2 (-1000000004 : Int32)).bind (fun q24 => 
  some (q24.1, q24.2)))))))
set_option maxHeartbeats 4000000 in
theorem wfX5_line {Θ : ThT Mem} {g : Geo} {N : Nat}  {ρ : Int32 × Mem} (σ : Mem) (x1 : Int32) (hc : Cx Θ (VM g) cX5_line 6 RX5 (rk 46 0 0) (some .int) [] false (oI ρ.1) ρ.2) : Sim Θ 6 ρ σ (fX5_line N σ x1) (0, 0) 0 [(0, .ref (vO (VM g) + 0)), (1, .int x1)] [] := by
  have hz := hc.z
  unfold fX5_line
  refine s_iload_n hz dX5_line_0 rfl 1 rfl ?_
  refine s_bind (fun q1 e2 => ?_)
  refine kX5_92 hc (cfX5_isPlace e2) ⟨(Nat.le_of_ble_eq_true rfl), (Nat.le_of_ble_eq_true rfl)⟩ ⟨(Nat.le_of_ble_eq_true rfl), (Nat.le_of_ble_eq_true rfl)⟩ (Nat.le_of_ble_eq_true rfl) dX5_line_1 ?_
  refine s_if_ne (tgt := 14) hz dX5_line_4 rfl (fun h3 => ?_) (fun h3 => ?_)
  · refine s_aload_n hz dX5_line_14 rfl 0 rfl ?_
    refine s_iload_n hz dX5_line_15 rfl 1 rfl ?_
    refine s_aload_n hz dX5_line_16 rfl 0 rfl ?_
    refine s_ldc hz dX5_line_17 q1362 ?_
    refine s_bind (fun q4 e5 => ?_)
    refine kX5_208 hc (cfX5_potWith e5) ⟨(Nat.le_of_ble_eq_true rfl), (Nat.le_of_ble_eq_true rfl)⟩ ⟨(Nat.le_of_ble_eq_true rfl), (Nat.le_of_ble_eq_true rfl)⟩ (Nat.le_of_ble_eq_true rfl) dX5_line_19 ?_
    refine s_bind (fun q6 e7 => ?_)
    refine kX5_235 hc (cfX5_worthOf e7) ⟨(Nat.le_of_ble_eq_true rfl), (Nat.le_of_ble_eq_true rfl)⟩ ⟨(Nat.le_of_ble_eq_true rfl), (Nat.le_of_ble_eq_true rfl)⟩ (Nat.le_of_ble_eq_true rfl) dX5_line_22 ?_
    refine s_aload_n hz dX5_line_25 rfl 0 rfl ?_
    refine rM_g_s hc dX5_line_26 ?_
    refine s_bipush (v := (10 : Int32)) hz dX5_line_29 (by decide) ?_
    refine rM_ld_1 hc (j := 10) (by decide) (by decide) dX5_line_31 ?_
    refine s_icmp_ge (tgt := 42) hz dX5_line_32 rfl (fun h8 => ?_) (fun h8 => ?_)
    · refine s_iconst (v := (0 : Int32)) hz dX5_line_42 (by decide) ?_
      refine s_istore_n (lv' := [(2, .int (0 : Int32)), (0, .ref (vO (VM g) + 0)), (1, .int x1)]) hz dX5_line_43 rfl (Nat.le_of_ble_eq_true rfl) rfl ?_
      refine s_ldc hz dX5_line_44 q1362 ?_
      refine s_istore_n (lv' := [(3, .int (99999999 : Int32)), (2, .int (0 : Int32)), (0, .ref (vO (VM g) + 0)), (1, .int x1)]) hz dX5_line_46 rfl (Nat.le_of_ble_eq_true rfl) rfl ?_
      exact s_sub [2, 3, 1, 0] rfl (s_lp (sg := fun y : Mem × Int32 × Int32 => y.1) (lvs := fun y : Mem × Int32 × Int32 => [(0, .ref (vO (VM g) + 0)), (1, .int x1), (2, .int y.2.1), (3, .int y.2.2)]) (fun rec hrec => wbX5_line_47 q6.2 hc x1  rec hrec) N (q6.2, (0 : Int32), (99999999 : Int32)))
    · refine s_aload_n hz dX5_line_35 rfl 0 rfl ?_
      refine s_ldc hz dX5_line_36 q1427 ?_
      refine s_bind (fun q24 e25 => ?_)
      refine kX5_88 hc (cfX5_finds e25) ⟨(Nat.le_of_ble_eq_true rfl), (Nat.le_of_ble_eq_true rfl)⟩ ⟨(Nat.le_of_ble_eq_true rfl), (Nat.le_of_ble_eq_true rfl)⟩ (Nat.le_of_ble_eq_true rfl) dX5_line_38 ?_
      exact s_iretM hc dX5_line_41 (Nat.le_of_ble_eq_true rfl) (Nat.le_of_ble_eq_true rfl)
  · refine s_aload_n hz dX5_line_7 rfl 0 rfl ?_
    refine s_ldc hz dX5_line_8 q1203 ?_
    refine s_bind (fun q26 e27 => ?_)
    refine kX5_88 hc (cfX5_finds e27) ⟨(Nat.le_of_ble_eq_true rfl), (Nat.le_of_ble_eq_true rfl)⟩ ⟨(Nat.le_of_ble_eq_true rfl), (Nat.le_of_ble_eq_true rfl)⟩ (Nat.le_of_ble_eq_true rfl) dX5_line_10 ?_
    exact s_iretM hc dX5_line_13 (Nat.le_of_ble_eq_true rfl) (Nat.le_of_ble_eq_true rfl)
theorem cfX5_line {g : Geo} {N : Nat}  {σ : Mem} {x1 : Int32} {ρ : Int32 × Mem} (hF : fX5_line N σ x1 = some ρ) (l : Launch) : Ct (VM g) l yX5_line cX5_line 6 (some .int) (rk 46 0 0) [.ref (vO (VM g) + 0), .int x1] σ (oI ρ.1) ρ.2 :=
  Ct.of (by decide) (Nat.le_of_ble_eq_true rfl) (fun Θ hc ls hl => wfX5_line σ x1 hc hF ls hl)
def bX5_begins_6 (N : Nat) (σ : Mem)  (r6 : (Mem × Int32) → Option (Unit × Mem)) (y6 : Mem × Int32) : Option (Unit × Mem) :=
  if (495 : Int32) ≤ y6.2 then
  (some ((), y6.1))
  else (gb (inb y6.2 495) (
  gb (inb y6.2 495) (
  lt_ (pI y6.1 16 (ix y6.2) (gI y6.1 13 (ix y6.2))) (fun σ5 => 
  gb (inb y6.2 495) (
  lt_ (pI σ5 17 (ix y6.2) (0 : Int32)) (fun σ7 => 
  r6 (σ7, (y6.2 + (1 : Int32)))))))))
set_option maxHeartbeats 4000000 in
theorem wbX5_begins_6 {Θ : ThT Mem} {g : Geo} {N : Nat}  {ρ : Unit × Mem} (σ : Mem) (hc : Cx Θ (VM g) cX5_begins 2 RX5 (rk 43 0 0) none [] false (oV) ρ.2)  (r6 : (Mem × Int32) → Option (Unit × Mem)) (hr6 : ∀ y : Mem × Int32, Sim Θ 2 ρ (y.1) (r6 y) (0, 0) 6 [(0, .ref (vO (VM g) + 0)), (1, .int y.2)] []) : ∀ y6 : Mem × Int32, Sim Θ 2 ρ (y6.1) (bX5_begins_6 N σ  r6 y6) (0, 0) 6 [(0, .ref (vO (VM g) + 0)), (1, .int y6.2)] [] := by
  intro y6
  have hz := hc.z
  have hr6c : ∀ (z0_ : Mem) (z1_ : Int32), Sim Θ 2 ρ (z0_) (r6 (z0_, z1_)) (0, 0) 6 [(0, .ref (vO (VM g) + 0)), (1, .int z1_)] [] := fun z0_ z1_ => hr6 (z0_, z1_)
  unfold bX5_begins_6
  refine s_iload_n hz dX5_begins_6 rfl 1 rfl ?_
  refine s_sipush (v := (495 : Int32)) hz dX5_begins_7 (by decide) ?_
  refine s_icmp_ge (tgt := 38) hz dX5_begins_10 rfl (fun h3 => ?_) (fun h3 => ?_)
  · exact s_vretM hc dX5_begins_38 (Nat.le_of_ble_eq_true rfl) (Nat.le_of_ble_eq_true rfl)
  · refine s_aload_n hz dX5_begins_13 rfl 0 rfl ?_
    refine rM_g_tried hc dX5_begins_14 ?_
    refine s_iload_n hz dX5_begins_17 rfl 1 rfl ?_
    refine s_aload_n hz dX5_begins_18 rfl 0 rfl ?_
    refine rM_g_all hc dX5_begins_19 ?_
    refine s_iload_n hz dX5_begins_22 rfl 1 rfl ?_
    refine s_gb (fun h4 => ?_)
    refine rM_ld_13 hc h4 rfl dX5_begins_23 ?_
    refine s_gb (fun h6 => ?_)
    refine rM_st_16 hc h6 rfl dX5_begins_24 (fun σ5 => ?_)
    refine s_aload_n hz dX5_begins_25 rfl 0 rfl ?_
    refine rM_g_isTaken hc dX5_begins_26 ?_
    refine s_iload_n hz dX5_begins_29 rfl 1 rfl ?_
    refine s_iconst (v := (0 : Int32)) hz dX5_begins_30 (by decide) ?_
    refine s_gb (fun h8 => ?_)
    refine rM_st_17 hc h8 rfl rfl dX5_begins_31 (fun σ7 => ?_)
    refine s_iinc (v := (1 : Int32)) (lv' := [(1, .int (y6.2 + (1 : Int32))), (0, .ref (vO (VM g) + 0))]) hz dX5_begins_32 1 rfl (by decide) (Nat.le_of_ble_eq_true rfl) rfl ?_
    refine s_goto (tgt := 6) hz dX5_begins_35 rfl ?_
    exact s_sub [1, 0] rfl (hr6c σ7 (y6.2 + (1 : Int32)))
def fX5_begins (N : Nat) (σ : Mem)  : Option (Unit × Mem) :=
  (fX5_works N σ).bind (fun q1 => 
  lp (bX5_begins_6 N q1.2) N (q1.2, (0 : Int32)))
set_option maxHeartbeats 4000000 in
theorem wfX5_begins {Θ : ThT Mem} {g : Geo} {N : Nat}  {ρ : Unit × Mem} (σ : Mem)  (hc : Cx Θ (VM g) cX5_begins 2 RX5 (rk 43 0 0) none [] false (oV) ρ.2) : Sim Θ 2 ρ σ (fX5_begins N σ ) (0, 0) 0 [(0, .ref (vO (VM g) + 0))] [] := by
  have hz := hc.z
  unfold fX5_begins
  refine s_aload_n hz dX5_begins_0 rfl 0 rfl ?_
  refine s_bind (fun q1 e2 => ?_)
  refine kX5_198 hc (cfX5_works e2) ⟨(Nat.le_of_ble_eq_true rfl), (Nat.le_of_ble_eq_true rfl)⟩ ⟨(Nat.le_of_ble_eq_true rfl), (Nat.le_of_ble_eq_true rfl)⟩ (Nat.le_of_ble_eq_true rfl) dX5_begins_1 ?_
  refine s_iconst (v := (0 : Int32)) hz dX5_begins_4 (by decide) ?_
  refine s_istore_n (lv' := [(1, .int (0 : Int32)), (0, .ref (vO (VM g) + 0))]) hz dX5_begins_5 rfl (Nat.le_of_ble_eq_true rfl) rfl ?_
  exact s_sub [1, 0] rfl (s_lp (sg := fun y : Mem × Int32 => y.1) (lvs := fun y : Mem × Int32 => [(0, .ref (vO (VM g) + 0)), (1, .int y.2)]) (fun rec hrec => wbX5_begins_6 q1.2 hc   rec hrec) N (q1.2, (0 : Int32)))
theorem cfX5_begins {g : Geo} {N : Nat}  {σ : Mem}  {ρ : Unit × Mem} (hF : fX5_begins N σ  = some ρ) (l : Launch) : Ct (VM g) l yX5_begins cX5_begins 2 none (rk 43 0 0) [.ref (vO (VM g) + 0)] σ (oV) ρ.2 :=
  Ct.of (by decide) (Nat.le_of_ble_eq_true rfl) (fun Θ hc ls hl => wfX5_begins σ  hc hF ls hl)
def bX5_rarest_4 (N : Nat) (σ : Mem)  (r4 : (Int32 × Int32) → Option (Int32)) (y4 : Int32 × Int32) : Option (Int32) :=
  if (495 : Int32) ≤ y4.2 then
  (some y4.1)
  else (gb (inb y4.2 495) (
  if (gI σ 17 (ix y4.2)) = (0 : Int32) then
  (if y4.1 < (0 : Int32) then
  (r4 (y4.2, (y4.2 + (1 : Int32))))
  else (gb (inb y4.2 495) (
  gb (inb y4.1 495) (
  lt_ (if (gI σ 16 (ix y4.1)) ≤ (gI σ 16 (ix y4.2)) then y4.1 else y4.2) (fun v7 => 
  r4 (v7, (y4.2 + (1 : Int32))))))))
  else (r4 (y4.1, (y4.2 + (1 : Int32))))))
set_option maxHeartbeats 4000000 in
theorem wbX5_rarest_4 {Θ : ThT Mem} {g : Geo} {N : Nat}  {ρ : Int32} (σ : Mem) (hc : Cx Θ (VM g) cX5_rarest 3 RX5 (rk 1 0 0) (some .int) [] false (oI ρ) σ)  (r4 : (Int32 × Int32) → Option (Int32)) (hr4 : ∀ y : Int32 × Int32, Sim Θ 3 ρ (σ) (r4 y) (0, 0) 4 [(0, .ref (vO (VM g) + 0)), (1, .int y.1), (2, .int y.2)] []) : ∀ y4 : Int32 × Int32, Sim Θ 3 ρ (σ) (bX5_rarest_4 N σ  r4 y4) (0, 0) 4 [(0, .ref (vO (VM g) + 0)), (1, .int y4.1), (2, .int y4.2)] [] := by
  intro y4
  have hz := hc.z
  have hr4c : ∀ (z0_ : Int32) (z1_ : Int32), Sim Θ 3 ρ (σ) (r4 (z0_, z1_)) (0, 0) 4 [(0, .ref (vO (VM g) + 0)), (1, .int z0_), (2, .int z1_)] [] := fun z0_ z1_ => hr4 (z0_, z1_)
  unfold bX5_rarest_4
  refine s_iload_n hz dX5_rarest_4 rfl 2 rfl ?_
  refine s_sipush (v := (495 : Int32)) hz dX5_rarest_5 (by decide) ?_
  refine s_icmp_ge (tgt := 51) hz dX5_rarest_8 rfl (fun h1 => ?_) (fun h1 => ?_)
  · refine s_iload_n hz dX5_rarest_51 rfl 1 rfl ?_
    exact s_iret hc dX5_rarest_52 (Nat.le_of_ble_eq_true rfl) (Nat.le_of_ble_eq_true rfl)
  · refine s_aload_n hz dX5_rarest_11 rfl 0 rfl ?_
    refine rM_g_isTaken hc dX5_rarest_12 ?_
    refine s_iload_n hz dX5_rarest_15 rfl 2 rfl ?_
    refine s_gb (fun h2 => ?_)
    refine rM_ld_17 hc h2 rfl dX5_rarest_16 ?_
    refine s_if_ne (tgt := 43) hz dX5_rarest_17 rfl (fun h3 => ?_) (fun h3 => ?_)
    · refine s_iload_n hz dX5_rarest_43 rfl 1 rfl ?_
      refine s_istore_n (lv' := [(1, .int y4.1), (0, .ref (vO (VM g) + 0)), (2, .int y4.2)]) hz dX5_rarest_44 rfl (Nat.le_of_ble_eq_true rfl) rfl ?_
      refine s_iinc (v := (1 : Int32)) (lv' := [(2, .int (y4.2 + (1 : Int32))), (1, .int y4.1), (0, .ref (vO (VM g) + 0))]) hz dX5_rarest_45 2 rfl (by decide) (Nat.le_of_ble_eq_true rfl) rfl ?_
      refine s_goto (tgt := 4) hz dX5_rarest_48 rfl ?_
      exact s_sub [2, 1, 0] rfl (hr4c y4.1 (y4.2 + (1 : Int32)))
    · refine s_iload_n hz dX5_rarest_20 rfl 1 rfl ?_
      refine s_if_lt (tgt := 39) hz dX5_rarest_21 rfl (fun h4 => ?_) (fun h4 => ?_)
      · refine s_iload_n hz dX5_rarest_39 rfl 2 rfl ?_
        refine s_goto (tgt := 44) hz dX5_rarest_40 rfl ?_
        refine s_istore_n (lv' := [(1, .int y4.2), (0, .ref (vO (VM g) + 0)), (2, .int y4.2)]) hz dX5_rarest_44 rfl (Nat.le_of_ble_eq_true rfl) rfl ?_
        refine s_iinc (v := (1 : Int32)) (lv' := [(2, .int (y4.2 + (1 : Int32))), (1, .int y4.2), (0, .ref (vO (VM g) + 0))]) hz dX5_rarest_45 2 rfl (by decide) (Nat.le_of_ble_eq_true rfl) rfl ?_
        refine s_goto (tgt := 4) hz dX5_rarest_48 rfl ?_
        exact s_sub [2, 1, 0] rfl (hr4c y4.2 (y4.2 + (1 : Int32)))
      · refine s_aload_n hz dX5_rarest_24 rfl 0 rfl ?_
        refine rM_g_tried hc dX5_rarest_25 ?_
        refine s_iload_n hz dX5_rarest_28 rfl 2 rfl ?_
        refine s_gb (fun h5 => ?_)
        refine rM_ld_16 hc h5 rfl dX5_rarest_29 ?_
        refine s_aload_n hz dX5_rarest_30 rfl 0 rfl ?_
        refine rM_g_tried hc dX5_rarest_31 ?_
        refine s_iload_n hz dX5_rarest_34 rfl 1 rfl ?_
        refine s_gb (fun h6 => ?_)
        refine rM_ld_16 hc h6 rfl dX5_rarest_35 ?_
        refine s_dia (J := 44) (v := .int (if (gI σ 16 (ix y4.1)) ≤ (gI σ 16 (ix y4.2)) then y4.1 else y4.2)) (st := []) (fun _ hj8 => ?_) ?_
        · refine s_icmp_ge_ (tgt := 43) hz dX5_rarest_36 rfl (fun h9 => ?_) (fun h9 => ?_)
          · refine s_iload_n hz dX5_rarest_43 rfl 1 rfl ?_
            rw [if_pos h9] at hj8
            exact hj8
          · refine s_iload_n hz dX5_rarest_39 rfl 2 rfl ?_
            refine s_goto (tgt := 44) hz dX5_rarest_40 rfl ?_
            rw [if_neg h9] at hj8
            exact hj8
        refine s_nmI (fun v7 => ?_)
        refine s_istore_n (lv' := [(1, .int v7), (0, .ref (vO (VM g) + 0)), (2, .int y4.2)]) hz dX5_rarest_44 rfl (Nat.le_of_ble_eq_true rfl) rfl ?_
        refine s_iinc (v := (1 : Int32)) (lv' := [(2, .int (y4.2 + (1 : Int32))), (1, .int v7), (0, .ref (vO (VM g) + 0))]) hz dX5_rarest_45 2 rfl (by decide) (Nat.le_of_ble_eq_true rfl) rfl ?_
        refine s_goto (tgt := 4) hz dX5_rarest_48 rfl ?_
        exact s_sub [2, 1, 0] rfl (hr4c v7 (y4.2 + (1 : Int32)))
def fX5_rarest (N : Nat) (σ : Mem)  : Option (Int32) :=
  lp (bX5_rarest_4 N σ) N ((-1 : Int32), (0 : Int32))
set_option maxHeartbeats 4000000 in
theorem wfX5_rarest {Θ : ThT Mem} {g : Geo} {N : Nat}  {ρ : Int32} (σ : Mem)  (hc : Cx Θ (VM g) cX5_rarest 3 RX5 (rk 1 0 0) (some .int) [] false (oI ρ) σ) : Sim Θ 3 ρ σ (fX5_rarest N σ ) (0, 0) 0 [(0, .ref (vO (VM g) + 0))] [] := by
  have hz := hc.z
  unfold fX5_rarest
  refine s_iconst (v := (-1 : Int32)) hz dX5_rarest_0 (by decide) ?_
  refine s_istore_n (lv' := [(1, .int (-1 : Int32)), (0, .ref (vO (VM g) + 0))]) hz dX5_rarest_1 rfl (Nat.le_of_ble_eq_true rfl) rfl ?_
  refine s_iconst (v := (0 : Int32)) hz dX5_rarest_2 (by decide) ?_
  refine s_istore_n (lv' := [(2, .int (0 : Int32)), (1, .int (-1 : Int32)), (0, .ref (vO (VM g) + 0))]) hz dX5_rarest_3 rfl (Nat.le_of_ble_eq_true rfl) rfl ?_
  exact s_sub [2, 1, 0] rfl (s_lp (sg := fun y : Int32 × Int32 => σ) (lvs := fun y : Int32 × Int32 => [(0, .ref (vO (VM g) + 0)), (1, .int y.1), (2, .int y.2)]) (fun rec hrec => wbX5_rarest_4 σ hc   rec hrec) N ((-1 : Int32), (0 : Int32)))
theorem cfX5_rarest {g : Geo} {N : Nat}  {σ : Mem}  {ρ : Int32} (hF : fX5_rarest N σ  = some ρ) (l : Launch) : Ct (VM g) l yX5_rarest cX5_rarest 3 (some .int) (rk 1 0 0) [.ref (vO (VM g) + 0)] σ (oI ρ) σ :=
  Ct.of (by decide) (Nat.le_of_ble_eq_true rfl) (fun Θ hc ls hl => wfX5_rarest σ  hc hF ls hl)
def bX5_house_160 (N : Nat) (σ : Mem) (x1 : Int32) (x2 : Int64) (x6 : Int32) (r83 : (Mem × Int64 × Int32) → Option (Int64 × Mem)) (r160 : (Int64 × Int32) → Option (Int64 × Mem)) (y160 : Int64 × Int32) : Option (Int64 × Mem) :=
  if (5 : Int32) ≤ y160.2 then
  (r83 (σ, y160.1, (x6 + (1 : Int32))))
  else (gb (inb y160.2 5) (
  if (gI σ 19 (ix y160.2)) = (0 : Int32) then
  (lt_ (y160.1 + (0 : Int64)) (fun v26 => 
  r160 (v26, (y160.2 + (1 : Int32)))))
  else (gb (inb y160.2 5) (
  (fX5_shareOf N σ x2 y160.2).bind (fun q18 => 
  gb (inb ((((3 : Int32) * x6) + y160.2) - (2 : Int32)) 1485) (
  gb (inb y160.2 5) (
  gb (nzL ((((gI σ 15 (ix ((((3 : Int32) * x6) + y160.2) - (2 : Int32)))) + (gI σ 19 (ix y160.2)))).toInt64)) (
  (fX5_taxed N σ (q18 / ((((gI σ 15 (ix ((((3 : Int32) * x6) + y160.2) - (2 : Int32)))) + (gI σ 19 (ix y160.2)))).toInt64))).bind (fun q23 => 
  lt_ (y160.1 + ((((gI σ 19 (ix y160.2))).toInt64) * q23)) (fun v25 => 
  r160 (v25, (y160.2 + (1 : Int32)))))))))))))
set_option maxHeartbeats 4000000 in
theorem wbX5_house_160 {Θ : ThT Mem} {g : Geo} {N : Nat}  {ρ : Int64 × Mem} (σ : Mem) (hc : Cx Θ (VM g) cX5_house 8 RX5 (rk 44 0 0) (some .long) [] false (oL ρ.1) ρ.2) (x1 : Int32) (x2 : Int64) (x6 : Int32) (r83 : (Mem × Int64 × Int32) → Option (Int64 × Mem)) (hr83 : ∀ y : Mem × Int64 × Int32, Sim Θ 8 ρ (y.1) (r83 y) (0, 0) 83 [(0, .ref (vO (VM g) + 0)), (1, .int x1), (2, .long x2), (4, .long y.2.1), (6, .int y.2.2)] []) (r160 : (Int64 × Int32) → Option (Int64 × Mem)) (hr160 : ∀ y : Int64 × Int32, Sim Θ 8 ρ (σ) (r160 y) (0, 0) 160 [(0, .ref (vO (VM g) + 0)), (1, .int x1), (2, .long x2), (4, .long y.1), (6, .int x6), (7, .int y.2)] []) : ∀ y160 : Int64 × Int32, Sim Θ 8 ρ (σ) (bX5_house_160 N σ x1 x2 x6 r83 r160 y160) (0, 0) 160 [(0, .ref (vO (VM g) + 0)), (1, .int x1), (2, .long x2), (4, .long y160.1), (6, .int x6), (7, .int y160.2)] [] := by
  intro y160
  have hz := hc.z
  have hr83c : ∀ (z0_ : Mem) (z1_ : Int64) (z2_ : Int32), Sim Θ 8 ρ (z0_) (r83 (z0_, z1_, z2_)) (0, 0) 83 [(0, .ref (vO (VM g) + 0)), (1, .int x1), (2, .long x2), (4, .long z1_), (6, .int z2_)] [] := fun z0_ z1_ z2_ => hr83 (z0_, z1_, z2_)
  have hr160c : ∀ (z0_ : Int64) (z1_ : Int32), Sim Θ 8 ρ (σ) (r160 (z0_, z1_)) (0, 0) 160 [(0, .ref (vO (VM g) + 0)), (1, .int x1), (2, .long x2), (4, .long z0_), (6, .int x6), (7, .int z1_)] [] := fun z0_ z1_ => hr160 (z0_, z1_)
  unfold bX5_house_160
  refine s_iload hz dX5_house_160 5 rfl ?_
  refine s_iconst (v := (5 : Int32)) hz dX5_house_162 (by decide) ?_
  refine s_icmp_ge (tgt := 235) hz dX5_house_163 rfl (fun h14 => ?_) (fun h14 => ?_)
  · refine s_iinc (v := (1 : Int32)) (lv' := [(6, .int (x6 + (1 : Int32))), (0, .ref (vO (VM g) + 0)), (1, .int x1), (2, .long x2), (4, .long y160.1), (7, .int y160.2)]) hz dX5_house_235 4 rfl (by decide) (Nat.le_of_ble_eq_true rfl) rfl ?_
    refine s_goto (tgt := 83) hz dX5_house_238 rfl ?_
    exact s_sub [1, 2, 3, 4, 0] rfl (hr83c σ y160.1 (x6 + (1 : Int32)))
  · refine s_lload hz dX5_house_166 3 rfl ?_
    refine s_aload_n hz dX5_house_168 rfl 0 rfl ?_
    refine rM_g_own hc dX5_house_169 ?_
    refine s_iload hz dX5_house_172 5 rfl ?_
    refine s_gb (fun h15 => ?_)
    refine rM_ld_19 hc h15 rfl dX5_house_174 ?_
    refine s_if_ne (tgt := 182) hz dX5_house_175 rfl (fun h16 => ?_) (fun h16 => ?_)
    · refine s_aload_n hz dX5_house_182 rfl 0 rfl ?_
      refine rM_g_own hc dX5_house_183 ?_
      refine s_iload hz dX5_house_186 5 rfl ?_
      refine s_gb (fun h17 => ?_)
      refine rM_ld_19 hc h17 rfl dX5_house_188 ?_
      refine s_i2l hz dX5_house_189 ?_
      refine s_aload_n hz dX5_house_190 rfl 0 rfl ?_
      refine s_aload_n hz dX5_house_191 rfl 0 rfl ?_
      refine s_lload_n hz dX5_house_192 rfl 2 rfl ?_
      refine s_iload hz dX5_house_193 5 rfl ?_
      refine s_bind (fun q18 e19 => ?_)
      refine kX5_212 hc (cfX5_shareOf e19) ⟨(Nat.le_of_ble_eq_true rfl), (Nat.le_of_ble_eq_true rfl)⟩ ⟨(Nat.le_of_ble_eq_true rfl), (Nat.le_of_ble_eq_true rfl)⟩ (Nat.le_of_ble_eq_true rfl) dX5_house_195 ?_
      refine s_aload_n hz dX5_house_198 rfl 0 rfl ?_
      refine rM_g_winners hc dX5_house_199 ?_
      refine s_iconst (v := (3 : Int32)) hz dX5_house_202 (by decide) ?_
      refine s_iload hz dX5_house_203 4 rfl ?_
      refine s_imul hz dX5_house_205 ?_
      refine s_iload hz dX5_house_206 5 rfl ?_
      refine s_iadd hz dX5_house_208 ?_
      refine s_iconst (v := (2 : Int32)) hz dX5_house_209 (by decide) ?_
      refine s_isub hz dX5_house_210 ?_
      refine s_gb (fun h20 => ?_)
      refine rM_ld_15 hc h20 rfl dX5_house_211 ?_
      refine s_aload_n hz dX5_house_212 rfl 0 rfl ?_
      refine rM_g_own hc dX5_house_213 ?_
      refine s_iload hz dX5_house_216 5 rfl ?_
      refine s_gb (fun h21 => ?_)
      refine rM_ld_19 hc h21 rfl dX5_house_218 ?_
      refine s_iadd hz dX5_house_219 ?_
      refine s_i2l hz dX5_house_220 ?_
      refine s_gb (fun h22 => ?_)
      refine s_ldiv hz dX5_house_221 (nzL_ne h22) ?_
      refine s_bind (fun q23 e24 => ?_)
      refine kX5_225 hc (cfX5_taxed e24) ⟨(Nat.le_of_ble_eq_true rfl), (Nat.le_of_ble_eq_true rfl)⟩ ⟨(Nat.le_of_ble_eq_true rfl), (Nat.le_of_ble_eq_true rfl)⟩ (Nat.le_of_ble_eq_true rfl) dX5_house_222 ?_
      refine s_lmul hz dX5_house_225 ?_
      refine s_ladd hz dX5_house_226 ?_
      refine s_nmL (fun v25 => ?_)
      refine s_lstore (lv' := [(4, .long v25), (0, .ref (vO (VM g) + 0)), (1, .int x1), (2, .long x2), (6, .int x6), (7, .int y160.2)]) hz dX5_house_227 (Nat.le_of_ble_eq_true rfl) rfl ?_
      refine s_iinc (v := (1 : Int32)) (lv' := [(7, .int (y160.2 + (1 : Int32))), (4, .long v25), (0, .ref (vO (VM g) + 0)), (1, .int x1), (2, .long x2), (6, .int x6)]) hz dX5_house_229 5 rfl (by decide) (Nat.le_of_ble_eq_true rfl) rfl ?_
      refine s_goto (tgt := 160) hz dX5_house_232 rfl ?_
      exact s_sub [2, 3, 4, 1, 5, 0] rfl (hr160c v25 (y160.2 + (1 : Int32)))
    · refine s_lconst (v := (0 : Int64)) hz dX5_house_178 (by decide) ?_
      refine s_goto (tgt := 226) hz dX5_house_179 rfl ?_
      refine s_ladd hz dX5_house_226 ?_
      refine s_nmL (fun v26 => ?_)
      refine s_lstore (lv' := [(4, .long v26), (0, .ref (vO (VM g) + 0)), (1, .int x1), (2, .long x2), (6, .int x6), (7, .int y160.2)]) hz dX5_house_227 (Nat.le_of_ble_eq_true rfl) rfl ?_
      refine s_iinc (v := (1 : Int32)) (lv' := [(7, .int (y160.2 + (1 : Int32))), (4, .long v26), (0, .ref (vO (VM g) + 0)), (1, .int x1), (2, .long x2), (6, .int x6)]) hz dX5_house_229 5 rfl (by decide) (Nat.le_of_ble_eq_true rfl) rfl ?_
      refine s_goto (tgt := 160) hz dX5_house_232 rfl ?_
      exact s_sub [2, 3, 4, 1, 5, 0] rfl (hr160c v26 (y160.2 + (1 : Int32)))
def bX5_house_117 (N : Nat) (σ : Mem) (x1 : Int32) (x2 : Int64) (x4 : Int64) (x6 : Int32) (r83 : (Mem × Int64 × Int32) → Option (Int64 × Mem)) (r117 : (Mem × Int32) → Option (Int64 × Mem)) (y117 : Mem × Int32) : Option (Int64 × Mem) :=
  if x1 ≤ y117.2 then
  (lp (bX5_house_160 N y117.1 x1 x2 x6 r83) N (x4, (2 : Int32)))
  else (gb (inb y117.2 495) (
  gb (inb x6 495) (
  (fX5_ones N y117.1 ((gI y117.1 18 (ix y117.2)) &&& (gI y117.1 4 (ix x6)))).bind (fun q29 => 
  gb (inb q29 5) (
  gb (inb q29 5) (
  lt_ (pI y117.1 19 (ix q29) ((gI y117.1 19 (ix q29)) + (1 : Int32))) (fun σ32 => 
  r117 (σ32, (y117.2 + (1 : Int32))))))))))
set_option maxHeartbeats 4000000 in
theorem wbX5_house_117 {Θ : ThT Mem} {g : Geo} {N : Nat}  {ρ : Int64 × Mem} (σ : Mem) (hc : Cx Θ (VM g) cX5_house 8 RX5 (rk 44 0 0) (some .long) [] false (oL ρ.1) ρ.2) (x1 : Int32) (x2 : Int64) (x4 : Int64) (x6 : Int32) (r83 : (Mem × Int64 × Int32) → Option (Int64 × Mem)) (hr83 : ∀ y : Mem × Int64 × Int32, Sim Θ 8 ρ (y.1) (r83 y) (0, 0) 83 [(0, .ref (vO (VM g) + 0)), (1, .int x1), (2, .long x2), (4, .long y.2.1), (6, .int y.2.2)] []) (r117 : (Mem × Int32) → Option (Int64 × Mem)) (hr117 : ∀ y : Mem × Int32, Sim Θ 8 ρ (y.1) (r117 y) (0, 0) 117 [(0, .ref (vO (VM g) + 0)), (1, .int x1), (2, .long x2), (4, .long x4), (6, .int x6), (7, .int y.2)] []) : ∀ y117 : Mem × Int32, Sim Θ 8 ρ (y117.1) (bX5_house_117 N σ x1 x2 x4 x6 r83 r117 y117) (0, 0) 117 [(0, .ref (vO (VM g) + 0)), (1, .int x1), (2, .long x2), (4, .long x4), (6, .int x6), (7, .int y117.2)] [] := by
  intro y117
  have hz := hc.z
  have hr83c : ∀ (z0_ : Mem) (z1_ : Int64) (z2_ : Int32), Sim Θ 8 ρ (z0_) (r83 (z0_, z1_, z2_)) (0, 0) 83 [(0, .ref (vO (VM g) + 0)), (1, .int x1), (2, .long x2), (4, .long z1_), (6, .int z2_)] [] := fun z0_ z1_ z2_ => hr83 (z0_, z1_, z2_)
  have hr117c : ∀ (z0_ : Mem) (z1_ : Int32), Sim Θ 8 ρ (z0_) (r117 (z0_, z1_)) (0, 0) 117 [(0, .ref (vO (VM g) + 0)), (1, .int x1), (2, .long x2), (4, .long x4), (6, .int x6), (7, .int z1_)] [] := fun z0_ z1_ => hr117 (z0_, z1_)
  unfold bX5_house_117
  refine s_iload hz dX5_house_117 5 rfl ?_
  refine s_iload_n hz dX5_house_119 rfl 1 rfl ?_
  refine s_icmp_ge (tgt := 157) hz dX5_house_120 rfl (fun h13 => ?_) (fun h13 => ?_)
  · refine s_iconst (v := (2 : Int32)) hz dX5_house_157 (by decide) ?_
    refine s_istore (lv' := [(7, .int (2 : Int32)), (0, .ref (vO (VM g) + 0)), (1, .int x1), (2, .long x2), (4, .long x4), (6, .int x6)]) hz dX5_house_158 (Nat.le_of_ble_eq_true rfl) rfl ?_
    exact s_sub [1, 2, 3, 4, 5, 0] rfl (s_lp (sg := fun y : Int64 × Int32 => y117.1) (lvs := fun y : Int64 × Int32 => [(0, .ref (vO (VM g) + 0)), (1, .int x1), (2, .long x2), (4, .long y.1), (6, .int x6), (7, .int y.2)]) (fun rec hrec => wbX5_house_160 y117.1 hc x1 x2 x6 (r83) hr83 rec hrec) N (x4, (2 : Int32)))
  · refine s_aload_n hz dX5_house_123 rfl 0 rfl ?_
    refine rM_g_own hc dX5_house_124 ?_
    refine s_aload_n hz dX5_house_127 rfl 0 rfl ?_
    refine s_aload_n hz dX5_house_128 rfl 0 rfl ?_
    refine rM_g_bought hc dX5_house_129 ?_
    refine s_iload hz dX5_house_132 5 rfl ?_
    refine s_gb (fun h27 => ?_)
    refine rM_ld_18 hc h27 rfl dX5_house_134 ?_
    refine s_aload_n hz dX5_house_135 rfl 0 rfl ?_
    refine rM_g_rowAt hc dX5_house_136 ?_
    refine s_iload hz dX5_house_139 4 rfl ?_
    refine s_gb (fun h28 => ?_)
    refine rM_ld_4 hc h28 rfl dX5_house_141 ?_
    refine s_iand hz dX5_house_142 ?_
    refine s_bind (fun q29 e30 => ?_)
    refine kX5_132 hc (cfX5_ones e30) ⟨(Nat.le_of_ble_eq_true rfl), (Nat.le_of_ble_eq_true rfl)⟩ ⟨(Nat.le_of_ble_eq_true rfl), (Nat.le_of_ble_eq_true rfl)⟩ (Nat.le_of_ble_eq_true rfl) dX5_house_143 ?_
    refine s_dup2 hz dX5_house_146 rfl rfl ?_
    refine s_gb (fun h31 => ?_)
    refine rM_ld_19 hc h31 rfl dX5_house_147 ?_
    refine s_iconst (v := (1 : Int32)) hz dX5_house_148 (by decide) ?_
    refine s_iadd hz dX5_house_149 ?_
    refine s_gb (fun h33 => ?_)
    refine rM_st_19 hc h33 rfl dX5_house_150 (fun σ32 => ?_)
    refine s_iinc (v := (1 : Int32)) (lv' := [(7, .int (y117.2 + (1 : Int32))), (0, .ref (vO (VM g) + 0)), (1, .int x1), (2, .long x2), (4, .long x4), (6, .int x6)]) hz dX5_house_151 5 rfl (by decide) (Nat.le_of_ble_eq_true rfl) rfl ?_
    refine s_goto (tgt := 117) hz dX5_house_154 rfl ?_
    exact s_sub [1, 2, 3, 4, 5, 0] rfl (hr117c σ32 (y117.2 + (1 : Int32)))
def bX5_house_94 (N : Nat) (σ : Mem) (x1 : Int32) (x2 : Int64) (x4 : Int64) (x6 : Int32) (r83 : (Mem × Int64 × Int32) → Option (Int64 × Mem)) (r94 : (Mem × Int32) → Option (Int64 × Mem)) (y94 : Mem × Int32) : Option (Int64 × Mem) :=
  if (5 : Int32) ≤ y94.2 then
  (lp (bX5_house_117 N y94.1 x1 x2 x4 x6 r83) N (y94.1, (0 : Int32)))
  else (gb (inb y94.2 5) (
  lt_ (pI y94.1 19 (ix y94.2) (0 : Int32)) (fun σ34 => 
  r94 (σ34, (y94.2 + (1 : Int32))))))
set_option maxHeartbeats 4000000 in
theorem wbX5_house_94 {Θ : ThT Mem} {g : Geo} {N : Nat}  {ρ : Int64 × Mem} (σ : Mem) (hc : Cx Θ (VM g) cX5_house 8 RX5 (rk 44 0 0) (some .long) [] false (oL ρ.1) ρ.2) (x1 : Int32) (x2 : Int64) (x4 : Int64) (x6 : Int32) (r83 : (Mem × Int64 × Int32) → Option (Int64 × Mem)) (hr83 : ∀ y : Mem × Int64 × Int32, Sim Θ 8 ρ (y.1) (r83 y) (0, 0) 83 [(0, .ref (vO (VM g) + 0)), (1, .int x1), (2, .long x2), (4, .long y.2.1), (6, .int y.2.2)] []) (r94 : (Mem × Int32) → Option (Int64 × Mem)) (hr94 : ∀ y : Mem × Int32, Sim Θ 8 ρ (y.1) (r94 y) (0, 0) 94 [(0, .ref (vO (VM g) + 0)), (1, .int x1), (2, .long x2), (4, .long x4), (6, .int x6), (7, .int y.2)] []) : ∀ y94 : Mem × Int32, Sim Θ 8 ρ (y94.1) (bX5_house_94 N σ x1 x2 x4 x6 r83 r94 y94) (0, 0) 94 [(0, .ref (vO (VM g) + 0)), (1, .int x1), (2, .long x2), (4, .long x4), (6, .int x6), (7, .int y94.2)] [] := by
  intro y94
  have hz := hc.z
  have hr83c : ∀ (z0_ : Mem) (z1_ : Int64) (z2_ : Int32), Sim Θ 8 ρ (z0_) (r83 (z0_, z1_, z2_)) (0, 0) 83 [(0, .ref (vO (VM g) + 0)), (1, .int x1), (2, .long x2), (4, .long z1_), (6, .int z2_)] [] := fun z0_ z1_ z2_ => hr83 (z0_, z1_, z2_)
  have hr94c : ∀ (z0_ : Mem) (z1_ : Int32), Sim Θ 8 ρ (z0_) (r94 (z0_, z1_)) (0, 0) 94 [(0, .ref (vO (VM g) + 0)), (1, .int x1), (2, .long x2), (4, .long x4), (6, .int x6), (7, .int z1_)] [] := fun z0_ z1_ => hr94 (z0_, z1_)
  unfold bX5_house_94
  refine s_iload hz dX5_house_94 5 rfl ?_
  refine s_iconst (v := (5 : Int32)) hz dX5_house_96 (by decide) ?_
  refine s_icmp_ge (tgt := 114) hz dX5_house_97 rfl (fun h12 => ?_) (fun h12 => ?_)
  · refine s_iconst (v := (0 : Int32)) hz dX5_house_114 (by decide) ?_
    refine s_istore (lv' := [(7, .int (0 : Int32)), (0, .ref (vO (VM g) + 0)), (1, .int x1), (2, .long x2), (4, .long x4), (6, .int x6)]) hz dX5_house_115 (Nat.le_of_ble_eq_true rfl) rfl ?_
    exact s_sub [1, 2, 3, 4, 5, 0] rfl (s_lp (sg := fun y : Mem × Int32 => y.1) (lvs := fun y : Mem × Int32 => [(0, .ref (vO (VM g) + 0)), (1, .int x1), (2, .long x2), (4, .long x4), (6, .int x6), (7, .int y.2)]) (fun rec hrec => wbX5_house_117 y94.1 hc x1 x2 x4 x6 (r83) hr83 rec hrec) N (y94.1, (0 : Int32)))
  · refine s_aload_n hz dX5_house_100 rfl 0 rfl ?_
    refine rM_g_own hc dX5_house_101 ?_
    refine s_iload hz dX5_house_104 5 rfl ?_
    refine s_iconst (v := (0 : Int32)) hz dX5_house_106 (by decide) ?_
    refine s_gb (fun h35 => ?_)
    refine rM_st_19 hc h35 rfl dX5_house_107 (fun σ34 => ?_)
    refine s_iinc (v := (1 : Int32)) (lv' := [(7, .int (y94.2 + (1 : Int32))), (0, .ref (vO (VM g) + 0)), (1, .int x1), (2, .long x2), (4, .long x4), (6, .int x6)]) hz dX5_house_108 5 rfl (by decide) (Nat.le_of_ble_eq_true rfl) rfl ?_
    refine s_goto (tgt := 94) hz dX5_house_111 rfl ?_
    exact s_sub [1, 2, 3, 4, 5, 0] rfl (hr94c σ34 (y94.2 + (1 : Int32)))
def bX5_house_83 (N : Nat) (σ : Mem) (x1 : Int32) (x2 : Int64) (r83 : (Mem × Int64 × Int32) → Option (Int64 × Mem)) (y83 : Mem × Int64 × Int32) : Option (Int64 × Mem) :=
  if (495 : Int32) ≤ y83.2.2 then
  (some (((y83.2.1 / (495 : Int64)) - (((x1).toInt64) * (((gI y83.1 1 10)).toInt64))), y83.1))
  else (lp (bX5_house_94 N y83.1 x1 x2 y83.2.1 y83.2.2 r83) N (y83.1, (0 : Int32)))
set_option maxHeartbeats 4000000 in
theorem wbX5_house_83 {Θ : ThT Mem} {g : Geo} {N : Nat}  {ρ : Int64 × Mem} (σ : Mem) (hc : Cx Θ (VM g) cX5_house 8 RX5 (rk 44 0 0) (some .long) [] false (oL ρ.1) ρ.2) (x1 : Int32) (x2 : Int64) (r83 : (Mem × Int64 × Int32) → Option (Int64 × Mem)) (hr83 : ∀ y : Mem × Int64 × Int32, Sim Θ 8 ρ (y.1) (r83 y) (0, 0) 83 [(0, .ref (vO (VM g) + 0)), (1, .int x1), (2, .long x2), (4, .long y.2.1), (6, .int y.2.2)] []) : ∀ y83 : Mem × Int64 × Int32, Sim Θ 8 ρ (y83.1) (bX5_house_83 N σ x1 x2 r83 y83) (0, 0) 83 [(0, .ref (vO (VM g) + 0)), (1, .int x1), (2, .long x2), (4, .long y83.2.1), (6, .int y83.2.2)] [] := by
  intro y83
  have hz := hc.z
  have hr83c : ∀ (z0_ : Mem) (z1_ : Int64) (z2_ : Int32), Sim Θ 8 ρ (z0_) (r83 (z0_, z1_, z2_)) (0, 0) 83 [(0, .ref (vO (VM g) + 0)), (1, .int x1), (2, .long x2), (4, .long z1_), (6, .int z2_)] [] := fun z0_ z1_ z2_ => hr83 (z0_, z1_, z2_)
  unfold bX5_house_83
  refine s_iload hz dX5_house_83 4 rfl ?_
  refine s_sipush (v := (495 : Int32)) hz dX5_house_85 (by decide) ?_
  refine s_icmp_ge (tgt := 241) hz dX5_house_88 rfl (fun h11 => ?_) (fun h11 => ?_)
  · refine s_lload hz dX5_house_241 3 rfl ?_
    refine s_ldc2 hz dX5_house_243 q1418 ?_
    refine s_ldiv hz dX5_house_246 (by decide) ?_
    refine s_iload_n hz dX5_house_247 rfl 1 rfl ?_
    refine s_i2l hz dX5_house_248 ?_
    refine s_aload_n hz dX5_house_249 rfl 0 rfl ?_
    refine rM_g_s hc dX5_house_250 ?_
    refine s_bipush (v := (10 : Int32)) hz dX5_house_253 (by decide) ?_
    refine rM_ld_1 hc (j := 10) (by decide) (by decide) dX5_house_255 ?_
    refine s_i2l hz dX5_house_256 ?_
    refine s_lmul hz dX5_house_257 ?_
    refine s_lsub hz dX5_house_258 ?_
    exact s_lretM hc dX5_house_259 (Nat.le_of_ble_eq_true rfl) (Nat.le_of_ble_eq_true rfl)
  · refine s_iconst (v := (0 : Int32)) hz dX5_house_91 (by decide) ?_
    refine s_istore (lv' := [(7, .int (0 : Int32)), (0, .ref (vO (VM g) + 0)), (1, .int x1), (2, .long x2), (4, .long y83.2.1), (6, .int y83.2.2)]) hz dX5_house_92 (Nat.le_of_ble_eq_true rfl) rfl ?_
    exact s_sub [1, 2, 3, 4, 5, 0] rfl (s_lp (sg := fun y : Mem × Int32 => y.1) (lvs := fun y : Mem × Int32 => [(0, .ref (vO (VM g) + 0)), (1, .int x1), (2, .long x2), (4, .long y83.2.1), (6, .int y83.2.2), (7, .int y.2)]) (fun rec hrec => wbX5_house_94 y83.1 hc x1 x2 y83.2.1 y83.2.2 (r83) hr83 rec hrec) N (y83.1, (0 : Int32)))
def bX5_house_26 (N : Nat) (σ : Mem) (x1 : Int32) (r26 : (Mem × Int32) → Option (Int64 × Mem)) (y26 : Mem × Int32) : Option (Int64 × Mem) :=
  if x1 ≤ y26.2 then
  ((fX5_counts N y26.1).bind (fun q7 => 
  (fX5_potWith N q7.2 (gI q7.2 1 17)).bind (fun q9 => 
  lp (bX5_house_83 N q9.2 x1 q9.1) N (q9.2, (0 : Int64), (0 : Int32)))))
  else ((fX5_rarest N y26.1).bind (fun q36 => 
  gb (inb q36 495) (
  lt_ (pI y26.1 17 (ix q36) (1 : Int32)) (fun σ38 => 
  gb (inb q36 495) (
  gb (inb y26.2 495) (
  lt_ (pI σ38 18 (ix y26.2) (gI σ38 4 (ix q36))) (fun σ41 => 
  r26 (σ41, (y26.2 + (1 : Int32))))))))))
set_option maxHeartbeats 4000000 in
theorem wbX5_house_26 {Θ : ThT Mem} {g : Geo} {N : Nat}  {ρ : Int64 × Mem} (σ : Mem) (hc : Cx Θ (VM g) cX5_house 8 RX5 (rk 44 0 0) (some .long) [] false (oL ρ.1) ρ.2) (x1 : Int32) (r26 : (Mem × Int32) → Option (Int64 × Mem)) (hr26 : ∀ y : Mem × Int32, Sim Θ 8 ρ (y.1) (r26 y) (0, 0) 26 [(0, .ref (vO (VM g) + 0)), (1, .int x1), (2, .int y.2)] []) : ∀ y26 : Mem × Int32, Sim Θ 8 ρ (y26.1) (bX5_house_26 N σ x1 r26 y26) (0, 0) 26 [(0, .ref (vO (VM g) + 0)), (1, .int x1), (2, .int y26.2)] [] := by
  intro y26
  have hz := hc.z
  have hr26c : ∀ (z0_ : Mem) (z1_ : Int32), Sim Θ 8 ρ (z0_) (r26 (z0_, z1_)) (0, 0) 26 [(0, .ref (vO (VM g) + 0)), (1, .int x1), (2, .int z1_)] [] := fun z0_ z1_ => hr26 (z0_, z1_)
  unfold bX5_house_26
  refine s_iload_n hz dX5_house_26 rfl 2 rfl ?_
  refine s_iload_n hz dX5_house_27 rfl 1 rfl ?_
  refine s_icmp_ge (tgt := 61) hz dX5_house_28 rfl (fun h6 => ?_) (fun h6 => ?_)
  · refine s_aload_n hz dX5_house_61 rfl 0 rfl ?_
    refine s_bind (fun q7 e8 => ?_)
    refine kX5_222 hc (cfX5_counts e8) ⟨(Nat.le_of_ble_eq_true rfl), (Nat.le_of_ble_eq_true rfl)⟩ ⟨(Nat.le_of_ble_eq_true rfl), (Nat.le_of_ble_eq_true rfl)⟩ (Nat.le_of_ble_eq_true rfl) dX5_house_62 ?_
    refine s_aload_n hz dX5_house_65 rfl 0 rfl ?_
    refine s_aload_n hz dX5_house_66 rfl 0 rfl ?_
    refine rM_g_s hc dX5_house_67 ?_
    refine s_bipush (v := (17 : Int32)) hz dX5_house_70 (by decide) ?_
    refine rM_ld_1 hc (j := 17) (by decide) (by decide) dX5_house_72 ?_
    refine s_bind (fun q9 e10 => ?_)
    refine kX5_208 hc (cfX5_potWith e10) ⟨(Nat.le_of_ble_eq_true rfl), (Nat.le_of_ble_eq_true rfl)⟩ ⟨(Nat.le_of_ble_eq_true rfl), (Nat.le_of_ble_eq_true rfl)⟩ (Nat.le_of_ble_eq_true rfl) dX5_house_73 ?_
    refine s_lstore_n (lv' := [(2, .long q9.1), (0, .ref (vO (VM g) + 0)), (1, .int x1)]) hz dX5_house_76 rfl (Nat.le_of_ble_eq_true rfl) rfl ?_
    refine s_lconst (v := (0 : Int64)) hz dX5_house_77 (by decide) ?_
    refine s_lstore (lv' := [(4, .long (0 : Int64)), (2, .long q9.1), (0, .ref (vO (VM g) + 0)), (1, .int x1)]) hz dX5_house_78 (Nat.le_of_ble_eq_true rfl) rfl ?_
    refine s_iconst (v := (0 : Int32)) hz dX5_house_80 (by decide) ?_
    refine s_istore (lv' := [(6, .int (0 : Int32)), (4, .long (0 : Int64)), (2, .long q9.1), (0, .ref (vO (VM g) + 0)), (1, .int x1)]) hz dX5_house_81 (Nat.le_of_ble_eq_true rfl) rfl ?_
    exact s_sub [3, 4, 2, 1, 0] rfl (s_lp (sg := fun y : Mem × Int64 × Int32 => y.1) (lvs := fun y : Mem × Int64 × Int32 => [(0, .ref (vO (VM g) + 0)), (1, .int x1), (2, .long q9.1), (4, .long y.2.1), (6, .int y.2.2)]) (fun rec hrec => wbX5_house_83 q9.2 hc x1 q9.1  rec hrec) N (q9.2, (0 : Int64), (0 : Int32)))
  · refine s_aload_n hz dX5_house_31 rfl 0 rfl ?_
    refine s_bind (fun q36 e37 => ?_)
    refine kX5_243 hc (cfX5_rarest e37) ⟨(Nat.le_of_ble_eq_true rfl), (Nat.le_of_ble_eq_true rfl)⟩ ⟨(Nat.le_of_ble_eq_true rfl), (Nat.le_of_ble_eq_true rfl)⟩ (Nat.le_of_ble_eq_true rfl) dX5_house_32 ?_
    refine s_istore_n (lv' := [(3, .int q36), (0, .ref (vO (VM g) + 0)), (1, .int x1), (2, .int y26.2)]) hz dX5_house_35 rfl (Nat.le_of_ble_eq_true rfl) rfl ?_
    refine s_aload_n hz dX5_house_36 rfl 1 rfl ?_
    refine rM_g_isTaken hc dX5_house_37 ?_
    refine s_iload_n hz dX5_house_40 rfl 0 rfl ?_
    refine s_iconst (v := (1 : Int32)) hz dX5_house_41 (by decide) ?_
    refine s_gb (fun h39 => ?_)
    refine rM_st_17 hc h39 rfl rfl dX5_house_42 (fun σ38 => ?_)
    refine s_aload_n hz dX5_house_43 rfl 1 rfl ?_
    refine rM_g_bought hc dX5_house_44 ?_
    refine s_iload_n hz dX5_house_47 rfl 3 rfl ?_
    refine s_aload_n hz dX5_house_48 rfl 1 rfl ?_
    refine rM_g_rowAt hc dX5_house_49 ?_
    refine s_iload_n hz dX5_house_52 rfl 0 rfl ?_
    refine s_gb (fun h40 => ?_)
    refine rM_ld_4 hc h40 rfl dX5_house_53 ?_
    refine s_gb (fun h42 => ?_)
    refine rM_st_18 hc h42 rfl dX5_house_54 (fun σ41 => ?_)
    refine s_iinc (v := (1 : Int32)) (lv' := [(2, .int (y26.2 + (1 : Int32))), (3, .int q36), (0, .ref (vO (VM g) + 0)), (1, .int x1)]) hz dX5_house_55 3 rfl (by decide) (Nat.le_of_ble_eq_true rfl) rfl ?_
    refine s_goto (tgt := 26) hz dX5_house_58 rfl ?_
    exact s_sub [2, 3, 0] rfl (hr26c σ41 (y26.2 + (1 : Int32)))
def fX5_house (N : Nat) (σ : Mem) (x1 : Int32) : Option (Int64 × Mem) :=
  (fX5_isIn N σ ((x1).toInt64) (1 : Int64) (495 : Int64)).bind (fun q1 => 
  if q1 = (0 : Int32) then
  ((fX5_finds N σ (-1000000001 : Int32)).bind (fun q43 => 
  some (((q43.1).toInt64), q43.2)))
  else ((fX5_begins N σ).bind (fun q4 => 
  lp (bX5_house_26 N q4.2 x1) N (q4.2, (0 : Int32)))))
set_option maxHeartbeats 4000000 in
theorem wfX5_house {Θ : ThT Mem} {g : Geo} {N : Nat}  {ρ : Int64 × Mem} (σ : Mem) (x1 : Int32) (hc : Cx Θ (VM g) cX5_house 8 RX5 (rk 44 0 0) (some .long) [] false (oL ρ.1) ρ.2) : Sim Θ 8 ρ σ (fX5_house N σ x1) (0, 0) 0 [(0, .ref (vO (VM g) + 0)), (1, .int x1)] [] := by
  have hz := hc.z
  unfold fX5_house
  refine s_iload_n hz dX5_house_0 rfl 1 rfl ?_
  refine s_i2l hz dX5_house_1 ?_
  refine s_lconst (v := (1 : Int64)) hz dX5_house_2 (by decide) ?_
  refine s_ldc2 hz dX5_house_3 q1418 ?_
  refine s_bind (fun q1 e2 => ?_)
  refine kX5_98 hc (cfX5_isIn e2) ⟨(Nat.le_of_ble_eq_true rfl), (Nat.le_of_ble_eq_true rfl)⟩ ⟨(Nat.le_of_ble_eq_true rfl), (Nat.le_of_ble_eq_true rfl)⟩ (Nat.le_of_ble_eq_true rfl) dX5_house_6 ?_
  refine s_if_ne (tgt := 20) hz dX5_house_9 rfl (fun h3 => ?_) (fun h3 => ?_)
  · refine s_aload_n hz dX5_house_20 rfl 0 rfl ?_
    refine s_bind (fun q4 e5 => ?_)
    refine kX5_240 hc (cfX5_begins e5) ⟨(Nat.le_of_ble_eq_true rfl), (Nat.le_of_ble_eq_true rfl)⟩ ⟨(Nat.le_of_ble_eq_true rfl), (Nat.le_of_ble_eq_true rfl)⟩ (Nat.le_of_ble_eq_true rfl) dX5_house_21 ?_
    refine s_iconst (v := (0 : Int32)) hz dX5_house_24 (by decide) ?_
    refine s_istore_n (lv' := [(2, .int (0 : Int32)), (0, .ref (vO (VM g) + 0)), (1, .int x1)]) hz dX5_house_25 rfl (Nat.le_of_ble_eq_true rfl) rfl ?_
    exact s_sub [1, 2, 0] rfl (s_lp (sg := fun y : Mem × Int32 => y.1) (lvs := fun y : Mem × Int32 => [(0, .ref (vO (VM g) + 0)), (1, .int x1), (2, .int y.2)]) (fun rec hrec => wbX5_house_26 q4.2 hc x1  rec hrec) N (q4.2, (0 : Int32)))
  · refine s_aload_n hz dX5_house_12 rfl 0 rfl ?_
    refine s_ldc hz dX5_house_13 q1203 ?_
    refine s_bind (fun q43 e44 => ?_)
    refine kX5_88 hc (cfX5_finds e44) ⟨(Nat.le_of_ble_eq_true rfl), (Nat.le_of_ble_eq_true rfl)⟩ ⟨(Nat.le_of_ble_eq_true rfl), (Nat.le_of_ble_eq_true rfl)⟩ (Nat.le_of_ble_eq_true rfl) dX5_house_15 ?_
    refine s_i2l hz dX5_house_18 ?_
    exact s_lretM hc dX5_house_19 (Nat.le_of_ble_eq_true rfl) (Nat.le_of_ble_eq_true rfl)
theorem cfX5_house {g : Geo} {N : Nat}  {σ : Mem} {x1 : Int32} {ρ : Int64 × Mem} (hF : fX5_house N σ x1 = some ρ) (l : Launch) : Ct (VM g) l yX5_house cX5_house 8 (some .long) (rk 44 0 0) [.ref (vO (VM g) + 0), .int x1] σ (oL ρ.1) ρ.2 :=
  Ct.of (by decide) (Nat.le_of_ble_eq_true rfl) (fun Θ hc ls hl => wfX5_house σ x1 hc hF ls hl)
def bX5_seek_38 (N : Nat) (σ : Mem) (x1 : Int32) (x2 : Int32) (r38 : (Mem × Int32 × Int32) → Option (Int32 × Mem)) (y38 : Mem × Int32 × Int32) : Option (Int32 × Mem) :=
  if x1 ≤ y38.2.2 then
  (if x2 = (0 : Int32) then
  ((fX5_rarest N y38.1).bind (fun q13 => 
  gb (inb q13 495) (
  some ((gI y38.1 16 (ix q13)), y38.1))))
  else (some (y38.2.1, y38.1)))
  else ((fX5_rarest N y38.1).bind (fun q16 => 
  gb (inb q16 495) (
  gb (inb q16 495) (
  lt_ (y38.2.1 + (if (gI y38.1 16 (ix q16)) = (gI y38.1 13 (ix q16)) then (1 : Int32) else (0 : Int32))) (fun v20 => 
  gb (inb q16 495) (
  gb (inb q16 495) (
  lt_ (pI y38.1 16 (ix q16) ((gI y38.1 16 (ix q16)) + (1 : Int32))) (fun σ22 => 
  r38 (σ22, v20, (y38.2.2 + (1 : Int32)))))))))))
set_option maxHeartbeats 4000000 in
theorem wbX5_seek_38 {Θ : ThT Mem} {g : Geo} {N : Nat}  {ρ : Int32 × Mem} (σ : Mem) (hc : Cx Θ (VM g) cX5_seek 6 RX5 (rk 44 0 0) (some .int) [] false (oI ρ.1) ρ.2) (x1 : Int32) (x2 : Int32) (r38 : (Mem × Int32 × Int32) → Option (Int32 × Mem)) (hr38 : ∀ y : Mem × Int32 × Int32, Sim Θ 6 ρ (y.1) (r38 y) (0, 0) 38 [(0, .ref (vO (VM g) + 0)), (1, .int x1), (2, .int x2), (3, .int y.2.1), (4, .int y.2.2)] []) : ∀ y38 : Mem × Int32 × Int32, Sim Θ 6 ρ (y38.1) (bX5_seek_38 N σ x1 x2 r38 y38) (0, 0) 38 [(0, .ref (vO (VM g) + 0)), (1, .int x1), (2, .int x2), (3, .int y38.2.1), (4, .int y38.2.2)] [] := by
  intro y38
  have hz := hc.z
  have hr38c : ∀ (z0_ : Mem) (z1_ : Int32) (z2_ : Int32), Sim Θ 6 ρ (z0_) (r38 (z0_, z1_, z2_)) (0, 0) 38 [(0, .ref (vO (VM g) + 0)), (1, .int x1), (2, .int x2), (3, .int z1_), (4, .int z2_)] [] := fun z0_ z1_ z2_ => hr38 (z0_, z1_, z2_)
  unfold bX5_seek_38
  refine s_iload hz dX5_seek_38 4 rfl ?_
  refine s_iload_n hz dX5_seek_40 rfl 1 rfl ?_
  refine s_icmp_ge (tgt := 92) hz dX5_seek_41 rfl (fun h11 => ?_) (fun h11 => ?_)
  · refine s_iload_n hz dX5_seek_92 rfl 2 rfl ?_
    refine s_if_ne (tgt := 108) hz dX5_seek_93 rfl (fun h12 => ?_) (fun h12 => ?_)
    · refine s_iload_n hz dX5_seek_108 rfl 3 rfl ?_
      exact s_iretM hc dX5_seek_109 (Nat.le_of_ble_eq_true rfl) (Nat.le_of_ble_eq_true rfl)
    · refine s_aload_n hz dX5_seek_96 rfl 0 rfl ?_
      refine rM_g_tried hc dX5_seek_97 ?_
      refine s_aload_n hz dX5_seek_100 rfl 0 rfl ?_
      refine s_bind (fun q13 e14 => ?_)
      refine kX5_243 hc (cfX5_rarest e14) ⟨(Nat.le_of_ble_eq_true rfl), (Nat.le_of_ble_eq_true rfl)⟩ ⟨(Nat.le_of_ble_eq_true rfl), (Nat.le_of_ble_eq_true rfl)⟩ (Nat.le_of_ble_eq_true rfl) dX5_seek_101 ?_
      refine s_gb (fun h15 => ?_)
      refine rM_ld_16 hc h15 rfl dX5_seek_104 ?_
      refine s_goto (tgt := 109) hz dX5_seek_105 rfl ?_
      exact s_iretM hc dX5_seek_109 (Nat.le_of_ble_eq_true rfl) (Nat.le_of_ble_eq_true rfl)
  · refine s_aload_n hz dX5_seek_44 rfl 0 rfl ?_
    refine s_bind (fun q16 e17 => ?_)
    refine kX5_243 hc (cfX5_rarest e17) ⟨(Nat.le_of_ble_eq_true rfl), (Nat.le_of_ble_eq_true rfl)⟩ ⟨(Nat.le_of_ble_eq_true rfl), (Nat.le_of_ble_eq_true rfl)⟩ (Nat.le_of_ble_eq_true rfl) dX5_seek_45 ?_
    refine s_istore (lv' := [(5, .int q16), (0, .ref (vO (VM g) + 0)), (1, .int x1), (2, .int x2), (3, .int y38.2.1), (4, .int y38.2.2)]) hz dX5_seek_48 (Nat.le_of_ble_eq_true rfl) rfl ?_
    refine s_iload_n hz dX5_seek_50 rfl 4 rfl ?_
    refine s_aload_n hz dX5_seek_51 rfl 1 rfl ?_
    refine rM_g_tried hc dX5_seek_52 ?_
    refine s_iload hz dX5_seek_55 0 rfl ?_
    refine s_gb (fun h18 => ?_)
    refine rM_ld_16 hc h18 rfl dX5_seek_57 ?_
    refine s_aload_n hz dX5_seek_58 rfl 1 rfl ?_
    refine rM_g_all hc dX5_seek_59 ?_
    refine s_iload hz dX5_seek_62 0 rfl ?_
    refine s_gb (fun h19 => ?_)
    refine rM_ld_13 hc h19 rfl dX5_seek_64 ?_
    refine s_dia (J := 73) (v := .int (if (gI y38.1 16 (ix q16)) = (gI y38.1 13 (ix q16)) then (1 : Int32) else (0 : Int32))) (st := [.int y38.2.1]) (fun _ hj24 => ?_) ?_
    · refine s_icmp_ne_ (tgt := 72) hz dX5_seek_65 rfl (fun h25 => ?_) (fun h25 => ?_)
      · refine s_iconst (v := (0 : Int32)) hz dX5_seek_72 (by decide) ?_
        rw [if_neg h25] at hj24
        exact hj24
      · refine s_iconst (v := (1 : Int32)) hz dX5_seek_68 (by decide) ?_
        refine s_goto (tgt := 73) hz dX5_seek_69 rfl ?_
        rw [if_pos h25] at hj24
        exact hj24
    refine s_iadd hz dX5_seek_73 ?_
    refine s_nmI (fun v20 => ?_)
    refine s_istore_n (lv' := [(3, .int v20), (5, .int q16), (0, .ref (vO (VM g) + 0)), (1, .int x1), (2, .int x2), (4, .int y38.2.2)]) hz dX5_seek_74 rfl (Nat.le_of_ble_eq_true rfl) rfl ?_
    refine s_aload_n hz dX5_seek_75 rfl 2 rfl ?_
    refine rM_g_tried hc dX5_seek_76 ?_
    refine s_iload hz dX5_seek_79 1 rfl ?_
    refine s_dup2 hz dX5_seek_81 rfl rfl ?_
    refine s_gb (fun h21 => ?_)
    refine rM_ld_16 hc h21 rfl dX5_seek_82 ?_
    refine s_iconst (v := (1 : Int32)) hz dX5_seek_83 (by decide) ?_
    refine s_iadd hz dX5_seek_84 ?_
    refine s_gb (fun h23 => ?_)
    refine rM_st_16 hc h23 rfl dX5_seek_85 (fun σ22 => ?_)
    refine s_iinc (v := (1 : Int32)) (lv' := [(4, .int (y38.2.2 + (1 : Int32))), (3, .int v20), (5, .int q16), (0, .ref (vO (VM g) + 0)), (1, .int x1), (2, .int x2)]) hz dX5_seek_86 5 rfl (by decide) (Nat.le_of_ble_eq_true rfl) rfl ?_
    refine s_goto (tgt := 38) hz dX5_seek_89 rfl ?_
    exact s_sub [3, 4, 5, 1, 0] rfl (hr38c σ22 v20 (y38.2.2 + (1 : Int32)))
def fX5_seek (N : Nat) (σ : Mem) (x1 : Int32) (x2 : Int32) : Option (Int32 × Mem) :=
  (fX5_isIn N σ ((x1).toInt64) (1 : Int64) (200 : Int64)).bind (fun q1 => 
  if q1 = (0 : Int32) then
  ((fX5_finds N σ (-1000000001 : Int32)).bind (fun q4 => 
  some (q4.1, q4.2)))
  else ((fX5_isIn N σ ((x2).toInt64) (0 : Int64) (1 : Int64)).bind (fun q6 => 
  if q6 = (0 : Int32) then
  ((fX5_finds N σ (-1000000001 : Int32)).bind (fun q26 => 
  some (q26.1, q26.2)))
  else ((fX5_begins N σ).bind (fun q9 => 
  lp (bX5_seek_38 N q9.2 x1 x2) N (q9.2, (0 : Int32), (0 : Int32)))))))
set_option maxHeartbeats 4000000 in
theorem wfX5_seek {Θ : ThT Mem} {g : Geo} {N : Nat}  {ρ : Int32 × Mem} (σ : Mem) (x1 : Int32) (x2 : Int32) (hc : Cx Θ (VM g) cX5_seek 6 RX5 (rk 44 0 0) (some .int) [] false (oI ρ.1) ρ.2) : Sim Θ 6 ρ σ (fX5_seek N σ x1 x2) (0, 0) 0 [(0, .ref (vO (VM g) + 0)), (1, .int x1), (2, .int x2)] [] := by
  have hz := hc.z
  unfold fX5_seek
  refine s_iload_n hz dX5_seek_0 rfl 1 rfl ?_
  refine s_i2l hz dX5_seek_1 ?_
  refine s_lconst (v := (1 : Int64)) hz dX5_seek_2 (by decide) ?_
  refine s_ldc2 hz dX5_seek_3 q1448 ?_
  refine s_bind (fun q1 e2 => ?_)
  refine kX5_98 hc (cfX5_isIn e2) ⟨(Nat.le_of_ble_eq_true rfl), (Nat.le_of_ble_eq_true rfl)⟩ ⟨(Nat.le_of_ble_eq_true rfl), (Nat.le_of_ble_eq_true rfl)⟩ (Nat.le_of_ble_eq_true rfl) dX5_seek_6 ?_
  refine s_if_eq (tgt := 22) hz dX5_seek_9 rfl (fun h3 => ?_) (fun h3 => ?_)
  · refine s_aload_n hz dX5_seek_22 rfl 0 rfl ?_
    refine s_ldc hz dX5_seek_23 q1203 ?_
    refine s_bind (fun q4 e5 => ?_)
    refine kX5_88 hc (cfX5_finds e5) ⟨(Nat.le_of_ble_eq_true rfl), (Nat.le_of_ble_eq_true rfl)⟩ ⟨(Nat.le_of_ble_eq_true rfl), (Nat.le_of_ble_eq_true rfl)⟩ (Nat.le_of_ble_eq_true rfl) dX5_seek_25 ?_
    exact s_iretM hc dX5_seek_28 (Nat.le_of_ble_eq_true rfl) (Nat.le_of_ble_eq_true rfl)
  · refine s_iload_n hz dX5_seek_12 rfl 2 rfl ?_
    refine s_i2l hz dX5_seek_13 ?_
    refine s_lconst (v := (0 : Int64)) hz dX5_seek_14 (by decide) ?_
    refine s_lconst (v := (1 : Int64)) hz dX5_seek_15 (by decide) ?_
    refine s_bind (fun q6 e7 => ?_)
    refine kX5_98 hc (cfX5_isIn e7) ⟨(Nat.le_of_ble_eq_true rfl), (Nat.le_of_ble_eq_true rfl)⟩ ⟨(Nat.le_of_ble_eq_true rfl), (Nat.le_of_ble_eq_true rfl)⟩ (Nat.le_of_ble_eq_true rfl) dX5_seek_16 ?_
    refine s_if_ne (tgt := 29) hz dX5_seek_19 rfl (fun h8 => ?_) (fun h8 => ?_)
    · refine s_aload_n hz dX5_seek_29 rfl 0 rfl ?_
      refine s_bind (fun q9 e10 => ?_)
      refine kX5_240 hc (cfX5_begins e10) ⟨(Nat.le_of_ble_eq_true rfl), (Nat.le_of_ble_eq_true rfl)⟩ ⟨(Nat.le_of_ble_eq_true rfl), (Nat.le_of_ble_eq_true rfl)⟩ (Nat.le_of_ble_eq_true rfl) dX5_seek_30 ?_
      refine s_iconst (v := (0 : Int32)) hz dX5_seek_33 (by decide) ?_
      refine s_istore_n (lv' := [(3, .int (0 : Int32)), (0, .ref (vO (VM g) + 0)), (1, .int x1), (2, .int x2)]) hz dX5_seek_34 rfl (Nat.le_of_ble_eq_true rfl) rfl ?_
      refine s_iconst (v := (0 : Int32)) hz dX5_seek_35 (by decide) ?_
      refine s_istore (lv' := [(4, .int (0 : Int32)), (3, .int (0 : Int32)), (0, .ref (vO (VM g) + 0)), (1, .int x1), (2, .int x2)]) hz dX5_seek_36 (Nat.le_of_ble_eq_true rfl) rfl ?_
      exact s_sub [2, 3, 4, 1, 0] rfl (s_lp (sg := fun y : Mem × Int32 × Int32 => y.1) (lvs := fun y : Mem × Int32 × Int32 => [(0, .ref (vO (VM g) + 0)), (1, .int x1), (2, .int x2), (3, .int y.2.1), (4, .int y.2.2)]) (fun rec hrec => wbX5_seek_38 q9.2 hc x1 x2  rec hrec) N (q9.2, (0 : Int32), (0 : Int32)))
    · refine s_aload_n hz dX5_seek_22 rfl 0 rfl ?_
      refine s_ldc hz dX5_seek_23 q1203 ?_
      refine s_bind (fun q26 e27 => ?_)
      refine kX5_88 hc (cfX5_finds e27) ⟨(Nat.le_of_ble_eq_true rfl), (Nat.le_of_ble_eq_true rfl)⟩ ⟨(Nat.le_of_ble_eq_true rfl), (Nat.le_of_ble_eq_true rfl)⟩ (Nat.le_of_ble_eq_true rfl) dX5_seek_25 ?_
      exact s_iretM hc dX5_seek_28 (Nat.le_of_ble_eq_true rfl) (Nat.le_of_ble_eq_true rfl)
theorem cfX5_seek {g : Geo} {N : Nat}  {σ : Mem} {x1 : Int32} {x2 : Int32} {ρ : Int32 × Mem} (hF : fX5_seek N σ x1 x2 = some ρ) (l : Launch) : Ct (VM g) l yX5_seek cX5_seek 6 (some .int) (rk 44 0 0) [.ref (vO (VM g) + 0), .int x1, .int x2] σ (oI ρ.1) ρ.2 :=
  Ct.of (by decide) (Nat.le_of_ble_eq_true rfl) (fun Θ hc ls hl => wfX5_seek σ x1 x2 hc hF ls hl)
def fX5_shares (N : Nat) (σ : Mem) (x1 : Int32) : Option (Int32 × Mem) :=
  (fX5_isPlace N σ x1).bind (fun q1 => 
  if q1 = (0 : Int32) then
  ((fX5_finds N σ (-1000000001 : Int32)).bind (fun q7 => 
  some (q7.1, q7.2)))
  else ((fX5_works N σ).bind (fun q4 => 
  gb (inb x1 495) (
  some ((gI q4.2 13 (ix x1)), q4.2)))))
set_option maxHeartbeats 4000000 in
theorem wfX5_shares {Θ : ThT Mem} {g : Geo} {N : Nat}  {ρ : Int32 × Mem} (σ : Mem) (x1 : Int32) (hc : Cx Θ (VM g) cX5_shares 2 RX5 (rk 43 0 0) (some .int) [] false (oI ρ.1) ρ.2) : Sim Θ 2 ρ σ (fX5_shares N σ x1) (0, 0) 0 [(0, .ref (vO (VM g) + 0)), (1, .int x1)] [] := by
  have hz := hc.z
  unfold fX5_shares
  refine s_iload_n hz dX5_shares_0 rfl 1 rfl ?_
  refine s_bind (fun q1 e2 => ?_)
  refine kX5_92 hc (cfX5_isPlace e2) ⟨(Nat.le_of_ble_eq_true rfl), (Nat.le_of_ble_eq_true rfl)⟩ ⟨(Nat.le_of_ble_eq_true rfl), (Nat.le_of_ble_eq_true rfl)⟩ (Nat.le_of_ble_eq_true rfl) dX5_shares_1 ?_
  refine s_if_ne (tgt := 14) hz dX5_shares_4 rfl (fun h3 => ?_) (fun h3 => ?_)
  · refine s_aload_n hz dX5_shares_14 rfl 0 rfl ?_
    refine s_bind (fun q4 e5 => ?_)
    refine kX5_198 hc (cfX5_works e5) ⟨(Nat.le_of_ble_eq_true rfl), (Nat.le_of_ble_eq_true rfl)⟩ ⟨(Nat.le_of_ble_eq_true rfl), (Nat.le_of_ble_eq_true rfl)⟩ (Nat.le_of_ble_eq_true rfl) dX5_shares_15 ?_
    refine s_aload_n hz dX5_shares_18 rfl 0 rfl ?_
    refine rM_g_all hc dX5_shares_19 ?_
    refine s_iload_n hz dX5_shares_22 rfl 1 rfl ?_
    refine s_gb (fun h6 => ?_)
    refine rM_ld_13 hc h6 rfl dX5_shares_23 ?_
    exact s_iretM hc dX5_shares_24 (Nat.le_of_ble_eq_true rfl) (Nat.le_of_ble_eq_true rfl)
  · refine s_aload_n hz dX5_shares_7 rfl 0 rfl ?_
    refine s_ldc hz dX5_shares_8 q1203 ?_
    refine s_bind (fun q7 e8 => ?_)
    refine kX5_88 hc (cfX5_finds e8) ⟨(Nat.le_of_ble_eq_true rfl), (Nat.le_of_ble_eq_true rfl)⟩ ⟨(Nat.le_of_ble_eq_true rfl), (Nat.le_of_ble_eq_true rfl)⟩ (Nat.le_of_ble_eq_true rfl) dX5_shares_10 ?_
    exact s_iretM hc dX5_shares_13 (Nat.le_of_ble_eq_true rfl) (Nat.le_of_ble_eq_true rfl)
theorem cfX5_shares {g : Geo} {N : Nat}  {σ : Mem} {x1 : Int32} {ρ : Int32 × Mem} (hF : fX5_shares N σ x1 = some ρ) (l : Launch) : Ct (VM g) l yX5_shares cX5_shares 2 (some .int) (rk 43 0 0) [.ref (vO (VM g) + 0), .int x1] σ (oI ρ.1) ρ.2 :=
  Ct.of (by decide) (Nat.le_of_ble_eq_true rfl) (fun Θ hc ls hl => wfX5_shares σ x1 hc hF ls hl)
def fX5_drawAt (N : Nat) (σ : Mem) (x1 : Int32) : Option (Int32) :=
  gb (inb ((104 : Int32) + ((8 : Int32) * x1)) 919) (
  some (gI σ 1 (ix ((104 : Int32) + ((8 : Int32) * x1)))))
set_option maxHeartbeats 4000000 in
theorem wfX5_drawAt {Θ : ThT Mem} {g : Geo} {N : Nat}  {ρ : Int32} (σ : Mem) (x1 : Int32) (hc : Cx Θ (VM g) cX5_drawAt 2 RX5 (rk 1 0 0) (some .int) [] false (oI ρ) σ) : Sim Θ 2 ρ σ (fX5_drawAt N σ x1) (0, 0) 0 [(0, .ref (vO (VM g) + 0)), (1, .int x1)] [] := by
  have hz := hc.z
  unfold fX5_drawAt
  refine s_aload_n hz dX5_drawAt_0 rfl 0 rfl ?_
  refine rM_g_s hc dX5_drawAt_1 ?_
  refine s_bipush (v := (104 : Int32)) hz dX5_drawAt_4 (by decide) ?_
  refine s_bipush (v := (8 : Int32)) hz dX5_drawAt_6 (by decide) ?_
  refine s_iload_n hz dX5_drawAt_8 rfl 1 rfl ?_
  refine s_imul hz dX5_drawAt_9 ?_
  refine s_iadd hz dX5_drawAt_10 ?_
  refine s_gb (fun h1 => ?_)
  refine rM_ld_1 hc h1 rfl dX5_drawAt_11 ?_
  exact s_iret hc dX5_drawAt_12 (Nat.le_of_ble_eq_true rfl) (Nat.le_of_ble_eq_true rfl)
theorem cfX5_drawAt {g : Geo} {N : Nat}  {σ : Mem} {x1 : Int32} {ρ : Int32} (hF : fX5_drawAt N σ x1 = some ρ) (l : Launch) : Ct (VM g) l yX5_drawAt cX5_drawAt 2 (some .int) (rk 1 0 0) [.ref (vO (VM g) + 0), .int x1] σ (oI ρ) σ :=
  Ct.of (by decide) (Nat.le_of_ble_eq_true rfl) (fun Θ hc ls hl => wfX5_drawAt σ x1 hc hF ls hl)
def bX5_due_21 (N : Nat) (σ : Mem) (x1 : Int32) (r21 : Int32 → Option (Int32 × Mem)) (y21 : Int32) : Option (Int32 × Mem) :=
  if (gI σ 1 1) ≤ y21 then
  (some (y21, σ))
  else ((fX5_drawAt N σ (((gI σ 1 1) - (1 : Int32)) - y21)).bind (fun q5 => 
  (fX5_has N σ q5 x1).bind (fun q7 => 
  if q7 = (0 : Int32) then
  (r21 (y21 + (1 : Int32)))
  else (some (y21, σ)))))
set_option maxHeartbeats 4000000 in
theorem wbX5_due_21 {Θ : ThT Mem} {g : Geo} {N : Nat}  {ρ : Int32 × Mem} (σ : Mem) (hc : Cx Θ (VM g) cX5_due 3 RX5 (rk 2 0 0) (some .int) [] false (oI ρ.1) ρ.2) (x1 : Int32) (r21 : Int32 → Option (Int32 × Mem)) (hr21 : ∀ y : Int32, Sim Θ 3 ρ (σ) (r21 y) (0, 0) 21 [(0, .ref (vO (VM g) + 0)), (1, .int x1), (2, .int y)] []) : ∀ y21 : Int32, Sim Θ 3 ρ (σ) (bX5_due_21 N σ x1 r21 y21) (0, 0) 21 [(0, .ref (vO (VM g) + 0)), (1, .int x1), (2, .int y21)] [] := by
  intro y21
  have hz := hc.z
  unfold bX5_due_21
  refine s_iload_n hz dX5_due_21 rfl 2 rfl ?_
  refine s_aload_n hz dX5_due_22 rfl 0 rfl ?_
  refine rM_g_s hc dX5_due_23 ?_
  refine s_iconst (v := (1 : Int32)) hz dX5_due_26 (by decide) ?_
  refine rM_ld_1 hc (j := 1) (by decide) (by decide) dX5_due_27 ?_
  refine s_icmp_ge (tgt := 58) hz dX5_due_28 rfl (fun h4 => ?_) (fun h4 => ?_)
  · refine s_iload_n hz dX5_due_58 rfl 2 rfl ?_
    exact s_iretM hc dX5_due_59 (Nat.le_of_ble_eq_true rfl) (Nat.le_of_ble_eq_true rfl)
  · refine s_aload_n hz dX5_due_31 rfl 0 rfl ?_
    refine s_aload_n hz dX5_due_32 rfl 0 rfl ?_
    refine rM_g_s hc dX5_due_33 ?_
    refine s_iconst (v := (1 : Int32)) hz dX5_due_36 (by decide) ?_
    refine rM_ld_1 hc (j := 1) (by decide) (by decide) dX5_due_37 ?_
    refine s_iconst (v := (1 : Int32)) hz dX5_due_38 (by decide) ?_
    refine s_isub hz dX5_due_39 ?_
    refine s_iload_n hz dX5_due_40 rfl 2 rfl ?_
    refine s_isub hz dX5_due_41 ?_
    refine s_bind (fun q5 e6 => ?_)
    refine kX5_248 hc (cfX5_drawAt e6) ⟨(Nat.le_of_ble_eq_true rfl), (Nat.le_of_ble_eq_true rfl)⟩ ⟨(Nat.le_of_ble_eq_true rfl), (Nat.le_of_ble_eq_true rfl)⟩ (Nat.le_of_ble_eq_true rfl) dX5_due_42 ?_
    refine s_iload_n hz dX5_due_45 rfl 1 rfl ?_
    refine s_bind (fun q7 e8 => ?_)
    refine kX5_83 hc (cfX5_has e8) ⟨(Nat.le_of_ble_eq_true rfl), (Nat.le_of_ble_eq_true rfl)⟩ ⟨(Nat.le_of_ble_eq_true rfl), (Nat.le_of_ble_eq_true rfl)⟩ (Nat.le_of_ble_eq_true rfl) dX5_due_46 ?_
    refine s_if_ne (tgt := 58) hz dX5_due_49 rfl (fun h9 => ?_) (fun h9 => ?_)
    · refine s_iload_n hz dX5_due_58 rfl 2 rfl ?_
      exact s_iretM hc dX5_due_59 (Nat.le_of_ble_eq_true rfl) (Nat.le_of_ble_eq_true rfl)
    · refine s_iinc (v := (1 : Int32)) (lv' := [(2, .int (y21 + (1 : Int32))), (0, .ref (vO (VM g) + 0)), (1, .int x1)]) hz dX5_due_52 2 rfl (by decide) (Nat.le_of_ble_eq_true rfl) rfl ?_
      refine s_goto (tgt := 21) hz dX5_due_55 rfl ?_
      exact s_sub [1, 2, 0] rfl (hr21 (y21 + (1 : Int32)))
def fX5_due (N : Nat) (σ : Mem) (x1 : Int32) : Option (Int32 × Mem) :=
  (fX5_isIn N σ ((x1).toInt64) (0 : Int64) (11 : Int64)).bind (fun q1 => 
  if q1 = (0 : Int32) then
  ((fX5_finds N σ (-1000000001 : Int32)).bind (fun q10 => 
  some (q10.1, q10.2)))
  else (lp (bX5_due_21 N σ x1) N (0 : Int32)))
set_option maxHeartbeats 4000000 in
theorem wfX5_due {Θ : ThT Mem} {g : Geo} {N : Nat}  {ρ : Int32 × Mem} (σ : Mem) (x1 : Int32) (hc : Cx Θ (VM g) cX5_due 3 RX5 (rk 2 0 0) (some .int) [] false (oI ρ.1) ρ.2) : Sim Θ 3 ρ σ (fX5_due N σ x1) (0, 0) 0 [(0, .ref (vO (VM g) + 0)), (1, .int x1)] [] := by
  have hz := hc.z
  unfold fX5_due
  refine s_iload_n hz dX5_due_0 rfl 1 rfl ?_
  refine s_i2l hz dX5_due_1 ?_
  refine s_lconst (v := (0 : Int64)) hz dX5_due_2 (by decide) ?_
  refine s_ldc2 hz dX5_due_3 q1457 ?_
  refine s_bind (fun q1 e2 => ?_)
  refine kX5_98 hc (cfX5_isIn e2) ⟨(Nat.le_of_ble_eq_true rfl), (Nat.le_of_ble_eq_true rfl)⟩ ⟨(Nat.le_of_ble_eq_true rfl), (Nat.le_of_ble_eq_true rfl)⟩ (Nat.le_of_ble_eq_true rfl) dX5_due_6 ?_
  refine s_if_ne (tgt := 19) hz dX5_due_9 rfl (fun h3 => ?_) (fun h3 => ?_)
  · refine s_iconst (v := (0 : Int32)) hz dX5_due_19 (by decide) ?_
    refine s_istore_n (lv' := [(2, .int (0 : Int32)), (0, .ref (vO (VM g) + 0)), (1, .int x1)]) hz dX5_due_20 rfl (Nat.le_of_ble_eq_true rfl) rfl ?_
    exact s_sub [1, 2, 0] rfl (s_lp (sg := fun y : Int32 => σ) (lvs := fun y : Int32 => [(0, .ref (vO (VM g) + 0)), (1, .int x1), (2, .int y)]) (fun rec hrec => wbX5_due_21 σ hc x1  rec hrec) N (0 : Int32))
  · refine s_aload_n hz dX5_due_12 rfl 0 rfl ?_
    refine s_ldc hz dX5_due_13 q1203 ?_
    refine s_bind (fun q10 e11 => ?_)
    refine kX5_88 hc (cfX5_finds e11) ⟨(Nat.le_of_ble_eq_true rfl), (Nat.le_of_ble_eq_true rfl)⟩ ⟨(Nat.le_of_ble_eq_true rfl), (Nat.le_of_ble_eq_true rfl)⟩ (Nat.le_of_ble_eq_true rfl) dX5_due_15 ?_
    exact s_iretM hc dX5_due_18 (Nat.le_of_ble_eq_true rfl) (Nat.le_of_ble_eq_true rfl)
theorem cfX5_due {g : Geo} {N : Nat}  {σ : Mem} {x1 : Int32} {ρ : Int32 × Mem} (hF : fX5_due N σ x1 = some ρ) (l : Launch) : Ct (VM g) l yX5_due cX5_due 3 (some .int) (rk 2 0 0) [.ref (vO (VM g) + 0), .int x1] σ (oI ρ.1) ρ.2 :=
  Ct.of (by decide) (Nat.le_of_ble_eq_true rfl) (fun Θ hc ls hl => wfX5_due σ x1 hc hF ls hl)
def bX5_timesOf_4 (N : Nat) (σ : Mem) (x1 : Int32) (r4 : (Int32 × Int32) → Option (Int32)) (y4 : Int32 × Int32) : Option (Int32) :=
  if (gI σ 1 1) ≤ y4.2 then
  (some y4.1)
  else ((fX5_drawAt N σ y4.2).bind (fun q2 => 
  (fX5_has N σ q2 x1).bind (fun q4 => 
  lt_ (y4.1 + (if q4 = (0 : Int32) then (0 : Int32) else (1 : Int32))) (fun v6 => 
  r4 (v6, (y4.2 + (1 : Int32)))))))
set_option maxHeartbeats 4000000 in
theorem wbX5_timesOf_4 {Θ : ThT Mem} {g : Geo} {N : Nat}  {ρ : Int32} (σ : Mem) (hc : Cx Θ (VM g) cX5_timesOf 4 RX5 (rk 2 0 0) (some .int) [] false (oI ρ) σ) (x1 : Int32) (r4 : (Int32 × Int32) → Option (Int32)) (hr4 : ∀ y : Int32 × Int32, Sim Θ 4 ρ (σ) (r4 y) (0, 0) 4 [(0, .ref (vO (VM g) + 0)), (1, .int x1), (2, .int y.1), (3, .int y.2)] []) : ∀ y4 : Int32 × Int32, Sim Θ 4 ρ (σ) (bX5_timesOf_4 N σ x1 r4 y4) (0, 0) 4 [(0, .ref (vO (VM g) + 0)), (1, .int x1), (2, .int y4.1), (3, .int y4.2)] [] := by
  intro y4
  have hz := hc.z
  have hr4c : ∀ (z0_ : Int32) (z1_ : Int32), Sim Θ 4 ρ (σ) (r4 (z0_, z1_)) (0, 0) 4 [(0, .ref (vO (VM g) + 0)), (1, .int x1), (2, .int z0_), (3, .int z1_)] [] := fun z0_ z1_ => hr4 (z0_, z1_)
  unfold bX5_timesOf_4
  refine s_iload_n hz dX5_timesOf_4 rfl 3 rfl ?_
  refine s_aload_n hz dX5_timesOf_5 rfl 0 rfl ?_
  refine rM_g_s hc dX5_timesOf_6 ?_
  refine s_iconst (v := (1 : Int32)) hz dX5_timesOf_9 (by decide) ?_
  refine rM_ld_1 hc (j := 1) (by decide) (by decide) dX5_timesOf_10 ?_
  refine s_icmp_ge (tgt := 40) hz dX5_timesOf_11 rfl (fun h1 => ?_) (fun h1 => ?_)
  · refine s_iload_n hz dX5_timesOf_40 rfl 2 rfl ?_
    exact s_iret hc dX5_timesOf_41 (Nat.le_of_ble_eq_true rfl) (Nat.le_of_ble_eq_true rfl)
  · refine s_iload_n hz dX5_timesOf_14 rfl 2 rfl ?_
    refine s_aload_n hz dX5_timesOf_15 rfl 0 rfl ?_
    refine s_iload_n hz dX5_timesOf_16 rfl 3 rfl ?_
    refine s_bind (fun q2 e3 => ?_)
    refine kX5_248 hc (cfX5_drawAt e3) ⟨(Nat.le_of_ble_eq_true rfl), (Nat.le_of_ble_eq_true rfl)⟩ ⟨(Nat.le_of_ble_eq_true rfl), (Nat.le_of_ble_eq_true rfl)⟩ (Nat.le_of_ble_eq_true rfl) dX5_timesOf_17 ?_
    refine s_iload_n hz dX5_timesOf_20 rfl 1 rfl ?_
    refine s_bind (fun q4 e5 => ?_)
    refine kX5_83 hc (cfX5_has e5) ⟨(Nat.le_of_ble_eq_true rfl), (Nat.le_of_ble_eq_true rfl)⟩ ⟨(Nat.le_of_ble_eq_true rfl), (Nat.le_of_ble_eq_true rfl)⟩ (Nat.le_of_ble_eq_true rfl) dX5_timesOf_21 ?_
    refine s_dia (J := 32) (v := .int (if q4 = (0 : Int32) then (0 : Int32) else (1 : Int32))) (st := [.int y4.1]) (fun _ hj7 => ?_) ?_
    · refine s_if_eq_ (tgt := 31) hz dX5_timesOf_24 rfl (fun h8 => ?_) (fun h8 => ?_)
      · refine s_iconst (v := (0 : Int32)) hz dX5_timesOf_31 (by decide) ?_
        rw [if_pos h8] at hj7
        exact hj7
      · refine s_iconst (v := (1 : Int32)) hz dX5_timesOf_27 (by decide) ?_
        refine s_goto (tgt := 32) hz dX5_timesOf_28 rfl ?_
        rw [if_neg h8] at hj7
        exact hj7
    refine s_iadd hz dX5_timesOf_32 ?_
    refine s_nmI (fun v6 => ?_)
    refine s_istore_n (lv' := [(2, .int v6), (0, .ref (vO (VM g) + 0)), (1, .int x1), (3, .int y4.2)]) hz dX5_timesOf_33 rfl (Nat.le_of_ble_eq_true rfl) rfl ?_
    refine s_iinc (v := (1 : Int32)) (lv' := [(3, .int (y4.2 + (1 : Int32))), (2, .int v6), (0, .ref (vO (VM g) + 0)), (1, .int x1)]) hz dX5_timesOf_34 3 rfl (by decide) (Nat.le_of_ble_eq_true rfl) rfl ?_
    refine s_goto (tgt := 4) hz dX5_timesOf_37 rfl ?_
    exact s_sub [2, 3, 1, 0] rfl (hr4c v6 (y4.2 + (1 : Int32)))
def fX5_timesOf (N : Nat) (σ : Mem) (x1 : Int32) : Option (Int32) :=
  lp (bX5_timesOf_4 N σ x1) N ((0 : Int32), (0 : Int32))
set_option maxHeartbeats 4000000 in
theorem wfX5_timesOf {Θ : ThT Mem} {g : Geo} {N : Nat}  {ρ : Int32} (σ : Mem) (x1 : Int32) (hc : Cx Θ (VM g) cX5_timesOf 4 RX5 (rk 2 0 0) (some .int) [] false (oI ρ) σ) : Sim Θ 4 ρ σ (fX5_timesOf N σ x1) (0, 0) 0 [(0, .ref (vO (VM g) + 0)), (1, .int x1)] [] := by
  have hz := hc.z
  unfold fX5_timesOf
  refine s_iconst (v := (0 : Int32)) hz dX5_timesOf_0 (by decide) ?_
  refine s_istore_n (lv' := [(2, .int (0 : Int32)), (0, .ref (vO (VM g) + 0)), (1, .int x1)]) hz dX5_timesOf_1 rfl (Nat.le_of_ble_eq_true rfl) rfl ?_
  refine s_iconst (v := (0 : Int32)) hz dX5_timesOf_2 (by decide) ?_
  refine s_istore_n (lv' := [(3, .int (0 : Int32)), (2, .int (0 : Int32)), (0, .ref (vO (VM g) + 0)), (1, .int x1)]) hz dX5_timesOf_3 rfl (Nat.le_of_ble_eq_true rfl) rfl ?_
  exact s_sub [2, 3, 1, 0] rfl (s_lp (sg := fun y : Int32 × Int32 => σ) (lvs := fun y : Int32 × Int32 => [(0, .ref (vO (VM g) + 0)), (1, .int x1), (2, .int y.1), (3, .int y.2)]) (fun rec hrec => wbX5_timesOf_4 σ hc x1  rec hrec) N ((0 : Int32), (0 : Int32)))
theorem cfX5_timesOf {g : Geo} {N : Nat}  {σ : Mem} {x1 : Int32} {ρ : Int32} (hF : fX5_timesOf N σ x1 = some ρ) (l : Launch) : Ct (VM g) l yX5_timesOf cX5_timesOf 4 (some .int) (rk 2 0 0) [.ref (vO (VM g) + 0), .int x1] σ (oI ρ) σ :=
  Ct.of (by decide) (Nat.le_of_ble_eq_true rfl) (fun Θ hc ls hl => wfX5_timesOf σ x1 hc hF ls hl)
def fX5_came (N : Nat) (σ : Mem) (x1 : Int32) : Option (Int32 × Mem) :=
  (fX5_isIn N σ ((x1).toInt64) (0 : Int64) (11 : Int64)).bind (fun q1 => 
  if q1 = (0 : Int32) then
  ((fX5_finds N σ (-1000000001 : Int32)).bind (fun q4 => 
  some (q4.1, q4.2)))
  else ((fX5_timesOf N σ x1).bind (fun q6 => 
  some (q6, σ))))
set_option maxHeartbeats 4000000 in
theorem wfX5_came {Θ : ThT Mem} {g : Geo} {N : Nat}  {ρ : Int32 × Mem} (σ : Mem) (x1 : Int32) (hc : Cx Θ (VM g) cX5_came 2 RX5 (rk 3 0 0) (some .int) [] false (oI ρ.1) ρ.2) : Sim Θ 2 ρ σ (fX5_came N σ x1) (0, 0) 0 [(0, .ref (vO (VM g) + 0)), (1, .int x1)] [] := by
  have hz := hc.z
  unfold fX5_came
  refine s_iload_n hz dX5_came_0 rfl 1 rfl ?_
  refine s_i2l hz dX5_came_1 ?_
  refine s_lconst (v := (0 : Int64)) hz dX5_came_2 (by decide) ?_
  refine s_ldc2 hz dX5_came_3 q1457 ?_
  refine s_bind (fun q1 e2 => ?_)
  refine kX5_98 hc (cfX5_isIn e2) ⟨(Nat.le_of_ble_eq_true rfl), (Nat.le_of_ble_eq_true rfl)⟩ ⟨(Nat.le_of_ble_eq_true rfl), (Nat.le_of_ble_eq_true rfl)⟩ (Nat.le_of_ble_eq_true rfl) dX5_came_6 ?_
  refine s_if_eq (tgt := 20) hz dX5_came_9 rfl (fun h3 => ?_) (fun h3 => ?_)
  · refine s_aload_n hz dX5_came_20 rfl 0 rfl ?_
    refine s_ldc hz dX5_came_21 q1203 ?_
    refine s_bind (fun q4 e5 => ?_)
    refine kX5_88 hc (cfX5_finds e5) ⟨(Nat.le_of_ble_eq_true rfl), (Nat.le_of_ble_eq_true rfl)⟩ ⟨(Nat.le_of_ble_eq_true rfl), (Nat.le_of_ble_eq_true rfl)⟩ (Nat.le_of_ble_eq_true rfl) dX5_came_23 ?_
    exact s_iretM hc dX5_came_26 (Nat.le_of_ble_eq_true rfl) (Nat.le_of_ble_eq_true rfl)
  · refine s_aload_n hz dX5_came_12 rfl 0 rfl ?_
    refine s_iload_n hz dX5_came_13 rfl 1 rfl ?_
    refine s_bind (fun q6 e7 => ?_)
    refine kX5_253 hc (cfX5_timesOf e7) ⟨(Nat.le_of_ble_eq_true rfl), (Nat.le_of_ble_eq_true rfl)⟩ ⟨(Nat.le_of_ble_eq_true rfl), (Nat.le_of_ble_eq_true rfl)⟩ (Nat.le_of_ble_eq_true rfl) dX5_came_14 ?_
    refine s_goto (tgt := 26) hz dX5_came_17 rfl ?_
    exact s_iretM hc dX5_came_26 (Nat.le_of_ble_eq_true rfl) (Nat.le_of_ble_eq_true rfl)
theorem cfX5_came {g : Geo} {N : Nat}  {σ : Mem} {x1 : Int32} {ρ : Int32 × Mem} (hF : fX5_came N σ x1 = some ρ) (l : Launch) : Ct (VM g) l yX5_came cX5_came 2 (some .int) (rk 3 0 0) [.ref (vO (VM g) + 0), .int x1] σ (oI ρ.1) ρ.2 :=
  Ct.of (by decide) (Nat.le_of_ble_eq_true rfl) (fun Θ hc ls hl => wfX5_came σ x1 hc hF ls hl)
def bX5_drum_4 (N : Nat) (σ : Mem)  (r4 : (Int64 × Int32) → Option (Int64)) (y4 : Int64 × Int32) : Option (Int64) :=
  if (12 : Int32) ≤ y4.2 then
  (some y4.1)
  else ((fX5_timesOf N σ y4.2).bind (fun q2 => 
  lt_ (((12 : Int64) * ((q2).toInt64)) - ((4 : Int64) * (((gI σ 1 1)).toInt64))) (fun v4 => 
  lt_ (y4.1 + (v4 * v4)) (fun v5 => 
  r4 (v5, (y4.2 + (1 : Int32)))))))
set_option maxHeartbeats 4000000 in
theorem wbX5_drum_4 {Θ : ThT Mem} {g : Geo} {N : Nat}  {ρ : Int64} (σ : Mem) (hc : Cx Θ (VM g) cX5_drum 6 RX5 (rk 3 0 0) (some .long) [] false (oL ρ) σ)  (r4 : (Int64 × Int32) → Option (Int64)) (hr4 : ∀ y : Int64 × Int32, Sim Θ 6 ρ (σ) (r4 y) (0, 0) 4 [(0, .ref (vO (VM g) + 0)), (1, .long y.1), (3, .int y.2)] []) : ∀ y4 : Int64 × Int32, Sim Θ 6 ρ (σ) (bX5_drum_4 N σ  r4 y4) (0, 0) 4 [(0, .ref (vO (VM g) + 0)), (1, .long y4.1), (3, .int y4.2)] [] := by
  intro y4
  have hz := hc.z
  have hr4c : ∀ (z0_ : Int64) (z1_ : Int32), Sim Θ 6 ρ (σ) (r4 (z0_, z1_)) (0, 0) 4 [(0, .ref (vO (VM g) + 0)), (1, .long z0_), (3, .int z1_)] [] := fun z0_ z1_ => hr4 (z0_, z1_)
  unfold bX5_drum_4
  refine s_iload_n hz dX5_drum_4 rfl 2 rfl ?_
  refine s_bipush (v := (12 : Int32)) hz dX5_drum_5 (by decide) ?_
  refine s_icmp_ge (tgt := 48) hz dX5_drum_7 rfl (fun h1 => ?_) (fun h1 => ?_)
  · refine s_lload_n hz dX5_drum_48 rfl 1 rfl ?_
    exact s_lret hc dX5_drum_49 (Nat.le_of_ble_eq_true rfl) (Nat.le_of_ble_eq_true rfl)
  · refine s_ldc2 hz dX5_drum_10 q1474 ?_
    refine s_aload_n hz dX5_drum_13 rfl 0 rfl ?_
    refine s_iload_n hz dX5_drum_14 rfl 2 rfl ?_
    refine s_bind (fun q2 e3 => ?_)
    refine kX5_253 hc (cfX5_timesOf e3) ⟨(Nat.le_of_ble_eq_true rfl), (Nat.le_of_ble_eq_true rfl)⟩ ⟨(Nat.le_of_ble_eq_true rfl), (Nat.le_of_ble_eq_true rfl)⟩ (Nat.le_of_ble_eq_true rfl) dX5_drum_15 ?_
    refine s_i2l hz dX5_drum_18 ?_
    refine s_lmul hz dX5_drum_19 ?_
    refine s_ldc2 hz dX5_drum_20 q1249 ?_
    refine s_aload_n hz dX5_drum_23 rfl 0 rfl ?_
    refine rM_g_s hc dX5_drum_24 ?_
    refine s_iconst (v := (1 : Int32)) hz dX5_drum_27 (by decide) ?_
    refine rM_ld_1 hc (j := 1) (by decide) (by decide) dX5_drum_28 ?_
    refine s_i2l hz dX5_drum_29 ?_
    refine s_lmul hz dX5_drum_30 ?_
    refine s_lsub hz dX5_drum_31 ?_
    refine s_nmL (fun v4 => ?_)
    refine s_lstore (lv' := [(4, .long v4), (0, .ref (vO (VM g) + 0)), (1, .long y4.1), (3, .int y4.2)]) hz dX5_drum_32 (Nat.le_of_ble_eq_true rfl) rfl ?_
    refine s_lload_n hz dX5_drum_34 rfl 2 rfl ?_
    refine s_lload hz dX5_drum_35 0 rfl ?_
    refine s_lload hz dX5_drum_37 0 rfl ?_
    refine s_lmul hz dX5_drum_39 ?_
    refine s_ladd hz dX5_drum_40 ?_
    refine s_nmL (fun v5 => ?_)
    refine s_lstore_n (lv' := [(1, .long v5), (4, .long v4), (0, .ref (vO (VM g) + 0)), (3, .int y4.2)]) hz dX5_drum_41 rfl (Nat.le_of_ble_eq_true rfl) rfl ?_
    refine s_iinc (v := (1 : Int32)) (lv' := [(3, .int (y4.2 + (1 : Int32))), (1, .long v5), (4, .long v4), (0, .ref (vO (VM g) + 0))]) hz dX5_drum_42 3 rfl (by decide) (Nat.le_of_ble_eq_true rfl) rfl ?_
    refine s_goto (tgt := 4) hz dX5_drum_45 rfl ?_
    exact s_sub [3, 1, 0] rfl (hr4c v5 (y4.2 + (1 : Int32)))
def fX5_drum (N : Nat) (σ : Mem)  : Option (Int64) :=
  lp (bX5_drum_4 N σ) N ((0 : Int64), (0 : Int32))
set_option maxHeartbeats 4000000 in
theorem wfX5_drum {Θ : ThT Mem} {g : Geo} {N : Nat}  {ρ : Int64} (σ : Mem)  (hc : Cx Θ (VM g) cX5_drum 6 RX5 (rk 3 0 0) (some .long) [] false (oL ρ) σ) : Sim Θ 6 ρ σ (fX5_drum N σ ) (0, 0) 0 [(0, .ref (vO (VM g) + 0))] [] := by
  have hz := hc.z
  unfold fX5_drum
  refine s_lconst (v := (0 : Int64)) hz dX5_drum_0 (by decide) ?_
  refine s_lstore_n (lv' := [(1, .long (0 : Int64)), (0, .ref (vO (VM g) + 0))]) hz dX5_drum_1 rfl (Nat.le_of_ble_eq_true rfl) rfl ?_
  refine s_iconst (v := (0 : Int32)) hz dX5_drum_2 (by decide) ?_
  refine s_istore_n (lv' := [(3, .int (0 : Int32)), (1, .long (0 : Int64)), (0, .ref (vO (VM g) + 0))]) hz dX5_drum_3 rfl (Nat.le_of_ble_eq_true rfl) rfl ?_
  exact s_sub [2, 1, 0] rfl (s_lp (sg := fun y : Int64 × Int32 => σ) (lvs := fun y : Int64 × Int32 => [(0, .ref (vO (VM g) + 0)), (1, .long y.1), (3, .int y.2)]) (fun rec hrec => wbX5_drum_4 σ hc   rec hrec) N ((0 : Int64), (0 : Int32)))
theorem cfX5_drum {g : Geo} {N : Nat}  {σ : Mem}  {ρ : Int64} (hF : fX5_drum N σ  = some ρ) (l : Launch) : Ct (VM g) l yX5_drum cX5_drum 6 (some .long) (rk 3 0 0) [.ref (vO (VM g) + 0)] σ (oL ρ) σ :=
  Ct.of (by decide) (Nat.le_of_ble_eq_true rfl) (fun Θ hc ls hl => wfX5_drum σ  hc hF ls hl)
def bX5_felt_54 (N : Nat) (σ : Mem) (x1 : Int32) (x2 : Int32) (r54 : (Int32 × Int32 × Int32) → Option (Int32 × Mem)) (y54 : Int32 × Int32 × Int32) : Option (Int32 × Mem) :=
  if (gI σ 1 1) ≤ y54.2.2 then
  (gb (nzI x2) (
  gb (nzI ((gI σ 1 1) - x2)) (
  some (((y54.1 / x2) - (y54.2.1 / ((gI σ 1 1) - x2))), σ))))
  else (gb (inb (((104 : Int32) + ((8 : Int32) * y54.2.2)) + (3 : Int32)) 919) (
  lt_ (gI σ 1 (ix (((104 : Int32) + ((8 : Int32) * y54.2.2)) + (3 : Int32)))) (fun v14 => 
  (fX5_drawAt N σ y54.2.2).bind (fun q15 => 
  (fX5_has N σ q15 x1).bind (fun q17 => 
  lt_ (y54.1 + (if q17 = (0 : Int32) then (0 : Int32) else v14)) (fun v19 => 
  (fX5_drawAt N σ y54.2.2).bind (fun q20 => 
  (fX5_has N σ q20 x1).bind (fun q22 => 
  lt_ (y54.2.1 + (if q22 = (0 : Int32) then v14 else (0 : Int32))) (fun v24 => 
  r54 (v19, v24, (y54.2.2 + (1 : Int32))))))))))))
set_option maxHeartbeats 4000000 in
theorem wbX5_felt_54 {Θ : ThT Mem} {g : Geo} {N : Nat}  {ρ : Int32 × Mem} (σ : Mem) (hc : Cx Θ (VM g) cX5_felt 7 RX5 (rk 3 0 0) (some .int) [] false (oI ρ.1) ρ.2) (x1 : Int32) (x2 : Int32) (r54 : (Int32 × Int32 × Int32) → Option (Int32 × Mem)) (hr54 : ∀ y : Int32 × Int32 × Int32, Sim Θ 7 ρ (σ) (r54 y) (0, 0) 54 [(0, .ref (vO (VM g) + 0)), (1, .int x1), (2, .int x2), (3, .int y.1), (4, .int y.2.1), (5, .int y.2.2)] []) : ∀ y54 : Int32 × Int32 × Int32, Sim Θ 7 ρ (σ) (bX5_felt_54 N σ x1 x2 r54 y54) (0, 0) 54 [(0, .ref (vO (VM g) + 0)), (1, .int x1), (2, .int x2), (3, .int y54.1), (4, .int y54.2.1), (5, .int y54.2.2)] [] := by
  intro y54
  have hz := hc.z
  have hr54c : ∀ (z0_ : Int32) (z1_ : Int32) (z2_ : Int32), Sim Θ 7 ρ (σ) (r54 (z0_, z1_, z2_)) (0, 0) 54 [(0, .ref (vO (VM g) + 0)), (1, .int x1), (2, .int x2), (3, .int z0_), (4, .int z1_), (5, .int z2_)] [] := fun z0_ z1_ z2_ => hr54 (z0_, z1_, z2_)
  unfold bX5_felt_54
  refine s_iload hz dX5_felt_54 5 rfl ?_
  refine s_aload_n hz dX5_felt_56 rfl 0 rfl ?_
  refine rM_g_s hc dX5_felt_57 ?_
  refine s_iconst (v := (1 : Int32)) hz dX5_felt_60 (by decide) ?_
  refine rM_ld_1 hc (j := 1) (by decide) (by decide) dX5_felt_61 ?_
  refine s_icmp_ge (tgt := 134) hz dX5_felt_62 rfl (fun h10 => ?_) (fun h10 => ?_)
  · refine s_iload_n hz dX5_felt_134 rfl 3 rfl ?_
    refine s_iload_n hz dX5_felt_135 rfl 2 rfl ?_
    refine s_gb (fun h11 => ?_)
    refine s_idiv hz dX5_felt_136 (nzI_ne h11) ?_
    refine s_iload hz dX5_felt_137 4 rfl ?_
    refine s_aload_n hz dX5_felt_139 rfl 0 rfl ?_
    refine rM_g_s hc dX5_felt_140 ?_
    refine s_iconst (v := (1 : Int32)) hz dX5_felt_143 (by decide) ?_
    refine rM_ld_1 hc (j := 1) (by decide) (by decide) dX5_felt_144 ?_
    refine s_iload_n hz dX5_felt_145 rfl 2 rfl ?_
    refine s_isub hz dX5_felt_146 ?_
    refine s_gb (fun h12 => ?_)
    refine s_idiv hz dX5_felt_147 (nzI_ne h12) ?_
    refine s_isub hz dX5_felt_148 ?_
    exact s_iretM hc dX5_felt_149 (Nat.le_of_ble_eq_true rfl) (Nat.le_of_ble_eq_true rfl)
  · refine s_aload_n hz dX5_felt_65 rfl 0 rfl ?_
    refine rM_g_s hc dX5_felt_66 ?_
    refine s_bipush (v := (104 : Int32)) hz dX5_felt_69 (by decide) ?_
    refine s_bipush (v := (8 : Int32)) hz dX5_felt_71 (by decide) ?_
    refine s_iload hz dX5_felt_73 5 rfl ?_
    refine s_imul hz dX5_felt_75 ?_
    refine s_iadd hz dX5_felt_76 ?_
    refine s_iconst (v := (3 : Int32)) hz dX5_felt_77 (by decide) ?_
    refine s_iadd hz dX5_felt_78 ?_
    refine s_gb (fun h13 => ?_)
    refine rM_ld_1 hc h13 rfl dX5_felt_79 ?_
    refine s_nmI (fun v14 => ?_)
    refine s_istore (lv' := [(6, .int v14), (0, .ref (vO (VM g) + 0)), (1, .int x1), (2, .int x2), (3, .int y54.1), (4, .int y54.2.1), (5, .int y54.2.2)]) hz dX5_felt_80 (Nat.le_of_ble_eq_true rfl) rfl ?_
    refine s_iload_n hz dX5_felt_82 rfl 4 rfl ?_
    refine s_aload_n hz dX5_felt_83 rfl 1 rfl ?_
    refine s_iload hz dX5_felt_84 6 rfl ?_
    refine s_bind (fun q15 e16 => ?_)
    refine kX5_248 hc (cfX5_drawAt e16) ⟨(Nat.le_of_ble_eq_true rfl), (Nat.le_of_ble_eq_true rfl)⟩ ⟨(Nat.le_of_ble_eq_true rfl), (Nat.le_of_ble_eq_true rfl)⟩ (Nat.le_of_ble_eq_true rfl) dX5_felt_86 ?_
    refine s_iload_n hz dX5_felt_89 rfl 2 rfl ?_
    refine s_bind (fun q17 e18 => ?_)
    refine kX5_83 hc (cfX5_has e18) ⟨(Nat.le_of_ble_eq_true rfl), (Nat.le_of_ble_eq_true rfl)⟩ ⟨(Nat.le_of_ble_eq_true rfl), (Nat.le_of_ble_eq_true rfl)⟩ (Nat.le_of_ble_eq_true rfl) dX5_felt_90 ?_
    refine s_dia (J := 102) (v := .int (if q17 = (0 : Int32) then (0 : Int32) else v14)) (st := [.int y54.1]) (fun _ hj27 => ?_) ?_
    · refine s_if_eq_ (tgt := 101) hz dX5_felt_93 rfl (fun h28 => ?_) (fun h28 => ?_)
      · refine s_iconst (v := (0 : Int32)) hz dX5_felt_101 (by decide) ?_
        rw [if_pos h28] at hj27
        exact hj27
      · refine s_iload hz dX5_felt_96 0 rfl ?_
        refine s_goto (tgt := 102) hz dX5_felt_98 rfl ?_
        rw [if_neg h28] at hj27
        exact hj27
    refine s_iadd hz dX5_felt_102 ?_
    refine s_nmI (fun v19 => ?_)
    refine s_istore_n (lv' := [(3, .int v19), (6, .int v14), (0, .ref (vO (VM g) + 0)), (1, .int x1), (2, .int x2), (4, .int y54.2.1), (5, .int y54.2.2)]) hz dX5_felt_103 rfl (Nat.le_of_ble_eq_true rfl) rfl ?_
    refine s_iload hz dX5_felt_104 5 rfl ?_
    refine s_aload_n hz dX5_felt_106 rfl 2 rfl ?_
    refine s_iload hz dX5_felt_107 6 rfl ?_
    refine s_bind (fun q20 e21 => ?_)
    refine kX5_248 hc (cfX5_drawAt e21) ⟨(Nat.le_of_ble_eq_true rfl), (Nat.le_of_ble_eq_true rfl)⟩ ⟨(Nat.le_of_ble_eq_true rfl), (Nat.le_of_ble_eq_true rfl)⟩ (Nat.le_of_ble_eq_true rfl) dX5_felt_109 ?_
    refine s_iload_n hz dX5_felt_112 rfl 3 rfl ?_
    refine s_bind (fun q22 e23 => ?_)
    refine kX5_83 hc (cfX5_has e23) ⟨(Nat.le_of_ble_eq_true rfl), (Nat.le_of_ble_eq_true rfl)⟩ ⟨(Nat.le_of_ble_eq_true rfl), (Nat.le_of_ble_eq_true rfl)⟩ (Nat.le_of_ble_eq_true rfl) dX5_felt_113 ?_
    refine s_dia (J := 125) (v := .int (if q22 = (0 : Int32) then v14 else (0 : Int32))) (st := [.int y54.2.1]) (fun _ hj25 => ?_) ?_
    · refine s_if_eq_ (tgt := 123) hz dX5_felt_116 rfl (fun h26 => ?_) (fun h26 => ?_)
      · refine s_iload hz dX5_felt_123 1 rfl ?_
        rw [if_pos h26] at hj25
        exact hj25
      · refine s_iconst (v := (0 : Int32)) hz dX5_felt_119 (by decide) ?_
        refine s_goto (tgt := 125) hz dX5_felt_120 rfl ?_
        rw [if_neg h26] at hj25
        exact hj25
    refine s_iadd hz dX5_felt_125 ?_
    refine s_nmI (fun v24 => ?_)
    refine s_istore (lv' := [(4, .int v24), (3, .int v19), (6, .int v14), (0, .ref (vO (VM g) + 0)), (1, .int x1), (2, .int x2), (5, .int y54.2.2)]) hz dX5_felt_126 (Nat.le_of_ble_eq_true rfl) rfl ?_
    refine s_iinc (v := (1 : Int32)) (lv' := [(5, .int (y54.2.2 + (1 : Int32))), (4, .int v24), (3, .int v19), (6, .int v14), (0, .ref (vO (VM g) + 0)), (1, .int x1), (2, .int x2)]) hz dX5_felt_128 6 rfl (by decide) (Nat.le_of_ble_eq_true rfl) rfl ?_
    refine s_goto (tgt := 54) hz dX5_felt_131 rfl ?_
    exact s_sub [4, 5, 6, 2, 1, 0] rfl (hr54c v19 v24 (y54.2.2 + (1 : Int32)))
def fX5_felt (N : Nat) (σ : Mem) (x1 : Int32) : Option (Int32 × Mem) :=
  (fX5_isIn N σ ((x1).toInt64) (0 : Int64) (11 : Int64)).bind (fun q1 => 
  if q1 = (0 : Int32) then
  ((fX5_finds N σ (-1000000001 : Int32)).bind (fun q31 => 
  some (q31.1, q31.2)))
  else ((fX5_timesOf N σ x1).bind (fun q4 => 
  if q4 = (0 : Int32) then
  ((fX5_finds N σ (-1000000004 : Int32)).bind (fun q7 => 
  some (q7.1, q7.2)))
  else (if q4 = (gI σ 1 1) then
  ((fX5_finds N σ (-1000000004 : Int32)).bind (fun q29 => 
  some (q29.1, q29.2)))
  else (lp (bX5_felt_54 N σ x1 q4) N ((0 : Int32), (0 : Int32), (0 : Int32)))))))
set_option maxHeartbeats 4000000 in
theorem wfX5_felt {Θ : ThT Mem} {g : Geo} {N : Nat}  {ρ : Int32 × Mem} (σ : Mem) (x1 : Int32) (hc : Cx Θ (VM g) cX5_felt 7 RX5 (rk 3 0 0) (some .int) [] false (oI ρ.1) ρ.2) : Sim Θ 7 ρ σ (fX5_felt N σ x1) (0, 0) 0 [(0, .ref (vO (VM g) + 0)), (1, .int x1)] [] := by
  have hz := hc.z
  unfold fX5_felt
  refine s_iload_n hz dX5_felt_0 rfl 1 rfl ?_
  refine s_i2l hz dX5_felt_1 ?_
  refine s_lconst (v := (0 : Int64)) hz dX5_felt_2 (by decide) ?_
  refine s_ldc2 hz dX5_felt_3 q1457 ?_
  refine s_bind (fun q1 e2 => ?_)
  refine kX5_98 hc (cfX5_isIn e2) ⟨(Nat.le_of_ble_eq_true rfl), (Nat.le_of_ble_eq_true rfl)⟩ ⟨(Nat.le_of_ble_eq_true rfl), (Nat.le_of_ble_eq_true rfl)⟩ (Nat.le_of_ble_eq_true rfl) dX5_felt_6 ?_
  refine s_if_ne (tgt := 19) hz dX5_felt_9 rfl (fun h3 => ?_) (fun h3 => ?_)
  · refine s_aload_n hz dX5_felt_19 rfl 0 rfl ?_
    refine s_iload_n hz dX5_felt_20 rfl 1 rfl ?_
    refine s_bind (fun q4 e5 => ?_)
    refine kX5_253 hc (cfX5_timesOf e5) ⟨(Nat.le_of_ble_eq_true rfl), (Nat.le_of_ble_eq_true rfl)⟩ ⟨(Nat.le_of_ble_eq_true rfl), (Nat.le_of_ble_eq_true rfl)⟩ (Nat.le_of_ble_eq_true rfl) dX5_felt_21 ?_
    refine s_istore_n (lv' := [(2, .int q4), (0, .ref (vO (VM g) + 0)), (1, .int x1)]) hz dX5_felt_24 rfl (Nat.le_of_ble_eq_true rfl) rfl ?_
    refine s_iload_n hz dX5_felt_25 rfl 0 rfl ?_
    refine s_if_eq (tgt := 39) hz dX5_felt_26 rfl (fun h6 => ?_) (fun h6 => ?_)
    · refine s_aload_n hz dX5_felt_39 rfl 1 rfl ?_
      refine s_ldc hz dX5_felt_40 q1427 ?_
      refine s_bind (fun q7 e8 => ?_)
      refine kX5_88 hc (cfX5_finds e8) ⟨(Nat.le_of_ble_eq_true rfl), (Nat.le_of_ble_eq_true rfl)⟩ ⟨(Nat.le_of_ble_eq_true rfl), (Nat.le_of_ble_eq_true rfl)⟩ (Nat.le_of_ble_eq_true rfl) dX5_felt_42 ?_
      exact s_iretM hc dX5_felt_45 (Nat.le_of_ble_eq_true rfl) (Nat.le_of_ble_eq_true rfl)
    · refine s_iload_n hz dX5_felt_29 rfl 0 rfl ?_
      refine s_aload_n hz dX5_felt_30 rfl 1 rfl ?_
      refine rM_g_s hc dX5_felt_31 ?_
      refine s_iconst (v := (1 : Int32)) hz dX5_felt_34 (by decide) ?_
      refine rM_ld_1 hc (j := 1) (by decide) (by decide) dX5_felt_35 ?_
      refine s_icmp_ne (tgt := 46) hz dX5_felt_36 rfl (fun h9 => ?_) (fun h9 => ?_)
      · refine s_iconst (v := (0 : Int32)) hz dX5_felt_46 (by decide) ?_
        refine s_istore_n (lv' := [(3, .int (0 : Int32)), (2, .int q4), (0, .ref (vO (VM g) + 0)), (1, .int x1)]) hz dX5_felt_47 rfl (Nat.le_of_ble_eq_true rfl) rfl ?_
        refine s_iconst (v := (0 : Int32)) hz dX5_felt_48 (by decide) ?_
        refine s_istore (lv' := [(4, .int (0 : Int32)), (3, .int (0 : Int32)), (2, .int q4), (0, .ref (vO (VM g) + 0)), (1, .int x1)]) hz dX5_felt_49 (Nat.le_of_ble_eq_true rfl) rfl ?_
        refine s_iconst (v := (0 : Int32)) hz dX5_felt_51 (by decide) ?_
        refine s_istore (lv' := [(5, .int (0 : Int32)), (4, .int (0 : Int32)), (3, .int (0 : Int32)), (2, .int q4), (0, .ref (vO (VM g) + 0)), (1, .int x1)]) hz dX5_felt_52 (Nat.le_of_ble_eq_true rfl) rfl ?_
        exact s_sub [4, 5, 3, 2, 1, 0] rfl (s_lp (sg := fun y : Int32 × Int32 × Int32 => σ) (lvs := fun y : Int32 × Int32 × Int32 => [(0, .ref (vO (VM g) + 0)), (1, .int x1), (2, .int q4), (3, .int y.1), (4, .int y.2.1), (5, .int y.2.2)]) (fun rec hrec => wbX5_felt_54 σ hc x1 q4  rec hrec) N ((0 : Int32), (0 : Int32), (0 : Int32)))
      · refine s_aload_n hz dX5_felt_39 rfl 1 rfl ?_
        refine s_ldc hz dX5_felt_40 q1427 ?_
        refine s_bind (fun q29 e30 => ?_)
        refine kX5_88 hc (cfX5_finds e30) ⟨(Nat.le_of_ble_eq_true rfl), (Nat.le_of_ble_eq_true rfl)⟩ ⟨(Nat.le_of_ble_eq_true rfl), (Nat.le_of_ble_eq_true rfl)⟩ (Nat.le_of_ble_eq_true rfl) dX5_felt_42 ?_
        exact s_iretM hc dX5_felt_45 (Nat.le_of_ble_eq_true rfl) (Nat.le_of_ble_eq_true rfl)
  · refine s_aload_n hz dX5_felt_12 rfl 0 rfl ?_
    refine s_ldc hz dX5_felt_13 q1203 ?_
    refine s_bind (fun q31 e32 => ?_)
    refine kX5_88 hc (cfX5_finds e32) ⟨(Nat.le_of_ble_eq_true rfl), (Nat.le_of_ble_eq_true rfl)⟩ ⟨(Nat.le_of_ble_eq_true rfl), (Nat.le_of_ble_eq_true rfl)⟩ (Nat.le_of_ble_eq_true rfl) dX5_felt_15 ?_
    exact s_iretM hc dX5_felt_18 (Nat.le_of_ble_eq_true rfl) (Nat.le_of_ble_eq_true rfl)
theorem cfX5_felt {g : Geo} {N : Nat}  {σ : Mem} {x1 : Int32} {ρ : Int32 × Mem} (hF : fX5_felt N σ x1 = some ρ) (l : Launch) : Ct (VM g) l yX5_felt cX5_felt 7 (some .int) (rk 3 0 0) [.ref (vO (VM g) + 0), .int x1] σ (oI ρ.1) ρ.2 :=
  Ct.of (by decide) (Nat.le_of_ble_eq_true rfl) (fun Θ hc ls hl => wfX5_felt σ x1 hc hF ls hl)
def fX5_isSheet (N : Nat) (σ : Mem) (x0 : Int32) : Option (Int32) :=
  some (if x0 < (0 : Int32) then (0 : Int32) else (if (4 : Int32) ≤ x0 then (0 : Int32) else (1 : Int32)))
set_option maxHeartbeats 4000000 in
theorem wfX5_isSheet {Θ : ThT Mem} {g : Geo} {N : Nat}  {ρ : Int32} (σ : Mem) (x0 : Int32) (hc : Cx Θ (VM g) cX5_isSheet 1 RX5 (rk 1 0 0) (some .boolean) [] false (oI ρ) σ) : Sim Θ 1 ρ σ (fX5_isSheet N σ x0) (0, 0) 0 [(0, .int x0)] [] := by
  have hz := hc.z
  unfold fX5_isSheet
  refine s_iload_n hz dX5_isSheet_0 rfl 0 rfl ?_
  refine s_dia (J := 14) (v := .int (if x0 < (0 : Int32) then (0 : Int32) else (if (4 : Int32) ≤ x0 then (0 : Int32) else (1 : Int32)))) (st := []) (fun _ hj1 => ?_) ?_
  · refine s_if_lt_ (tgt := 13) hz dX5_isSheet_1 rfl (fun h2 => ?_) (fun h2 => ?_)
    · refine s_iconst (v := (0 : Int32)) hz dX5_isSheet_13 (by decide) ?_
      rw [if_pos h2] at hj1
      exact hj1
    · refine s_iload_n hz dX5_isSheet_4 rfl 0 rfl ?_
      refine s_iconst (v := (4 : Int32)) hz dX5_isSheet_5 (by decide) ?_
      refine s_icmp_ge_ (tgt := 13) hz dX5_isSheet_6 rfl (fun h3 => ?_) (fun h3 => ?_)
      · refine s_iconst (v := (0 : Int32)) hz dX5_isSheet_13 (by decide) ?_
        rw [if_neg h2, if_pos h3] at hj1
        exact hj1
      · refine s_iconst (v := (1 : Int32)) hz dX5_isSheet_9 (by decide) ?_
        refine s_goto (tgt := 14) hz dX5_isSheet_10 rfl ?_
        rw [if_neg h2, if_neg h3] at hj1
        exact hj1
  exact s_zret hc (nb_ite rfl (nb_ite rfl rfl)) dX5_isSheet_14 (Nat.le_of_ble_eq_true rfl) (Nat.le_of_ble_eq_true rfl)
theorem cfX5_isSheet {g : Geo} {N : Nat}  {σ : Mem} {x0 : Int32} {ρ : Int32} (hF : fX5_isSheet N σ x0 = some ρ) (l : Launch) : Ct (VM g) l yX5_isSheet cX5_isSheet 1 (some .boolean) (rk 1 0 0) [.int x0] σ (oI ρ) σ :=
  Ct.of (by decide) (Nat.le_of_ble_eq_true rfl) (fun Θ hc ls hl => wfX5_isSheet σ x0 hc hF ls hl)
def bX5_sheet_94 (N : Nat) (σ : Mem) (x1 : Int32) (r94 : (Mem × Int32) → Option (Int32 × Mem)) (y94 : Mem × Int32) : Option (Int32 × Mem) :=
  if (40 : Int32) ≤ y94.2 then
  (gb (inb x1 4) (
  some ((gI y94.1 10 (ix x1)), y94.1)))
  else (gb (inb (((40 : Int32) * x1) + y94.2) 160) (
  lt_ (pL y94.1 11 (ix (((40 : Int32) * x1) + y94.2)) (0 : Int64)) (fun σ15 => 
  r94 (σ15, (y94.2 + (1 : Int32))))))
set_option maxHeartbeats 4000000 in
theorem wbX5_sheet_94 {Θ : ThT Mem} {g : Geo} {N : Nat}  {ρ : Int32 × Mem} (σ : Mem) (hc : Cx Θ (VM g) cX5_sheet 5 RX5 (rk 2 0 0) (some .int) [] false (oI ρ.1) ρ.2) (x1 : Int32) (r94 : (Mem × Int32) → Option (Int32 × Mem)) (hr94 : ∀ y : Mem × Int32, Sim Θ 5 ρ (y.1) (r94 y) (0, 0) 94 [(0, .ref (vO (VM g) + 0)), (1, .int x1), (4, .int y.2)] []) : ∀ y94 : Mem × Int32, Sim Θ 5 ρ (y94.1) (bX5_sheet_94 N σ x1 r94 y94) (0, 0) 94 [(0, .ref (vO (VM g) + 0)), (1, .int x1), (4, .int y94.2)] [] := by
  intro y94
  have hz := hc.z
  have hr94c : ∀ (z0_ : Mem) (z1_ : Int32), Sim Θ 5 ρ (z0_) (r94 (z0_, z1_)) (0, 0) 94 [(0, .ref (vO (VM g) + 0)), (1, .int x1), (4, .int z1_)] [] := fun z0_ z1_ => hr94 (z0_, z1_)
  unfold bX5_sheet_94
  refine s_iload hz dX5_sheet_94 2 rfl ?_
  refine s_bipush (v := (40 : Int32)) hz dX5_sheet_96 (by decide) ?_
  refine s_icmp_ge (tgt := 120) hz dX5_sheet_98 rfl (fun h13 => ?_) (fun h13 => ?_)
  · refine s_aload_n hz dX5_sheet_120 rfl 0 rfl ?_
    refine rM_g_sizes hc dX5_sheet_121 ?_
    refine s_iload_n hz dX5_sheet_124 rfl 1 rfl ?_
    refine s_gb (fun h14 => ?_)
    refine rM_ld_10 hc h14 rfl dX5_sheet_125 ?_
    exact s_iretM hc dX5_sheet_126 (Nat.le_of_ble_eq_true rfl) (Nat.le_of_ble_eq_true rfl)
  · refine s_aload_n hz dX5_sheet_101 rfl 0 rfl ?_
    refine rM_g_numbers hc dX5_sheet_102 ?_
    refine s_bipush (v := (40 : Int32)) hz dX5_sheet_105 (by decide) ?_
    refine s_iload_n hz dX5_sheet_107 rfl 1 rfl ?_
    refine s_imul hz dX5_sheet_108 ?_
    refine s_iload hz dX5_sheet_109 2 rfl ?_
    refine s_iadd hz dX5_sheet_111 ?_
    refine s_lconst (v := (0 : Int64)) hz dX5_sheet_112 (by decide) ?_
    refine s_gb (fun h16 => ?_)
    refine rM_st_11 hc h16 rfl dX5_sheet_113 (fun σ15 => ?_)
    refine s_iinc (v := (1 : Int32)) (lv' := [(4, .int (y94.2 + (1 : Int32))), (0, .ref (vO (VM g) + 0)), (1, .int x1)]) hz dX5_sheet_114 2 rfl (by decide) (Nat.le_of_ble_eq_true rfl) rfl ?_
    refine s_goto (tgt := 94) hz dX5_sheet_117 rfl ?_
    exact s_sub [1, 2, 0] rfl (hr94c σ15 (y94.2 + (1 : Int32)))
def jX5_sheet_36 (N : Nat) (σ : Mem) (x1 : Int32) (x2 : Int32) (x3 : Int32)  : Option (Int32 × Mem) :=
  if (0 : Int32) ≤ x3 then
  (if x3 ≤ (40 : Int32) then
  (gb (inb x1 4) (
  lt_ (pI σ 9 (ix x1) (if x2 = (0 : Int32) then (-1 : Int32) else x2)) (fun σ9 => 
  gb (inb x1 4) (
  lt_ (pI σ9 10 (ix x1) (if x2 = (0 : Int32) then (0 : Int32) else x3)) (fun σ11 => 
  lp (bX5_sheet_94 N σ11 x1) N (σ11, (0 : Int32)))))))
  else ((fX5_finds N σ (-1000000001 : Int32)).bind (fun q21 => 
  some (q21.1, q21.2))))
  else ((fX5_finds N σ (-1000000007 : Int32)).bind (fun q23 => 
  some (q23.1, q23.2)))
set_option maxHeartbeats 4000000 in
theorem wjX5_sheet_36 {Θ : ThT Mem} {g : Geo} {N : Nat}  {ρ : Int32 × Mem} (σ : Mem) (hc : Cx Θ (VM g) cX5_sheet 5 RX5 (rk 2 0 0) (some .int) [] false (oI ρ.1) ρ.2) (x1 : Int32) (x2 : Int32) (x3 : Int32)  : Sim Θ 5 ρ σ (jX5_sheet_36 N σ x1 x2 x3 ) (0, 0) 36 [(0, .ref (vO (VM g) + 0)), (1, .int x1), (2, .int x2), (3, .int x3)] [] := by
  have hz := hc.z
  unfold jX5_sheet_36
  refine s_iload_n hz dX5_sheet_36 rfl 3 rfl ?_
  refine s_if_ge (tgt := 48) hz dX5_sheet_37 rfl (fun h7 => ?_) (fun h7 => ?_)
  · refine s_iload_n hz dX5_sheet_48 rfl 3 rfl ?_
    refine s_bipush (v := (40 : Int32)) hz dX5_sheet_49 (by decide) ?_
    refine s_icmp_le (tgt := 61) hz dX5_sheet_51 rfl (fun h8 => ?_) (fun h8 => ?_)
    · refine s_aload_n hz dX5_sheet_61 rfl 0 rfl ?_
      refine rM_g_bitsOf hc dX5_sheet_62 ?_
      refine s_iload_n hz dX5_sheet_65 rfl 1 rfl ?_
      refine s_iload_n hz dX5_sheet_66 rfl 2 rfl ?_
      refine s_dia (J := 75) (v := .int (if x2 = (0 : Int32) then (-1 : Int32) else x2)) (st := [.int x1, .ref (vO (VM g) + 9)]) (fun _ hj19 => ?_) ?_
      · refine s_if_ne_ (tgt := 74) hz dX5_sheet_67 rfl (fun h20 => ?_) (fun h20 => ?_)
        · refine s_iload_n hz dX5_sheet_74 rfl 2 rfl ?_
          rw [if_neg h20] at hj19
          exact hj19
        · refine s_iconst (v := (-1 : Int32)) hz dX5_sheet_70 (by decide) ?_
          refine s_goto (tgt := 75) hz dX5_sheet_71 rfl ?_
          rw [if_pos h20] at hj19
          exact hj19
      refine s_gb (fun h10 => ?_)
      refine rM_st_9 hc h10 rfl dX5_sheet_75 (fun σ9 => ?_)
      refine s_aload_n hz dX5_sheet_76 rfl 0 rfl ?_
      refine rM_g_sizes hc dX5_sheet_77 ?_
      refine s_iload_n hz dX5_sheet_80 rfl 1 rfl ?_
      refine s_iload_n hz dX5_sheet_81 rfl 2 rfl ?_
      refine s_dia (J := 90) (v := .int (if x2 = (0 : Int32) then (0 : Int32) else x3)) (st := [.int x1, .ref (vO (VM g) + 10)]) (fun _ hj17 => ?_) ?_
      · refine s_if_ne_ (tgt := 89) hz dX5_sheet_82 rfl (fun h18 => ?_) (fun h18 => ?_)
        · refine s_iload_n hz dX5_sheet_89 rfl 3 rfl ?_
          rw [if_neg h18] at hj17
          exact hj17
        · refine s_iconst (v := (0 : Int32)) hz dX5_sheet_85 (by decide) ?_
          refine s_goto (tgt := 90) hz dX5_sheet_86 rfl ?_
          rw [if_pos h18] at hj17
          exact hj17
      refine s_gb (fun h12 => ?_)
      refine rM_st_10 hc h12 rfl dX5_sheet_90 (fun σ11 => ?_)
      refine s_iconst (v := (0 : Int32)) hz dX5_sheet_91 (by decide) ?_
      refine s_istore (lv' := [(4, .int (0 : Int32)), (0, .ref (vO (VM g) + 0)), (1, .int x1), (2, .int x2), (3, .int x3)]) hz dX5_sheet_92 (Nat.le_of_ble_eq_true rfl) rfl ?_
      exact s_sub [1, 2, 0] rfl (s_lp (sg := fun y : Mem × Int32 => y.1) (lvs := fun y : Mem × Int32 => [(0, .ref (vO (VM g) + 0)), (1, .int x1), (4, .int y.2)]) (fun rec hrec => wbX5_sheet_94 σ11 hc x1  rec hrec) N (σ11, (0 : Int32)))
    · refine s_aload_n hz dX5_sheet_54 rfl 0 rfl ?_
      refine s_ldc hz dX5_sheet_55 q1203 ?_
      refine s_bind (fun q21 e22 => ?_)
      refine kX5_88 hc (cfX5_finds e22) ⟨(Nat.le_of_ble_eq_true rfl), (Nat.le_of_ble_eq_true rfl)⟩ ⟨(Nat.le_of_ble_eq_true rfl), (Nat.le_of_ble_eq_true rfl)⟩ (Nat.le_of_ble_eq_true rfl) dX5_sheet_57 ?_
      exact s_iretM hc dX5_sheet_60 (Nat.le_of_ble_eq_true rfl) (Nat.le_of_ble_eq_true rfl)
  · refine s_aload_n hz dX5_sheet_40 rfl 0 rfl ?_
    refine s_ldcw hz dX5_sheet_41 q1486 ?_
    refine s_bind (fun q23 e24 => ?_)
    refine kX5_88 hc (cfX5_finds e24) ⟨(Nat.le_of_ble_eq_true rfl), (Nat.le_of_ble_eq_true rfl)⟩ ⟨(Nat.le_of_ble_eq_true rfl), (Nat.le_of_ble_eq_true rfl)⟩ (Nat.le_of_ble_eq_true rfl) dX5_sheet_44 ?_
    exact s_iretM hc dX5_sheet_47 (Nat.le_of_ble_eq_true rfl) (Nat.le_of_ble_eq_true rfl)
def fX5_sheet (N : Nat) (σ : Mem) (x1 : Int32) (x2 : Int32) (x3 : Int32) : Option (Int32 × Mem) :=
  (fX5_isSheet N σ x1).bind (fun q1 => 
  if q1 = (0 : Int32) then
  ((fX5_finds N σ (-1000000001 : Int32)).bind (fun q4 => 
  some (q4.1, q4.2)))
  else (if x2 = (0 : Int32) then
  (jX5_sheet_36 N σ x1 x2 x3)
  else (if x2 = (8 : Int32) then
  (jX5_sheet_36 N σ x1 x2 x3)
  else (if x2 = (16 : Int32) then
  (jX5_sheet_36 N σ x1 x2 x3)
  else (if x2 = (64 : Int32) then
  (jX5_sheet_36 N σ x1 x2 x3)
  else ((fX5_finds N σ (-1000000001 : Int32)).bind (fun q28 => 
  some (q28.1, q28.2))))))))
set_option maxHeartbeats 4000000 in
theorem wfX5_sheet {Θ : ThT Mem} {g : Geo} {N : Nat}  {ρ : Int32 × Mem} (σ : Mem) (x1 : Int32) (x2 : Int32) (x3 : Int32) (hc : Cx Θ (VM g) cX5_sheet 5 RX5 (rk 2 0 0) (some .int) [] false (oI ρ.1) ρ.2) : Sim Θ 5 ρ σ (fX5_sheet N σ x1 x2 x3) (0, 0) 0 [(0, .ref (vO (VM g) + 0)), (1, .int x1), (2, .int x2), (3, .int x3)] [] := by
  have hz := hc.z
  unfold fX5_sheet
  refine s_iload_n hz dX5_sheet_0 rfl 1 rfl ?_
  refine s_bind (fun q1 e2 => ?_)
  refine kX5_258 hc (cfX5_isSheet e2) ⟨(Nat.le_of_ble_eq_true rfl), (Nat.le_of_ble_eq_true rfl)⟩ ⟨(Nat.le_of_ble_eq_true rfl), (Nat.le_of_ble_eq_true rfl)⟩ (Nat.le_of_ble_eq_true rfl) dX5_sheet_1 ?_
  refine s_if_eq (tgt := 29) hz dX5_sheet_4 rfl (fun h3 => ?_) (fun h3 => ?_)
  · refine s_aload_n hz dX5_sheet_29 rfl 0 rfl ?_
    refine s_ldc hz dX5_sheet_30 q1203 ?_
    refine s_bind (fun q4 e5 => ?_)
    refine kX5_88 hc (cfX5_finds e5) ⟨(Nat.le_of_ble_eq_true rfl), (Nat.le_of_ble_eq_true rfl)⟩ ⟨(Nat.le_of_ble_eq_true rfl), (Nat.le_of_ble_eq_true rfl)⟩ (Nat.le_of_ble_eq_true rfl) dX5_sheet_32 ?_
    exact s_iretM hc dX5_sheet_35 (Nat.le_of_ble_eq_true rfl) (Nat.le_of_ble_eq_true rfl)
  · refine s_iload_n hz dX5_sheet_7 rfl 2 rfl ?_
    refine s_if_eq (tgt := 36) hz dX5_sheet_8 rfl (fun h6 => ?_) (fun h6 => ?_)
    · exact s_sub [0, 1, 2, 3] rfl (wjX5_sheet_36 σ hc x1 x2 x3 )
    · refine s_iload_n hz dX5_sheet_11 rfl 2 rfl ?_
      refine s_bipush (v := (8 : Int32)) hz dX5_sheet_12 (by decide) ?_
      refine s_icmp_eq (tgt := 36) hz dX5_sheet_14 rfl (fun h25 => ?_) (fun h25 => ?_)
      · exact s_sub [0, 1, 2, 3] rfl (wjX5_sheet_36 σ hc x1 x2 x3 )
      · refine s_iload_n hz dX5_sheet_17 rfl 2 rfl ?_
        refine s_bipush (v := (16 : Int32)) hz dX5_sheet_18 (by decide) ?_
        refine s_icmp_eq (tgt := 36) hz dX5_sheet_20 rfl (fun h26 => ?_) (fun h26 => ?_)
        · exact s_sub [0, 1, 2, 3] rfl (wjX5_sheet_36 σ hc x1 x2 x3 )
        · refine s_iload_n hz dX5_sheet_23 rfl 2 rfl ?_
          refine s_bipush (v := (64 : Int32)) hz dX5_sheet_24 (by decide) ?_
          refine s_icmp_eq (tgt := 36) hz dX5_sheet_26 rfl (fun h27 => ?_) (fun h27 => ?_)
          · exact s_sub [0, 1, 2, 3] rfl (wjX5_sheet_36 σ hc x1 x2 x3 )
          · refine s_aload_n hz dX5_sheet_29 rfl 0 rfl ?_
            refine s_ldc hz dX5_sheet_30 q1203 ?_
            refine s_bind (fun q28 e29 => ?_)
            refine kX5_88 hc (cfX5_finds e29) ⟨(Nat.le_of_ble_eq_true rfl), (Nat.le_of_ble_eq_true rfl)⟩ ⟨(Nat.le_of_ble_eq_true rfl), (Nat.le_of_ble_eq_true rfl)⟩ (Nat.le_of_ble_eq_true rfl) dX5_sheet_32 ?_
            exact s_iretM hc dX5_sheet_35 (Nat.le_of_ble_eq_true rfl) (Nat.le_of_ble_eq_true rfl)
theorem cfX5_sheet {g : Geo} {N : Nat}  {σ : Mem} {x1 : Int32} {x2 : Int32} {x3 : Int32} {ρ : Int32 × Mem} (hF : fX5_sheet N σ x1 x2 x3 = some ρ) (l : Launch) : Ct (VM g) l yX5_sheet cX5_sheet 5 (some .int) (rk 2 0 0) [.ref (vO (VM g) + 0), .int x1, .int x2, .int x3] σ (oI ρ.1) ρ.2 :=
  Ct.of (by decide) (Nat.le_of_ble_eq_true rfl) (fun Θ hc ls hl => wfX5_sheet σ x1 x2 x3 hc hF ls hl)
def fX5_narrow (N : Nat) (σ : Mem) (x0 : Int32) (x1 : Int64) : Option (Int64) :=
  some (if x0 = (8 : Int32) then ((((((x1).toInt32)).toInt8.toInt32)).toInt64) else (if x0 = (16 : Int32) then ((((((x1).toInt32)).toInt16.toInt32)).toInt64) else x1))
set_option maxHeartbeats 4000000 in
theorem wfX5_narrow {Θ : ThT Mem} {g : Geo} {N : Nat}  {ρ : Int64} (σ : Mem) (x0 : Int32) (x1 : Int64) (hc : Cx Θ (VM g) cX5_narrow 3 RX5 (rk 1 0 0) (some .long) [] false (oL ρ) σ) : Sim Θ 3 ρ σ (fX5_narrow N σ x0 x1) (0, 0) 0 [(0, .int x0), (1, .long x1)] [] := by
  have hz := hc.z
  unfold fX5_narrow
  refine s_iload_n hz dX5_narrow_0 rfl 0 rfl ?_
  refine s_bipush (v := (8 : Int32)) hz dX5_narrow_1 (by decide) ?_
  refine s_dia (J := 27) (v := .long (if x0 = (8 : Int32) then ((((((x1).toInt32)).toInt8.toInt32)).toInt64) else (if x0 = (16 : Int32) then ((((((x1).toInt32)).toInt16.toInt32)).toInt64) else x1))) (st := []) (fun _ hj1 => ?_) ?_
  · refine s_icmp_ne_ (tgt := 13) hz dX5_narrow_3 rfl (fun h2 => ?_) (fun h2 => ?_)
    · refine s_iload_n hz dX5_narrow_13 rfl 0 rfl ?_
      refine s_bipush (v := (16 : Int32)) hz dX5_narrow_14 (by decide) ?_
      refine s_icmp_ne_ (tgt := 26) hz dX5_narrow_16 rfl (fun h3 => ?_) (fun h3 => ?_)
      · refine s_lload_n hz dX5_narrow_26 rfl 1 rfl ?_
        rw [if_neg h2, if_neg h3] at hj1
        exact hj1
      · refine s_lload_n hz dX5_narrow_19 rfl 1 rfl ?_
        refine s_l2i hz dX5_narrow_20 ?_
        refine s_i2s hz dX5_narrow_21 ?_
        refine s_i2l hz dX5_narrow_22 ?_
        refine s_goto (tgt := 27) hz dX5_narrow_23 rfl ?_
        rw [if_neg h2, if_pos h3] at hj1
        exact hj1
    · refine s_lload_n hz dX5_narrow_6 rfl 1 rfl ?_
      refine s_l2i hz dX5_narrow_7 ?_
      refine s_i2b hz dX5_narrow_8 ?_
      refine s_i2l hz dX5_narrow_9 ?_
      refine s_goto (tgt := 27) hz dX5_narrow_10 rfl ?_
      rw [if_pos h2] at hj1
      exact hj1
  exact s_lret hc dX5_narrow_27 (Nat.le_of_ble_eq_true rfl) (Nat.le_of_ble_eq_true rfl)
theorem cfX5_narrow {g : Geo} {N : Nat}  {σ : Mem} {x0 : Int32} {x1 : Int64} {ρ : Int64} (hF : fX5_narrow N σ x0 x1 = some ρ) (l : Launch) : Ct (VM g) l yX5_narrow cX5_narrow 3 (some .long) (rk 1 0 0) [.int x0, .long x1] σ (oL ρ) σ :=
  Ct.of (by decide) (Nat.le_of_ble_eq_true rfl) (fun Θ hc ls hl => wfX5_narrow σ x0 x1 hc hF ls hl)
def fX5_write (N : Nat) (σ : Mem) (x1 : Int32) (x2 : Int32) (x3 : Int64) : Option (Int64 × Mem) :=
  (fX5_isSheet N σ x1).bind (fun q1 => 
  if q1 = (0 : Int32) then
  ((fX5_finds N σ (-1000000001 : Int32)).bind (fun q21 => 
  some (((q21.1).toInt64), q21.2)))
  else (gb (inb x1 4) (
  if (0 : Int32) ≤ (gI σ 9 (ix x1)) then
  (gb (inb x1 4) (
  (fX5_isIn N σ ((x2).toInt64) (0 : Int64) ((((gI σ 10 (ix x1)) - (1 : Int32))).toInt64)).bind (fun q7 => 
  if q7 = (0 : Int32) then
  ((fX5_finds N σ (-1000000001 : Int32)).bind (fun q17 => 
  some (((q17.1).toInt64), q17.2)))
  else (gb (inb (((40 : Int32) * x1) + x2) 160) (
  lt_ (gL σ 11 (ix (((40 : Int32) * x1) + x2))) (fun v11 => 
  gb (inb x1 4) (
  (fX5_narrow N σ (gI σ 9 (ix x1)) x3).bind (fun q13 => 
  gb (inb (((40 : Int32) * x1) + x2) 160) (
  lt_ (pL σ 11 (ix (((40 : Int32) * x1) + x2)) q13) (fun σ15 => 
  some (v11, σ15)))))))))))
  else ((fX5_finds N σ (-1000000006 : Int32)).bind (fun q19 => 
  some (((q19.1).toInt64), q19.2))))))
set_option maxHeartbeats 4000000 in
theorem wfX5_write {Θ : ThT Mem} {g : Geo} {N : Nat}  {ρ : Int64 × Mem} (σ : Mem) (x1 : Int32) (x2 : Int32) (x3 : Int64) (hc : Cx Θ (VM g) cX5_write 7 RX5 (rk 2 0 0) (some .long) [] false (oL ρ.1) ρ.2) : Sim Θ 7 ρ σ (fX5_write N σ x1 x2 x3) (0, 0) 0 [(0, .ref (vO (VM g) + 0)), (1, .int x1), (2, .int x2), (3, .long x3)] [] := by
  have hz := hc.z
  unfold fX5_write
  refine s_iload_n hz dX5_write_0 rfl 1 rfl ?_
  refine s_bind (fun q1 e2 => ?_)
  refine kX5_258 hc (cfX5_isSheet e2) ⟨(Nat.le_of_ble_eq_true rfl), (Nat.le_of_ble_eq_true rfl)⟩ ⟨(Nat.le_of_ble_eq_true rfl), (Nat.le_of_ble_eq_true rfl)⟩ (Nat.le_of_ble_eq_true rfl) dX5_write_1 ?_
  refine s_if_ne (tgt := 15) hz dX5_write_4 rfl (fun h3 => ?_) (fun h3 => ?_)
  · refine s_aload_n hz dX5_write_15 rfl 0 rfl ?_
    refine rM_g_bitsOf hc dX5_write_16 ?_
    refine s_iload_n hz dX5_write_19 rfl 1 rfl ?_
    refine s_gb (fun h4 => ?_)
    refine rM_ld_9 hc h4 rfl dX5_write_20 ?_
    refine s_if_ge (tgt := 33) hz dX5_write_21 rfl (fun h5 => ?_) (fun h5 => ?_)
    · refine s_iload_n hz dX5_write_33 rfl 2 rfl ?_
      refine s_i2l hz dX5_write_34 ?_
      refine s_lconst (v := (0 : Int64)) hz dX5_write_35 (by decide) ?_
      refine s_aload_n hz dX5_write_36 rfl 0 rfl ?_
      refine rM_g_sizes hc dX5_write_37 ?_
      refine s_iload_n hz dX5_write_40 rfl 1 rfl ?_
      refine s_gb (fun h6 => ?_)
      refine rM_ld_10 hc h6 rfl dX5_write_41 ?_
      refine s_iconst (v := (1 : Int32)) hz dX5_write_42 (by decide) ?_
      refine s_isub hz dX5_write_43 ?_
      refine s_i2l hz dX5_write_44 ?_
      refine s_bind (fun q7 e8 => ?_)
      refine kX5_98 hc (cfX5_isIn e8) ⟨(Nat.le_of_ble_eq_true rfl), (Nat.le_of_ble_eq_true rfl)⟩ ⟨(Nat.le_of_ble_eq_true rfl), (Nat.le_of_ble_eq_true rfl)⟩ (Nat.le_of_ble_eq_true rfl) dX5_write_45 ?_
      refine s_if_ne (tgt := 59) hz dX5_write_48 rfl (fun h9 => ?_) (fun h9 => ?_)
      · refine s_aload_n hz dX5_write_59 rfl 0 rfl ?_
        refine rM_g_numbers hc dX5_write_60 ?_
        refine s_bipush (v := (40 : Int32)) hz dX5_write_63 (by decide) ?_
        refine s_iload_n hz dX5_write_65 rfl 1 rfl ?_
        refine s_imul hz dX5_write_66 ?_
        refine s_iload_n hz dX5_write_67 rfl 2 rfl ?_
        refine s_iadd hz dX5_write_68 ?_
        refine s_gb (fun h10 => ?_)
        refine rM_ld_11 hc h10 rfl dX5_write_69 ?_
        refine s_nmL (fun v11 => ?_)
        refine s_lstore (lv' := [(5, .long v11), (0, .ref (vO (VM g) + 0)), (1, .int x1), (2, .int x2), (3, .long x3)]) hz dX5_write_70 (Nat.le_of_ble_eq_true rfl) rfl ?_
        refine s_aload_n hz dX5_write_72 rfl 1 rfl ?_
        refine rM_g_numbers hc dX5_write_73 ?_
        refine s_bipush (v := (40 : Int32)) hz dX5_write_76 (by decide) ?_
        refine s_iload_n hz dX5_write_78 rfl 2 rfl ?_
        refine s_imul hz dX5_write_79 ?_
        refine s_iload_n hz dX5_write_80 rfl 3 rfl ?_
        refine s_iadd hz dX5_write_81 ?_
        refine s_aload_n hz dX5_write_82 rfl 1 rfl ?_
        refine rM_g_bitsOf hc dX5_write_83 ?_
        refine s_iload_n hz dX5_write_86 rfl 2 rfl ?_
        refine s_gb (fun h12 => ?_)
        refine rM_ld_9 hc h12 rfl dX5_write_87 ?_
        refine s_lload_n hz dX5_write_88 rfl 4 rfl ?_
        refine s_bind (fun q13 e14 => ?_)
        refine kX5_263 hc (cfX5_narrow e14) ⟨(Nat.le_of_ble_eq_true rfl), (Nat.le_of_ble_eq_true rfl)⟩ ⟨(Nat.le_of_ble_eq_true rfl), (Nat.le_of_ble_eq_true rfl)⟩ (Nat.le_of_ble_eq_true rfl) dX5_write_89 ?_
        refine s_gb (fun h16 => ?_)
        refine rM_st_11 hc h16 rfl dX5_write_92 (fun σ15 => ?_)
        refine s_lload hz dX5_write_93 0 rfl ?_
        exact s_lretM hc dX5_write_95 (Nat.le_of_ble_eq_true rfl) (Nat.le_of_ble_eq_true rfl)
      · refine s_aload_n hz dX5_write_51 rfl 0 rfl ?_
        refine s_ldc hz dX5_write_52 q1203 ?_
        refine s_bind (fun q17 e18 => ?_)
        refine kX5_88 hc (cfX5_finds e18) ⟨(Nat.le_of_ble_eq_true rfl), (Nat.le_of_ble_eq_true rfl)⟩ ⟨(Nat.le_of_ble_eq_true rfl), (Nat.le_of_ble_eq_true rfl)⟩ (Nat.le_of_ble_eq_true rfl) dX5_write_54 ?_
        refine s_i2l hz dX5_write_57 ?_
        exact s_lretM hc dX5_write_58 (Nat.le_of_ble_eq_true rfl) (Nat.le_of_ble_eq_true rfl)
    · refine s_aload_n hz dX5_write_24 rfl 0 rfl ?_
      refine s_ldcw hz dX5_write_25 q1491 ?_
      refine s_bind (fun q19 e20 => ?_)
      refine kX5_88 hc (cfX5_finds e20) ⟨(Nat.le_of_ble_eq_true rfl), (Nat.le_of_ble_eq_true rfl)⟩ ⟨(Nat.le_of_ble_eq_true rfl), (Nat.le_of_ble_eq_true rfl)⟩ (Nat.le_of_ble_eq_true rfl) dX5_write_28 ?_
      refine s_i2l hz dX5_write_31 ?_
      exact s_lretM hc dX5_write_32 (Nat.le_of_ble_eq_true rfl) (Nat.le_of_ble_eq_true rfl)
  · refine s_aload_n hz dX5_write_7 rfl 0 rfl ?_
    refine s_ldc hz dX5_write_8 q1203 ?_
    refine s_bind (fun q21 e22 => ?_)
    refine kX5_88 hc (cfX5_finds e22) ⟨(Nat.le_of_ble_eq_true rfl), (Nat.le_of_ble_eq_true rfl)⟩ ⟨(Nat.le_of_ble_eq_true rfl), (Nat.le_of_ble_eq_true rfl)⟩ (Nat.le_of_ble_eq_true rfl) dX5_write_10 ?_
    refine s_i2l hz dX5_write_13 ?_
    exact s_lretM hc dX5_write_14 (Nat.le_of_ble_eq_true rfl) (Nat.le_of_ble_eq_true rfl)
theorem cfX5_write {g : Geo} {N : Nat}  {σ : Mem} {x1 : Int32} {x2 : Int32} {x3 : Int64} {ρ : Int64 × Mem} (hF : fX5_write N σ x1 x2 x3 = some ρ) (l : Launch) : Ct (VM g) l yX5_write cX5_write 7 (some .long) (rk 2 0 0) [.ref (vO (VM g) + 0), .int x1, .int x2, .long x3] σ (oL ρ.1) ρ.2 :=
  Ct.of (by decide) (Nat.le_of_ble_eq_true rfl) (fun Θ hc ls hl => wfX5_write σ x1 x2 x3 hc hF ls hl)
def bX5_copy_137 (N : Nat) (σ : Mem) (x5 : Int32) (x6 : Int32) (x7 : Int32) (r137 : (Mem × Int32) → Option (Int32 × Mem)) (y137 : Mem × Int32) : Option (Int32 × Mem) :=
  if x5 ≤ y137.2 then
  (some (x5, y137.1))
  else (lt_ (if x7 ≤ x6 then y137.2 else ((x5 - (1 : Int32)) - y137.2)) (fun v36 => 
  gb (inb (x6 + v36) 160) (
  gb (inb (x7 + v36) 160) (
  lt_ (pL y137.1 11 (ix (x7 + v36)) (gL y137.1 11 (ix (x6 + v36)))) (fun σ38 => 
  r137 (σ38, (y137.2 + (1 : Int32))))))))
set_option maxHeartbeats 4000000 in
theorem wbX5_copy_137 {Θ : ThT Mem} {g : Geo} {N : Nat}  {ρ : Int32 × Mem} (σ : Mem) (hc : Cx Θ (VM g) cX5_copy 10 RX5 (rk 2 0 0) (some .int) [] false (oI ρ.1) ρ.2) (x5 : Int32) (x6 : Int32) (x7 : Int32) (r137 : (Mem × Int32) → Option (Int32 × Mem)) (hr137 : ∀ y : Mem × Int32, Sim Θ 10 ρ (y.1) (r137 y) (0, 0) 137 [(0, .ref (vO (VM g) + 0)), (5, .int x5), (6, .int x6), (7, .int x7), (8, .int y.2)] []) : ∀ y137 : Mem × Int32, Sim Θ 10 ρ (y137.1) (bX5_copy_137 N σ x5 x6 x7 r137 y137) (0, 0) 137 [(0, .ref (vO (VM g) + 0)), (5, .int x5), (6, .int x6), (7, .int x7), (8, .int y137.2)] [] := by
  intro y137
  have hz := hc.z
  have hr137c : ∀ (z0_ : Mem) (z1_ : Int32), Sim Θ 10 ρ (z0_) (r137 (z0_, z1_)) (0, 0) 137 [(0, .ref (vO (VM g) + 0)), (5, .int x5), (6, .int x6), (7, .int x7), (8, .int z1_)] [] := fun z0_ z1_ => hr137 (z0_, z1_)
  unfold bX5_copy_137
  refine s_iload hz dX5_copy_137 4 rfl ?_
  refine s_iload hz dX5_copy_139 1 rfl ?_
  refine s_icmp_ge (tgt := 191) hz dX5_copy_141 rfl (fun h35 => ?_) (fun h35 => ?_)
  · refine s_iload hz dX5_copy_191 1 rfl ?_
    exact s_iretM hc dX5_copy_193 (Nat.le_of_ble_eq_true rfl) (Nat.le_of_ble_eq_true rfl)
  · refine s_iload hz dX5_copy_144 2 rfl ?_
    refine s_iload hz dX5_copy_146 3 rfl ?_
    refine s_dia (J := 163) (v := .int (if x7 ≤ x6 then y137.2 else ((x5 - (1 : Int32)) - y137.2))) (st := []) (fun _ hj40 => ?_) ?_
    · refine s_icmp_ge_ (tgt := 161) hz dX5_copy_148 rfl (fun h41 => ?_) (fun h41 => ?_)
      · refine s_iload hz dX5_copy_161 4 rfl ?_
        rw [if_pos h41] at hj40
        exact hj40
      · refine s_iload hz dX5_copy_151 1 rfl ?_
        refine s_iconst (v := (1 : Int32)) hz dX5_copy_153 (by decide) ?_
        refine s_isub hz dX5_copy_154 ?_
        refine s_iload hz dX5_copy_155 4 rfl ?_
        refine s_isub hz dX5_copy_157 ?_
        refine s_goto (tgt := 163) hz dX5_copy_158 rfl ?_
        rw [if_neg h41] at hj40
        exact hj40
    refine s_nmI (fun v36 => ?_)
    refine s_istore (lv' := [(9, .int v36), (0, .ref (vO (VM g) + 0)), (5, .int x5), (6, .int x6), (7, .int x7), (8, .int y137.2)]) hz dX5_copy_163 (Nat.le_of_ble_eq_true rfl) rfl ?_
    refine s_aload_n hz dX5_copy_165 rfl 1 rfl ?_
    refine rM_g_numbers hc dX5_copy_166 ?_
    refine s_iload hz dX5_copy_169 4 rfl ?_
    refine s_iload hz dX5_copy_171 0 rfl ?_
    refine s_iadd hz dX5_copy_173 ?_
    refine s_aload_n hz dX5_copy_174 rfl 1 rfl ?_
    refine rM_g_numbers hc dX5_copy_175 ?_
    refine s_iload hz dX5_copy_178 3 rfl ?_
    refine s_iload hz dX5_copy_180 0 rfl ?_
    refine s_iadd hz dX5_copy_182 ?_
    refine s_gb (fun h37 => ?_)
    refine rM_ld_11 hc h37 rfl dX5_copy_183 ?_
    refine s_gb (fun h39 => ?_)
    refine rM_st_11 hc h39 rfl dX5_copy_184 (fun σ38 => ?_)
    refine s_iinc (v := (1 : Int32)) (lv' := [(8, .int (y137.2 + (1 : Int32))), (9, .int v36), (0, .ref (vO (VM g) + 0)), (5, .int x5), (6, .int x6), (7, .int x7)]) hz dX5_copy_185 5 rfl (by decide) (Nat.le_of_ble_eq_true rfl) rfl ?_
    refine s_goto (tgt := 137) hz dX5_copy_188 rfl ?_
    exact s_sub [2, 3, 4, 5, 0] rfl (hr137c σ38 (y137.2 + (1 : Int32)))
def fX5_copy (N : Nat) (σ : Mem) (x1 : Int32) (x2 : Int32) (x3 : Int32) (x4 : Int32) (x5 : Int32) : Option (Int32 × Mem) :=
  (fX5_isSheet N σ x1).bind (fun q1 => 
  if q1 = (0 : Int32) then
  ((fX5_finds N σ (-1000000001 : Int32)).bind (fun q4 => 
  some (q4.1, q4.2)))
  else ((fX5_isSheet N σ x3).bind (fun q6 => 
  if q6 = (0 : Int32) then
  ((fX5_finds N σ (-1000000001 : Int32)).bind (fun q48 => 
  some (q48.1, q48.2)))
  else (gb (inb x1 4) (
  if (gI σ 9 (ix x1)) < (0 : Int32) then
  ((fX5_finds N σ (-1000000006 : Int32)).bind (fun q11 => 
  some (q11.1, q11.2)))
  else (gb (inb x3 4) (
  if (0 : Int32) ≤ (gI σ 9 (ix x3)) then
  (gb (inb x1 4) (
  gb (inb x3 4) (
  if (gI σ 9 (ix x1)) = (gI σ 9 (ix x3)) then
  (if x2 < (0 : Int32) then
  ((fX5_finds N σ (-1000000001 : Int32)).bind (fun q19 => 
  some (q19.1, q19.2)))
  else (if x4 < (0 : Int32) then
  ((fX5_finds N σ (-1000000001 : Int32)).bind (fun q22 => 
  some (q22.1, q22.2)))
  else (if x5 < (0 : Int32) then
  ((fX5_finds N σ (-1000000001 : Int32)).bind (fun q25 => 
  some (q25.1, q25.2)))
  else (gb (inb x1 4) (
  if ((gI σ 10 (ix x1)) - x2) < x5 then
  ((fX5_finds N σ (-1000000001 : Int32)).bind (fun q29 => 
  some (q29.1, q29.2)))
  else (gb (inb x3 4) (
  if x5 ≤ ((gI σ 10 (ix x3)) - x4) then
  (lt_ (((40 : Int32) * x1) + x2) (fun v33 => 
  lt_ (((40 : Int32) * x3) + x4) (fun v34 => 
  lp (bX5_copy_137 N σ x5 v33 v34) N (σ, (0 : Int32)))))
  else ((fX5_finds N σ (-1000000001 : Int32)).bind (fun q42 => 
  some (q42.1, q42.2))))))))))
  else ((fX5_finds N σ (-1000000003 : Int32)).bind (fun q44 => 
  some (q44.1, q44.2))))))
  else ((fX5_finds N σ (-1000000006 : Int32)).bind (fun q46 => 
  some (q46.1, q46.2))))))))))
set_option maxHeartbeats 4000000 in
theorem wfX5_copy {Θ : ThT Mem} {g : Geo} {N : Nat}  {ρ : Int32 × Mem} (σ : Mem) (x1 : Int32) (x2 : Int32) (x3 : Int32) (x4 : Int32) (x5 : Int32) (hc : Cx Θ (VM g) cX5_copy 10 RX5 (rk 2 0 0) (some .int) [] false (oI ρ.1) ρ.2) : Sim Θ 10 ρ σ (fX5_copy N σ x1 x2 x3 x4 x5) (0, 0) 0 [(0, .ref (vO (VM g) + 0)), (1, .int x1), (2, .int x2), (3, .int x3), (4, .int x4), (5, .int x5)] [] := by
  have hz := hc.z
  unfold fX5_copy
  refine s_iload_n hz dX5_copy_0 rfl 1 rfl ?_
  refine s_bind (fun q1 e2 => ?_)
  refine kX5_258 hc (cfX5_isSheet e2) ⟨(Nat.le_of_ble_eq_true rfl), (Nat.le_of_ble_eq_true rfl)⟩ ⟨(Nat.le_of_ble_eq_true rfl), (Nat.le_of_ble_eq_true rfl)⟩ (Nat.le_of_ble_eq_true rfl) dX5_copy_1 ?_
  refine s_if_eq (tgt := 14) hz dX5_copy_4 rfl (fun h3 => ?_) (fun h3 => ?_)
  · refine s_aload_n hz dX5_copy_14 rfl 0 rfl ?_
    refine s_ldc hz dX5_copy_15 q1203 ?_
    refine s_bind (fun q4 e5 => ?_)
    refine kX5_88 hc (cfX5_finds e5) ⟨(Nat.le_of_ble_eq_true rfl), (Nat.le_of_ble_eq_true rfl)⟩ ⟨(Nat.le_of_ble_eq_true rfl), (Nat.le_of_ble_eq_true rfl)⟩ (Nat.le_of_ble_eq_true rfl) dX5_copy_17 ?_
    exact s_iretM hc dX5_copy_20 (Nat.le_of_ble_eq_true rfl) (Nat.le_of_ble_eq_true rfl)
  · refine s_iload_n hz dX5_copy_7 rfl 3 rfl ?_
    refine s_bind (fun q6 e7 => ?_)
    refine kX5_258 hc (cfX5_isSheet e7) ⟨(Nat.le_of_ble_eq_true rfl), (Nat.le_of_ble_eq_true rfl)⟩ ⟨(Nat.le_of_ble_eq_true rfl), (Nat.le_of_ble_eq_true rfl)⟩ (Nat.le_of_ble_eq_true rfl) dX5_copy_8 ?_
    refine s_if_ne (tgt := 21) hz dX5_copy_11 rfl (fun h8 => ?_) (fun h8 => ?_)
    · refine s_aload_n hz dX5_copy_21 rfl 0 rfl ?_
      refine rM_g_bitsOf hc dX5_copy_22 ?_
      refine s_iload_n hz dX5_copy_25 rfl 1 rfl ?_
      refine s_gb (fun h9 => ?_)
      refine rM_ld_9 hc h9 rfl dX5_copy_26 ?_
      refine s_if_lt (tgt := 39) hz dX5_copy_27 rfl (fun h10 => ?_) (fun h10 => ?_)
      · refine s_aload_n hz dX5_copy_39 rfl 0 rfl ?_
        refine s_ldcw hz dX5_copy_40 q1491 ?_
        refine s_bind (fun q11 e12 => ?_)
        refine kX5_88 hc (cfX5_finds e12) ⟨(Nat.le_of_ble_eq_true rfl), (Nat.le_of_ble_eq_true rfl)⟩ ⟨(Nat.le_of_ble_eq_true rfl), (Nat.le_of_ble_eq_true rfl)⟩ (Nat.le_of_ble_eq_true rfl) dX5_copy_43 ?_
        exact s_iretM hc dX5_copy_46 (Nat.le_of_ble_eq_true rfl) (Nat.le_of_ble_eq_true rfl)
      · refine s_aload_n hz dX5_copy_30 rfl 0 rfl ?_
        refine rM_g_bitsOf hc dX5_copy_31 ?_
        refine s_iload_n hz dX5_copy_34 rfl 3 rfl ?_
        refine s_gb (fun h13 => ?_)
        refine rM_ld_9 hc h13 rfl dX5_copy_35 ?_
        refine s_if_ge (tgt := 47) hz dX5_copy_36 rfl (fun h14 => ?_) (fun h14 => ?_)
        · refine s_aload_n hz dX5_copy_47 rfl 0 rfl ?_
          refine rM_g_bitsOf hc dX5_copy_48 ?_
          refine s_iload_n hz dX5_copy_51 rfl 1 rfl ?_
          refine s_gb (fun h15 => ?_)
          refine rM_ld_9 hc h15 rfl dX5_copy_52 ?_
          refine s_aload_n hz dX5_copy_53 rfl 0 rfl ?_
          refine rM_g_bitsOf hc dX5_copy_54 ?_
          refine s_iload_n hz dX5_copy_57 rfl 3 rfl ?_
          refine s_gb (fun h16 => ?_)
          refine rM_ld_9 hc h16 rfl dX5_copy_58 ?_
          refine s_icmp_eq (tgt := 69) hz dX5_copy_59 rfl (fun h17 => ?_) (fun h17 => ?_)
          · refine s_iload_n hz dX5_copy_69 rfl 2 rfl ?_
            refine s_if_lt (tgt := 110) hz dX5_copy_70 rfl (fun h18 => ?_) (fun h18 => ?_)
            · refine s_aload_n hz dX5_copy_110 rfl 0 rfl ?_
              refine s_ldc hz dX5_copy_111 q1203 ?_
              refine s_bind (fun q19 e20 => ?_)
              refine kX5_88 hc (cfX5_finds e20) ⟨(Nat.le_of_ble_eq_true rfl), (Nat.le_of_ble_eq_true rfl)⟩ ⟨(Nat.le_of_ble_eq_true rfl), (Nat.le_of_ble_eq_true rfl)⟩ (Nat.le_of_ble_eq_true rfl) dX5_copy_113 ?_
              exact s_iretM hc dX5_copy_116 (Nat.le_of_ble_eq_true rfl) (Nat.le_of_ble_eq_true rfl)
            · refine s_iload hz dX5_copy_73 4 rfl ?_
              refine s_if_lt (tgt := 110) hz dX5_copy_75 rfl (fun h21 => ?_) (fun h21 => ?_)
              · refine s_aload_n hz dX5_copy_110 rfl 0 rfl ?_
                refine s_ldc hz dX5_copy_111 q1203 ?_
                refine s_bind (fun q22 e23 => ?_)
                refine kX5_88 hc (cfX5_finds e23) ⟨(Nat.le_of_ble_eq_true rfl), (Nat.le_of_ble_eq_true rfl)⟩ ⟨(Nat.le_of_ble_eq_true rfl), (Nat.le_of_ble_eq_true rfl)⟩ (Nat.le_of_ble_eq_true rfl) dX5_copy_113 ?_
                exact s_iretM hc dX5_copy_116 (Nat.le_of_ble_eq_true rfl) (Nat.le_of_ble_eq_true rfl)
              · refine s_iload hz dX5_copy_78 5 rfl ?_
                refine s_if_lt (tgt := 110) hz dX5_copy_80 rfl (fun h24 => ?_) (fun h24 => ?_)
                · refine s_aload_n hz dX5_copy_110 rfl 0 rfl ?_
                  refine s_ldc hz dX5_copy_111 q1203 ?_
                  refine s_bind (fun q25 e26 => ?_)
                  refine kX5_88 hc (cfX5_finds e26) ⟨(Nat.le_of_ble_eq_true rfl), (Nat.le_of_ble_eq_true rfl)⟩ ⟨(Nat.le_of_ble_eq_true rfl), (Nat.le_of_ble_eq_true rfl)⟩ (Nat.le_of_ble_eq_true rfl) dX5_copy_113 ?_
                  exact s_iretM hc dX5_copy_116 (Nat.le_of_ble_eq_true rfl) (Nat.le_of_ble_eq_true rfl)
                · refine s_iload hz dX5_copy_83 5 rfl ?_
                  refine s_aload_n hz dX5_copy_85 rfl 0 rfl ?_
                  refine rM_g_sizes hc dX5_copy_86 ?_
                  refine s_iload_n hz dX5_copy_89 rfl 1 rfl ?_
                  refine s_gb (fun h27 => ?_)
                  refine rM_ld_10 hc h27 rfl dX5_copy_90 ?_
                  refine s_iload_n hz dX5_copy_91 rfl 2 rfl ?_
                  refine s_isub hz dX5_copy_92 ?_
                  refine s_icmp_gt (tgt := 110) hz dX5_copy_93 rfl (fun h28 => ?_) (fun h28 => ?_)
                  · refine s_aload_n hz dX5_copy_110 rfl 0 rfl ?_
                    refine s_ldc hz dX5_copy_111 q1203 ?_
                    refine s_bind (fun q29 e30 => ?_)
                    refine kX5_88 hc (cfX5_finds e30) ⟨(Nat.le_of_ble_eq_true rfl), (Nat.le_of_ble_eq_true rfl)⟩ ⟨(Nat.le_of_ble_eq_true rfl), (Nat.le_of_ble_eq_true rfl)⟩ (Nat.le_of_ble_eq_true rfl) dX5_copy_113 ?_
                    exact s_iretM hc dX5_copy_116 (Nat.le_of_ble_eq_true rfl) (Nat.le_of_ble_eq_true rfl)
                  · refine s_iload hz dX5_copy_96 5 rfl ?_
                    refine s_aload_n hz dX5_copy_98 rfl 0 rfl ?_
                    refine rM_g_sizes hc dX5_copy_99 ?_
                    refine s_iload_n hz dX5_copy_102 rfl 3 rfl ?_
                    refine s_gb (fun h31 => ?_)
                    refine rM_ld_10 hc h31 rfl dX5_copy_103 ?_
                    refine s_iload hz dX5_copy_104 4 rfl ?_
                    refine s_isub hz dX5_copy_106 ?_
                    refine s_icmp_le (tgt := 117) hz dX5_copy_107 rfl (fun h32 => ?_) (fun h32 => ?_)
                    · refine s_bipush (v := (40 : Int32)) hz dX5_copy_117 (by decide) ?_
                      refine s_iload_n hz dX5_copy_119 rfl 1 rfl ?_
                      refine s_imul hz dX5_copy_120 ?_
                      refine s_iload_n hz dX5_copy_121 rfl 2 rfl ?_
                      refine s_iadd hz dX5_copy_122 ?_
                      refine s_nmI (fun v33 => ?_)
                      refine s_istore (lv' := [(6, .int v33), (0, .ref (vO (VM g) + 0)), (1, .int x1), (2, .int x2), (3, .int x3), (4, .int x4), (5, .int x5)]) hz dX5_copy_123 (Nat.le_of_ble_eq_true rfl) rfl ?_
                      refine s_bipush (v := (40 : Int32)) hz dX5_copy_125 (by decide) ?_
                      refine s_iload_n hz dX5_copy_127 rfl 4 rfl ?_
                      refine s_imul hz dX5_copy_128 ?_
                      refine s_iload hz dX5_copy_129 5 rfl ?_
                      refine s_iadd hz dX5_copy_131 ?_
                      refine s_nmI (fun v34 => ?_)
                      refine s_istore (lv' := [(7, .int v34), (6, .int v33), (0, .ref (vO (VM g) + 0)), (1, .int x1), (2, .int x2), (3, .int x3), (4, .int x4), (5, .int x5)]) hz dX5_copy_132 (Nat.le_of_ble_eq_true rfl) rfl ?_
                      refine s_iconst (v := (0 : Int32)) hz dX5_copy_134 (by decide) ?_
                      refine s_istore (lv' := [(8, .int (0 : Int32)), (7, .int v34), (6, .int v33), (0, .ref (vO (VM g) + 0)), (1, .int x1), (2, .int x2), (3, .int x3), (4, .int x4), (5, .int x5)]) hz dX5_copy_135 (Nat.le_of_ble_eq_true rfl) rfl ?_
                      exact s_sub [3, 8, 2, 1, 0] rfl (s_lp (sg := fun y : Mem × Int32 => y.1) (lvs := fun y : Mem × Int32 => [(0, .ref (vO (VM g) + 0)), (5, .int x5), (6, .int v33), (7, .int v34), (8, .int y.2)]) (fun rec hrec => wbX5_copy_137 σ hc x5 v33 v34  rec hrec) N (σ, (0 : Int32)))
                    · refine s_aload_n hz dX5_copy_110 rfl 0 rfl ?_
                      refine s_ldc hz dX5_copy_111 q1203 ?_
                      refine s_bind (fun q42 e43 => ?_)
                      refine kX5_88 hc (cfX5_finds e43) ⟨(Nat.le_of_ble_eq_true rfl), (Nat.le_of_ble_eq_true rfl)⟩ ⟨(Nat.le_of_ble_eq_true rfl), (Nat.le_of_ble_eq_true rfl)⟩ (Nat.le_of_ble_eq_true rfl) dX5_copy_113 ?_
                      exact s_iretM hc dX5_copy_116 (Nat.le_of_ble_eq_true rfl) (Nat.le_of_ble_eq_true rfl)
          · refine s_aload_n hz dX5_copy_62 rfl 0 rfl ?_
            refine s_ldc hz dX5_copy_63 q1244 ?_
            refine s_bind (fun q44 e45 => ?_)
            refine kX5_88 hc (cfX5_finds e45) ⟨(Nat.le_of_ble_eq_true rfl), (Nat.le_of_ble_eq_true rfl)⟩ ⟨(Nat.le_of_ble_eq_true rfl), (Nat.le_of_ble_eq_true rfl)⟩ (Nat.le_of_ble_eq_true rfl) dX5_copy_65 ?_
            exact s_iretM hc dX5_copy_68 (Nat.le_of_ble_eq_true rfl) (Nat.le_of_ble_eq_true rfl)
        · refine s_aload_n hz dX5_copy_39 rfl 0 rfl ?_
          refine s_ldcw hz dX5_copy_40 q1491 ?_
          refine s_bind (fun q46 e47 => ?_)
          refine kX5_88 hc (cfX5_finds e47) ⟨(Nat.le_of_ble_eq_true rfl), (Nat.le_of_ble_eq_true rfl)⟩ ⟨(Nat.le_of_ble_eq_true rfl), (Nat.le_of_ble_eq_true rfl)⟩ (Nat.le_of_ble_eq_true rfl) dX5_copy_43 ?_
          exact s_iretM hc dX5_copy_46 (Nat.le_of_ble_eq_true rfl) (Nat.le_of_ble_eq_true rfl)
    · refine s_aload_n hz dX5_copy_14 rfl 0 rfl ?_
      refine s_ldc hz dX5_copy_15 q1203 ?_
      refine s_bind (fun q48 e49 => ?_)
      refine kX5_88 hc (cfX5_finds e49) ⟨(Nat.le_of_ble_eq_true rfl), (Nat.le_of_ble_eq_true rfl)⟩ ⟨(Nat.le_of_ble_eq_true rfl), (Nat.le_of_ble_eq_true rfl)⟩ (Nat.le_of_ble_eq_true rfl) dX5_copy_17 ?_
      exact s_iretM hc dX5_copy_20 (Nat.le_of_ble_eq_true rfl) (Nat.le_of_ble_eq_true rfl)
theorem cfX5_copy {g : Geo} {N : Nat}  {σ : Mem} {x1 : Int32} {x2 : Int32} {x3 : Int32} {x4 : Int32} {x5 : Int32} {ρ : Int32 × Mem} (hF : fX5_copy N σ x1 x2 x3 x4 x5 = some ρ) (l : Launch) : Ct (VM g) l yX5_copy cX5_copy 10 (some .int) (rk 2 0 0) [.ref (vO (VM g) + 0), .int x1, .int x2, .int x3, .int x4, .int x5] σ (oI ρ.1) ρ.2 :=
  Ct.of (by decide) (Nat.le_of_ble_eq_true rfl) (fun Θ hc ls hl => wfX5_copy σ x1 x2 x3 x4 x5 hc hF ls hl)
def bX5_weeks_35 (N : Nat) (σ : Mem) (x1 : Int32) (r35 : (Mem × Int32 × Int32) → Option (Int32 × Mem)) (y35 : Mem × Int32 × Int32) : Option (Int32 × Mem) :=
  gb (inb x1 4) (
  if (gI y35.1 10 (ix x1)) ≤ y35.2.2 then
  (some (y35.2.1, y35.1))
  else (gb (inb (((40 : Int32) * x1) + y35.2.2) 160) (
  lt_ (gL y35.1 11 (ix (((40 : Int32) * x1) + y35.2.2))) (fun v9 => 
  (fX5_isIn N y35.1 v9 (0 : Int64) (4095 : Int64)).bind (fun q10 => 
  if q10 = (0 : Int32) then
  (r35 (y35.1, y35.2.1, (y35.2.2 + (1 : Int32))))
  else (gb (inb ((v9).toInt32) 4096) (
  if (gI y35.1 5 (ix ((v9).toInt32))) < (0 : Int32) then
  (r35 (y35.1, y35.2.1, (y35.2.2 + (1 : Int32))))
  else (if (40 : Int32) ≤ (gI y35.1 1 1) then
  (r35 (y35.1, y35.2.1, (y35.2.2 + (1 : Int32))))
  else ((fX5_goes N y35.1 ((v9).toInt32)).bind (fun q16 => 
  r35 (q16.2, (y35.2.1 + (1 : Int32)), (y35.2.2 + (1 : Int32)))))))))))))
set_option maxHeartbeats 4000000 in
theorem wbX5_weeks_35 {Θ : ThT Mem} {g : Geo} {N : Nat}  {ρ : Int32 × Mem} (σ : Mem) (hc : Cx Θ (VM g) cX5_weeks 6 RX5 (rk 45 0 0) (some .int) [] false (oI ρ.1) ρ.2) (x1 : Int32) (r35 : (Mem × Int32 × Int32) → Option (Int32 × Mem)) (hr35 : ∀ y : Mem × Int32 × Int32, Sim Θ 6 ρ (y.1) (r35 y) (0, 0) 35 [(0, .ref (vO (VM g) + 0)), (1, .int x1), (2, .int y.2.1), (3, .int y.2.2)] []) : ∀ y35 : Mem × Int32 × Int32, Sim Θ 6 ρ (y35.1) (bX5_weeks_35 N σ x1 r35 y35) (0, 0) 35 [(0, .ref (vO (VM g) + 0)), (1, .int x1), (2, .int y35.2.1), (3, .int y35.2.2)] [] := by
  intro y35
  have hz := hc.z
  have hr35c : ∀ (z0_ : Mem) (z1_ : Int32) (z2_ : Int32), Sim Θ 6 ρ (z0_) (r35 (z0_, z1_, z2_)) (0, 0) 35 [(0, .ref (vO (VM g) + 0)), (1, .int x1), (2, .int z1_), (3, .int z2_)] [] := fun z0_ z1_ z2_ => hr35 (z0_, z1_, z2_)
  unfold bX5_weeks_35
  refine s_iload_n hz dX5_weeks_35 rfl 3 rfl ?_
  refine s_aload_n hz dX5_weeks_36 rfl 0 rfl ?_
  refine rM_g_sizes hc dX5_weeks_37 ?_
  refine s_iload_n hz dX5_weeks_40 rfl 1 rfl ?_
  refine s_gb (fun h6 => ?_)
  refine rM_ld_10 hc h6 rfl dX5_weeks_41 ?_
  refine s_icmp_ge (tgt := 108) hz dX5_weeks_42 rfl (fun h7 => ?_) (fun h7 => ?_)
  · refine s_iload_n hz dX5_weeks_108 rfl 2 rfl ?_
    exact s_iretM hc dX5_weeks_109 (Nat.le_of_ble_eq_true rfl) (Nat.le_of_ble_eq_true rfl)
  · refine s_aload_n hz dX5_weeks_45 rfl 0 rfl ?_
    refine rM_g_numbers hc dX5_weeks_46 ?_
    refine s_bipush (v := (40 : Int32)) hz dX5_weeks_49 (by decide) ?_
    refine s_iload_n hz dX5_weeks_51 rfl 1 rfl ?_
    refine s_imul hz dX5_weeks_52 ?_
    refine s_iload_n hz dX5_weeks_53 rfl 3 rfl ?_
    refine s_iadd hz dX5_weeks_54 ?_
    refine s_gb (fun h8 => ?_)
    refine rM_ld_11 hc h8 rfl dX5_weeks_55 ?_
    refine s_nmL (fun v9 => ?_)
    refine s_lstore (lv' := [(4, .long v9), (0, .ref (vO (VM g) + 0)), (1, .int x1), (2, .int y35.2.1), (3, .int y35.2.2)]) hz dX5_weeks_56 (Nat.le_of_ble_eq_true rfl) rfl ?_
    refine s_lload hz dX5_weeks_58 0 rfl ?_
    refine s_lconst (v := (0 : Int64)) hz dX5_weeks_60 (by decide) ?_
    refine s_ldc2 hz dX5_weeks_61 q1503 ?_
    refine s_bind (fun q10 e11 => ?_)
    refine kX5_98 hc (cfX5_isIn e11) ⟨(Nat.le_of_ble_eq_true rfl), (Nat.le_of_ble_eq_true rfl)⟩ ⟨(Nat.le_of_ble_eq_true rfl), (Nat.le_of_ble_eq_true rfl)⟩ (Nat.le_of_ble_eq_true rfl) dX5_weeks_64 ?_
    refine s_if_eq (tgt := 102) hz dX5_weeks_67 rfl (fun h12 => ?_) (fun h12 => ?_)
    · refine s_iinc (v := (1 : Int32)) (lv' := [(3, .int (y35.2.2 + (1 : Int32))), (4, .long v9), (0, .ref (vO (VM g) + 0)), (1, .int x1), (2, .int y35.2.1)]) hz dX5_weeks_102 4 rfl (by decide) (Nat.le_of_ble_eq_true rfl) rfl ?_
      refine s_goto (tgt := 35) hz dX5_weeks_105 rfl ?_
      exact s_sub [2, 3, 4, 0] rfl (hr35c y35.1 y35.2.1 (y35.2.2 + (1 : Int32)))
    · refine s_aload_n hz dX5_weeks_70 rfl 1 rfl ?_
      refine rM_g_placeAt hc dX5_weeks_71 ?_
      refine s_lload hz dX5_weeks_74 0 rfl ?_
      refine s_l2i hz dX5_weeks_76 ?_
      refine s_gb (fun h13 => ?_)
      refine rM_ld_5 hc h13 rfl dX5_weeks_77 ?_
      refine s_if_lt (tgt := 102) hz dX5_weeks_78 rfl (fun h14 => ?_) (fun h14 => ?_)
      · refine s_iinc (v := (1 : Int32)) (lv' := [(3, .int (y35.2.2 + (1 : Int32))), (4, .long v9), (0, .ref (vO (VM g) + 0)), (1, .int x1), (2, .int y35.2.1)]) hz dX5_weeks_102 4 rfl (by decide) (Nat.le_of_ble_eq_true rfl) rfl ?_
        refine s_goto (tgt := 35) hz dX5_weeks_105 rfl ?_
        exact s_sub [2, 3, 4, 0] rfl (hr35c y35.1 y35.2.1 (y35.2.2 + (1 : Int32)))
      · refine s_aload_n hz dX5_weeks_81 rfl 1 rfl ?_
        refine rM_g_s hc dX5_weeks_82 ?_
        refine s_iconst (v := (1 : Int32)) hz dX5_weeks_85 (by decide) ?_
        refine rM_ld_1 hc (j := 1) (by decide) (by decide) dX5_weeks_86 ?_
        refine s_bipush (v := (40 : Int32)) hz dX5_weeks_87 (by decide) ?_
        refine s_icmp_ge (tgt := 102) hz dX5_weeks_89 rfl (fun h15 => ?_) (fun h15 => ?_)
        · refine s_iinc (v := (1 : Int32)) (lv' := [(3, .int (y35.2.2 + (1 : Int32))), (4, .long v9), (0, .ref (vO (VM g) + 0)), (1, .int x1), (2, .int y35.2.1)]) hz dX5_weeks_102 4 rfl (by decide) (Nat.le_of_ble_eq_true rfl) rfl ?_
          refine s_goto (tgt := 35) hz dX5_weeks_105 rfl ?_
          exact s_sub [2, 3, 4, 0] rfl (hr35c y35.1 y35.2.1 (y35.2.2 + (1 : Int32)))
        · refine s_aload_n hz dX5_weeks_92 rfl 1 rfl ?_
          refine s_lload hz dX5_weeks_93 0 rfl ?_
          refine s_l2i hz dX5_weeks_95 ?_
          refine s_bind (fun q16 e17 => ?_)
          refine kX5_219 hc (cfX5_goes e17) ⟨(Nat.le_of_ble_eq_true rfl), (Nat.le_of_ble_eq_true rfl)⟩ ⟨(Nat.le_of_ble_eq_true rfl), (Nat.le_of_ble_eq_true rfl)⟩ (Nat.le_of_ble_eq_true rfl) dX5_weeks_96 ?_
          refine s_iinc (v := (1 : Int32)) (lv' := [(2, .int (y35.2.1 + (1 : Int32))), (4, .long v9), (0, .ref (vO (VM g) + 0)), (1, .int x1), (3, .int y35.2.2)]) hz dX5_weeks_99 3 rfl (by decide) (Nat.le_of_ble_eq_true rfl) rfl ?_
          refine s_iinc (v := (1 : Int32)) (lv' := [(3, .int (y35.2.2 + (1 : Int32))), (2, .int (y35.2.1 + (1 : Int32))), (4, .long v9), (0, .ref (vO (VM g) + 0)), (1, .int x1)]) hz dX5_weeks_102 4 rfl (by decide) (Nat.le_of_ble_eq_true rfl) rfl ?_
          refine s_goto (tgt := 35) hz dX5_weeks_105 rfl ?_
          exact s_sub [3, 4, 1, 0] rfl (hr35c q16.2 (y35.2.1 + (1 : Int32)) (y35.2.2 + (1 : Int32)))
def fX5_weeks (N : Nat) (σ : Mem) (x1 : Int32) : Option (Int32 × Mem) :=
  (fX5_isSheet N σ x1).bind (fun q1 => 
  if q1 = (0 : Int32) then
  ((fX5_finds N σ (-1000000001 : Int32)).bind (fun q20 => 
  some (q20.1, q20.2)))
  else (gb (inb x1 4) (
  if (0 : Int32) ≤ (gI σ 9 (ix x1)) then
  (lp (bX5_weeks_35 N σ x1) N (σ, (0 : Int32), (0 : Int32)))
  else ((fX5_finds N σ (-1000000006 : Int32)).bind (fun q18 => 
  some (q18.1, q18.2))))))
set_option maxHeartbeats 4000000 in
theorem wfX5_weeks {Θ : ThT Mem} {g : Geo} {N : Nat}  {ρ : Int32 × Mem} (σ : Mem) (x1 : Int32) (hc : Cx Θ (VM g) cX5_weeks 6 RX5 (rk 45 0 0) (some .int) [] false (oI ρ.1) ρ.2) : Sim Θ 6 ρ σ (fX5_weeks N σ x1) (0, 0) 0 [(0, .ref (vO (VM g) + 0)), (1, .int x1)] [] := by
  have hz := hc.z
  unfold fX5_weeks
  refine s_iload_n hz dX5_weeks_0 rfl 1 rfl ?_
  refine s_bind (fun q1 e2 => ?_)
  refine kX5_258 hc (cfX5_isSheet e2) ⟨(Nat.le_of_ble_eq_true rfl), (Nat.le_of_ble_eq_true rfl)⟩ ⟨(Nat.le_of_ble_eq_true rfl), (Nat.le_of_ble_eq_true rfl)⟩ (Nat.le_of_ble_eq_true rfl) dX5_weeks_1 ?_
  refine s_if_ne (tgt := 14) hz dX5_weeks_4 rfl (fun h3 => ?_) (fun h3 => ?_)
  · refine s_aload_n hz dX5_weeks_14 rfl 0 rfl ?_
    refine rM_g_bitsOf hc dX5_weeks_15 ?_
    refine s_iload_n hz dX5_weeks_18 rfl 1 rfl ?_
    refine s_gb (fun h4 => ?_)
    refine rM_ld_9 hc h4 rfl dX5_weeks_19 ?_
    refine s_if_ge (tgt := 31) hz dX5_weeks_20 rfl (fun h5 => ?_) (fun h5 => ?_)
    · refine s_iconst (v := (0 : Int32)) hz dX5_weeks_31 (by decide) ?_
      refine s_istore_n (lv' := [(2, .int (0 : Int32)), (0, .ref (vO (VM g) + 0)), (1, .int x1)]) hz dX5_weeks_32 rfl (Nat.le_of_ble_eq_true rfl) rfl ?_
      refine s_iconst (v := (0 : Int32)) hz dX5_weeks_33 (by decide) ?_
      refine s_istore_n (lv' := [(3, .int (0 : Int32)), (2, .int (0 : Int32)), (0, .ref (vO (VM g) + 0)), (1, .int x1)]) hz dX5_weeks_34 rfl (Nat.le_of_ble_eq_true rfl) rfl ?_
      exact s_sub [2, 3, 1, 0] rfl (s_lp (sg := fun y : Mem × Int32 × Int32 => y.1) (lvs := fun y : Mem × Int32 × Int32 => [(0, .ref (vO (VM g) + 0)), (1, .int x1), (2, .int y.2.1), (3, .int y.2.2)]) (fun rec hrec => wbX5_weeks_35 σ hc x1  rec hrec) N (σ, (0 : Int32), (0 : Int32)))
    · refine s_aload_n hz dX5_weeks_23 rfl 0 rfl ?_
      refine s_ldcw hz dX5_weeks_24 q1491 ?_
      refine s_bind (fun q18 e19 => ?_)
      refine kX5_88 hc (cfX5_finds e19) ⟨(Nat.le_of_ble_eq_true rfl), (Nat.le_of_ble_eq_true rfl)⟩ ⟨(Nat.le_of_ble_eq_true rfl), (Nat.le_of_ble_eq_true rfl)⟩ (Nat.le_of_ble_eq_true rfl) dX5_weeks_27 ?_
      exact s_iretM hc dX5_weeks_30 (Nat.le_of_ble_eq_true rfl) (Nat.le_of_ble_eq_true rfl)
  · refine s_aload_n hz dX5_weeks_7 rfl 0 rfl ?_
    refine s_ldc hz dX5_weeks_8 q1203 ?_
    refine s_bind (fun q20 e21 => ?_)
    refine kX5_88 hc (cfX5_finds e21) ⟨(Nat.le_of_ble_eq_true rfl), (Nat.le_of_ble_eq_true rfl)⟩ ⟨(Nat.le_of_ble_eq_true rfl), (Nat.le_of_ble_eq_true rfl)⟩ (Nat.le_of_ble_eq_true rfl) dX5_weeks_10 ?_
    exact s_iretM hc dX5_weeks_13 (Nat.le_of_ble_eq_true rfl) (Nat.le_of_ble_eq_true rfl)
theorem cfX5_weeks {g : Geo} {N : Nat}  {σ : Mem} {x1 : Int32} {ρ : Int32 × Mem} (hF : fX5_weeks N σ x1 = some ρ) (l : Launch) : Ct (VM g) l yX5_weeks cX5_weeks 6 (some .int) (rk 45 0 0) [.ref (vO (VM g) + 0), .int x1] σ (oI ρ.1) ρ.2 :=
  Ct.of (by decide) (Nat.le_of_ble_eq_true rfl) (fun Θ hc ls hl => wfX5_weeks σ x1 hc hF ls hl)
def bX5_read_33 (N : Nat) (σ : Mem) (x1 : Int32) (r33 : Int32 → Option (Int32 × Mem)) (y33 : Int32) : Option (Int32 × Mem) :=
  gb (inb x1 4) (
  if (gI σ 10 (ix x1)) ≤ y33 then
  (some ((0 : Int32), σ))
  else (if (gI σ 1 1) ≤ y33 then
  (some ((y33 + (1 : Int32)), σ))
  else (gb (inb (((40 : Int32) * x1) + y33) 160) (
  gb (inb (((104 : Int32) + ((8 : Int32) * y33)) + (3 : Int32)) 919) (
  if (gL σ 11 (ix (((40 : Int32) * x1) + y33))) = (((gI σ 1 (ix (((104 : Int32) + ((8 : Int32) * y33)) + (3 : Int32))))).toInt64) then
  (r33 (y33 + (1 : Int32)))
  else (some ((y33 + (1 : Int32)), σ)))))))
set_option maxHeartbeats 4000000 in
theorem wbX5_read_33 {Θ : ThT Mem} {g : Geo} {N : Nat}  {ρ : Int32 × Mem} (σ : Mem) (hc : Cx Θ (VM g) cX5_read 3 RX5 (rk 2 0 0) (some .int) [] false (oI ρ.1) ρ.2) (x1 : Int32) (r33 : Int32 → Option (Int32 × Mem)) (hr33 : ∀ y : Int32, Sim Θ 3 ρ (σ) (r33 y) (0, 0) 33 [(0, .ref (vO (VM g) + 0)), (1, .int x1), (2, .int y)] []) : ∀ y33 : Int32, Sim Θ 3 ρ (σ) (bX5_read_33 N σ x1 r33 y33) (0, 0) 33 [(0, .ref (vO (VM g) + 0)), (1, .int x1), (2, .int y33)] [] := by
  intro y33
  have hz := hc.z
  unfold bX5_read_33
  refine s_iload_n hz dX5_read_33 rfl 2 rfl ?_
  refine s_aload_n hz dX5_read_34 rfl 0 rfl ?_
  refine rM_g_sizes hc dX5_read_35 ?_
  refine s_iload_n hz dX5_read_38 rfl 1 rfl ?_
  refine s_gb (fun h6 => ?_)
  refine rM_ld_10 hc h6 rfl dX5_read_39 ?_
  refine s_icmp_ge (tgt := 93) hz dX5_read_40 rfl (fun h7 => ?_) (fun h7 => ?_)
  · refine s_iconst (v := (0 : Int32)) hz dX5_read_93 (by decide) ?_
    exact s_iretM hc dX5_read_94 (Nat.le_of_ble_eq_true rfl) (Nat.le_of_ble_eq_true rfl)
  · refine s_iload_n hz dX5_read_43 rfl 2 rfl ?_
    refine s_aload_n hz dX5_read_44 rfl 0 rfl ?_
    refine rM_g_s hc dX5_read_45 ?_
    refine s_iconst (v := (1 : Int32)) hz dX5_read_48 (by decide) ?_
    refine rM_ld_1 hc (j := 1) (by decide) (by decide) dX5_read_49 ?_
    refine s_icmp_ge (tgt := 83) hz dX5_read_50 rfl (fun h8 => ?_) (fun h8 => ?_)
    · refine s_iload_n hz dX5_read_83 rfl 2 rfl ?_
      refine s_iconst (v := (1 : Int32)) hz dX5_read_84 (by decide) ?_
      refine s_iadd hz dX5_read_85 ?_
      exact s_iretM hc dX5_read_86 (Nat.le_of_ble_eq_true rfl) (Nat.le_of_ble_eq_true rfl)
    · refine s_aload_n hz dX5_read_53 rfl 0 rfl ?_
      refine rM_g_numbers hc dX5_read_54 ?_
      refine s_bipush (v := (40 : Int32)) hz dX5_read_57 (by decide) ?_
      refine s_iload_n hz dX5_read_59 rfl 1 rfl ?_
      refine s_imul hz dX5_read_60 ?_
      refine s_iload_n hz dX5_read_61 rfl 2 rfl ?_
      refine s_iadd hz dX5_read_62 ?_
      refine s_gb (fun h9 => ?_)
      refine rM_ld_11 hc h9 rfl dX5_read_63 ?_
      refine s_aload_n hz dX5_read_64 rfl 0 rfl ?_
      refine rM_g_s hc dX5_read_65 ?_
      refine s_bipush (v := (104 : Int32)) hz dX5_read_68 (by decide) ?_
      refine s_bipush (v := (8 : Int32)) hz dX5_read_70 (by decide) ?_
      refine s_iload_n hz dX5_read_72 rfl 2 rfl ?_
      refine s_imul hz dX5_read_73 ?_
      refine s_iadd hz dX5_read_74 ?_
      refine s_iconst (v := (3 : Int32)) hz dX5_read_75 (by decide) ?_
      refine s_iadd hz dX5_read_76 ?_
      refine s_gb (fun h10 => ?_)
      refine rM_ld_1 hc h10 rfl dX5_read_77 ?_
      refine s_i2l hz dX5_read_78 ?_
      refine s_lcmp_eq (tgt := 87) hz dX5_read_79 dX5_read_80 rfl (fun h11 => ?_) (fun h11 => ?_)
      · refine s_iinc (v := (1 : Int32)) (lv' := [(2, .int (y33 + (1 : Int32))), (0, .ref (vO (VM g) + 0)), (1, .int x1)]) hz dX5_read_87 2 rfl (by decide) (Nat.le_of_ble_eq_true rfl) rfl ?_
        refine s_goto (tgt := 33) hz dX5_read_90 rfl ?_
        exact s_sub [1, 2, 0] rfl (hr33 (y33 + (1 : Int32)))
      · refine s_iload_n hz dX5_read_83 rfl 2 rfl ?_
        refine s_iconst (v := (1 : Int32)) hz dX5_read_84 (by decide) ?_
        refine s_iadd hz dX5_read_85 ?_
        exact s_iretM hc dX5_read_86 (Nat.le_of_ble_eq_true rfl) (Nat.le_of_ble_eq_true rfl)
def fX5_read (N : Nat) (σ : Mem) (x1 : Int32) : Option (Int32 × Mem) :=
  (fX5_isSheet N σ x1).bind (fun q1 => 
  if q1 = (0 : Int32) then
  ((fX5_finds N σ (-1000000001 : Int32)).bind (fun q14 => 
  some (q14.1, q14.2)))
  else (gb (inb x1 4) (
  if (0 : Int32) ≤ (gI σ 9 (ix x1)) then
  (lp (bX5_read_33 N σ x1) N (0 : Int32))
  else ((fX5_finds N σ (-1000000006 : Int32)).bind (fun q12 => 
  some (q12.1, q12.2))))))
set_option maxHeartbeats 4000000 in
theorem wfX5_read {Θ : ThT Mem} {g : Geo} {N : Nat}  {ρ : Int32 × Mem} (σ : Mem) (x1 : Int32) (hc : Cx Θ (VM g) cX5_read 3 RX5 (rk 2 0 0) (some .int) [] false (oI ρ.1) ρ.2) : Sim Θ 3 ρ σ (fX5_read N σ x1) (0, 0) 0 [(0, .ref (vO (VM g) + 0)), (1, .int x1)] [] := by
  have hz := hc.z
  unfold fX5_read
  refine s_iload_n hz dX5_read_0 rfl 1 rfl ?_
  refine s_bind (fun q1 e2 => ?_)
  refine kX5_258 hc (cfX5_isSheet e2) ⟨(Nat.le_of_ble_eq_true rfl), (Nat.le_of_ble_eq_true rfl)⟩ ⟨(Nat.le_of_ble_eq_true rfl), (Nat.le_of_ble_eq_true rfl)⟩ (Nat.le_of_ble_eq_true rfl) dX5_read_1 ?_
  refine s_if_ne (tgt := 14) hz dX5_read_4 rfl (fun h3 => ?_) (fun h3 => ?_)
  · refine s_aload_n hz dX5_read_14 rfl 0 rfl ?_
    refine rM_g_bitsOf hc dX5_read_15 ?_
    refine s_iload_n hz dX5_read_18 rfl 1 rfl ?_
    refine s_gb (fun h4 => ?_)
    refine rM_ld_9 hc h4 rfl dX5_read_19 ?_
    refine s_if_ge (tgt := 31) hz dX5_read_20 rfl (fun h5 => ?_) (fun h5 => ?_)
    · refine s_iconst (v := (0 : Int32)) hz dX5_read_31 (by decide) ?_
      refine s_istore_n (lv' := [(2, .int (0 : Int32)), (0, .ref (vO (VM g) + 0)), (1, .int x1)]) hz dX5_read_32 rfl (Nat.le_of_ble_eq_true rfl) rfl ?_
      exact s_sub [1, 2, 0] rfl (s_lp (sg := fun y : Int32 => σ) (lvs := fun y : Int32 => [(0, .ref (vO (VM g) + 0)), (1, .int x1), (2, .int y)]) (fun rec hrec => wbX5_read_33 σ hc x1  rec hrec) N (0 : Int32))
    · refine s_aload_n hz dX5_read_23 rfl 0 rfl ?_
      refine s_ldcw hz dX5_read_24 q1491 ?_
      refine s_bind (fun q12 e13 => ?_)
      refine kX5_88 hc (cfX5_finds e13) ⟨(Nat.le_of_ble_eq_true rfl), (Nat.le_of_ble_eq_true rfl)⟩ ⟨(Nat.le_of_ble_eq_true rfl), (Nat.le_of_ble_eq_true rfl)⟩ (Nat.le_of_ble_eq_true rfl) dX5_read_27 ?_
      exact s_iretM hc dX5_read_30 (Nat.le_of_ble_eq_true rfl) (Nat.le_of_ble_eq_true rfl)
  · refine s_aload_n hz dX5_read_7 rfl 0 rfl ?_
    refine s_ldc hz dX5_read_8 q1203 ?_
    refine s_bind (fun q14 e15 => ?_)
    refine kX5_88 hc (cfX5_finds e15) ⟨(Nat.le_of_ble_eq_true rfl), (Nat.le_of_ble_eq_true rfl)⟩ ⟨(Nat.le_of_ble_eq_true rfl), (Nat.le_of_ble_eq_true rfl)⟩ (Nat.le_of_ble_eq_true rfl) dX5_read_10 ?_
    exact s_iretM hc dX5_read_13 (Nat.le_of_ble_eq_true rfl) (Nat.le_of_ble_eq_true rfl)
theorem cfX5_read {g : Geo} {N : Nat}  {σ : Mem} {x1 : Int32} {ρ : Int32 × Mem} (hF : fX5_read N σ x1 = some ρ) (l : Launch) : Ct (VM g) l yX5_read cX5_read 3 (some .int) (rk 2 0 0) [.ref (vO (VM g) + 0), .int x1] σ (oI ρ.1) ρ.2 :=
  Ct.of (by decide) (Nat.le_of_ble_eq_true rfl) (fun Θ hc ls hl => wfX5_read σ x1 hc hF ls hl)
def bX5_image_2 (N : Nat) (σ : Mem)  (r2 : (Mem × Int32) → Option (Int32 × Mem)) (y2 : Mem × Int32) : Option (Int32 × Mem) :=
  if (919 : Int32) ≤ y2.2 then
  (lt_ (pI y2.1 0 2 (1 : Int32)) (fun σ2 => 
  some ((1 : Int32), σ2)))
  else (gb (inb y2.2 919) (
  gb (inb y2.2 919) (
  lt_ (pI y2.1 2 (ix y2.2) (gI y2.1 1 (ix y2.2))) (fun σ4 => 
  r2 (σ4, (y2.2 + (1 : Int32)))))))
set_option maxHeartbeats 4000000 in
theorem wbX5_image_2 {Θ : ThT Mem} {g : Geo} {N : Nat}  {ρ : Int32 × Mem} (σ : Mem) (hc : Cx Θ (VM g) cX5_image 2 RX5 (rk 1 0 0) (some .int) [] false (oI ρ.1) ρ.2)  (r2 : (Mem × Int32) → Option (Int32 × Mem)) (hr2 : ∀ y : Mem × Int32, Sim Θ 2 ρ (y.1) (r2 y) (0, 0) 2 [(0, .ref (vO (VM g) + 0)), (1, .int y.2)] []) : ∀ y2 : Mem × Int32, Sim Θ 2 ρ (y2.1) (bX5_image_2 N σ  r2 y2) (0, 0) 2 [(0, .ref (vO (VM g) + 0)), (1, .int y2.2)] [] := by
  intro y2
  have hz := hc.z
  have hr2c : ∀ (z0_ : Mem) (z1_ : Int32), Sim Θ 2 ρ (z0_) (r2 (z0_, z1_)) (0, 0) 2 [(0, .ref (vO (VM g) + 0)), (1, .int z1_)] [] := fun z0_ z1_ => hr2 (z0_, z1_)
  unfold bX5_image_2
  refine s_iload_n hz dX5_image_2 rfl 1 rfl ?_
  refine s_sipush (v := (919 : Int32)) hz dX5_image_3 (by decide) ?_
  refine s_icmp_ge (tgt := 27) hz dX5_image_6 rfl (fun h1 => ?_) (fun h1 => ?_)
  · refine s_aload_n hz dX5_image_27 rfl 0 rfl ?_
    refine s_iconst (v := (1 : Int32)) hz dX5_image_28 (by decide) ?_
    refine rM_p_isKept hc rfl rfl dX5_image_29 (fun σ2 => ?_)
    refine s_iconst (v := (1 : Int32)) hz dX5_image_32 (by decide) ?_
    exact s_iretM hc dX5_image_33 (Nat.le_of_ble_eq_true rfl) (Nat.le_of_ble_eq_true rfl)
  · refine s_aload_n hz dX5_image_9 rfl 0 rfl ?_
    refine rM_g_kept hc dX5_image_10 ?_
    refine s_iload_n hz dX5_image_13 rfl 1 rfl ?_
    refine s_aload_n hz dX5_image_14 rfl 0 rfl ?_
    refine rM_g_s hc dX5_image_15 ?_
    refine s_iload_n hz dX5_image_18 rfl 1 rfl ?_
    refine s_gb (fun h3 => ?_)
    refine rM_ld_1 hc h3 rfl dX5_image_19 ?_
    refine s_gb (fun h5 => ?_)
    refine rM_st_2 hc h5 rfl dX5_image_20 (fun σ4 => ?_)
    refine s_iinc (v := (1 : Int32)) (lv' := [(1, .int (y2.2 + (1 : Int32))), (0, .ref (vO (VM g) + 0))]) hz dX5_image_21 1 rfl (by decide) (Nat.le_of_ble_eq_true rfl) rfl ?_
    refine s_goto (tgt := 2) hz dX5_image_24 rfl ?_
    exact s_sub [1, 0] rfl (hr2c σ4 (y2.2 + (1 : Int32)))
def fX5_image (N : Nat) (σ : Mem)  : Option (Int32 × Mem) :=
  lp (bX5_image_2 N σ) N (σ, (0 : Int32))
set_option maxHeartbeats 4000000 in
theorem wfX5_image {Θ : ThT Mem} {g : Geo} {N : Nat}  {ρ : Int32 × Mem} (σ : Mem)  (hc : Cx Θ (VM g) cX5_image 2 RX5 (rk 1 0 0) (some .int) [] false (oI ρ.1) ρ.2) : Sim Θ 2 ρ σ (fX5_image N σ ) (0, 0) 0 [(0, .ref (vO (VM g) + 0))] [] := by
  have hz := hc.z
  unfold fX5_image
  refine s_iconst (v := (0 : Int32)) hz dX5_image_0 (by decide) ?_
  refine s_istore_n (lv' := [(1, .int (0 : Int32)), (0, .ref (vO (VM g) + 0))]) hz dX5_image_1 rfl (Nat.le_of_ble_eq_true rfl) rfl ?_
  exact s_sub [1, 0] rfl (s_lp (sg := fun y : Mem × Int32 => y.1) (lvs := fun y : Mem × Int32 => [(0, .ref (vO (VM g) + 0)), (1, .int y.2)]) (fun rec hrec => wbX5_image_2 σ hc   rec hrec) N (σ, (0 : Int32)))
theorem cfX5_image {g : Geo} {N : Nat}  {σ : Mem}  {ρ : Int32 × Mem} (hF : fX5_image N σ  = some ρ) (l : Launch) : Ct (VM g) l yX5_image cX5_image 2 (some .int) (rk 1 0 0) [.ref (vO (VM g) + 0)] σ (oI ρ.1) ρ.2 :=
  Ct.of (by decide) (Nat.le_of_ble_eq_true rfl) (fun Θ hc ls hl => wfX5_image σ  hc hF ls hl)
def bX5_undo_16 (N : Nat) (σ : Mem)  (r16 : (Mem × Int32) → Option (Int32 × Mem)) (y16 : Mem × Int32) : Option (Int32 × Mem) :=
  if (919 : Int32) ≤ y16.2 then
  (lt_ (pI y16.1 0 18 (1 : Int32)) (fun σ3 => 
  lt_ (pI σ3 0 19 (1 : Int32)) (fun σ4 => 
  some ((gI σ4 1 1), σ4))))
  else (gb (inb y16.2 919) (
  gb (inb y16.2 919) (
  lt_ (pI y16.1 1 (ix y16.2) (gI y16.1 2 (ix y16.2))) (fun σ6 => 
  r16 (σ6, (y16.2 + (1 : Int32)))))))
set_option maxHeartbeats 4000000 in
theorem wbX5_undo_16 {Θ : ThT Mem} {g : Geo} {N : Nat}  {ρ : Int32 × Mem} (σ : Mem) (hc : Cx Θ (VM g) cX5_undo 2 RX5 (rk 2 0 0) (some .int) [] false (oI ρ.1) ρ.2)  (r16 : (Mem × Int32) → Option (Int32 × Mem)) (hr16 : ∀ y : Mem × Int32, Sim Θ 2 ρ (y.1) (r16 y) (0, 0) 16 [(0, .ref (vO (VM g) + 0)), (1, .int y.2)] []) : ∀ y16 : Mem × Int32, Sim Θ 2 ρ (y16.1) (bX5_undo_16 N σ  r16 y16) (0, 0) 16 [(0, .ref (vO (VM g) + 0)), (1, .int y16.2)] [] := by
  intro y16
  have hz := hc.z
  have hr16c : ∀ (z0_ : Mem) (z1_ : Int32), Sim Θ 2 ρ (z0_) (r16 (z0_, z1_)) (0, 0) 16 [(0, .ref (vO (VM g) + 0)), (1, .int z1_)] [] := fun z0_ z1_ => hr16 (z0_, z1_)
  unfold bX5_undo_16
  refine s_iload_n hz dX5_undo_16 rfl 1 rfl ?_
  refine s_sipush (v := (919 : Int32)) hz dX5_undo_17 (by decide) ?_
  refine s_icmp_ge (tgt := 41) hz dX5_undo_20 rfl (fun h2 => ?_) (fun h2 => ?_)
  · refine s_aload_n hz dX5_undo_41 rfl 0 rfl ?_
    refine s_iconst (v := (1 : Int32)) hz dX5_undo_42 (by decide) ?_
    refine rM_p_isNew hc rfl rfl dX5_undo_43 (fun σ3 => ?_)
    refine s_aload_n hz dX5_undo_46 rfl 0 rfl ?_
    refine s_iconst (v := (1 : Int32)) hz dX5_undo_47 (by decide) ?_
    refine rM_p_isSaidNew hc rfl rfl dX5_undo_48 (fun σ4 => ?_)
    refine s_aload_n hz dX5_undo_51 rfl 0 rfl ?_
    refine rM_g_s hc dX5_undo_52 ?_
    refine s_iconst (v := (1 : Int32)) hz dX5_undo_55 (by decide) ?_
    refine rM_ld_1 hc (j := 1) (by decide) (by decide) dX5_undo_56 ?_
    exact s_iretM hc dX5_undo_57 (Nat.le_of_ble_eq_true rfl) (Nat.le_of_ble_eq_true rfl)
  · refine s_aload_n hz dX5_undo_23 rfl 0 rfl ?_
    refine rM_g_s hc dX5_undo_24 ?_
    refine s_iload_n hz dX5_undo_27 rfl 1 rfl ?_
    refine s_aload_n hz dX5_undo_28 rfl 0 rfl ?_
    refine rM_g_kept hc dX5_undo_29 ?_
    refine s_iload_n hz dX5_undo_32 rfl 1 rfl ?_
    refine s_gb (fun h5 => ?_)
    refine rM_ld_2 hc h5 rfl dX5_undo_33 ?_
    refine s_gb (fun h7 => ?_)
    refine rM_st_1 hc h7 rfl dX5_undo_34 (fun σ6 => ?_)
    refine s_iinc (v := (1 : Int32)) (lv' := [(1, .int (y16.2 + (1 : Int32))), (0, .ref (vO (VM g) + 0))]) hz dX5_undo_35 1 rfl (by decide) (Nat.le_of_ble_eq_true rfl) rfl ?_
    refine s_goto (tgt := 16) hz dX5_undo_38 rfl ?_
    exact s_sub [1, 0] rfl (hr16c σ6 (y16.2 + (1 : Int32)))
def fX5_undo (N : Nat) (σ : Mem)  : Option (Int32 × Mem) :=
  if (gI σ 0 2) = (0 : Int32) then
  ((fX5_finds N σ (-1000000004 : Int32)).bind (fun q8 => 
  some (q8.1, q8.2)))
  else (lp (bX5_undo_16 N σ) N (σ, (0 : Int32)))
set_option maxHeartbeats 4000000 in
theorem wfX5_undo {Θ : ThT Mem} {g : Geo} {N : Nat}  {ρ : Int32 × Mem} (σ : Mem)  (hc : Cx Θ (VM g) cX5_undo 2 RX5 (rk 2 0 0) (some .int) [] false (oI ρ.1) ρ.2) : Sim Θ 2 ρ σ (fX5_undo N σ ) (0, 0) 0 [(0, .ref (vO (VM g) + 0))] [] := by
  have hz := hc.z
  unfold fX5_undo
  refine s_aload_n hz dX5_undo_0 rfl 0 rfl ?_
  refine rM_g_isKept hc dX5_undo_1 ?_
  refine s_if_ne (tgt := 14) hz dX5_undo_4 rfl (fun h1 => ?_) (fun h1 => ?_)
  · refine s_iconst (v := (0 : Int32)) hz dX5_undo_14 (by decide) ?_
    refine s_istore_n (lv' := [(1, .int (0 : Int32)), (0, .ref (vO (VM g) + 0))]) hz dX5_undo_15 rfl (Nat.le_of_ble_eq_true rfl) rfl ?_
    exact s_sub [1, 0] rfl (s_lp (sg := fun y : Mem × Int32 => y.1) (lvs := fun y : Mem × Int32 => [(0, .ref (vO (VM g) + 0)), (1, .int y.2)]) (fun rec hrec => wbX5_undo_16 σ hc   rec hrec) N (σ, (0 : Int32)))
  · refine s_aload_n hz dX5_undo_7 rfl 0 rfl ?_
    refine s_ldc hz dX5_undo_8 q1427 ?_
    refine s_bind (fun q8 e9 => ?_)
    refine kX5_88 hc (cfX5_finds e9) ⟨(Nat.le_of_ble_eq_true rfl), (Nat.le_of_ble_eq_true rfl)⟩ ⟨(Nat.le_of_ble_eq_true rfl), (Nat.le_of_ble_eq_true rfl)⟩ (Nat.le_of_ble_eq_true rfl) dX5_undo_10 ?_
    exact s_iretM hc dX5_undo_13 (Nat.le_of_ble_eq_true rfl) (Nat.le_of_ble_eq_true rfl)
theorem cfX5_undo {g : Geo} {N : Nat}  {σ : Mem}  {ρ : Int32 × Mem} (hF : fX5_undo N σ  = some ρ) (l : Launch) : Ct (VM g) l yX5_undo cX5_undo 2 (some .int) (rk 2 0 0) [.ref (vO (VM g) + 0)] σ (oI ρ.1) ρ.2 :=
  Ct.of (by decide) (Nat.le_of_ble_eq_true rfl) (fun Θ hc ls hl => wfX5_undo σ  hc hF ls hl)
def fX5_tear (N : Nat) (σ : Mem)  : Option (Int32 × Mem) :=
  lt_ (gI σ 0 2) (fun v1 => 
  lt_ (pI σ 0 2 (0 : Int32)) (fun σ2 => 
  some ((if v1 = (0 : Int32) then (0 : Int32) else (1 : Int32)), σ2)))
set_option maxHeartbeats 4000000 in
theorem wfX5_tear {Θ : ThT Mem} {g : Geo} {N : Nat}  {ρ : Int32 × Mem} (σ : Mem)  (hc : Cx Θ (VM g) cX5_tear 2 RX5 (rk 1 0 0) (some .int) [] false (oI ρ.1) ρ.2) : Sim Θ 2 ρ σ (fX5_tear N σ ) (0, 0) 0 [(0, .ref (vO (VM g) + 0))] [] := by
  have hz := hc.z
  unfold fX5_tear
  refine s_aload_n hz dX5_tear_0 rfl 0 rfl ?_
  refine rM_g_isKept hc dX5_tear_1 ?_
  refine s_nmI (fun v1 => ?_)
  refine s_istore_n (lv' := [(1, .int v1), (0, .ref (vO (VM g) + 0))]) hz dX5_tear_4 rfl (Nat.le_of_ble_eq_true rfl) rfl ?_
  refine s_aload_n hz dX5_tear_5 rfl 1 rfl ?_
  refine s_iconst (v := (0 : Int32)) hz dX5_tear_6 (by decide) ?_
  refine rM_p_isKept hc rfl rfl dX5_tear_7 (fun σ2 => ?_)
  refine s_iload_n hz dX5_tear_10 rfl 0 rfl ?_
  refine s_dia (J := 19) (v := .int (if v1 = (0 : Int32) then (0 : Int32) else (1 : Int32))) (st := []) (fun _ hj3 => ?_) ?_
  · refine s_if_eq_ (tgt := 18) hz dX5_tear_11 rfl (fun h4 => ?_) (fun h4 => ?_)
    · refine s_iconst (v := (0 : Int32)) hz dX5_tear_18 (by decide) ?_
      rw [if_pos h4] at hj3
      exact hj3
    · refine s_iconst (v := (1 : Int32)) hz dX5_tear_14 (by decide) ?_
      refine s_goto (tgt := 19) hz dX5_tear_15 rfl ?_
      rw [if_neg h4] at hj3
      exact hj3
  exact s_iretM hc dX5_tear_19 (Nat.le_of_ble_eq_true rfl) (Nat.le_of_ble_eq_true rfl)
theorem cfX5_tear {g : Geo} {N : Nat}  {σ : Mem}  {ρ : Int32 × Mem} (hF : fX5_tear N σ  = some ρ) (l : Launch) : Ct (VM g) l yX5_tear cX5_tear 2 (some .int) (rk 1 0 0) [.ref (vO (VM g) + 0)] σ (oI ρ.1) ρ.2 :=
  Ct.of (by decide) (Nat.le_of_ble_eq_true rfl) (fun Θ hc ls hl => wfX5_tear σ  hc hF ls hl)
def fX5_count (N : Nat) (σ : Mem) (x1 : Int32) : Option (Int32 × Mem) :=
  (fX5_isIn N σ ((x1).toInt64) (0 : Int64) (7 : Int64)).bind (fun q1 => 
  if q1 = (0 : Int32) then
  ((fX5_finds N σ (-1000000001 : Int32)).bind (fun q13 => 
  some (q13.1, q13.2)))
  else ((fX5_works N σ).bind (fun q4 => 
  if x1 = (0 : Int32) then
  (some ((gI q4.2 1 0), q4.2))
  else (if x1 = (1 : Int32) then
  (some ((gI q4.2 1 1), q4.2))
  else (if x1 = (2 : Int32) then
  (some ((gI q4.2 0 24), q4.2))
  else (if x1 = (3 : Int32) then
  (some ((gI q4.2 1 5), q4.2))
  else (if x1 = (4 : Int32) then
  (some ((gI q4.2 1 3), q4.2))
  else (if x1 = (5 : Int32) then
  (some ((gI q4.2 0 9), q4.2))
  else (if x1 = (6 : Int32) then
  (some ((gI q4.2 1 2), q4.2))
  else (some ((gI q4.2 1 17), q4.2)))))))))))
set_option maxHeartbeats 4000000 in
theorem wfX5_count {Θ : ThT Mem} {g : Geo} {N : Nat}  {ρ : Int32 × Mem} (σ : Mem) (x1 : Int32) (hc : Cx Θ (VM g) cX5_count 2 RX5 (rk 43 0 0) (some .int) [] false (oI ρ.1) ρ.2) : Sim Θ 2 ρ σ (fX5_count N σ x1) (0, 0) 0 [(0, .ref (vO (VM g) + 0)), (1, .int x1)] [] := by
  have hz := hc.z
  unfold fX5_count
  refine s_iload_n hz dX5_count_0 rfl 1 rfl ?_
  refine s_i2l hz dX5_count_1 ?_
  refine s_lconst (v := (0 : Int64)) hz dX5_count_2 (by decide) ?_
  refine s_ldc2 hz dX5_count_3 q1219 ?_
  refine s_bind (fun q1 e2 => ?_)
  refine kX5_98 hc (cfX5_isIn e2) ⟨(Nat.le_of_ble_eq_true rfl), (Nat.le_of_ble_eq_true rfl)⟩ ⟨(Nat.le_of_ble_eq_true rfl), (Nat.le_of_ble_eq_true rfl)⟩ (Nat.le_of_ble_eq_true rfl) dX5_count_6 ?_
  refine s_if_ne (tgt := 19) hz dX5_count_9 rfl (fun h3 => ?_) (fun h3 => ?_)
  · refine s_aload_n hz dX5_count_19 rfl 0 rfl ?_
    refine s_bind (fun q4 e5 => ?_)
    refine kX5_198 hc (cfX5_works e5) ⟨(Nat.le_of_ble_eq_true rfl), (Nat.le_of_ble_eq_true rfl)⟩ ⟨(Nat.le_of_ble_eq_true rfl), (Nat.le_of_ble_eq_true rfl)⟩ (Nat.le_of_ble_eq_true rfl) dX5_count_20 ?_
    refine s_iload_n hz dX5_count_23 rfl 1 rfl ?_
    refine s_ite (fun h6 => ?_) (fun h6 => ?_)
    · refine s_tblIn (off := 44) (tgt := 68) (k := (0 : Int32)) hz dX5_count_24 h6 (by decide) (by decide) rfl rfl ?_
      refine s_aload_n hz dX5_count_68 rfl 0 rfl ?_
      refine rM_g_s hc dX5_count_69 ?_
      refine s_iconst (v := (0 : Int32)) hz dX5_count_72 (by decide) ?_
      refine rM_ld_1 hc (j := 0) (by decide) (by decide) dX5_count_73 ?_
      exact s_iretM hc dX5_count_74 (Nat.le_of_ble_eq_true rfl) (Nat.le_of_ble_eq_true rfl)
    refine s_ite (fun h7 => ?_) (fun h7 => ?_)
    · refine s_tblIn (off := 51) (tgt := 75) (k := (1 : Int32)) hz dX5_count_24 h7 (by decide) (by decide) rfl rfl ?_
      refine s_aload_n hz dX5_count_75 rfl 0 rfl ?_
      refine rM_g_s hc dX5_count_76 ?_
      refine s_iconst (v := (1 : Int32)) hz dX5_count_79 (by decide) ?_
      refine rM_ld_1 hc (j := 1) (by decide) (by decide) dX5_count_80 ?_
      exact s_iretM hc dX5_count_81 (Nat.le_of_ble_eq_true rfl) (Nat.le_of_ble_eq_true rfl)
    refine s_ite (fun h8 => ?_) (fun h8 => ?_)
    · refine s_tblIn (off := 58) (tgt := 82) (k := (2 : Int32)) hz dX5_count_24 h8 (by decide) (by decide) rfl rfl ?_
      refine s_aload_n hz dX5_count_82 rfl 0 rfl ?_
      refine rM_g_allCrossed hc dX5_count_83 ?_
      exact s_iretM hc dX5_count_86 (Nat.le_of_ble_eq_true rfl) (Nat.le_of_ble_eq_true rfl)
    refine s_ite (fun h9 => ?_) (fun h9 => ?_)
    · refine s_tblIn (off := 63) (tgt := 87) (k := (3 : Int32)) hz dX5_count_24 h9 (by decide) (by decide) rfl rfl ?_
      refine s_aload_n hz dX5_count_87 rfl 0 rfl ?_
      refine rM_g_s hc dX5_count_88 ?_
      refine s_iconst (v := (5 : Int32)) hz dX5_count_91 (by decide) ?_
      refine rM_ld_1 hc (j := 5) (by decide) (by decide) dX5_count_92 ?_
      exact s_iretM hc dX5_count_93 (Nat.le_of_ble_eq_true rfl) (Nat.le_of_ble_eq_true rfl)
    refine s_ite (fun h10 => ?_) (fun h10 => ?_)
    · refine s_tblIn (off := 70) (tgt := 94) (k := (4 : Int32)) hz dX5_count_24 h10 (by decide) (by decide) rfl rfl ?_
      refine s_aload_n hz dX5_count_94 rfl 0 rfl ?_
      refine rM_g_s hc dX5_count_95 ?_
      refine s_iconst (v := (3 : Int32)) hz dX5_count_98 (by decide) ?_
      refine rM_ld_1 hc (j := 3) (by decide) (by decide) dX5_count_99 ?_
      exact s_iretM hc dX5_count_100 (Nat.le_of_ble_eq_true rfl) (Nat.le_of_ble_eq_true rfl)
    refine s_ite (fun h11 => ?_) (fun h11 => ?_)
    · refine s_tblIn (off := 77) (tgt := 101) (k := (5 : Int32)) hz dX5_count_24 h11 (by decide) (by decide) rfl rfl ?_
      refine s_aload_n hz dX5_count_101 rfl 0 rfl ?_
      refine rM_g_taped hc dX5_count_102 ?_
      exact s_iretM hc dX5_count_105 (Nat.le_of_ble_eq_true rfl) (Nat.le_of_ble_eq_true rfl)
    refine s_ite (fun h12 => ?_) (fun h12 => ?_)
    · refine s_tblIn (off := 82) (tgt := 106) (k := (6 : Int32)) hz dX5_count_24 h12 (by decide) (by decide) rfl rfl ?_
      refine s_aload_n hz dX5_count_106 rfl 0 rfl ?_
      refine rM_g_s hc dX5_count_107 ?_
      refine s_iconst (v := (2 : Int32)) hz dX5_count_110 (by decide) ?_
      refine rM_ld_1 hc (j := 2) (by decide) (by decide) dX5_count_111 ?_
      exact s_iretM hc dX5_count_112 (Nat.le_of_ble_eq_true rfl) (Nat.le_of_ble_eq_true rfl)
    refine s_tblOut (tgt := 113) hz dX5_count_24 (by have a0 : (x1).toInt ≠ 0 := lc_ne h6; have a1 : (x1).toInt ≠ 1 := lc_ne h7; have a2 : (x1).toInt ≠ 2 := lc_ne h8; have a3 : (x1).toInt ≠ 3 := lc_ne h9; have a4 : (x1).toInt ≠ 4 := lc_ne h10; have a5 : (x1).toInt ≠ 5 := lc_ne h11; have a6 : (x1).toInt ≠ 6 := lc_ne h12; omega) rfl ?_
    refine s_aload_n hz dX5_count_113 rfl 0 rfl ?_
    refine rM_g_s hc dX5_count_114 ?_
    refine s_bipush (v := (17 : Int32)) hz dX5_count_117 (by decide) ?_
    refine rM_ld_1 hc (j := 17) (by decide) (by decide) dX5_count_119 ?_
    exact s_iretM hc dX5_count_120 (Nat.le_of_ble_eq_true rfl) (Nat.le_of_ble_eq_true rfl)
  · refine s_aload_n hz dX5_count_12 rfl 0 rfl ?_
    refine s_ldc hz dX5_count_13 q1203 ?_
    refine s_bind (fun q13 e14 => ?_)
    refine kX5_88 hc (cfX5_finds e14) ⟨(Nat.le_of_ble_eq_true rfl), (Nat.le_of_ble_eq_true rfl)⟩ ⟨(Nat.le_of_ble_eq_true rfl), (Nat.le_of_ble_eq_true rfl)⟩ (Nat.le_of_ble_eq_true rfl) dX5_count_15 ?_
    exact s_iretM hc dX5_count_18 (Nat.le_of_ble_eq_true rfl) (Nat.le_of_ble_eq_true rfl)
theorem cfX5_count {g : Geo} {N : Nat}  {σ : Mem} {x1 : Int32} {ρ : Int32 × Mem} (hF : fX5_count N σ x1 = some ρ) (l : Launch) : Ct (VM g) l yX5_count cX5_count 2 (some .int) (rk 43 0 0) [.ref (vO (VM g) + 0), .int x1] σ (oI ρ.1) ρ.2 :=
  Ct.of (by decide) (Nat.le_of_ble_eq_true rfl) (fun Θ hc ls hl => wfX5_count σ x1 hc hF ls hl)
def fX5_status (N : Nat) (σ : Mem) (x1 : Int32) : Option (Int32 × Mem) :=
  (fX5_isIn N σ ((x1).toInt64) (-1 : Int64) (6 : Int64)).bind (fun q1 => 
  if q1 = (0 : Int32) then
  ((fX5_finds N σ (-1000000001 : Int32)).bind (fun q4 => 
  some (q4.1, q4.2)))
  else (gb (inb (x1 + (1 : Int32)) 8) (
  some ((gI σ 3 (ix (x1 + (1 : Int32)))), σ))))
set_option maxHeartbeats 4000000 in
theorem wfX5_status {Θ : ThT Mem} {g : Geo} {N : Nat}  {ρ : Int32 × Mem} (σ : Mem) (x1 : Int32) (hc : Cx Θ (VM g) cX5_status 2 RX5 (rk 2 0 0) (some .int) [] false (oI ρ.1) ρ.2) : Sim Θ 2 ρ σ (fX5_status N σ x1) (0, 0) 0 [(0, .ref (vO (VM g) + 0)), (1, .int x1)] [] := by
  have hz := hc.z
  unfold fX5_status
  refine s_iload_n hz dX5_status_0 rfl 1 rfl ?_
  refine s_i2l hz dX5_status_1 ?_
  refine s_ldc2 hz dX5_status_2 q1528 ?_
  refine s_ldc2 hz dX5_status_5 q1529 ?_
  refine s_bind (fun q1 e2 => ?_)
  refine kX5_98 hc (cfX5_isIn e2) ⟨(Nat.le_of_ble_eq_true rfl), (Nat.le_of_ble_eq_true rfl)⟩ ⟨(Nat.le_of_ble_eq_true rfl), (Nat.le_of_ble_eq_true rfl)⟩ (Nat.le_of_ble_eq_true rfl) dX5_status_8 ?_
  refine s_if_eq (tgt := 25) hz dX5_status_11 rfl (fun h3 => ?_) (fun h3 => ?_)
  · refine s_aload_n hz dX5_status_25 rfl 0 rfl ?_
    refine s_ldc hz dX5_status_26 q1203 ?_
    refine s_bind (fun q4 e5 => ?_)
    refine kX5_88 hc (cfX5_finds e5) ⟨(Nat.le_of_ble_eq_true rfl), (Nat.le_of_ble_eq_true rfl)⟩ ⟨(Nat.le_of_ble_eq_true rfl), (Nat.le_of_ble_eq_true rfl)⟩ (Nat.le_of_ble_eq_true rfl) dX5_status_28 ?_
    exact s_iretM hc dX5_status_31 (Nat.le_of_ble_eq_true rfl) (Nat.le_of_ble_eq_true rfl)
  · refine s_aload_n hz dX5_status_14 rfl 0 rfl ?_
    refine rM_g_findings hc dX5_status_15 ?_
    refine s_iload_n hz dX5_status_18 rfl 1 rfl ?_
    refine s_iconst (v := (1 : Int32)) hz dX5_status_19 (by decide) ?_
    refine s_iadd hz dX5_status_20 ?_
    refine s_gb (fun h6 => ?_)
    refine rM_ld_3 hc h6 rfl dX5_status_21 ?_
    refine s_goto (tgt := 31) hz dX5_status_22 rfl ?_
    exact s_iretM hc dX5_status_31 (Nat.le_of_ble_eq_true rfl) (Nat.le_of_ble_eq_true rfl)
theorem cfX5_status {g : Geo} {N : Nat}  {σ : Mem} {x1 : Int32} {ρ : Int32 × Mem} (hF : fX5_status N σ x1 = some ρ) (l : Launch) : Ct (VM g) l yX5_status cX5_status 2 (some .int) (rk 2 0 0) [.ref (vO (VM g) + 0), .int x1] σ (oI ρ.1) ρ.2 :=
  Ct.of (by decide) (Nat.le_of_ble_eq_true rfl) (fun Θ hc ls hl => wfX5_status σ x1 hc hF ls hl)
