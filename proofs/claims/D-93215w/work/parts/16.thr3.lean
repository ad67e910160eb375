/-! Throwable.<init>(null, null, false, false), Exception.<init>: a fresh Finding or Fault stays as it is -/
set_option maxRecDepth 100000
/-- a fresh exception object of ours -/
def thrOK (σ : Mem) (a : Nat) : Bool := match gC σ a with
  | some (.inr (c, [.null, .null, .null, .null, .null, .int _, .int _])) => c == 5 || c == 6
  | _ => false
theorem thrOK_spec {σ : Mem} {a : Nat} (h : thrOK σ a = true) : ∃ c d w, gC σ a = some (.inr (c, [.null, .null, .null, .null, .null, .int d, .int w])) ∧ (c = 5 ∨ c = 6) := by
  unfold thrOK at h
  split at h
  · rename_i c d w he
    exact ⟨c, d, w, he, by simpa using h⟩
  · cases h
def Raw (V : Mod) (σ : Mem) (a ci : Nat) (s : State) (fs0 fs : List Value) (H : Heap) (locs : List Loc) : Prop := va_at (vD V) (vCl V) (vO V + a, .inr (ci, fs)) H ∧ (∀ H' : Heap, H'.size = H.size → (∀ q : Nat, q ≠ vO V + a → H'[q]? = H[q]?) → va_at (vD V) (vCl V) (vO V + a, .inr (ci, fs0)) H' → Wd V σ H') ∧ va_S (AA V) s.heap H locs ∧ AA V (vO V + a) ∧ ∀ q cell, vF V q = some cell → q < vO V ∧ H[q]? = some cell
theorem Raw.of {V : Mod} {σ : Mem} {a ci : Nat} {s : State} {fs : List Value} {H : Heap} {locs : List Loc} (hW : Wd V σ H) (ha : gC σ a = some (.inr (ci, fs))) (hS : va_S (AA V) s.heap H locs) : Raw V σ a ci s (fs.map (rv (vO V))) (fs.map (rv (vO V))) H locs := by
  refine ⟨(hW.2.1 a _ ha).2, fun H' z oq he => ?_, hS, AA.dyn hW ha, hW.2.2.2.2.2⟩
  have h1 := hW.dput (e := .inr (ci, fs)) ha he z oq
  have h2 : pC σ a (.inr (ci, fs)) = σ := by
    obtain ⟨f1, f2, f3, f4, f5⟩ := σ
    simp only [pC, Prod.mk.injEq, true_and, and_true]
    funext b
    by_cases hb : b = a
    · subst hb
      rw [if_pos rfl]
      exact ha.symm
    · rw [if_neg hb]
  rw [h2] at h1
  exact h1
section RAWS
variable {p : Program} {l : Launch} {e : Env} {R : Room} {s : State} {m : MethodId} {args : Array Value} {below : List Frame} {meth : Method} {c : Code} {H : Heap} {locs : List Loc} {cells slots : Nat} {Q : State → Prop}
theorem raw_put {cc : ByteArray} {V : Mod} {σ : Mem} (hx : p.tables.exec = Jvm.exec) (hb : c.code = cc) {own ref C : String} {T : u_T} {N ci index a pc : Nat} {ls : Array Slot} {st : List Value} {fs0 fs : List Value} {v : Value} (hts : ∀ w ∈ lw_all, w.before args s = true) (hin : ∀ w ∈ u_ws C T N, w ∈ lw_all) {ty0 : Nat → FieldType} (hty : ∀ k, k < N → parseFieldDescriptor (T k).2.2.1 = some (ty0 k)) (hnm : ∀ a, a < N → ∀ b, b < N → a ≠ b → (T a).2.1 ≠ (T b).2.1) (ho : s.vm.findClass own = some m.cls) (hK : va_K (vD V) (vCl V) (vT V) s) (hcl : (vCl V)[ci]? = some (C, T, N)) (hR : Raw V σ a ci s fs0 fs H locs) (f : Nat) (hf : f < N) (hq : Cond.fieldLink own index ref (T f).2.1 (T f).2.2.1 ∈ lw_all) (hsame : ∀ x, s.fieldFound? (T f).1 (T f).2.1 (T f).2.2.1 = some x → s.fieldFound? ref (T f).2.1 (T f).2.2.1 = some x) (hfin : (T f).2.2.2 = false) {ty : FieldType} (hdt : parseFieldDescriptor (T f).2.2.1 = some ty) (hn : narrow ty v = v) (hfit : fits ty v = true) (hlen : f < fs.length)
    (hd : decode cc pc = .ok (.putfield index, 3)) (kk : ∀ (H' : Heap) (locs' : List Loc), Raw V σ a ci s fs0 (fs.set f v) H' locs' → W p l e R s m args below meth c H' locs' cells slots Q (F0 m (pc + 3) ls st)) : W p l e R s m args below meth c H locs cells slots Q (F0 m pc ls (v :: .ref (vO V + a) :: st)) := by
  have hap := va_apart (own := own) hts hin ty0 hty hnm hK hcl
  obtain ⟨⟨r, h1, cell, q1, q2, q3, q4⟩, hrest, hS, hA, hFz⟩ := hR
  have hr : r = (C, T, N) := Option.some.inj (h1.symm.trans hcl)
  subst hr
  obtain ⟨hS1, hfc, kC, hkC, hkind⟩ := hK.1 ci _ hcl
  obtain ⟨cf, kf, fi, fd, hi, hsl⟩ := hS1 f hf
  have hlay := hts _ (hin _ (u_in_lay hf))
  unfold u_lay at hlay
  rw [if_neg (by rw [hfin]; decide)] at hlay
  have hst := (u_facts hfc hkC (u_lays hts hin hf) hi).1
  have h6 := u_store hfc hkC hkind hlay hi hdt hn hfit
  refine W.putK hx hb (f := fd) ⟨ho, hts _ hq, ⟨_, _, _, hsame _ hi⟩, hst⟩ (by rw [q2]; exact h6) q1 q3 (by rw [hsl]; exact k2_hasslot (q4 f hf)) rfl rfl hd fun H' e1 e2 e3 => ?_
  rw [hsl] at e1 ⊢
  refine kk H' _ ⟨⟨_, hcl, t_OB.to (V := updV (vp_V fs) f v) ⟨_, e1, q2, q3, t_set q4 hap hf v⟩ (fun j _ => vp_updV_set hlen v j)⟩, fun H2 z oq he => hrest H2 (z.trans e2) (fun q hq => (oq q hq).trans (e3 q hq)) he, hS.put e2 e3 hA, hA, fun q cell h => ⟨(hFz q cell h).1, by rw [e3 q (by show q ≠ vO V + a; have := (hFz q cell h).1; omega)]; exact (hFz q cell h).2⟩⟩
theorem raw_gets {cc : ByteArray} {fr : Nat → Option Cell} {n d : String} {index pc : Nat} {ls : Array Slot} {st : List Value} (hx : p.tables.exec = Jvm.exec) (hb : c.code = cc) (hts : ∀ w ∈ lw_all, w.before args s = true) (ho : s.vm.findClass "java/lang/Throwable" = some m.cls) (hZ : zS fr "java/lang/Throwable" n d s) (hfr : ∀ q cell, fr q = some cell → H[q]? = some cell) (hq : Cond.fieldLink "java/lang/Throwable" index "java/lang/Throwable" n d ∈ lw_all) (hd : decode cc pc = .ok (.getstatic index, 3))
    (kk : ∀ v : Value, (v = .null ∨ ∃ t, v = .ref t) → W p l e R s m args below meth c H locs cells slots Q (F0 m (pc + 3) ls (v :: st))) : W p l e R s m args below meth c H locs cells slots Q (F0 m pc ls st) := by
  obtain ⟨cf, kf, fi, f, a0, cell, v, h1, h2, h3, h4, h5, h6, h7, h8⟩ := hZ
  exact W.gets hx hb ho (hts _ hq) h1 h2 h3 h4 (hfr _ _ h5) (fun e => by rw [e] at h6; cases h6) h7 rfl hd (kk v h8)
theorem fits_rf {ty : FieldType} {v : Value} (h : v = .null ∨ ∃ t, v = .ref t) (hr : ty.isReference = true) : narrow ty v = v ∧ fits ty v = true := by
  rcases h with rfl | ⟨t, rfl⟩ <;> cases ty <;> first | exact ⟨rfl, rfl⟩ | cases hr
end RAWS
set_option maxHeartbeats 4000000 in
theorem thr_X6 {Θ : ThT Mem} {g : GeoX} {σ : Mem} {a : Nat} {d w : Int32} (ha : gC σ a = some (.inr (5, [.null, .null, .null, .null, .null, .int d, .int w]))) (hc : Cx Θ (VX g) cJ1_init_2 5 "java/lang/Throwable" (rk 1 0 0) none [] true oV σ) : ∀ ls : Array Slot, lv_has ls 5 [(0, .ref (vO (VX g) + a)), (1, .null), (2, .null), (3, .int 0), (4, .int 0)] → Θ σ 0 0 0 ls [] := by
    obtain ⟨p, l, e, s, m, args, below, meth, c, Q, rfl, hx, hb, hml, ho, hts, hK, hr, hlk, htab, hQ, hini⟩ := hc
    intro ls hl H locs hW hS
    have hR := Raw.of hW ha hS
    have hE := hK.here
    refine lv_aload_n hx hb dJ1_init_2_0 rfl (lv_at hl 0 rfl) ?_
    refine W.objInit hx hb ho (hts _ q306) (hts _ q94) (hts _ q95) rfl (by rw [hml]; exact hl.1) rfl dJ1_init_2_1 (Nat.le_of_ble_eq_true rfl) (Nat.le_of_ble_eq_true rfl) ?_
    refine W.eq (g2 := F0 m 4 ls []) rfl ?_
    refine lv_aload_n hx hb dJ1_init_2_4 rfl (lv_at hl 0 rfl) ?_
    refine lv_aload_n hx hb dJ1_init_2_5 rfl (lv_at hl 0 rfl) ?_
    refine raw_put hx hb (C := RX6) (T := TX6) (N := 7) hts in_X6 tyX6_ok nmX6 ho hK.1 rfl hR 0 (Nat.le_of_ble_eq_true rfl) q334 (fun _ h => h) rfl (ty := .object "java/lang/Throwable") (by decide +kernel) rfl rfl (Nat.le_of_ble_eq_true rfl) dJ1_init_2_6 (fun H locs hR => ?_)
    refine lv_aload_n hx hb dJ1_init_2_9 rfl (lv_at hl 0 rfl) ?_
    refine raw_gets hx hb hts ho hE.2.2.1 (fun q cell h => (hR.2.2.2.2 q cell h).2) q307 dJ1_init_2_10 (fun v hv => ?_)
    refine raw_put hx hb (C := RX6) (T := TX6) (N := 7) hts in_X6 tyX6_ok nmX6 ho hK.1 rfl hR 1 (Nat.le_of_ble_eq_true rfl) q335 (fun _ h => h) rfl (ty := .array (.object "java/lang/StackTraceElement")) (by decide +kernel) (fits_rf hv rfl).1 (fits_rf hv rfl).2 (Nat.le_of_ble_eq_true rfl) dJ1_init_2_13 (fun H locs hR => ?_)
    refine lv_aload_n hx hb dJ1_init_2_16 rfl (lv_at hl 0 rfl) ?_
    refine raw_gets hx hb hts ho hE.2.2.2.1 (fun q cell h => (hR.2.2.2.2 q cell h).2) q309 dJ1_init_2_17 (fun v2 hv2 => ?_)
    refine raw_put hx hb (C := RX6) (T := TX6) (N := 7) hts in_X6 tyX6_ok nmX6 ho hK.1 rfl hR 2 (Nat.le_of_ble_eq_true rfl) q336 (fun _ h => h) rfl (ty := .object "java/util/List") (by decide +kernel) (fits_rf hv2 rfl).1 (fits_rf hv2 rfl).2 (Nat.le_of_ble_eq_true rfl) dJ1_init_2_20 (fun H locs hR => ?_)
    refine lv_iload hx hb dJ1_init_2_23 (lv_at hl 4 rfl) ?_
    refine lv_if_eq (tgt := 36) hx hb dJ1_init_2_25 rfl (fun _ => ?_) (fun h => absurd rfl h)
    refine lv_aload_n hx hb dJ1_init_2_36 rfl (lv_at hl 0 rfl) ?_
    refine lv_null hx hb dJ1_init_2_37 ?_
    refine raw_put hx hb (C := RX6) (T := TX6) (N := 7) hts in_X6 tyX6_ok nmX6 ho hK.1 rfl hR 1 (Nat.le_of_ble_eq_true rfl) q335 (fun _ h => h) rfl (ty := .array (.object "java/lang/StackTraceElement")) (by decide +kernel) rfl rfl (Nat.le_of_ble_eq_true rfl) dJ1_init_2_38 (fun H locs hR => ?_)
    refine lv_aload_n hx hb dJ1_init_2_41 rfl (lv_at hl 0 rfl) ?_
    refine lv_aload_nN hx hb dJ1_init_2_42 rfl (lv_at hl 1 rfl) ?_
    refine raw_put hx hb (C := RX6) (T := TX6) (N := 7) hts in_X6 tyX6_ok nmX6 ho hK.1 rfl hR 3 (Nat.le_of_ble_eq_true rfl) q333 (fun _ h => h) rfl (ty := .object "java/lang/String") (by decide +kernel) rfl rfl (Nat.le_of_ble_eq_true rfl) dJ1_init_2_43 (fun H locs hR => ?_)
    refine lv_aload_n hx hb dJ1_init_2_46 rfl (lv_at hl 0 rfl) ?_
    refine lv_aload_nN hx hb dJ1_init_2_47 rfl (lv_at hl 2 rfl) ?_
    refine raw_put hx hb (C := RX6) (T := TX6) (N := 7) hts in_X6 tyX6_ok nmX6 ho hK.1 rfl hR 0 (Nat.le_of_ble_eq_true rfl) q334 (fun _ h => h) rfl (ty := .object "java/lang/Throwable") (by decide +kernel) rfl rfl (Nat.le_of_ble_eq_true rfl) dJ1_init_2_48 (fun H locs hR => ?_)
    refine lv_iload_n hx hb dJ1_init_2_51 rfl (lv_at hl 3 rfl) ?_
    refine lv_if_ne (tgt := 60) hx hb dJ1_init_2_52 rfl (fun h => absurd rfl h) (fun _ => ?_)
    refine lv_aload_n hx hb dJ1_init_2_55 rfl (lv_at hl 0 rfl) ?_
    refine lv_null hx hb dJ1_init_2_56 ?_
    refine raw_put hx hb (C := RX6) (T := TX6) (N := 7) hts in_X6 tyX6_ok nmX6 ho hK.1 rfl hR 2 (Nat.le_of_ble_eq_true rfl) q336 (fun _ h => h) rfl (ty := .object "java/util/List") (by decide +kernel) rfl rfl (Nat.le_of_ble_eq_true rfl) dJ1_init_2_57 (fun H locs hR => ?_)
    have hW2 : Wd (VX g) σ H := hR.2.1 H rfl (fun _ _ => rfl) hR.1
    refine W.mono (fun t h => hQ t (MQ.toT h)) ?_
    exact W.vret hx hb hr (fun t ht hw => ⟨rfl, by rw [ht]; exact hW2, hR.2.2.1.F ht⟩) hR.2.2.1.2.2 dJ1_init_2_60 hlk
set_option maxHeartbeats 4000000 in
theorem thr_X18 {Θ : ThT Mem} {g : GeoX} {σ : Mem} {a : Nat} {d w : Int32} (ha : gC σ a = some (.inr (6, [.null, .null, .null, .null, .null, .int d, .int w]))) (hc : Cx Θ (VX g) cJ1_init_2 5 "java/lang/Throwable" (rk 1 0 0) none [] true oV σ) : ∀ ls : Array Slot, lv_has ls 5 [(0, .ref (vO (VX g) + a)), (1, .null), (2, .null), (3, .int 0), (4, .int 0)] → Θ σ 0 0 0 ls [] := by
    obtain ⟨p, l, e, s, m, args, below, meth, c, Q, rfl, hx, hb, hml, ho, hts, hK, hr, hlk, htab, hQ, hini⟩ := hc
    intro ls hl H locs hW hS
    have hR := Raw.of hW ha hS
    have hE := hK.here
    refine lv_aload_n hx hb dJ1_init_2_0 rfl (lv_at hl 0 rfl) ?_
    refine W.objInit hx hb ho (hts _ q306) (hts _ q94) (hts _ q95) rfl (by rw [hml]; exact hl.1) rfl dJ1_init_2_1 (Nat.le_of_ble_eq_true rfl) (Nat.le_of_ble_eq_true rfl) ?_
    refine W.eq (g2 := F0 m 4 ls []) rfl ?_
    refine lv_aload_n hx hb dJ1_init_2_4 rfl (lv_at hl 0 rfl) ?_
    refine lv_aload_n hx hb dJ1_init_2_5 rfl (lv_at hl 0 rfl) ?_
    refine raw_put hx hb (C := RX18) (T := TX18) (N := 7) hts in_X18 tyX18_ok nmX18 ho hK.1 rfl hR 0 (Nat.le_of_ble_eq_true rfl) q334 (fun _ h => h) rfl (ty := .object "java/lang/Throwable") (by decide +kernel) rfl rfl (Nat.le_of_ble_eq_true rfl) dJ1_init_2_6 (fun H locs hR => ?_)
    refine lv_aload_n hx hb dJ1_init_2_9 rfl (lv_at hl 0 rfl) ?_
    refine raw_gets hx hb hts ho hE.2.2.1 (fun q cell h => (hR.2.2.2.2 q cell h).2) q307 dJ1_init_2_10 (fun v hv => ?_)
    refine raw_put hx hb (C := RX18) (T := TX18) (N := 7) hts in_X18 tyX18_ok nmX18 ho hK.1 rfl hR 1 (Nat.le_of_ble_eq_true rfl) q335 (fun _ h => h) rfl (ty := .array (.object "java/lang/StackTraceElement")) (by decide +kernel) (fits_rf hv rfl).1 (fits_rf hv rfl).2 (Nat.le_of_ble_eq_true rfl) dJ1_init_2_13 (fun H locs hR => ?_)
    refine lv_aload_n hx hb dJ1_init_2_16 rfl (lv_at hl 0 rfl) ?_
    refine raw_gets hx hb hts ho hE.2.2.2.1 (fun q cell h => (hR.2.2.2.2 q cell h).2) q309 dJ1_init_2_17 (fun v2 hv2 => ?_)
    refine raw_put hx hb (C := RX18) (T := TX18) (N := 7) hts in_X18 tyX18_ok nmX18 ho hK.1 rfl hR 2 (Nat.le_of_ble_eq_true rfl) q336 (fun _ h => h) rfl (ty := .object "java/util/List") (by decide +kernel) (fits_rf hv2 rfl).1 (fits_rf hv2 rfl).2 (Nat.le_of_ble_eq_true rfl) dJ1_init_2_20 (fun H locs hR => ?_)
    refine lv_iload hx hb dJ1_init_2_23 (lv_at hl 4 rfl) ?_
    refine lv_if_eq (tgt := 36) hx hb dJ1_init_2_25 rfl (fun _ => ?_) (fun h => absurd rfl h)
    refine lv_aload_n hx hb dJ1_init_2_36 rfl (lv_at hl 0 rfl) ?_
    refine lv_null hx hb dJ1_init_2_37 ?_
    refine raw_put hx hb (C := RX18) (T := TX18) (N := 7) hts in_X18 tyX18_ok nmX18 ho hK.1 rfl hR 1 (Nat.le_of_ble_eq_true rfl) q335 (fun _ h => h) rfl (ty := .array (.object "java/lang/StackTraceElement")) (by decide +kernel) rfl rfl (Nat.le_of_ble_eq_true rfl) dJ1_init_2_38 (fun H locs hR => ?_)
    refine lv_aload_n hx hb dJ1_init_2_41 rfl (lv_at hl 0 rfl) ?_
    refine lv_aload_nN hx hb dJ1_init_2_42 rfl (lv_at hl 1 rfl) ?_
    refine raw_put hx hb (C := RX18) (T := TX18) (N := 7) hts in_X18 tyX18_ok nmX18 ho hK.1 rfl hR 3 (Nat.le_of_ble_eq_true rfl) q333 (fun _ h => h) rfl (ty := .object "java/lang/String") (by decide +kernel) rfl rfl (Nat.le_of_ble_eq_true rfl) dJ1_init_2_43 (fun H locs hR => ?_)
    refine lv_aload_n hx hb dJ1_init_2_46 rfl (lv_at hl 0 rfl) ?_
    refine lv_aload_nN hx hb dJ1_init_2_47 rfl (lv_at hl 2 rfl) ?_
    refine raw_put hx hb (C := RX18) (T := TX18) (N := 7) hts in_X18 tyX18_ok nmX18 ho hK.1 rfl hR 0 (Nat.le_of_ble_eq_true rfl) q334 (fun _ h => h) rfl (ty := .object "java/lang/Throwable") (by decide +kernel) rfl rfl (Nat.le_of_ble_eq_true rfl) dJ1_init_2_48 (fun H locs hR => ?_)
    refine lv_iload_n hx hb dJ1_init_2_51 rfl (lv_at hl 3 rfl) ?_
    refine lv_if_ne (tgt := 60) hx hb dJ1_init_2_52 rfl (fun h => absurd rfl h) (fun _ => ?_)
    refine lv_aload_n hx hb dJ1_init_2_55 rfl (lv_at hl 0 rfl) ?_
    refine lv_null hx hb dJ1_init_2_56 ?_
    refine raw_put hx hb (C := RX18) (T := TX18) (N := 7) hts in_X18 tyX18_ok nmX18 ho hK.1 rfl hR 2 (Nat.le_of_ble_eq_true rfl) q336 (fun _ h => h) rfl (ty := .object "java/util/List") (by decide +kernel) rfl rfl (Nat.le_of_ble_eq_true rfl) dJ1_init_2_57 (fun H locs hR => ?_)
    have hW2 : Wd (VX g) σ H := hR.2.1 H rfl (fun _ _ => rfl) hR.1
    refine W.mono (fun t h => hQ t (MQ.toT h)) ?_
    exact W.vret hx hb hr (fun t ht hw => ⟨rfl, by rw [ht]; exact hW2, hR.2.2.1.F ht⟩) hR.2.2.1.2.2 dJ1_init_2_60 hlk
theorem cThr {g : GeoX} {σ : Mem} {a : Nat} (h : thrOK σ a = true) (l : Launch) : Ct (VX g) l yJ1_init_2 cJ1_init_2 5 none (rk 1 0 0) [.ref (vO (VX g) + a), .null, .null, .int 0, .int 0] σ oV σ := by
  obtain ⟨c, d, w, ha, rfl | rfl⟩ := thrOK_spec h
  · exact Ct.ofFI true (by decide +kernel) (fun _ => rfl) (Nat.le_of_ble_eq_true rfl) (fun Θ hc ls hl => thr_X6 ha hc ls hl)
  · exact Ct.ofFI true (by decide +kernel) (fun _ => rfl) (Nat.le_of_ble_eq_true rfl) (fun Θ hc ls hl => thr_X18 ha hc ls hl)
set_option maxHeartbeats 4000000 in
theorem cExc {g : GeoX} {σ : Mem} {a : Nat} (h : thrOK σ a = true) (l : Launch) : Ct (VX g) l yJ2_init cJ2_init 5 none (rk 2 0 0) [.ref (vO (VX g) + a), .null, .null, .int 0, .int 0] σ oV σ := by
  refine Ct.ofFI true (by decide +kernel) (fun _ => rfl) (Nat.le_of_ble_eq_true rfl) (fun Θ hc ls hl => ?_)
  have hz := hc.z
  have w : Sim Θ 5 () σ (some ()) (0, 0) 0 [(0, .ref (vO (VX g) + a)), (1, .null), (2, .null), (3, .int 0), (4, .int 0)] [] := by
    refine s_aload_n hz dJ2_init_0 rfl 0 rfl ?_
    refine s_aload_nN hz dJ2_init_1 rfl 1 rfl ?_
    refine s_aload_nN hz dJ2_init_2 rfl 2 rfl ?_
    refine s_iload_n hz dJ2_init_3 rfl 3 rfl ?_
    refine s_iload hz dJ2_init_4 4 rfl ?_
    refine s_callI hc (As := [.null, .null, .int 0, .int 0]) (rest := []) (n := 4) (cThr h) q329 q69 q327 q328 (by decide +kernel) rfl rfl (Nat.le_of_ble_eq_true rfl) ⟨Nat.le_of_ble_eq_true rfl, Nat.le_of_ble_eq_true rfl⟩ ⟨Nat.le_of_ble_eq_true rfl, Nat.le_of_ble_eq_true rfl⟩ dJ2_init_6 ?_
    exact s_vret hc dJ2_init_9 (Nat.le_of_ble_eq_true rfl) (Nat.le_of_ble_eq_true rfl)
  exact w rfl ls hl
theorem kX_thr_X6_1 {γ : Type} {Θ : ThT Mem} {g : GeoX} {cc : ByteArray} {nL : Nat} {rm : Room} {ret : Option FieldType} {hs : List (Nat × Nat × Nat × Nat)} {ini : Bool} {O : Outcome} {σ' : Mem} {ρ : γ} {σ : Mem} {F : Option γ} {cs : Nat × Nat} {pc : Nat} {lv : List (Nat × Value)} {st : List Value} (hc : Cx Θ (VX g) cc nL RX6 (rk 3 rm.cells rm.slots) ret hs ini O σ') {a : Nat} (h : thrOK σ a = true) (hf : cs.1 ≤ rm.cells ∧ cs.2 ≤ rm.slots) (hrest : (st.map fun v => v.category).sum ≤ 8) (hd : decode cc pc = .ok (.invokespecial 1, 3)) (kk : Sim Θ nL ρ σ F cs (pc + 3) lv st) : Sim Θ nL ρ σ F cs pc lv (.int 0 :: .int 0 :: .null :: .null :: .ref (vO (VX g) + a) :: st) := s_callI hc (a := a) (As := [.null, .null, .int 0, .int 0]) (rest := st) (n := 4) (cExc h) q326 q70 q324 q325 (by decide +kernel) rfl rfl hrest ⟨Nat.le_of_ble_eq_true rfl, Nat.le_of_ble_eq_true rfl⟩ hf hd kk
theorem kX_thr_X18_1 {γ : Type} {Θ : ThT Mem} {g : GeoX} {cc : ByteArray} {nL : Nat} {rm : Room} {ret : Option FieldType} {hs : List (Nat × Nat × Nat × Nat)} {ini : Bool} {O : Outcome} {σ' : Mem} {ρ : γ} {σ : Mem} {F : Option γ} {cs : Nat × Nat} {pc : Nat} {lv : List (Nat × Value)} {st : List Value} (hc : Cx Θ (VX g) cc nL RX18 (rk 3 rm.cells rm.slots) ret hs ini O σ') {a : Nat} (h : thrOK σ a = true) (hf : cs.1 ≤ rm.cells ∧ cs.2 ≤ rm.slots) (hrest : (st.map fun v => v.category).sum ≤ 8) (hd : decode cc pc = .ok (.invokespecial 1, 3)) (kk : Sim Θ nL ρ σ F cs (pc + 3) lv st) : Sim Θ nL ρ σ F cs pc lv (.int 0 :: .int 0 :: .null :: .null :: .ref (vO (VX g) + a) :: st) := s_callI hc (a := a) (As := [.null, .null, .int 0, .int 0]) (rest := st) (n := 4) (cExc h) q326 q70 q776 q325 (by decide +kernel) rfl rfl hrest ⟨Nat.le_of_ble_eq_true rfl, Nat.le_of_ble_eq_true rfl⟩ hf hd kk
