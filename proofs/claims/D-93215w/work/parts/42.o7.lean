/-! OPERATIONS: sheets -/
set_option maxRecDepth 100000
theorem shAt (N : Nat) (σ : Mem) (x : Int32) : fX0_sheetAt N σ x = if inP x 4 then some (.inl (), σ) else some (.inr (gN σ), wC σ (updC (gC σ) (gN σ) (fdE 0)) (gN σ + 1)) := by
  unfold fX0_sheetAt
  simp (disch := first | omega | decide) only [lt_d, gbT, Option.bind_some, cT2_l, cT2_r, mO_n, mO_s, lit, litL, nb_t, nb_f, need_1, need_0, ix_n, inb_T, le_T, le_F, l_T, l_F, e_F, e_R, if_true, if_false, n_add, n_mul, n_sub, n_l, fM_1, fM_2, fM_3, fM_4, fM_6, fM_7, in_R, inR_P]
  cases inP x 4
  · simp (disch := first | omega | decide) only [lt_d, gbT, Option.bind_some, cT2_l, cT2_r, mO_n, mO_s, lit, litL, nb_t, nb_f, need_1, need_0, ix_n, inb_T, le_T, le_F, l_T, l_F, e_F, e_R, if_true, if_false, n_add, n_mul, n_sub, n_l, fM_1, fM_2, fM_3, fM_4, fM_6, fM_7, b_f]
  · simp (disch := first | omega | decide) only [lt_d, gbT, Option.bind_some, cT2_l, cT2_r, mO_n, mO_s, lit, litL, nb_t, nb_f, need_1, need_0, ix_n, inb_T, le_T, le_F, l_T, l_F, e_F, e_R, if_true, if_false, n_add, n_mul, n_sub, n_l, fM_1, fM_2, fM_3, fM_4, fM_6, fM_7, b_t]
theorem thN {σ : Mem} {t : Nat} (N : Nat) (ht : t < 4) (h : gR σ (57 + t) 0 = none) : fX0_there N σ (nI t) = some (.inr (gN σ), wC σ (updC (gC σ) (gN σ) (fdE 5)) (gN σ + 1)) := by
  unfold fX0_there
  simp (disch := first | omega | decide) only [lt_d, gbT, Option.bind_some, cT2_l, cT2_r, mO_n, mO_s, lit, litL, nb_t, nb_f, need_1, need_0, ix_n, inb_T, le_T, le_F, l_T, l_F, e_F, e_R, if_true, if_false, n_add, n_mul, n_sub, n_l, fM_1, fM_2, fM_3, fM_4, fM_6, fM_7, h]
theorem thS {σ : Mem} {t a : Nat} (N : Nat) (ht : t < 4) (h : gR σ (57 + t) 0 = some a) : fX0_there N σ (nI t) = some (.inl (some a), σ) := by
  unfold fX0_there
  simp (disch := first | omega | decide) only [lt_d, gbT, Option.bind_some, cT2_l, cT2_r, mO_n, mO_s, lit, litL, nb_t, nb_f, need_1, need_0, ix_n, inb_T, le_T, le_F, l_T, l_F, e_F, e_R, if_true, if_false, n_add, n_mul, n_sub, n_l, fM_1, fM_2, fM_3, fM_4, fM_6, fM_7, h]
section ARR
variable {σ : Mem} {c n : Nat} {f : Nat → Int32} {fl : Nat → Int64} (N : Nat)
theorem len3 (h : gC σ c = some (.inl (3, n, .inl f))) : fX0_length N σ c = some (nI n) := by simp [fX0_length, aT, h, gb]
theorem len4 (h : gC σ c = some (.inl (4, n, .inl f))) : fX0_length N σ c = some (nI n) := by simp [fX0_length, aT, h, gb]
theorem len1 (h : gC σ c = some (.inl (1, n, .inr (.inl fl)))) : fX0_length N σ c = some (nI n) := by simp [fX0_length, aT, h, gb]
theorem wid3 (h : gC σ c = some (.inl (3, n, .inl f))) : fX0_wide N σ c = some (nI 8) := by simp [fX0_wide, aT, h, gb]; rfl
theorem wid4 (h : gC σ c = some (.inl (4, n, .inl f))) : fX0_wide N σ c = some (nI 16) := by simp [fX0_wide, aT, h, gb]; rfl
theorem wid1 (h : gC σ c = some (.inl (1, n, .inr (.inl fl)))) : fX0_wide N σ c = some (nI 64) := by simp [fX0_wide, aT, h, gb]; rfl
theorem get3 (h : gC σ c = some (.inl (3, n, .inl f))) {i : Nat} (hi : i < n) (hn : n ≤ 40) : fX0_get N σ c (nI i) = some (f i).toInt64 := by
  have h1 : inb (nI i) n = true := inb_T hi (by omega)
  have h2 : ix (nI i) = i := ix_n (by omega)
  simp [fX0_get, aT, aI, h, gb, h1, h2]
theorem get4 (h : gC σ c = some (.inl (4, n, .inl f))) {i : Nat} (hi : i < n) (hn : n ≤ 40) : fX0_get N σ c (nI i) = some (f i).toInt64 := by
  have h1 : inb (nI i) n = true := inb_T hi (by omega)
  have h2 : ix (nI i) = i := ix_n (by omega)
  simp [fX0_get, aT, aI, h, gb, h1, h2]
theorem get1 (h : gC σ c = some (.inl (1, n, .inr (.inl fl)))) {i : Nat} (hi : i < n) (hn : n ≤ 40) : fX0_get N σ c (nI i) = some (fl i) := by
  have h1 : inb (nI i) n = true := inb_T hi (by omega)
  have h2 : ix (nI i) = i := ix_n (by omega)
  simp [fX0_get, aT, aL, h, gb, h1, h2]
theorem put3 (h : gC σ c = some (.inl (3, n, .inl f))) {i : Nat} (hi : i < n) (hn : n ≤ 40) (v : Int64) : fX0_put N σ c (nI i) v = some ((), wC σ (updC (gC σ) c (.inl (3, n, .inl (upd f i v.toInt32.toInt8.toInt32)))) (gN σ)) := by
  have h1 : inb (nI i) n = true := inb_T hi (by omega)
  have h2 : ix (nI i) = i := ix_n (by omega)
  simp [fX0_put, aT, uI, h, gb, h1, h2, pC_w]
theorem put4 (h : gC σ c = some (.inl (4, n, .inl f))) {i : Nat} (hi : i < n) (hn : n ≤ 40) (v : Int64) : fX0_put N σ c (nI i) v = some ((), wC σ (updC (gC σ) c (.inl (4, n, .inl (upd f i v.toInt32.toInt16.toInt32)))) (gN σ)) := by
  have h1 : inb (nI i) n = true := inb_T hi (by omega)
  have h2 : ix (nI i) = i := ix_n (by omega)
  simp [fX0_put, aT, uI, h, gb, h1, h2, pC_w]
theorem put1 (h : gC σ c = some (.inl (1, n, .inr (.inl fl)))) {i : Nat} (hi : i < n) (hn : n ≤ 40) (v : Int64) : fX0_put N σ c (nI i) v = some ((), wC σ (updC (gC σ) c (.inl (1, n, .inr (.inl (vp_updL fl i v))))) (gN σ)) := by
  have h1 : inb (nI i) n = true := inb_T hi (by omega)
  have h2 : ix (nI i) = i := ix_n (by omega)
  simp [fX0_put, aT, uL, h, gb, h1, h2, pC_w]
end ARR
/-- what hangs on objects isn't changed by a write to an array -/
theorem Grp.upA {G : Nat → Option Nat} {C : Cel} {s : Nat → Int32} {p c : Nat} {e : va_E} {o : ClassId × vp_A} (h : C c = some (.inl o)) (q : Grp G C s p) : Grp G (updC C c e) s p := fun i hi => by
  obtain ⟨a, k, m, h1, h2, h3, h4, h5⟩ := q i hi
  exact ⟨a, k, m, h1, h2, h3, by rw [upC_n (by intro z; rw [z, h] at h4; cases h4)]; exact h4, h5⟩
theorem ExtT.upA {C : Cel} {c : Nat} {e : va_E} {o : ClassId × vp_A} (h : C c = some (.inl o)) : ExtT C (updC C c e) := fun a x q t => by
  have : a ≠ c := by
    intro z
    subst z
    rw [h] at q
    obtain ⟨k, fs, e1, e2⟩ := t
    cases q
    cases e1
  rw [upC_n this]; exact q
theorem Gm.upA {g ru : Nat → Int32} {G : Nat → Option Nat} {li : Option Nat} {bp bm : Nat → Int32} {bk : Nat → Nat → Int32} {C : Cel} {s : Nat → Int32} {c : Nat} {e : va_E} {o : ClassId × vp_A} (h : C c = some (.inl o)) (q : Gm g ru G li bp bm bk C s) : Gm g ru G li bp bm bk (updC C c e) s := by
  obtain ⟨p, w, b, h1, h2, h3, h4, h5, h6, h7⟩ := q
  exact ⟨p, w, b, h1, h2, h3.upA h, h4, h5.ext (ExtT.upA h), h6, h7⟩
/-- what R says but for the sheets, when a sheet's cell changes -/
theorem R.cell {σ τ : Mem} (h : R σ τ) {c : Nat} {e : va_E} {o : ClassId × vp_A} (hc : gC σ c = some (.inl o)) {nu : Nat → Int64} (hs : Shs (pk4 (gR σ 57 0) (gR σ 58 0) (gR σ 59 0) (gR σ 60 0)) (updC (gC σ) c e) (gI τ 9) (gI τ 10) nu) : R (wC σ (updC (gC σ) c e) (gN σ)) (wL τ 11 nu) := by
  obtain ⟨a, b, c', d, e', f, g, i, j, k⟩ := h
  refine ⟨a, b.upA hc, ⟨c'.1, ?_⟩, d, hs, f, g, i, j.upC hc, k⟩
  rcases c'.2 with c2 | c2
  · exact Or.inl c2
  · exact Or.inr ⟨c2.1, c2.2.1.upA hc, c2.2.2⟩
theorem She.none_ {a : Option Nat} {C : Cel} {bits size : Int32} {nu : Nat → Int64} (h : She a C bits size nu) (hb : ¬ nI 0 ≤ bits) : a = none := by
  rcases h with h | ⟨c, n, h1, h2, h3, h4⟩
  · exact h.1
  · rcases h4 with ⟨h4, -⟩ | ⟨h4, -⟩ | ⟨h4, -⟩ <;> exact absurd (show nI 0 ≤ bits by rw [h4]; decide) hb
theorem She.some_ {a : Option Nat} {C : Cel} {bits size : Int32} {nu : Nat → Int64} (h : She a C bits size nu) (hb : nI 0 ≤ bits) : ∃ c n, a = some c ∧ n ≤ 40 ∧ size = nI n ∧
    ((bits = nI 8 ∧ ∃ f, C c = some (.inl (3, n, .inl f)) ∧ ∀ i, i < n → f i = (f i).toInt8.toInt32 ∧ nu i = (f i).toInt64) ∨
     (bits = nI 16 ∧ ∃ f, C c = some (.inl (4, n, .inl f)) ∧ ∀ i, i < n → f i = (f i).toInt16.toInt32 ∧ nu i = (f i).toInt64) ∨
     (bits = nI 64 ∧ ∃ f, C c = some (.inl (1, n, .inr (.inl f))) ∧ ∀ i, i < n → nu i = f i)) := by
  rcases h with h | h
  · exact absurd hb (by rw [h.2.1]; decide)
  · exact h
/-- a sheet's length and numbers, whatever its kind -/
theorem She.get {σ : Mem} {c n : Nat} {bits : Int32} {nu : Nat → Int64} (N : Nat) (hn : n ≤ 40) (h4 : ((bits = nI 8 ∧ ∃ f, gC σ c = some (.inl (3, n, .inl f)) ∧ ∀ i, i < n → f i = (f i).toInt8.toInt32 ∧ nu i = (f i).toInt64) ∨
     (bits = nI 16 ∧ ∃ f, gC σ c = some (.inl (4, n, .inl f)) ∧ ∀ i, i < n → f i = (f i).toInt16.toInt32 ∧ nu i = (f i).toInt64) ∨
     (bits = nI 64 ∧ ∃ f, gC σ c = some (.inl (1, n, .inr (.inl f))) ∧ ∀ i, i < n → nu i = f i))) : fX0_length N σ c = some (nI n) ∧ (∀ i, i < n → fX0_get N σ c (nI i) = some (nu i)) ∧ fX0_wide N σ c = some bits := by
  rcases h4 with ⟨h4, f, h5, h6⟩ | ⟨h4, f, h5, h6⟩ | ⟨h4, f, h5, h6⟩
  · exact ⟨len3 N h5, fun i hi => by rw [get3 N h5 hi hn, (h6 i hi).2], by rw [wid3 N h5, h4]⟩
  · exact ⟨len4 N h5, fun i hi => by rw [get4 N h5 hi hn, (h6 i hi).2], by rw [wid4 N h5, h4]⟩
  · exact ⟨len1 N h5, fun i hi => by rw [get1 N h5 hi hn, h6 i hi], by rw [wid1 N h5, h4]⟩
theorem She.c {a : Option Nat} {C : Cel} {bits size : Int32} {nu nu' : Nat → Int64} (h : She a C bits size nu) (hn : ∀ i, i < 40 → nu' i = nu i) : She a C bits size nu' := by
  rcases h with h | ⟨c, n, h1, h2, h3, h4⟩
  · exact Or.inl h
  · refine Or.inr ⟨c, n, h1, h2, h3, ?_⟩
    rcases h4 with ⟨h4, f, h5, h6⟩ | ⟨h4, f, h5, h6⟩ | ⟨h4, f, h5, h6⟩
    · exact Or.inl ⟨h4, f, h5, fun i hi => ⟨(h6 i hi).1, by rw [hn i (by omega)]; exact (h6 i hi).2⟩⟩
    · exact Or.inr (Or.inl ⟨h4, f, h5, fun i hi => ⟨(h6 i hi).1, by rw [hn i (by omega)]; exact (h6 i hi).2⟩⟩)
    · exact Or.inr (Or.inr ⟨h4, f, h5, fun i hi => by rw [hn i (by omega)]; exact h6 i hi⟩)
/-- a sheet whose cell is another one -/
theorem She.ne {a : Option Nat} {C : Cel} {bits size : Int32} {nu : Nat → Int64} {c : Nat} {e : va_E} (h : She a C bits size nu) (hne : a ≠ some c) : She a (updC C c e) bits size nu := by
  rcases h with h | ⟨c', n, h1, h2, h3, h4⟩
  · exact Or.inl h
  · have hc : c' ≠ c := fun z => hne (by rw [h1, z])
    refine Or.inr ⟨c', n, h1, h2, h3, ?_⟩
    rw [upC_n hc]
    exact h4
theorem isC_e (σ : Mem) (w : Nat) : isC (wC σ (updC (gC σ) (gN σ) (fdE w)) (gN σ + 1)) (gN σ) 5 = true := by
  have h1 : gC (wC σ (updC (gC σ) (gN σ) (fdE w)) (gN σ + 1)) (gN σ) = some (fdE w) := upC_s
  unfold isC; rw [h1]; rfl
theorem fnd_e (N : Nat) (σ : Mem) {w : Nat} (hw : w < 7) : fX0_finds N (wC σ (updC (gC σ) (gN σ) (fdE w)) (gN σ + 1)) (gN σ) = some (cod w, erX σ w) := by
  have h := finds_n N σ hw
  rw [isC_e, gbT] at h
  rw [← h]
  cases fX0_finds N (wC σ (updC (gC σ) (gN σ) (fdE w)) (gN σ + 1)) (gN σ) <;> rfl
/-- the same of a method whose answer has another form -/
theorem Op2.err {σ τ : Mem} (h : R σ τ) {w : Nat} (hw : w < 7) : R (erX σ w) (erM τ w) := h.err hw
theorem op_read {σ τ : Mem} (h : R σ τ) {N : Nat} (hN : 300000 ≤ N) (x : Int32) : ∃ v σ' τ', fX0_read N σ x = some (.inl v, σ') ∧ fX5_read N τ x = some (v, τ') ∧ R σ' τ' := by
  have h' := h
  obtain ⟨a, ⟨p, w, b, hn, hru, hg, hap, hl, hh, hb⟩, c, d, e, f, g, i, j, k⟩ := h'
  obtain ⟨n1, n2, n3, n4, n5, n6, n7, n8, n9, n10⟩ := hn
  unfold fX0_read fX5_read
  rw [isShM, shAt]
  cases hx : inP x 4 with
  | false =>
    simp (disch := first | omega | decide) only [lt_d, gbT, Option.bind_some, cT2_l, cT2_r, mO_n, mO_s, lit, litL, nb_t, nb_f, need_1, need_0, ix_n, inb_T, le_T, le_F, l_T, l_F, e_F, e_R, if_true, if_false, n_add, n_mul, n_sub, n_l, fM_1, fM_2, fM_3, fM_4, fM_6, fM_7, b_f, isC_e, fnd_e]
    exact ⟨cod 0, erX σ 0, erM τ 0, rfl, rfl, h.err (by decide)⟩
  | true =>
    obtain ⟨t, ht, rfl⟩ := inP_T (by decide) hx
    have hs := e.1 t ht
    rw [sh_0 σ ht] at hs
    simp (disch := first | omega | decide) only [lt_d, gbT, Option.bind_some, cT2_l, cT2_r, mO_n, mO_s, lit, litL, nb_t, nb_f, need_1, need_0, ix_n, inb_T, le_T, le_F, l_T, l_F, e_F, e_R, if_true, if_false, n_add, n_mul, n_sub, n_l, fM_1, fM_2, fM_3, fM_4, fM_6, fM_7, b_t]
    by_cases hb0 : nI 0 ≤ gI τ 9 t
    · obtain ⟨cc, n, q1, q2, q3, q4⟩ := hs.some_ hb0
      obtain ⟨gl, gg, -⟩ := She.get N q2 q4
      simp (disch := first | omega | decide) only [lt_d, gbT, Option.bind_some, cT2_l, cT2_r, mO_n, mO_s, lit, litL, nb_t, nb_f, need_1, need_0, ix_n, inb_T, le_T, le_F, l_T, l_F, e_F, e_R, if_true, if_false, n_add, n_mul, n_sub, n_l, fM_1, fM_2, fM_3, fM_4, fM_6, fM_7, thS N ht q1, if_pos hb0]
      refine lp_two (P := fun (s s' : Int32) => s = s' ∧ ∃ k, s = nI k ∧ k ≤ n) (μ := fun s => n - ix s) (Q := fun (F : Option ((Int32 ⊕ Nat) × Mem)) (G : Option (Int32 × Mem)) => ∃ v σ' τ', F = some (Sum.inl v, σ') ∧ G = some (v, τ') ∧ R σ' τ') ?_ N (nI 0) (nI 0) (by omega) ⟨rfl, 0, rfl, by omega⟩
      rintro s _ ⟨rfl, k, rfl, hk⟩
      by_cases e1 : k = n
      · left
        subst e1
        intro rec rec'
        unfold bX0_read_12_v1 bX5_read_33
        simp (disch := first | omega | decide) only [lt_d, gbT, Option.bind_some, cT2_l, cT2_r, mO_n, mO_s, lit, litL, nb_t, nb_f, need_1, need_0, ix_n, inb_T, le_T, le_F, l_T, l_F, e_F, e_R, if_true, if_false, n_add, n_mul, n_sub, n_l, fM_1, fM_2, fM_3, fM_4, fM_6, fM_7, gl, q3]
        exact ⟨_, σ, τ, rfl, rfl, h⟩
      · have hk : k < n := by omega
        by_cases e2 : w ≤ k
        · left
          intro rec rec'
          unfold bX0_read_12_v1 bX5_read_33
          simp (disch := first | omega | decide) only [lt_d, gbT, Option.bind_some, cT2_l, cT2_r, mO_n, mO_s, lit, litL, nb_t, nb_f, need_1, need_0, ix_n, inb_T, le_T, le_F, l_T, l_F, e_F, e_R, if_true, if_false, n_add, n_mul, n_sub, n_l, fM_1, fM_2, fM_3, fM_4, fM_6, fM_7, gl, q3, n6, n7]
          exact ⟨_, σ, τ, rfl, by rw [Nat.add_comm], h⟩
        · have hbk := (hb k (by omega)).1 3 (by omega)
          have hbk : gI σ 23 k = gI τ 1 (104 + 8 * k + 3) := hbk
          by_cases e3 : gL τ 11 (40 * t + k) = (gI τ 1 (104 + 8 * k + 3)).toInt64
          · right
            refine ⟨nI (k + 1), nI (k + 1), ⟨rfl, k + 1, rfl, by omega⟩, ?_, fun rec => ?_, fun rec => ?_⟩
            · show n - ix (nI (k + 1)) < n - ix (nI k)
              rw [ix_n (by omega), ix_n (by omega)]; omega
            · unfold bX0_read_12_v1
              simp (disch := first | omega | decide) only [lt_d, gbT, Option.bind_some, cT2_l, cT2_r, mO_n, mO_s, lit, litL, nb_t, nb_f, need_1, need_0, ix_n, inb_T, le_T, le_F, l_T, l_F, e_F, e_R, if_true, if_false, n_add, n_mul, n_sub, n_l, fM_1, fM_2, fM_3, fM_4, fM_6, fM_7, gl, n6, gg k hk, hbk, if_pos e3]
            · unfold bX5_read_33
              simp (disch := first | omega | decide) only [lt_d, gbT, Option.bind_some, cT2_l, cT2_r, mO_n, mO_s, lit, litL, nb_t, nb_f, need_1, need_0, ix_n, inb_T, le_T, le_F, l_T, l_F, e_F, e_R, if_true, if_false, n_add, n_mul, n_sub, n_l, fM_1, fM_2, fM_3, fM_4, fM_6, fM_7, q3, n7, if_pos e3]
          · left
            intro rec rec'
            unfold bX0_read_12_v1 bX5_read_33
            simp (disch := first | omega | decide) only [lt_d, gbT, Option.bind_some, cT2_l, cT2_r, mO_n, mO_s, lit, litL, nb_t, nb_f, need_1, need_0, ix_n, inb_T, le_T, le_F, l_T, l_F, e_F, e_R, if_true, if_false, n_add, n_mul, n_sub, n_l, fM_1, fM_2, fM_3, fM_4, fM_6, fM_7, gl, q3, n6, n7, gg k hk, hbk, if_neg e3]
            exact ⟨_, σ, τ, rfl, by rw [Nat.add_comm], h⟩
    · simp (disch := first | omega | decide) only [lt_d, gbT, Option.bind_some, cT2_l, cT2_r, mO_n, mO_s, lit, litL, nb_t, nb_f, need_1, need_0, ix_n, inb_T, le_T, le_F, l_T, l_F, e_F, e_R, if_true, if_false, n_add, n_mul, n_sub, n_l, fM_1, fM_2, fM_3, fM_4, fM_6, fM_7, thN N ht (hs.none_ hb0), if_neg hb0, isC_e, fnd_e]
      exact ⟨cod 5, erX σ 5, erM τ 5, rfl, rfl, h.err (by decide)⟩
theorem op_write {σ τ : Mem} (h : R σ τ) (N : Nat) (x y : Int32) (v : Int64) : Op σ τ (fX0_write N σ x y v) (fX5_write N τ x y v) := by
  have h' := h
  obtain ⟨a, b, c, d, e, f, g, i, j, k⟩ := h'
  unfold fX0_write fX0_numberAt fX5_write
  rw [isShM, shAt]
  cases hx : inP x 4 with
  | false =>
    simp (disch := first | omega | decide) only [lt_d, gbT, Option.bind_some, cT2_l, cT2_r, mO_n, mO_s, lit, litL, nb_t, nb_f, need_1, need_0, ix_n, inb_T, le_T, le_F, l_T, l_F, e_F, e_R, if_true, if_false, n_add, n_mul, n_sub, n_l, fM_1, fM_2, fM_3, fM_4, fM_6, fM_7, b_f, isC_e, fnd_e]
    exact ⟨(cod 0).toInt64, erX σ 0, erM τ 0, rfl, rfl, h.err (by decide)⟩
  | true =>
    obtain ⟨t, ht, rfl⟩ := inP_T (by decide) hx
    have hs := e.1 t ht
    rw [sh_0 σ ht] at hs
    simp (disch := first | omega | decide) only [lt_d, gbT, Option.bind_some, cT2_l, cT2_r, mO_n, mO_s, lit, litL, nb_t, nb_f, need_1, need_0, ix_n, inb_T, le_T, le_F, l_T, l_F, e_F, e_R, if_true, if_false, n_add, n_mul, n_sub, n_l, fM_1, fM_2, fM_3, fM_4, fM_6, fM_7, b_t]
    by_cases hb0 : nI 0 ≤ gI τ 9 t
    · obtain ⟨cc, n, q1, q2, q3, q4⟩ := hs.some_ hb0
      obtain ⟨gl, gg, -⟩ := She.get N q2 q4
      simp (disch := first | omega | decide) only [lt_d, gbT, Option.bind_some, cT2_l, cT2_r, mO_n, mO_s, lit, litL, nb_t, nb_f, need_1, need_0, ix_n, inb_T, le_T, le_F, l_T, l_F, e_F, e_R, if_true, if_false, n_add, n_mul, n_sub, n_l, fM_1, fM_2, fM_3, fM_4, fM_6, fM_7, thS N ht q1, if_pos hb0, gl, q3, in_P, isIn_P]
      cases hy : inP y n with
      | false =>
        simp (disch := first | omega | decide) only [lt_d, gbT, Option.bind_some, cT2_l, cT2_r, mO_n, mO_s, lit, litL, nb_t, nb_f, need_1, need_0, ix_n, inb_T, le_T, le_F, l_T, l_F, e_F, e_R, if_true, if_false, n_add, n_mul, n_sub, n_l, fM_1, fM_2, fM_3, fM_4, fM_6, fM_7, isC_e, fnd_e]
        exact ⟨(cod 0).toInt64, erX σ 0, erM τ 0, rfl, rfl, h.err (by decide)⟩
      | true =>
        obtain ⟨r, hr, rfl⟩ := inP_T (by omega) hy
        have hcell : ∀ {e' : va_E} {nu' : Nat → Int64}, (∀ i, i < 160 → i ≠ 40 * t + r → nu' i = gL τ 11 i) → She (some cc) (updC (gC σ) cc e') (gI τ 9 t) (gI τ 10 t) (fun i => nu' (40 * t + i)) → Shs (pk4 (gR σ 57 0) (gR σ 58 0) (gR σ 59 0) (gR σ 60 0)) (updC (gC σ) cc e') (gI τ 9) (gI τ 10) nu' := by
          intro e' nu' hnu hsh
          refine ⟨fun u hu => ?_, e.2⟩
          by_cases eu : u = t
          · subst eu
            rw [sh_0 σ hu, q1]
            exact hsh
          · have := e.1 u hu
            refine (this.ne (fun z => eu (e.2 u t cc hu ht z (by rw [sh_0 σ ht]; exact q1)))).c (fun i hi => hnu _ (by omega) (by omega))
        rcases q4 with ⟨q4, ff, q5, q6⟩ | ⟨q4, ff, q5, q6⟩ | ⟨q4, ff, q5, q6⟩
        · simp (disch := first | omega | decide) only [lt_d, gbT, Option.bind_some, cT2_l, cT2_r, mO_n, mO_s, lit, litL, nb_t, nb_f, need_1, need_0, ix_n, inb_T, le_T, le_F, l_T, l_F, e_F, e_R, if_true, if_false, n_add, n_mul, n_sub, n_l, fM_1, fM_2, fM_3, fM_4, fM_6, fM_7, pI_w, pL_w, pR_w, pC_w, nC_w, gI_wI, gI_wIn, gI_wL, gI_wR, gI_wC, gL_wL, gL_wLn, gL_wI, gL_wR, gL_wC, gR_wR, gR_wRn, gR_wI, gR_wL, gR_wC, gC_wI, gC_wL, gC_wR, gC_wC, gN_wI, gN_wL, gN_wR, gN_wC, wI_wI, wL_wL, wR_wR, wC_wC, up_s, up_n, gg r hr, put3 N q5 hr q2 v, fX5_narrow, q4]
          refine ⟨_, _, _, rfl, rfl, h.cell q5 (hcell (fun i hi hne => upL_n hne) (Or.inr ⟨cc, n, rfl, q2, q3, Or.inl ⟨q4, _, upC_s, fun i hi => ?_⟩⟩))⟩
          dsimp only
          by_cases e1 : i = r
          · subst e1
            rw [up_s, upL_s]
            exact ⟨by simp, rfl⟩
          · rw [up_n e1, upL_n (by omega)]
            exact q6 i hi
        · simp (disch := first | omega | decide) only [lt_d, gbT, Option.bind_some, cT2_l, cT2_r, mO_n, mO_s, lit, litL, nb_t, nb_f, need_1, need_0, ix_n, inb_T, le_T, le_F, l_T, l_F, e_F, e_R, if_true, if_false, n_add, n_mul, n_sub, n_l, fM_1, fM_2, fM_3, fM_4, fM_6, fM_7, pI_w, pL_w, pR_w, pC_w, nC_w, gI_wI, gI_wIn, gI_wL, gI_wR, gI_wC, gL_wL, gL_wLn, gL_wI, gL_wR, gL_wC, gR_wR, gR_wRn, gR_wI, gR_wL, gR_wC, gC_wI, gC_wL, gC_wR, gC_wC, gN_wI, gN_wL, gN_wR, gN_wC, wI_wI, wL_wL, wR_wR, wC_wC, up_s, up_n, gg r hr, put4 N q5 hr q2 v, fX5_narrow, q4]
          refine ⟨_, _, _, rfl, rfl, h.cell q5 (hcell (fun i hi hne => upL_n hne) (Or.inr ⟨cc, n, rfl, q2, q3, Or.inr (Or.inl ⟨q4, _, upC_s, fun i hi => ?_⟩)⟩))⟩
          dsimp only
          by_cases e1 : i = r
          · subst e1
            rw [up_s, upL_s]
            exact ⟨by simp, rfl⟩
          · rw [up_n e1, upL_n (by omega)]
            exact q6 i hi
        · simp (disch := first | omega | decide) only [lt_d, gbT, Option.bind_some, cT2_l, cT2_r, mO_n, mO_s, lit, litL, nb_t, nb_f, need_1, need_0, ix_n, inb_T, le_T, le_F, l_T, l_F, e_F, e_R, if_true, if_false, n_add, n_mul, n_sub, n_l, fM_1, fM_2, fM_3, fM_4, fM_6, fM_7, pI_w, pL_w, pR_w, pC_w, nC_w, gI_wI, gI_wIn, gI_wL, gI_wR, gI_wC, gL_wL, gL_wLn, gL_wI, gL_wR, gL_wC, gR_wR, gR_wRn, gR_wI, gR_wL, gR_wC, gC_wI, gC_wL, gC_wR, gC_wC, gN_wI, gN_wL, gN_wR, gN_wC, wI_wI, wL_wL, wR_wR, wC_wC, up_s, up_n, gg r hr, put1 N q5 hr q2 v, fX5_narrow, q4]
          refine ⟨_, _, _, rfl, rfl, h.cell q5 (hcell (fun i hi hne => upL_n hne) (Or.inr ⟨cc, n, rfl, q2, q3, Or.inr (Or.inr ⟨q4, _, upC_s, fun i hi => ?_⟩)⟩))⟩
          dsimp only
          by_cases e1 : i = r
          · subst e1
            rw [upL_s, upL_s]
          · rw [upL_n (by omega), upL_n e1]
            exact q6 i hi
    · simp (disch := first | omega | decide) only [lt_d, gbT, Option.bind_some, cT2_l, cT2_r, mO_n, mO_s, lit, litL, nb_t, nb_f, need_1, need_0, ix_n, inb_T, le_T, le_F, l_T, l_F, e_F, e_R, if_true, if_false, n_add, n_mul, n_sub, n_l, fM_1, fM_2, fM_3, fM_4, fM_6, fM_7, thN N ht (hs.none_ hb0), if_neg hb0, isC_e, fnd_e]
      exact ⟨(cod 5).toInt64, erX σ 5, erM τ 5, rfl, rfl, h.err (by decide)⟩
/-! a new sheet -/
def zL (nu : Nat → Int64) (t k : Nat) : Nat → Int64 := fun i => if 40 * t ≤ i ∧ i < 40 * t + k then lN 0 else nu i
theorem zL_s (nu : Nat → Int64) (t k : Nat) : vp_updL (zL nu t k) (40 * t + k) (lN 0) = zL nu t (k + 1) := by
  funext i
  unfold zL
  by_cases e : i = 40 * t + k
  · subst e; rw [upL_s, if_pos (by omega)]
  · rw [upL_n e]
    by_cases q : 40 * t ≤ i ∧ i < 40 * t + k
    · rw [if_pos q, if_pos (by omega)]
    · rw [if_neg q, if_neg (by omega)]
theorem zL_0 (nu : Nat → Int64) (t : Nat) : zL nu t 0 = nu := by funext i; unfold zL; rw [if_neg (by omega)]
theorem wL_id (σ : Mem) (c : Nat) : wL σ c (gL σ c) = σ := by
  have : (fun c' => if c' = c then gL σ c else σ.2.1 c') = σ.2.1 := by
    funext q; by_cases h : q = c
    · subst h; rw [if_pos rfl]; rfl
    · rw [if_neg h]
  exact congrArg (fun f => ((σ.1, f, σ.2.2) : Mem)) this
theorem shLp {τ : Mem} {N t : Nat} (hN : 300000 ≤ N) (ht : t < 4) : lp (bX5_sheet_94 N τ (nI t)) N (τ, nI 0) = some (gI τ 10 t, wL τ 11 (zL (gL τ 11) t 40)) := by
  have key := lp_fun (b := bX5_sheet_94 N τ (nI t)) (fun k => (wL τ 11 (zL (gL τ 11) t k), nI k)) 40 (N := N) (by omega) (r := some (gI τ 10 t, wL τ 11 (zL (gL τ 11) t 40))) (fun k rec hk => ?_) (fun rec => ?_)
  · rw [zL_0, wL_id] at key
    exact key
  · unfold bX5_sheet_94
    simp (disch := first | omega | decide) only [lt_d, gbT, Option.bind_some, cT2_l, cT2_r, mO_n, mO_s, lit, litL, nb_t, nb_f, need_1, need_0, ix_n, inb_T, le_T, le_F, l_T, l_F, e_F, e_R, if_true, if_false, n_add, n_mul, n_sub, n_l, fM_1, fM_2, fM_3, fM_4, fM_6, fM_7, pI_w, pL_w, pR_w, pC_w, nC_w, gI_wI, gI_wIn, gI_wL, gI_wR, gI_wC, gL_wL, gL_wLn, gL_wI, gL_wR, gL_wC, gR_wR, gR_wRn, gR_wI, gR_wL, gR_wC, gC_wI, gC_wL, gC_wR, gC_wC, gN_wI, gN_wL, gN_wR, gN_wC, wI_wI, wL_wL, wR_wR, wC_wC, up_s, up_n, zL_s]
  · unfold bX5_sheet_94
    simp (disch := first | omega | decide) only [lt_d, gbT, Option.bind_some, cT2_l, cT2_r, mO_n, mO_s, lit, litL, nb_t, nb_f, need_1, need_0, ix_n, inb_T, le_T, le_F, l_T, l_F, e_F, e_R, if_true, if_false, n_add, n_mul, n_sub, n_l, fM_1, fM_2, fM_3, fM_4, fM_6, fM_7, pI_w, pL_w, pR_w, pC_w, nC_w, gI_wI, gI_wIn, gI_wL, gI_wR, gI_wC, gL_wL, gL_wLn, gL_wI, gL_wR, gL_wC, gR_wR, gR_wRn, gR_wI, gR_wL, gR_wC, gC_wI, gC_wL, gC_wR, gC_wC, gN_wI, gN_wL, gN_wR, gN_wC, wI_wI, wL_wL, wR_wR, wC_wC, up_s, up_n]
theorem madX {σ : Mem} (N : Nat) {n : Nat} (hn : n ≤ 40) : fX0_made N σ (nI 8) (nI n) = some (some (gN σ), wC σ (updC (gC σ) (gN σ) (.inl (3, n, .inl (fun _ => 0)))) (gN σ + 1)) ∧ fX0_made N σ (nI 16) (nI n) = some (some (gN σ), wC σ (updC (gC σ) (gN σ) (.inl (4, n, .inl (fun _ => 0)))) (gN σ + 1)) ∧ fX0_made N σ (nI 64) (nI n) = some (some (gN σ), wC σ (updC (gC σ) (gN σ) (.inl (1, n, .inr (.inl (fun _ => 0))))) (gN σ + 1)) ∧ fX0_made N σ (nI 0) (nI n) = some (none, σ) := by
  have h1 : inb (nI n) 41 = true := inb_T (by omega) (by decide)
  have h2 : ix (nI n) = n := ix_n (by omega)
  refine ⟨?_, ?_, ?_, ?_⟩
  · unfold fX0_made
    rw [if_pos (show nI 8 = (8 : Int32) from rfl), h1, gbT, h2]; rfl
  · unfold fX0_made
    rw [if_neg (show ¬ nI 16 = (8 : Int32) by decide), if_pos (show nI 16 = (16 : Int32) from rfl), h1, gbT, h2]; rfl
  · unfold fX0_made
    rw [if_neg (show ¬ nI 64 = (8 : Int32) by decide), if_neg (show ¬ nI 64 = (16 : Int32) by decide), if_pos (show nI 64 = (64 : Int32) from rfl), h1, gbT, h2]; rfl
  · unfold fX0_made
    rw [if_neg (show ¬ nI 0 = (8 : Int32) by decide), if_neg (show ¬ nI 0 = (16 : Int32) by decide), if_neg (show ¬ nI 0 = (64 : Int32) by decide)]
/-- a sheet of one side put at its place -/
theorem R.sheet {σ τ : Mem} (h : R σ τ) {t : Nat} (ht : t < 4) {C : Cel} {m : Nat} {r : Option Nat} {bits size : Int32} (hx : Ext (gC σ) C) (hz : Siz C m) (hr : ∀ a, r = some a → gC σ a = none) (hs : She r C bits size (fun i => zL (gL τ 11) t 40 (40 * t + i))) : R (wR (wC σ C m) (57 + t) (updR (gR σ (57 + t)) 0 r)) (wL (wI (wI τ 9 (upd (gI τ 9) t bits)) 10 (upd (gI τ 10) t size)) 11 (zL (gL τ 11) t 40)) := by
  obtain ⟨a, b, c, d, e, f, g, i, j, k⟩ := h
  unfold R Kpt
  simp (disch := first | omega | decide) only [pI_w, pL_w, pR_w, pC_w, nC_w, gI_wI, gI_wIn, gI_wL, gI_wR, gI_wC, gL_wL, gL_wLn, gL_wI, gL_wR, gL_wC, gR_wR, gR_wRn, gR_wI, gR_wL, gR_wC, gC_wI, gC_wL, gC_wR, gC_wC, gN_wI, gN_wL, gN_wR, gN_wC, wI_wI, wL_wL, wR_wR, wC_wC, up_s, up_n]
  refine ⟨a, b.ext hx, ⟨c.1, ?_⟩, d, ⟨fun u hu => ?_, fun u u' ad hu hu' => ?_⟩, f, g, i, hz, k⟩
  · rcases c.2 with c2 | c2
    · exact Or.inl c2
    · exact Or.inr ⟨c2.1, c2.2.1.ext hx, c2.2.2⟩
  · rw [sh_0 _ hu]
    by_cases eu : u = t
    · subst eu
      rw [gR_wR, upR_s, up_s, up_s]
      exact hs
    · rw [gR_wRn _ _ (by omega), up_n eu, up_n eu]
      have q := e.1 u hu
      rw [sh_0 _ hu] at q
      refine (q.ext hx).c (fun i hi => ?_)
      show zL (gL τ 11) t 40 (40 * u + i) = gL τ 11 (40 * u + i)
      unfold zL
      rw [if_neg (by omega)]
  · rw [sh_0 _ hu, sh_0 _ hu']
    have hold : ∀ v ad, v < 4 → gR σ (57 + v) 0 = some ad → gC σ ad ≠ none := by
      intro v ad hv q z
      have q2 := e.1 v hv
      rw [sh_0 _ hv, q] at q2
      rcases q2 with q2 | ⟨c2, n, h1, h2, h3, h4⟩
      · exact absurd q2.1 (by simp)
      · cases h1
        rcases h4 with ⟨-, ff, h5, -⟩ | ⟨-, ff, h5, -⟩ | ⟨-, ff, h5, -⟩ <;> rw [z] at h5 <;> cases h5
    by_cases eu : u = t
    · by_cases eu' : u' = t
      · intro _ _; omega
      · subst eu
        rw [gR_wR, upR_s, gR_wRn _ _ (by omega)]
        intro z1 z2
        exact absurd (hr ad z1) (hold u' ad hu' z2)
    · by_cases eu' : u' = t
      · subst eu'
        rw [gR_wR, upR_s, gR_wRn _ _ (by omega)]
        intro z1 z2
        exact absurd (hr ad z2) (hold u ad hu z1)
      · rw [gR_wRn _ _ (by omega), gR_wRn _ _ (by omega)]
        intro z1 z2
        exact e.2 u u' ad hu hu' (by rw [sh_0 _ hu]; exact z1) (by rw [sh_0 _ hu']; exact z2)
theorem zL_in (nu : Nat → Int64) (t : Nat) {i : Nat} (h : i < 40) : zL nu t 40 (40 * t + i) = lN 0 := by unfold zL; rw [if_pos (by omega)]
theorem Siz.fresh {C : Cel} {n : Nat} (h : Siz C n) : C n = none := by
  cases q : C n with
  | none => rfl
  | some e => exact absurd (h.lt _ _ q) (Nat.lt_irrefl _)
set_option maxHeartbeats 4000000 in
theorem op_sheet {σ τ : Mem} (h : R σ τ) {N : Nat} (hN : 300000 ≤ N) (x y z : Int32) : Op σ τ (fX0_sheet N σ x y z) (fX5_sheet N τ x y z) := by
  have j : Siz (gC σ) (gN σ) := h.2.2.2.2.2.2.2.2.1
  unfold fX0_sheet fX5_sheet
  rw [isShM, shAt]
  cases hx : inP x 4 with
  | false =>
    simp (disch := first | omega | decide) only [lt_d, gbT, Option.bind_some, cT2_l, cT2_r, mO_n, mO_s, lit, litL, nb_t, nb_f, need_1, need_0, ix_n, inb_T, le_T, le_F, l_T, l_F, e_F, e_R, if_true, if_false, n_add, n_mul, n_sub, n_l, fM_1, fM_2, fM_3, fM_4, fM_6, fM_7, b_f, isC_e, fnd_e]
    exact ⟨cod 0, erX σ 0, erM τ 0, rfl, rfl, h.err (by decide)⟩
  | true =>
    obtain ⟨t, ht, rfl⟩ := inP_T (by decide) hx
    by_cases hbits : y = nI 0 ∨ y = nI 8 ∨ y = nI 16 ∨ y = nI 64
    · have eX : (if y = (0 : Int32) then (1 : Int32) else (if y = (8 : Int32) then (1 : Int32) else (if y = (16 : Int32) then (1 : Int32) else (if y = (64 : Int32) then (1 : Int32) else (0 : Int32))))) = nI 1 := by
        rcases hbits with rfl | rfl | rfl | rfl <;> rfl
      have eM : (if y = (0 : Int32) then (jX5_sheet_36 N τ (nI t) y z) else (if y = (8 : Int32) then (jX5_sheet_36 N τ (nI t) y z) else (if y = (16 : Int32) then (jX5_sheet_36 N τ (nI t) y z) else (if y = (64 : Int32) then (jX5_sheet_36 N τ (nI t) y z) else ((fX5_finds N τ (-1000000001 : Int32)).bind (fun q28 => some (q28.1, q28.2))))))) = jX5_sheet_36 N τ (nI t) y z := by
        rcases hbits with rfl | rfl | rfl | rfl <;> rfl
      rw [eX, nb_t, Option.bind_some, if_neg (show ¬ nI 1 = (0 : Int32) by decide), eM]
      unfold jX5_sheet_36
      rcases pk_ix z (n := 41) (by decide) with hz | hz | ⟨n, hn, rfl⟩
      · rw [if_pos hz, if_neg (show ¬ (0 : Int32) ≤ z from Int32.not_le.mpr hz)]
        simp (disch := first | omega | decide) only [lt_d, gbT, Option.bind_some, cT2_l, cT2_r, mO_n, mO_s, lit, litL, nb_t, nb_f, need_1, need_0, ix_n, inb_T, le_T, le_F, l_T, l_F, e_F, e_R, if_true, if_false, n_add, n_mul, n_sub, n_l, fM_1, fM_2, fM_3, fM_4, fM_6, fM_7, b_t, isC_e, fnd_e]
        exact ⟨cod 6, erX σ 6, erM τ 6, rfl, rfl, h.err (by decide)⟩
      · have h1 : ¬ z < (0 : Int32) := by intro q; exact absurd (Int32.lt_of_le_of_lt hz q) (by decide)
        have h2 : (40 : Int32) < z := Int32.lt_of_lt_of_le (show (40 : Int32) < nI 41 by decide) hz
        rw [if_neg h1, if_pos (show (0 : Int32) ≤ z from Int32.not_lt.mp h1), if_pos h2, if_neg (show ¬ z ≤ (40 : Int32) from Int32.not_le.mpr h2)]
        simp (disch := first | omega | decide) only [lt_d, gbT, Option.bind_some, cT2_l, cT2_r, mO_n, mO_s, lit, litL, nb_t, nb_f, need_1, need_0, ix_n, inb_T, le_T, le_F, l_T, l_F, e_F, e_R, if_true, if_false, n_add, n_mul, n_sub, n_l, fM_1, fM_2, fM_3, fM_4, fM_6, fM_7, b_t, isC_e, fnd_e]
        exact ⟨cod 0, erX σ 0, erM τ 0, rfl, rfl, h.err (by decide)⟩
      · have hm := madX (σ := σ) N (n := n) (by omega)
        rcases hbits with rfl | rfl | rfl | rfl
        · simp (disch := first | omega | decide) only [lt_d, gbT, Option.bind_some, cT2_l, cT2_r, mO_n, mO_s, lit, litL, nb_t, nb_f, need_1, need_0, ix_n, inb_T, le_T, le_F, l_T, l_F, e_F, e_R, if_true, if_false, n_add, n_mul, n_sub, n_l, fM_1, fM_2, fM_3, fM_4, fM_6, fM_7, pI_w, pL_w, pR_w, pC_w, nC_w, gI_wI, gI_wIn, gI_wL, gI_wR, gI_wC, gL_wL, gL_wLn, gL_wI, gL_wR, gL_wC, gR_wR, gR_wRn, gR_wI, gR_wL, gR_wC, gC_wI, gC_wL, gC_wR, gC_wC, gN_wI, gN_wL, gN_wR, gN_wC, wI_wI, wL_wL, wR_wR, wC_wC, up_s, up_n, b_t, hm.2.2.2, shLp hN ht]
          refine ⟨_, _, _, rfl, rfl, h.sheet ht (C := gC σ) (m := gN σ) (Ext.rf _) j (fun _ q => by cases q) (Or.inl ⟨rfl, rfl, rfl⟩)⟩
        · simp (disch := first | omega | decide) only [lt_d, gbT, Option.bind_some, cT2_l, cT2_r, mO_n, mO_s, lit, litL, nb_t, nb_f, need_1, need_0, ix_n, inb_T, le_T, le_F, l_T, l_F, e_F, e_R, if_true, if_false, n_add, n_mul, n_sub, n_l, fM_1, fM_2, fM_3, fM_4, fM_6, fM_7, pI_w, pL_w, pR_w, pC_w, nC_w, gI_wI, gI_wIn, gI_wL, gI_wR, gI_wC, gL_wL, gL_wLn, gL_wI, gL_wR, gL_wC, gR_wR, gR_wRn, gR_wI, gR_wL, gR_wC, gC_wI, gC_wL, gC_wR, gC_wC, gN_wI, gN_wL, gN_wR, gN_wC, wI_wI, wL_wL, wR_wR, wC_wC, up_s, up_n, b_t, hm.1, shLp hN ht]
          refine ⟨_, _, _, rfl, rfl, h.sheet ht (Ext.new j.lt _) (j.new _) (fun a q => by cases q; exact j.fresh) (Or.inr ⟨gN σ, n, rfl, by omega, rfl, Or.inl ⟨rfl, _, upC_s, fun i hi => ⟨rfl, zL_in _ _ (by omega)⟩⟩⟩)⟩
        · simp (disch := first | omega | decide) only [lt_d, gbT, Option.bind_some, cT2_l, cT2_r, mO_n, mO_s, lit, litL, nb_t, nb_f, need_1, need_0, ix_n, inb_T, le_T, le_F, l_T, l_F, e_F, e_R, if_true, if_false, n_add, n_mul, n_sub, n_l, fM_1, fM_2, fM_3, fM_4, fM_6, fM_7, pI_w, pL_w, pR_w, pC_w, nC_w, gI_wI, gI_wIn, gI_wL, gI_wR, gI_wC, gL_wL, gL_wLn, gL_wI, gL_wR, gL_wC, gR_wR, gR_wRn, gR_wI, gR_wL, gR_wC, gC_wI, gC_wL, gC_wR, gC_wC, gN_wI, gN_wL, gN_wR, gN_wC, wI_wI, wL_wL, wR_wR, wC_wC, up_s, up_n, b_t, hm.2.1, shLp hN ht]
          refine ⟨_, _, _, rfl, rfl, h.sheet ht (Ext.new j.lt _) (j.new _) (fun a q => by cases q; exact j.fresh) (Or.inr ⟨gN σ, n, rfl, by omega, rfl, Or.inr (Or.inl ⟨rfl, _, upC_s, fun i hi => ⟨rfl, zL_in _ _ (by omega)⟩⟩)⟩)⟩
        · simp (disch := first | omega | decide) only [lt_d, gbT, Option.bind_some, cT2_l, cT2_r, mO_n, mO_s, lit, litL, nb_t, nb_f, need_1, need_0, ix_n, inb_T, le_T, le_F, l_T, l_F, e_F, e_R, if_true, if_false, n_add, n_mul, n_sub, n_l, fM_1, fM_2, fM_3, fM_4, fM_6, fM_7, pI_w, pL_w, pR_w, pC_w, nC_w, gI_wI, gI_wIn, gI_wL, gI_wR, gI_wC, gL_wL, gL_wLn, gL_wI, gL_wR, gL_wC, gR_wR, gR_wRn, gR_wI, gR_wL, gR_wC, gC_wI, gC_wL, gC_wR, gC_wC, gN_wI, gN_wL, gN_wR, gN_wC, wI_wI, wL_wL, wR_wR, wC_wC, up_s, up_n, b_t, hm.2.2.1, shLp hN ht]
          refine ⟨_, _, _, rfl, rfl, h.sheet ht (Ext.new j.lt _) (j.new _) (fun a q => by cases q; exact j.fresh) (Or.inr ⟨gN σ, n, rfl, by omega, rfl, Or.inr (Or.inr ⟨rfl, _, upC_s, fun i hi => zL_in _ _ (by omega)⟩)⟩)⟩
    · have ne0 : ¬ y = (0 : Int32) := fun q => hbits (Or.inl q)
      have ne8 : ¬ y = (8 : Int32) := fun q => hbits (Or.inr (Or.inl q))
      have ne16 : ¬ y = (16 : Int32) := fun q => hbits (Or.inr (Or.inr (Or.inl q)))
      have ne64 : ¬ y = (64 : Int32) := fun q => hbits (Or.inr (Or.inr (Or.inr q)))
      simp only [if_neg ne0, if_neg ne8, if_neg ne16, if_neg ne64]
      simp (disch := first | omega | decide) only [lt_d, gbT, Option.bind_some, cT2_l, cT2_r, mO_n, mO_s, lit, litL, nb_t, nb_f, need_1, need_0, ix_n, inb_T, le_T, le_F, l_T, l_F, e_F, e_R, if_true, if_false, n_add, n_mul, n_sub, n_l, fM_1, fM_2, fM_3, fM_4, fM_6, fM_7, b_t, isC_e, fnd_e]
      exact ⟨cod 0, erX σ 0, erM τ 0, rfl, rfl, h.err (by decide)⟩
