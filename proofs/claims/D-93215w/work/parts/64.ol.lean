/-! A WEEK IS PLAYED: joined -/
set_option maxRecDepth 100000
theorem cl_n (z : Int64) : ∃ n, n ≤ 99999999 ∧ (clV z).toInt32 = nI n := by
  have h : (0 : Int64) ≤ clV z ∧ clV z ≤ (99999999 : Int64) := by
    unfold clV
    by_cases h1 : (0 : Int64) ≤ z
    · rw [if_pos h1]
      by_cases h2 : z ≤ (99999999 : Int64)
      · rw [if_pos h2]; exact ⟨h1, h2⟩
      · rw [if_neg h2]; exact ⟨by decide, by decide⟩
    · rw [if_neg h1]; exact ⟨by decide, by decide⟩
  generalize clV z = c at h
  rw [Int64.le_iff_toInt_le, Int64.le_iff_toInt_le, show (0 : Int64).toInt = 0 from rfl, show (99999999 : Int64).toInt = 99999999 from rfl] at h
  refine ⟨c.toInt.toNat, by omega, ?_⟩
  have e : c = lN c.toInt.toNat := by
    apply Int64.toInt_inj.mp
    rw [lN_tI (by omega)]; omega
  rw [e, lN_i, ← e]
/-- the reference's state after the week -/
def pyM (s : Nat → Int32) (P : Int64) (m w : Nat) : Nat → Int32 := upd (upd (upd (bkM s P m (104 + 8 * w) s) 17 (clV (lfV s P m)).toInt32) (104 + 8 * w + 7) (clV (lfV s P m)).toInt32) 1 (nI (w + 1))
theorem pyM_o (s : Nat → Int32) (P : Int64) (m w : Nat) {i : Nat} (h1 : i ≠ 1) (h17 : i ≠ 17) (h : i < 104 + 8 * w ∨ 104 + 8 * w + 8 ≤ i) : pyM s P m w i = s i := by
  unfold pyM bkM
  rw [up_n (by omega), up_n (by omega), up_n (by omega), up_n (by omega), up_n (by omega), up_n (by omega), up_n (by omega), up_n (by omega), up_n (by omega), up_n (by omega)]
theorem pyM_b (s : Nat → Int32) (P : Int64) (m w : Nat) : pyM s P m w (104 + 8 * w) = nI m ∧ pyM s P m w (104 + 8 * w + 1) = nI (wdP s m 4 495) ∧ pyM s P m w (104 + 8 * w + 2) = nI (wdP s m 3 495) ∧ pyM s P m w (104 + 8 * w + 3) = nI (wdP s m 2 495) ∧ pyM s P m w (104 + 8 * w + 4) = (prV s P m 4).toInt32 ∧ pyM s P m w (104 + 8 * w + 5) = (prV s P m 3).toInt32 ∧ pyM s P m w (104 + 8 * w + 6) = (prV s P m 2).toInt32 ∧ pyM s P m w (104 + 8 * w + 7) = (clV (lfV s P m)).toInt32 ∧ pyM s P m w 17 = (clV (lfV s P m)).toInt32 ∧ pyM s P m w 1 = nI (w + 1) := by
  unfold pyM bkM
  refine ⟨?_, ?_, ?_, ?_, ?_, ?_, ?_, ?_, ?_, ?_⟩ <;> (simp only [upd_or]; repeat (first | rfl | rw [if_pos (by omega)] | rw [if_neg (by omega)]))
theorem play {σ τ : Mem} (h : R σ τ) {N : Nat} (hN : 300000 ≤ N) {m w : Nat} (hw : w < 40) (h1 : gI τ 1 1 = nI w) : ∃ c σ' τ', fX0_plays N σ (nI m) = some (c, σ') ∧ fX5_goes N τ (nI m) = some ((), τ') ∧ R σ' τ' ∧ gI τ' 1 1 = nI (w + 1) ∧ gI τ' 1 (104 + 8 * w + 1) = c := by
  obtain ⟨σ', x1, x2, x3, x4, x5⟩ := crossX h hN
  obtain ⟨τ1, m1, m2, m3, m4, -⟩ := workM x3 hN
  obtain ⟨τ2, p1, p2, p3, p4⟩ := potM m3 hN (gI τ1 1 17)
  rw [m4] at p1 p4
  have hB := tot_le h
  have y3 := p3
  obtain ⟨a, ⟨p, w', b, hn, hru, hg, hap, hl, hh, hb⟩, c, d, e, f, g, i, j, k⟩ := y3
  rw [p4] at hn hru hg hl hh hb
  obtain ⟨n1, n2, n3, n4, n5, n6, n7, n8, n9, n10⟩ := hn
  have ew : w' = w := (nI_eq (by omega) (by omega)).mp (n7.symm.trans h1)
  subst ew
  have r7 : gI σ' 2 7 = gI τ 1 17 := (hru 7 (by omega)).1
  generalize hP : potV (gI τ 1) (gI τ 1 17).toInt64 = P at p1
  have hcr2 : ∀ r, r < 495 → gI τ2 13 r = nI (crN (gI τ 1) r) := by rw [← p4]; exact p2.2.2.1
  have gX := goX (σ := σ') (N := N) hN a.1 x2.2.2.1 hru hB (m := m) hw n6 P (wI σ' 20 (upd (gI σ' 20) w' (nI m)))
  have gM := goM (τ := τ2) (N := N) (s := gI τ 1) hN a.2.1 a.2.2.2.1 hcr2 p4 hB (m := m) hw n7 P (wI τ2 1 (upd (gI τ 1) (104 + 8 * w') (nI m)))
  refine ⟨nI (wdP (gI τ 1) m 4 495), plX σ' (gI τ 1) P m w', wI (wI τ2 1 (pyM (gI τ 1) P m w')) 0 (upd (upd (gI τ2 0) 18 (nI 1)) 19 (nI 1)), ?_, ?_, ?_, (pyM_b (gI τ 1) P m w').2.2.2.2.2.2.2.2.2, (pyM_b (gI τ 1) P m w').2.1⟩
  · unfold fX0_plays
    rw [x1, Option.bind_some, lt_d, n6, potX x3 x2, r7, hP, Option.bind_some, inb_T hw (by decide), gbT, lt_d, ix_n (by omega), pI_w]
    exact gX
  · unfold fX5_goes
    rw [m1, Option.bind_some, m4, p1, Option.bind_some, lt_d, p4, n7, show (104 : Int32) = nI 104 from rfl, show (8 : Int32) = nI 8 from rfl, n_mul, n_add, inb_T (by omega : 104 + 8 * w' < 919) (by decide), gbT, lt_d, ix_n (by omega), pI_w, p4]
    exact gM
  · obtain ⟨b0, b1, b2, b3, b4, b5, b6, b7, b17, bw⟩ := pyM_b (gI τ 1) P m w'
    have o := fun {i : Nat} => pyM_o (gI τ 1) P m w' (i := i)
    have hu : ∀ q, q ≠ 18 → q ≠ 19 → upd (upd (gI τ2 0) 18 (nI 1)) 19 (nI 1) q = gI τ2 0 q := fun q h1 h2 => by rw [up_n h2, up_n h1]
    refine ⟨a, ⟨p, w' + 1, b, ⟨n1, by omega, n3, n4, (o (by decide) (by decide) (by omega)).trans n5, up_s (f := gI σ' 1) (k := 1) (x := nI (w' + 1)), bw, n8, (o (by decide) (by decide) (by omega)).trans n9, n10.trans (o (by decide) (by decide) (by omega)).symm⟩, ?_, ?_, hap, ?_, ?_, ?_⟩, ⟨c.1.trans (hu 2 (by decide) (by decide)).symm, ?_⟩, ?_, e, f, Or.inl rfl, ?_, j, (hu 16 (by decide) (by decide)).trans k⟩
    · intro q hq
      show upd (gI σ' 2) 7 (clV (lfV (gI τ 1) P m)).toInt32 q = pyM (gI τ 1) P m w' (10 + q) ∧ ∃ n, n ≤ hiR q ∧ pyM (gI τ 1) P m w' (10 + q) = nI n
      by_cases e7 : q = 7
      · subst e7
        rw [up_s]
        obtain ⟨n, hn1, hn2⟩ := cl_n (lfV (gI τ 1) P m)
        exact ⟨b17.symm, n, hn1, b17.trans hn2⟩
      · rw [up_n e7, o (by omega) (by omega) (by omega)]; exact hru q hq
    · intro q hq
      show ∃ a k m_1, _ ∧ _ ∧ _ ∧ _ ∧ pyM (gI τ 1) P m w' (20 + q) = nI k ∧ pyM (gI τ 1) P m w' (32 + q) = nI m_1
      rw [o (by omega) (by omega) (by omega), o (by omega) (by omega) (by omega)]; exact hg q hq
    · show Lik _ _ (pyM (gI τ 1) P m w')
      unfold Lik at hl ⊢
      rw [o (by decide) (by decide) (by omega), o (by decide) (by decide) (by omega)]
      rcases hl with q | ⟨h1, a, z, h2, h3, h4, h5⟩
      · exact Or.inl q
      · refine Or.inr ⟨h1, a, z, h2, h3, h4, ?_⟩
        rw [whole_c (b := byS (gI τ 1)) (b' := byS (pyM (gI τ 1) P m w')) (fun k hk => o (i := 44 + k) (by omega) (by omega) (by omega))]
        exact h5
    · obtain ⟨pl, mn, q1, q2, q3⟩ := hh
      refine ⟨pl, mn, fun k hk => ?_, q2, fun r hr q => ?_⟩
      · show _ ∧ _ ∧ _ ∧ _ ∧ _ ∧ pyM (gI τ 1) P m w' (424 + pl k) = nI (mn k)
        rw [o (by omega) (by omega) (by omega)]; exact q1 k hk
      · show pyM (gI τ 1) P m w' (424 + r) = nI 0
        rw [o (by omega) (by omega) (by omega)]; exact q3 r hr q
    · intro v hv
      have hc2 := wdP_le (gI τ 1) m 2 (Nat.le_refl 495)
      by_cases ev : v = w'
      · subst ev
        refine ⟨fun k hk => ?_, wdP (gI τ 1) m 2 495, by omega, up_s (f := gI σ' 23) (k := v) (x := nI (wdP (gI τ 1) m 2 495))⟩
        have h8 : k = 0 ∨ k = 1 ∨ k = 2 ∨ k = 3 ∨ k = 4 ∨ k = 5 ∨ k = 6 ∨ k = 7 := by omega
        rcases h8 with rfl | rfl | rfl | rfl | rfl | rfl | rfl | rfl
        · exact (up_s (f := gI σ' 20) (k := v) (x := nI m)).trans b0.symm
        · exact (up_s (f := gI σ' 21) (k := v) (x := nI (wdP (gI τ 1) m 4 495))).trans b1.symm
        · exact (up_s (f := gI σ' 22) (k := v) (x := nI (wdP (gI τ 1) m 3 495))).trans b2.symm
        · exact (up_s (f := gI σ' 23) (k := v) (x := nI (wdP (gI τ 1) m 2 495))).trans b3.symm
        · exact (up_s (f := gI σ' 24) (k := v) (x := (prV (gI τ 1) P m 4).toInt32)).trans b4.symm
        · exact (up_s (f := gI σ' 25) (k := v) (x := (prV (gI τ 1) P m 3).toInt32)).trans b5.symm
        · exact (up_s (f := gI σ' 26) (k := v) (x := (prV (gI τ 1) P m 2).toInt32)).trans b6.symm
        · exact (up_s (f := gI σ' 27) (k := v) (x := (clV (lfV (gI τ 1) P m)).toInt32)).trans b7.symm
      · obtain ⟨q1, n, q2, q3⟩ := hb v (by omega)
        refine ⟨fun k hk => ?_, n, q2, (up_n ev).trans q3⟩
        have q1' := q1 k hk
        rw [show gI (wI (wI τ2 1 (pyM (gI τ 1) P m w')) 0 (upd (upd (gI τ2 0) 18 (nI 1)) 19 (nI 1))) 1 = pyM (gI τ 1) P m w' from rfl, o (by omega) (by omega) (by omega), ← q1']
        have h8 : k = 0 ∨ k = 1 ∨ k = 2 ∨ k = 3 ∨ k = 4 ∨ k = 5 ∨ k = 6 ∨ k = 7 := by omega
        rcases h8 with rfl | rfl | rfl | rfl | rfl | rfl | rfl | rfl <;> exact up_n ev
    · rcases c.2 with c2 | ⟨c2, c3⟩
      · exact Or.inl ((hu 2 (by decide) (by decide)).trans c2)
      · exact Or.inr ⟨(hu 2 (by decide) (by decide)).trans c2, c3⟩
    · obtain ⟨t, t1, t2, t3, t4⟩ := d
      exact ⟨t, t1, t2, (hu 9 (by decide) (by decide)).trans t3, t4⟩
    · have e18 : upd (upd (gI τ2 0) 18 (nI 1)) 19 (nI 1) 18 = nI 1 := by rw [up_n (by decide), up_s]
      have e19 : upd (upd (gI τ2 0) 18 (nI 1)) 19 (nI 1) 19 = nI 1 := up_s
      exact ⟨Or.inr e18, Or.inr e19, fun z => absurd (e19.symm.trans z) ne_01, fun z => absurd (e18.symm.trans z) ne_01⟩
