/-! WHAT IS CROSSED: the reference, two -/
set_option maxRecDepth 100000
theorem SM_w (τ : Mem) (F f12 f0 : Nat → Int32) (a o : Nat) (b : Bool) : SM (wI (wI τ 0 F) 12 f12) f0 a o b = wI (wI τ 0 (pst f0 a o b)) 12 f12 := by
  unfold SM
  rw [wI_sw _ _ _ (by decide : 12 ≠ 0), wI_wI]
theorem pst_o {f0 : Nat → Int32} {a o : Nat} {b : Bool} {i : Nat} (h13 : i ≠ 13) (h14 : i ≠ 14) (h15 : i ≠ 15) : pst f0 a o b i = f0 i := by simp [pst, h13, h14, h15]
theorem wrk20 {τ : Mem} {N p w b z : Nat} {G : Nat → Option Nat} {C : Cel} (hN : 300000 ≤ N) (hT : TbM τ) (hw : w ≤ 40) (h1 : gI τ 1 1 = nI w) (h16 : gI τ 0 16 = nI 0) (hl : gI τ 1 3 = nI 0 ∨ (gI τ 1 3 = nI 1 ∧ z ≤ 60 ∧ gI τ 1 4 = nI z ∧ (whole (byS (gI τ 1)) z).1 = true)) (h19 : gI τ 0 19 = nI 1 ∨ (gI τ 0 19 = nI 0 ∧ ∀ r, r < 495 → gI τ 12 r = nI (sayN (gI τ 1) r))) :
    ∃ F f12, lp (bX5_works_20 N τ) N (τ, (0 : Int32)) = lp (bX5_works_98 N (wI (wI τ 0 F) 12 f12)) N (wI (wI τ 0 F) 12 f12, (0 : Int32)) ∧ F 19 = nI 0 ∧ F 24 = nI 0 ∧ (∀ i, i ≠ 13 → i ≠ 14 → i ≠ 15 → i ≠ 17 → i ≠ 19 → i ≠ 24 → F i = gI τ 0 i) ∧ ∀ r, r < 495 → f12 r = nI (sayN (gI τ 1) r) := by
  rcases h19 with h19 | ⟨h19, hs⟩
  · refine lp_inv (N := N) (b := bX5_works_20 N τ) (Q := fun L => ∃ F f12, L = lp (bX5_works_98 N (wI (wI τ 0 F) 12 f12)) N (wI (wI τ 0 F) 12 f12, (0 : Int32)) ∧ F 19 = nI 0 ∧ F 24 = nI 0 ∧ (∀ i, i ≠ 13 → i ≠ 14 → i ≠ 15 → i ≠ 17 → i ≠ 19 → i ≠ 24 → F i = gI τ 0 i) ∧ ∀ r, r < 495 → f12 r = nI (sayN (gI τ 1) r)) (P := fun k y => ∃ F, y = (wI (wI τ 0 F) 12 (fil (fun r => nI (sayN (gI τ 1) r)) (gI τ 12) k), nI k) ∧ ∀ i, i ≠ 13 → i ≠ 14 → i ≠ 15 → i ≠ 17 → F i = gI τ 0 i) 495 (by omega) ?_ ?_ (τ, (0 : Int32)) ⟨gI τ 0, by
        rw [fil_0, wI_id, wI_id]; rfl, fun i _ _ _ _ => rfl⟩
    · rintro k _ hk ⟨F, rfl, hF⟩
      have e19 : gI (wI (wI τ 0 F) 12 (fil (fun r => nI (sayN (gI τ 1) r)) (gI τ 12) k)) 0 19 = nI 1 := (hF 19 (by decide) (by decide) (by decide) (by decide)).trans h19
      have e16 : gI (wI (wI τ 0 F) 12 (fil (fun r => nI (sayN (gI τ 1) r)) (gI τ 12) k)) 0 16 = nI 0 := (hF 16 (by decide) (by decide) (by decide) (by decide)).trans h16
      have hlt : ¬ (495 : Int32) ≤ nI k := nI_ge (a := k) (b := 495) hk (by decide)
      rcases hl with l0 | ⟨l0, l1, l2, l3⟩
      · have hsay : sayN (gI τ 1) k = 1 := by unfold sayN; rw [if_pos l0]
        refine ⟨(wI (wI τ 0 F) 12 (fil (fun r => nI (sayN (gI τ 1) r)) (gI τ 12) (k + 1)), nI (k + 1)), ⟨F, rfl, hF⟩, fun rec => ?_⟩
        unfold bX5_works_20
        rw [if_neg hlt, e19, if_neg ne1, show gI (wI (wI τ 0 F) 12 (fil (fun r => nI (sayN (gI τ 1) r)) (gI τ 12) k)) 1 3 = nI 0 from l0, if_neg (show ¬ nI 0 = (1 : Int32) by decide)]
        unfold jX5_works_53
        rw [inb_T hk (by decide), gbT, lt_d, clv, pI_w, wI_wI, ix_n (by omega), show nI k + (1 : Int32) = nI (k + 1) from nI_1 k]
        show rec (wI (wI τ 0 F) 12 (upd (fil (fun r => nI (sayN (gI τ 1) r)) (gI τ 12) k) k (nI (clN 1))), nI (k + 1)) = _
        rw [fil_s (by rw [hsay]; rfl)]
      · obtain ⟨hrd, hend⟩ := rdK (τ := wI (wI τ 0 F) 12 (fil (fun r => nI (sayN (gI τ 1) r)) (gI τ 12) k)) (N := N) (r := k) hw h1 hk hT.1 hT.2.1 hT.2.2 e16 l1 l2
        obtain ⟨x, e1, e2⟩ := saysM hrd hN hend
        have hx : x = (whole (byS (gI τ 1)) z).2.2 (nmV (gI τ 1) k) := e2 l3
        have hsay : sayN (gI τ 1) k = clN x := by
          unfold sayN
          rw [if_neg (by rw [l0]; exact ne_01), l2, ix_n (by omega), hx]
        rw [SM_w] at e1
        refine ⟨(wI (wI τ 0 (pst (upd (gI (wI (wI τ 0 F) 12 (fil (fun r => nI (sayN (gI τ 1) r)) (gI τ 12) k)) 0) 17 (nI k)) (whole (byS (gI τ 1)) z).2.1 0 (!(whole (byS (gI τ 1)) z).1))) 12 (fil (fun r => nI (sayN (gI τ 1) r)) (gI τ 12) (k + 1)), nI (k + 1)), ⟨_, rfl, fun i a1 a2 a3 a4 => ?_⟩, fun rec => ?_⟩
        · rw [pst_o a1 a2 a3, up_n a4]
          exact hF i a1 a2 a3 a4
        · unfold bX5_works_20
          rw [if_neg hlt, e19, if_neg ne1, show gI (wI (wI τ 0 F) 12 (fil (fun r => nI (sayN (gI τ 1) r)) (gI τ 12) k)) 1 3 = nI 1 from l0, if_pos (show nI 1 = (1 : Int32) from rfl)]
          have e1' : fX5_says N (wI (wI τ 0 F) 12 (fil (fun r => nI (sayN (gI τ 1) r)) (gI τ 12) k)) (nI k) = _ := e1
          rw [e1', Option.bind_some]
          unfold jX5_works_53
          rw [inb_T hk (by decide), gbT, lt_d, clv, pI_w, wI_wI, ix_n (by omega), show nI k + (1 : Int32) = nI (k + 1) from nI_1 k]
          show rec (wI (wI τ 0 _) 12 (upd (fil (fun r => nI (sayN (gI τ 1) r)) (gI τ 12) k) k (nI (clN x))), nI (k + 1)) = _
          rw [fil_s (by rw [hsay])]
          rfl
    · rintro _ ⟨F, rfl, hF⟩ rec
      refine ⟨upd (upd F 19 (nI 0)) 24 (nI 0), fil (fun r => nI (sayN (gI τ 1) r)) (gI τ 12) 495, ?_, rfl, rfl, fun i a1 a2 a3 a4 a5 a6 => ?_, fun r hr => fil_in hr⟩
      · unfold bX5_works_20
        rw [if_pos (show (495 : Int32) ≤ nI 495 by decide), lt_d, lt_d]
        have : pI (pI (wI (wI τ 0 F) 12 (fil (fun r => nI (sayN (gI τ 1) r)) (gI τ 12) 495)) 0 19 (0 : Int32)) 0 24 (0 : Int32) = wI (wI τ 0 (upd (upd F 19 (nI 0)) 24 (nI 0))) 12 (fil (fun r => nI (sayN (gI τ 1) r)) (gI τ 12) 495) := by
          rw [pI_w, pI_w, wI_wI, wI_sw _ _ _ (by decide : 12 ≠ 0), wI_wI]
          rfl
        rw [this]
      · rw [up_n a6, up_n a5]
        exact hF i a1 a2 a3 a4
  · obtain ⟨M, hM⟩ : ∃ M, N = M + 1 := ⟨N - 1, by omega⟩
    have hb : ∀ rec, bX5_works_20 N τ rec (τ, (0 : Int32)) = lp (bX5_works_98 N (wI (wI τ 0 (upd (upd (gI τ 0) 19 (nI 0)) 24 (nI 0))) 12 (gI τ 12))) N (wI (wI τ 0 (upd (upd (gI τ 0) 19 (nI 0)) 24 (nI 0))) 12 (gI τ 12), (0 : Int32)) := by
      intro rec
      unfold bX5_works_20
      have : pI (pI τ 0 19 (0 : Int32)) 0 24 (0 : Int32) = wI (wI τ 0 (upd (upd (gI τ 0) 19 (nI 0)) 24 (nI 0))) 12 (gI τ 12) := by
        have e12 : gI τ 12 = gI (wI τ 0 (upd (upd (gI τ 0) 19 (nI 0)) 24 (nI 0))) 12 := rfl
        rw [pI_w, pI_w, wI_wI, gI_wI, e12, wI_id]
        rfl
      rw [if_neg (show ¬ (495 : Int32) ≤ 0 by decide), h19, if_pos (show nI 0 = (0 : Int32) from rfl), lt_d, lt_d, this]
    refine ⟨upd (upd (gI τ 0) 19 (nI 0)) 24 (nI 0), gI τ 12, ?_, rfl, rfl, fun i a1 a2 a3 a4 a5 a6 => ?_, hs⟩
    · generalize bX5_works_20 N τ = bb at hb
      rw [hM]
      rw [hM] at hb
      exact hb _
    · rw [up_n a6, up_n a5]
set_option maxHeartbeats 4000000 in
theorem workM {σ τ : Mem} (h : R σ τ) {N : Nat} (hN : 300000 ≤ N) : ∃ τ', fX5_works N τ = some ((), τ') ∧ MF τ' ∧ R σ τ' ∧ gI τ' 1 = gI τ 1 ∧ gI τ' 5 = gI τ 5 := by
  have h' := h
  obtain ⟨a, ⟨p, w, b, hn, hru, hg, hap, hl, hh, hb⟩, c, d, e, f, g, i, j, k⟩ := h'
  have hn' := hn
  obtain ⟨n1, n2, n3, n4, n5, n6, n7, n8, n9, n10⟩ := hn'
  obtain ⟨i1, i2, i3, i4⟩ := i
  unfold fX5_works
  rcases i1 with i1 | i1
  · obtain ⟨j1, j2, j3, j4, j5⟩ := i4 i1
    rw [if_pos (show gI τ 0 18 = (0 : Int32) from i1)]
    exact ⟨τ, rfl, ⟨i1, i3 j1, j2, j3, j4⟩, h, rfl, rfl⟩
  · rw [if_neg (show ¬ gI τ 0 18 = (0 : Int32) from by rw [i1]; exact ne1), lt_d, lt_d, pI_w, pI_w, wI_wI, gI_wI]
    have hl' : ∃ z, gI τ 1 3 = nI 0 ∨ (gI τ 1 3 = nI 1 ∧ z ≤ 60 ∧ gI τ 1 4 = nI z ∧ (whole (byS (gI τ 1)) z).1 = true) := by
      rcases hl with hl | ⟨l1, ad, z, l2, l3, l4, l5, l6⟩
      · exact ⟨0, Or.inl hl.1⟩
      · exact ⟨z, Or.inr ⟨l1, l3, l4, l5⟩⟩
    obtain ⟨z, hl'⟩ := hl'
    have h19 : gI (wI τ 0 (upd (upd (gI τ 0) 18 (0 : Int32)) 20 (1 : Int32))) 0 19 = nI 1 ∨ (gI (wI τ 0 (upd (upd (gI τ 0) 18 (0 : Int32)) 20 (1 : Int32))) 0 19 = nI 0 ∧ ∀ r, r < 495 → gI τ 12 r = nI (sayN (gI τ 1) r)) := by
      rcases i2 with i2 | i2
      · exact Or.inr ⟨i2, i3 i2⟩
      · exact Or.inl i2
    obtain ⟨F, f12, w1, w2, w3, w4, w5⟩ := wrk20 (τ := wI τ 0 (upd (upd (gI τ 0) 18 (0 : Int32)) 20 (1 : Int32))) (p := p) (b := b) (G := fun _ => none) (C := fun _ => none) hN a.m n2 n7 k hl' h19
    have hhn : ∀ r, r < 495 → ix (gI τ 1 (424 + r)) ≤ 99999 ∧ gI τ 1 (424 + r) = nI (ix (gI τ 1 (424 + r))) := by
      intro r hr
      have hle := hh.le hr
      obtain ⟨pl, mn, h1, h2, h3⟩ := hh
      have q := Hnd.fb h1 h2 h3 hr
      refine ⟨hle, ?_⟩
      rw [q.1, ix_n (by omega)]
    obtain ⟨f13, f14, w6, w7, w8⟩ := wrk98 (τ := wI (wI (wI τ 0 (upd (upd (gI τ 0) 18 (0 : Int32)) 20 (1 : Int32))) 0 F) 12 f12) (b := b) hN a.m n2 n1 n5 n7 hg hhn w5 w3
    have hF : ∀ q, q ≠ 13 → q ≠ 14 → q ≠ 15 → q ≠ 17 → q ≠ 19 → q ≠ 24 → q ≠ 18 → q ≠ 20 → F q = gI τ 0 q := by
      intro q a1 a2 a3 a4 a5 a6 a7 a8
      rw [w4 q a1 a2 a3 a4 a5 a6]
      show upd (upd (gI τ 0) 18 _) 20 _ q = _
      rw [up_n a8, up_n a7]
    have hF18 : F 18 = nI 0 := w4 18 (by decide) (by decide) (by decide) (by decide) (by decide) (by decide)
    have hF20 : F 20 = nI 1 := w4 20 (by decide) (by decide) (by decide) (by decide) (by decide) (by decide)
    have hF2 : F 2 = gI τ 0 2 := hF 2 (by decide) (by decide) (by decide) (by decide) (by decide) (by decide) (by decide) (by decide)
    have hF9 : F 9 = gI τ 0 9 := hF 9 (by decide) (by decide) (by decide) (by decide) (by decide) (by decide) (by decide) (by decide)
    have hF16 : F 16 = gI τ 0 16 := hF 16 (by decide) (by decide) (by decide) (by decide) (by decide) (by decide) (by decide) (by decide)
    have e0 : ix (gI τ 1 0) = p := by rw [n5, ix_n (by omega)]
    refine ⟨_, w1.trans w6, ⟨hF18, w5, w7, fun q hq => w8 q (by rw [← e0]; exact hq), rfl⟩, ?_, rfl, rfl⟩
    refine ⟨a, ⟨p, w, b, hn, hru, hg, hap, hl, hh, hb⟩, ⟨c.1.trans hF2.symm, ?_⟩, ?_, e, f, g, ⟨Or.inl hF18, Or.inl w2, fun _ => w5, fun _ => ⟨w2, w7, fun q hq => w8 q (by rw [← e0]; exact hq), rfl, Or.inr hF20, fun z => absurd (z.symm.trans hF20).symm ne_01⟩⟩, j, hF16.trans k⟩
    · rcases c.2 with c2 | c2
      · exact Or.inl (hF2.trans c2)
      · exact Or.inr ⟨hF2.trans c2.1, c2.2⟩
    · obtain ⟨t, t1, t2, t3, t4⟩ := d
      exact ⟨t, t1, t2, hF9.trans t3, t4⟩
