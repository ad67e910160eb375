/-! TABLES: rows, bits, what is so of a row -/
set_option maxRecDepth 100000
theorem all_of {N : Nat} {p : Nat → Bool} (h : (List.range N).all p = true) {i : Nat} (hi : i < N) : p i = true := List.all_eq_true.mp h i (List.mem_range.mpr hi)
def pcn (s : Nat) : Nat := s % 2 + s / 2 % 2 + s / 4 % 2 + s / 8 % 2 + s / 16 % 2 + s / 32 % 2 + s / 64 % 2 + s / 128 % 2 + s / 256 % 2 + s / 512 % 2 + s / 1024 % 2 + s / 2048 % 2
def rowP (m : Nat) : List Nat := (List.range m).filter (fun s => pcn s == 4)
def rowT (k : Nat) : Nat := (rowP 4096).getD k 0
def cnt (m : Nat) : Nat := (rowP m).length
theorem cnt_end : cnt 4096 = 495 := by decide +kernel
theorem rowP_s (m : Nat) : rowP (m + 1) = rowP m ++ (if pcn m = 4 then [m] else []) := by
  unfold rowP
  rw [List.range_succ, List.filter_append]
  congr 1
  by_cases h : pcn m = 4 <;> simp [h]
theorem cnt_y {m : Nat} (h : pcn m = 4) : cnt (m + 1) = cnt m + 1 := by unfold cnt; rw [rowP_s, if_pos h, List.length_append]; rfl
theorem cnt_n {m : Nat} (h : ¬ pcn m = 4) : cnt (m + 1) = cnt m := by unfold cnt; rw [rowP_s, if_neg h, List.append_nil]
theorem cnt_mono {m n : Nat} (h : m ≤ n) : cnt m ≤ cnt n := by
  induction n with
  | zero => have : m = 0 := by omega
            subst this; exact Nat.le_refl _
  | succ n ih =>
    by_cases e : m = n + 1
    · subst e; exact Nat.le_refl _
    · have h1 := ih (by omega)
      by_cases hp : pcn n = 4
      · rw [cnt_y hp]; omega
      · rw [cnt_n hp]; exact h1
theorem cnt_0 : cnt 0 = 0 := rfl
theorem rowP_pre (m d : Nat) : ∃ l, rowP (m + d) = rowP m ++ l := by
  induction d with
  | zero => exact ⟨[], by simp⟩
  | succ d ih =>
    obtain ⟨l, h⟩ := ih
    exact ⟨l ++ (if pcn (m + d) = 4 then [m + d] else []), by rw [← Nat.add_assoc, rowP_s, h, List.append_assoc]⟩
theorem rowT_cnt {s : Nat} (hs : s < 4096) (hp : pcn s = 4) : rowT (cnt s) = s := by
  obtain ⟨l, h⟩ := rowP_pre (s + 1) (4096 - (s + 1))
  have e : s + 1 + (4096 - (s + 1)) = 4096 := by omega
  rw [e, rowP_s s, if_pos hp] at h
  unfold rowT cnt
  rw [h, List.append_assoc, List.getD_eq_getElem?_getD, List.getElem?_append_right (Nat.le_refl _)]
  simp
theorem cnt_lt {s : Nat} (hs : s < 4096) (hp : pcn s = 4) : cnt s < 495 := by
  have h1 := cnt_mono (m := s + 1) (n := 4096) (by omega)
  rw [cnt_y hp, cnt_end] at h1
  omega
theorem rowT_mem {k : Nat} (hk : k < 495) : rowT k ∈ rowP 4096 := by
  have hl : k < (rowP 4096).length := by show k < cnt 4096; rw [cnt_end]; exact hk
  unfold rowT
  rw [List.getD_eq_getElem?_getD, List.getElem?_eq_getElem hl]
  exact List.getElem_mem hl
theorem rowT_lt {k : Nat} (hk : k < 495) : rowT k < 4096 := by
  have h := rowT_mem hk
  unfold rowP at h
  exact List.mem_range.mp (List.mem_filter.mp h).1
theorem rowT_pc {k : Nat} (hk : k < 495) : pcn (rowT k) = 4 := by
  have h := rowT_mem hk
  unfold rowP at h
  simpa using (List.mem_filter.mp h).2
theorem rowT_mono {j k : Nat} (h : j < k) (hk : k < 495) : rowT j < rowT k := by
  have hp : (rowP 4096).Pairwise (· < ·) := List.Pairwise.filter _ List.pairwise_lt_range
  have hl : k < (rowP 4096).length := by show k < cnt 4096; rw [cnt_end]; exact hk
  have := List.pairwise_iff_getElem.mp hp j k (by omega) hl h
  unfold rowT
  rw [List.getD_eq_getElem?_getD, List.getD_eq_getElem?_getD, List.getElem?_eq_getElem hl, List.getElem?_eq_getElem (by omega : j < (rowP 4096).length)]
  exact this
theorem rowT_inj {j k : Nat} (hj : j < 495) (hk : k < 495) (h : rowT j = rowT k) : j = k := by
  rcases Nat.lt_trichotomy j k with q | q | q
  · have := rowT_mono q hk; omega
  · exact q
  · have := rowT_mono q hj; omega
/-- the number of a row -/
theorem cnt_rowT {k : Nat} (hk : k < 495) : cnt (rowT k) = k :=
  rowT_inj (cnt_lt (rowT_lt hk) (rowT_pc hk)) hk (rowT_cnt (rowT_lt hk) (rowT_pc hk))
/-! bits -/
theorem and_l (r : Nat) (y : Int32) (hr : r < 4096) : ∃ m, m < 4096 ∧ nI r &&& y = nI m ∧ m = r &&& y.toBitVec.toNat := by
  refine ⟨r &&& y.toBitVec.toNat, Nat.lt_of_le_of_lt Nat.and_le_left hr, ?_, rfl⟩
  apply Int32.toBitVec_inj.mp
  apply BitVec.eq_of_toNat_eq
  rw [Int32.toBitVec_and, BitVec.toNat_and, pk_tn (by omega), pk_tn (by have := @Nat.and_le_left r y.toBitVec.toNat; omega)]
theorem and_n (a b : Nat) : nI a &&& nI b = nI (a &&& b) := by
  unfold nI
  apply Int32.toBitVec_inj.mp
  simp [BitVec.ofNat_and]
def bcV (x : Int32) : Int32 :=
  let v1 := x - ((x.toUInt32 >>> ((1 : Int32).toUInt32 &&& Int32.toUInt32 31)).toInt32 &&& (1431655765 : Int32))
  let v2 := (v1 &&& (858993459 : Int32)) + ((v1.toUInt32 >>> ((2 : Int32).toUInt32 &&& Int32.toUInt32 31)).toInt32 &&& (858993459 : Int32))
  let v3 := (v2 + (v2.toUInt32 >>> ((4 : Int32).toUInt32 &&& Int32.toUInt32 31)).toInt32) &&& (252645135 : Int32)
  let v4 := v3 + (v3.toUInt32 >>> ((8 : Int32).toUInt32 &&& Int32.toUInt32 31)).toInt32
  let v5 := v4 + (v4.toUInt32 >>> ((16 : Int32).toUInt32 &&& Int32.toUInt32 31)).toInt32
  v5 &&& (63 : Int32)
theorem bc_eq (N : Nat) (σ : Mem) (x : Int32) : fJ0_bitCount N σ x = some (bcV x) := rfl
theorem bcV_t : (List.range 4096).all (fun s => decide (bcV (nI s) = nI (pcn s))) = true := by decide +kernel
theorem bc_n (N : Nat) (σ : Mem) {s : Nat} (h : s < 4096) : fJ0_bitCount N σ (nI s) = some (nI (pcn s)) := by
  rw [bc_eq]
  exact congrArg some (of_decide_eq_true (all_of bcV_t h))
theorem pcn_le (s : Nat) : pcn s ≤ 12 := by unfold pcn; omega
theorem pcn_and4 {a b : Nat} (ha : a < 495) : pcn (rowT a &&& b) ≤ 4 := by
  have key : ∀ i, rowT a &&& b = rowT a &&& b → (rowT a &&& b) / 2 ^ i % 2 ≤ rowT a / 2 ^ i % 2 := by
    intro i _
    have h := Nat.testBit_and (rowT a) b i
    rw [Nat.testBit_eq_decide_div_mod_eq, Nat.testBit_eq_decide_div_mod_eq] at h
    have h1 := Nat.mod_two_eq_zero_or_one ((rowT a &&& b) / 2 ^ i)
    have h2 := Nat.mod_two_eq_zero_or_one (rowT a / 2 ^ i)
    rcases h1 with e1 | e1
    · omega
    · rcases h2 with e2 | e2
      · simp [e1, e2] at h
      · omega
  have hp := rowT_pc ha
  unfold pcn at hp ⊢
  have k0 := key 0 rfl; have k1 := key 1 rfl; have k2 := key 2 rfl; have k3 := key 3 rfl; have k4 := key 4 rfl; have k5 := key 5 rfl
  have k6 := key 6 rfl; have k7 := key 7 rfl; have k8 := key 8 rfl; have k9 := key 9 rfl; have k10 := key 10 rfl; have k11 := key 11 rfl
  simp only [Nat.reducePow, Nat.div_one] at k0 k1 k2 k3 k4 k5 k6 k7 k8 k9 k10 k11
  omega
/-- bit k of a row -/
def bit (r k : Nat) : Nat := r / 2 ^ k % 2
theorem bit_le (r k : Nat) : bit r k ≤ 1 := by unfold bit; omega
theorem sh_l : ∀ n, n < 32 → ((nI n &&& 31).toBitVec.smod 32).toNat = n := by decide +kernel
theorem shr_n {r k : Nat} (hr : r < 2147483648) (hk : k < 32) : nI r >>> (nI k &&& nI 31) = nI (r / 2 ^ k) := pk_shrN hr _ k (sh_l k hk)
theorem and1 (r : Nat) (hr : r < 2147483648) : nI r &&& nI 1 = nI (r % 2) := pk_andN (n := r) (by omega) (m := nI 1) 1 rfl
theorem has_n {r k : Nat} (hr : r < 2147483648) (hk : k < 32) : (nI r >>> (nI k &&& nI 31)) &&& nI 1 = nI (bit r k) := by
  rw [shr_n hr hk, and1 _ (Nat.lt_of_le_of_lt (Nat.div_le_self _ _) hr)]; rfl
/-! what is so of a row: the sum, the least, the greatest, how many even, the run, the longest run of its first k numbers -/
def fSum (r : Nat) : Nat → Nat
  | 0 => 0
  | k + 1 => fSum r k + (if bit r k = 0 then 0 else k)
def fEven (r : Nat) : Nat → Nat
  | 0 => 0
  | k + 1 => fEven r k + (if bit r k = 0 then 0 else if k % 2 = 0 then 1 else 0)
def fRun (r : Nat) : Nat → Nat
  | 0 => 0
  | k + 1 => if bit r k = 0 then 0 else fRun r k + 1
def fLong (r : Nat) : Nat → Nat
  | 0 => 0
  | k + 1 => if fLong r k < fRun r (k + 1) then fRun r (k + 1) else fLong r k
def fGr (r : Nat) : Nat → Nat
  | 0 => 0
  | k + 1 => if bit r k = 0 then fGr r k else k
/-- the least, plus one; nought: none yet -/
def fLe (r : Nat) : Nat → Nat
  | 0 => 0
  | k + 1 => if bit r k = 0 then fLe r k else if fLe r k = 0 then k + 1 else fLe r k
def ntV (x : Int32) : Option Int32 := fJ0_numberOfTrailingZeros 0 ((fun _ _ => 0), (fun _ _ => 0), (fun _ _ => none), (fun _ => none), 0) x
def nlV (x : Int32) : Option Int32 := fJ0_numberOfLeadingZeros 0 ((fun _ _ => 0), (fun _ _ => 0), (fun _ _ => none), (fun _ => none), 0) x
theorem nt_eq (N : Nat) (σ : Mem) (x : Int32) : fJ0_numberOfTrailingZeros N σ x = ntV x := rfl
theorem nl_eq (N : Nat) (σ : Mem) (x : Int32) : fJ0_numberOfLeadingZeros N σ x = nlV x := rfl
theorem nt_t : (List.range 4096).all (fun s => s == 0 || decide (ntV (nI s) = some (nI (fLe s 12 - 1)) ∧ 0 < fLe s 12)) = true := by decide +kernel
theorem nl_t : (List.range 4096).all (fun s => s == 0 || decide (nlV (nI s) = some (nI (31 - fGr s 12)) ∧ fGr s 12 ≤ 31)) = true := by decide +kernel
theorem pcn_0 {s : Nat} (h : pcn s = 4) : s ≠ 0 := by intro e; subst e; exact absurd h (by decide)
theorem nt_n (N : Nat) (σ : Mem) {s : Nat} (h : s < 4096) (h0 : s ≠ 0) : fJ0_numberOfTrailingZeros N σ (nI s) = some (nI (fLe s 12 - 1)) := by
  rw [nt_eq]
  have := all_of nt_t h
  simp only [Bool.or_eq_true, beq_iff_eq, decide_eq_true_eq] at this
  rcases this with e | e
  · exact absurd e h0
  · exact e.1
theorem fLe_pos {s : Nat} (h : s < 4096) (h0 : s ≠ 0) : 0 < fLe s 12 := by
  have := all_of nt_t h
  simp only [Bool.or_eq_true, beq_iff_eq, decide_eq_true_eq] at this
  rcases this with e | e
  · exact absurd e h0
  · exact e.2
theorem nl_n (N : Nat) (σ : Mem) {s : Nat} (h : s < 4096) (h0 : s ≠ 0) : fJ0_numberOfLeadingZeros N σ (nI s) = some (nI (31 - fGr s 12)) ∧ fGr s 12 ≤ 31 := by
  rw [nl_eq]
  have := all_of nl_t h
  simp only [Bool.or_eq_true, beq_iff_eq, decide_eq_true_eq] at this
  rcases this with e | e
  · exact absurd e h0
  · exact e
/-- what is always so of a row at a place: 0 the sum, 1 the least, 2 the greatest, 3 how many even, 4 the longest run -/
def facT (r j : Nat) : Nat := match j with
  | 0 => fSum r 12
  | 1 => fLe r 12 - 1
  | 2 => fGr r 12
  | 3 => fEven r 12
  | _ => fLong r 12
/-- lines, columns -/
def drw (r : Nat) : Nat := if r % 16 = 15 ∨ r / 16 % 16 = 15 ∨ r / 256 % 16 = 15 then 20 else if bit r 0 + bit r 4 + bit r 8 = 3 ∨ bit r 1 + bit r 5 + bit r 9 = 3 ∨ bit r 2 + bit r 6 + bit r 10 = 3 ∨ bit r 3 + bit r 7 + bit r 11 = 3 then 10 else 0
