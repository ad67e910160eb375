/-! WHAT IS MEANT: likes, crosses, winners by the reference's row of numbers -/
set_option maxRecDepth 100000
abbrev Den : Type := (Nat → Int32) → Int32
/-! the liking's text: byte at a place, a number of at most three digits, one, product, sum: good, how far, what it says -/
def hereS (b : Nat → Int32) (n a : Nat) : Int32 := if a < n then b a else -1
def isDg (c : Int32) : Bool := decide (nI 48 ≤ c) && decide (c ≤ nI 57)
def numS (h : Nat → Int32) : Nat → Nat → Int32 → Nat × Int32
  | 0 => fun a v => (a, v)
  | k + 1 => fun a v => if isDg (h a) then numS h k (a + 1) ((10 * v + h a) - 48) else (a, v)
def nameS (c : Int32) : Option Nat := if c = nI 99 then some 4 else if c = nI 100 then some 5 else if c = nI 101 then some 3 else if c = nI 103 then some 2 else if c = nI 108 then some 1 else if c = nI 115 then some 0 else if c = nI 119 then some 6 else none
abbrev PR : Type := Bool × Nat × Den
/-- what follows a good reading -/
def thn (r : PR) (k : Nat → Den → PR) : PR := match r with
  | (false, a, E) => (false, a, E)
  | (true, a, E) => k a E
def oneS (h : Nat → Int32) (sub : Option (Nat → PR)) (a : Nat) : PR :=
  if isDg (h a) then (true, (numS h 3 a 0).1, fun _ => (numS h 3 a 0).2)
  else match nameS (h a) with
    | some k => (true, a + 1, fun v => v k)
    | none => if h a = nI 40 then
        (match sub with
        | none => (false, a, fun _ => 0)
        | some f => thn (f (a + 1)) fun a1 E1 => if h a1 = nI 63 then
              thn (f (a1 + 1)) fun a2 E2 => if h a2 = nI 58 then
                  thn (f (a2 + 1)) fun a3 E3 => if h a3 = nI 41 then (true, a3 + 1, fun v => if E1 v ≤ 0 then E3 v else E2 v) else (false, a3, E3)
                else (false, a2, E2)
            else if h a1 = nI 41 then (true, a1 + 1, E1) else (false, a1, E1))
      else (false, a, fun _ => 0)
def mulS (h : Nat → Int32) (one : Nat → PR) : Nat → Nat → Den → PR
  | 0 => fun a E => (true, a, E)
  | k + 1 => fun a E => if h a = nI 42 then thn (one (a + 1)) fun a1 E1 => mulS h one k a1 (fun v => E v * E1 v) else (true, a, E)
def prodS (h : Nat → Int32) (n : Nat) (one : Nat → PR) (a : Nat) : PR := thn (one a) fun a1 E1 => mulS h one (n + 1) a1 E1
def addS (h : Nat → Int32) (prod : Nat → PR) : Nat → Nat → Den → PR
  | 0 => fun a E => (true, a, E)
  | k + 1 => fun a E => if h a = nI 43 then thn (prod (a + 1)) fun a1 E1 => addS h prod k a1 (fun v => E v + E1 v)
    else if h a = nI 45 then thn (prod (a + 1)) fun a1 E1 => addS h prod k a1 (fun v => E v - E1 v)
    else (true, a, E)
def sumS (h : Nat → Int32) (n : Nat) (prod : Nat → PR) (a : Nat) : PR := thn (prod a) fun a1 E1 => addS h prod (n + 1) a1 E1
/-- a sum with d brackets to open -/
def sumD (h : Nat → Int32) (n : Nat) : Nat → Nat → PR
  | 0 => sumS h n (prodS h n (oneS h none))
  | d + 1 => sumS h n (prodS h n (oneS h (some (sumD h n d))))
def whole (b : Nat → Int32) (n : Nat) : PR := thn (sumD (hereS b n) n 4 0) fun a E => (decide (n ≤ a), a, E)
theorem hereS_c {b b' : Nat → Int32} {n : Nat} (h : ∀ k, k < n → b' k = b k) : hereS b' n = hereS b n := by
  funext a
  unfold hereS
  by_cases q : a < n
  · rw [if_pos q, if_pos q, h a q]
  · rw [if_neg q, if_neg q]
theorem whole_c {b b' : Nat → Int32} {n : Nat} (h : ∀ k, k < n → b' k = b k) : whole b' n = whole b n := by unfold whole; rw [hereS_c h]
/-! by the row s -/
def latV (s : Nat → Int32) : Int32 := if s 1 = nI 0 then nI 0 else s (104 + 8 * (ix (s 1) - 1))
def latN (s : Nat → Int32) : Nat := (latV s).toBitVec.toNat
def nmV (s : Nat → Int32) (r : Nat) : Nat → Int32 := fun k => if k = 6 then s 1 else if k = 5 then nI (pcn (rowT r &&& latN s)) else nI (facT (rowT r) k)
def byS (s : Nat → Int32) : Nat → Int32 := fun k => s (44 + k)
def clN (v : Int32) : Nat := if (0 : Int32) ≤ v then (if v ≤ 99 then ix v else 99) else 0
def sayN (s : Nat → Int32) (r : Nat) : Nat := if s 3 = nI 0 then 1 else clN ((whole (byS s) (ix (s 4))).2.2 (nmV s r))
def fanN (k m r row said l : Nat) : Nat :=
  if k = 0 then said else if k = 1 then said + 2 * pcn (row &&& 63) else if k = 2 then said + drw row else if k = 3 then 1 else if k = 4 then said + 3 * pcn (row &&& l)
  else if k = 5 then (said + 2 * pcn (row &&& 63)) * (if bit row 7 = 0 then 1 else 2) else if k = 6 then 1 + pcn (row &&& 3840) else if m ≤ r then 0 else 1 + pcn (row &&& 3840)
def lkN (s : Nat → Int32) (p r : Nat) : Nat := fanN (ix (s (20 + p))) (ix (s (32 + p))) r (rowT r) (sayN s r) (latN s)
def LN (s : Nat → Int32) (p : Nat) : Nat := sN (lkN s p) 495
def cbN (s : Nat → Int32) (p r : Nat) : Nat := if LN s p = 0 then 0 else ix (s (32 + p)) * lkN s p r / LN s p
def crN (s : Nat → Int32) (r : Nat) : Nat := ix (s (424 + r)) + sN (fun p => cbN s p r) (ix (s 0))
def toN (s : Nat → Int32) : Nat := sN (crN s) 495
def wnN (s : Nat → Int32) (d k : Nat) : Nat := sN (fun r => if pcn (rowT r &&& rowT d) = k then crN s r else 0) 495
theorem latV_c {s s' : Nat → Int32} (h : ∀ i, i < 424 → s' i = s i) (hw : ix (s 1) ≤ 40) : latV s' = latV s := by
  unfold latV
  rw [h 1 (by omega), h (104 + 8 * (ix (s 1) - 1)) (by omega)]
theorem nmV_c {s s' : Nat → Int32} (h : ∀ i, i < 424 → s' i = s i) (hw : ix (s 1) ≤ 40) : nmV s' = nmV s := by
  funext r k
  unfold nmV latN
  rw [latV_c h hw, h 1 (by omega)]
/-- what the liking says hangs on the numbers ahead of the hands alone -/
theorem sayN_c {s s' : Nat → Int32} (h : ∀ i, i < 424 → s' i = s i) (hw : ix (s 1) ≤ 40) (hl : s 3 = nI 0 ∨ ix (s 4) ≤ 60) : sayN s' = sayN s := by
  funext r
  unfold sayN
  rw [h 3 (by omega), h 4 (by omega), nmV_c h hw]
  by_cases q : s 3 = nI 0
  · rw [if_pos q, if_pos q]
  · rw [if_neg q, if_neg q]
    rcases hl with hl | hl
    · exact absurd hl q
    · rw [whole_c (b := byS s) (b' := byS s') (fun k hk => h (44 + k) (by omega))]
theorem clN_le (v : Int32) : clN v ≤ 99 := by
  unfold clN
  split
  · rename_i h0
    split
    · rename_i h
      obtain ⟨j, hj, e⟩ := nI_of2 (M := 99) (n := 99) rfl (by intro q; exact absurd q (Int32.not_lt.mpr h0)) h
      rw [e, ix_n (by omega)]; exact hj
    · exact Nat.le_refl _
  · exact Nat.zero_le _
theorem sayN_le (s : Nat → Int32) (r : Nat) : sayN s r ≤ 99 := by
  unfold sayN
  split
  · omega
  · exact clN_le _
theorem fanN_le {k m r row said l : Nat} (h : said ≤ 99) : fanN k m r row said l ≤ 246 := by
  have h1 := pcn_le (row &&& 63); have h2 := pcn_le (row &&& l); have h3 := pcn_le (row &&& 3840)
  have h4 : drw row ≤ 20 := by unfold drw; split <;> (try split) <;> omega
  unfold fanN
  repeat' split
  all_goals omega
theorem lkN_le (s : Nat → Int32) (p r : Nat) : lkN s p r ≤ 246 := fanN_le (sayN_le s r)
theorem LN_le (s : Nat → Int32) (p : Nat) : LN s p ≤ 121770 := sN_b (fun k _ => lkN_le s p k)
theorem cbN_le {s : Nat → Int32} {p r : Nat} (hr : r < 495) : cbN s p r ≤ ix (s (32 + p)) := by
  unfold cbN
  split
  · omega
  · rename_i h
    have h1 : lkN s p r ≤ LN s p := sN_part hr
    calc ix (s (32 + p)) * lkN s p r / LN s p ≤ ix (s (32 + p)) * LN s p / LN s p := Nat.div_le_div_right (Nat.mul_le_mul_left _ h1)
      _ = ix (s (32 + p)) := Nat.mul_div_cancel _ (by omega)
theorem sN_div {m L : Nat} (hL : 0 < L) {f : Nat → Nat} : ∀ n, sN (fun r => m * f r / L) n * L ≤ m * sN f n
  | 0 => by simp [sN]
  | n + 1 => by
    have h := sN_div (m := m) hL (f := f) n
    show (sN (fun r => m * f r / L) n + m * f n / L) * L ≤ m * (sN f n + f n)
    rw [Nat.add_mul, Nat.mul_add]
    have := Nat.div_mul_le_self (m * f n) L
    omega
/-- people cross no more than they are -/
theorem cb_sum (s : Nat → Int32) (p : Nat) : sN (cbN s p) 495 ≤ ix (s (32 + p)) := by
  by_cases h : LN s p = 0
  · rw [sN_c (g := fun _ => 0) (fun k _ => by unfold cbN; rw [if_pos h])]
    have := sN_b (f := fun _ => 0) (c := 0) (n := 495) (fun _ _ => Nat.le_refl _)
    omega
  · rw [sN_c (g := fun r => ix (s (32 + p)) * lkN s p r / LN s p) (fun k _ => by unfold cbN; rw [if_neg h])]
    have := sN_div (m := ix (s (32 + p))) (L := LN s p) (by omega) (f := lkN s p) 495
    exact Nat.le_of_mul_le_mul_right this (by omega)
theorem sN_sw (f : Nat → Nat → Nat) (m : Nat) : ∀ n, sN (fun r => sN (fun p => f p r) m) n = sN (fun p => sN (f p) n) m
  | 0 => by
    show 0 = sN (fun p => 0) m
    have := sN_b (f := fun _ => 0) (c := 0) (n := m) (fun _ _ => Nat.le_refl _)
    omega
  | n + 1 => by
    show sN (fun r => sN (fun p => f p r) m) n + sN (fun p => f p n) m = sN (fun p => sN (f p) n + f p n) m
    rw [sN_sw f m n, sN_add]
/-- all that is crossed -/
theorem toN_le {s : Nat → Int32} {np : Nat} (h0 : ix (s 0) = np) (hm : ∀ p, p < np → ix (s (32 + p)) ≤ 99999) : toN s ≤ sN (fun r => ix (s (424 + r))) 495 + np * 99999 := by
  unfold toN crN
  rw [sN_add, sN_sw (cbN s), h0]
  have : sN (fun p => sN (cbN s p) 495) np ≤ np * 99999 := sN_b (fun p hp => Nat.le_trans (cb_sum s p) (hm p hp))
  omega
theorem wnN_le (s : Nat → Int32) (d k : Nat) : wnN s d k ≤ toN s := sN_le (fun r _ => by split <;> omega)
/-! what the component's tree at a cell says -/
abbrev Cel : Type := Nat → Option va_E
def Tr : Nat → Cel → Nat → Den → Prop
  | 0 => fun _ _ _ => False
  | d + 1 => fun C a E =>
    (∃ v, C a = some (.inr (16, [.int v])) ∧ E = fun _ => v) ∨
    (∃ k, k < 7 ∧ C a = some (.inr (17, [.int (nI k)])) ∧ E = fun n => n k) ∨
    (∃ sg a1 a2 E1 E2, C a = some (.inr (18, [.int sg, .ref a1, .ref a2])) ∧ Tr d C a1 E1 ∧ Tr d C a2 E2 ∧ E = fun n => if sg = 43 then E1 n + E2 n else if sg = 45 then E1 n - E2 n else E1 n * E2 n) ∨
    (∃ sg a0 a1 a2 E0 E1 E2, C a = some (.inr (19, [.int sg, .ref a1, .ref a2, .ref a0])) ∧ Tr d C a0 E0 ∧ Tr d C a1 E1 ∧ Tr d C a2 E2 ∧ E = fun n => if E0 n ≤ 0 then E2 n else E1 n)
def isTr (e : va_E) : Prop := ∃ c fs, e = .inr (c, fs) ∧ 16 ≤ c
def Ext (C C' : Cel) : Prop := ∀ a e, C a = some e → C' a = some e
def ExtT (C C' : Cel) : Prop := ∀ a e, C a = some e → isTr e → C' a = some e
theorem Ext.T {C C' : Cel} (h : Ext C C') : ExtT C C' := fun a e h1 _ => h a e h1
theorem Ext.rf (C : Cel) : Ext C C := fun _ _ h => h
theorem Ext.tr {C C' C'' : Cel} (h : Ext C C') (h' : Ext C' C'') : Ext C C'' := fun a e q => h' a e (h a e q)
theorem ExtT.tr {C C' C'' : Cel} (h : ExtT C C') (h' : ExtT C' C'') : ExtT C C'' := fun a e q t => h' a e (h a e q t) t
theorem Ext.new {C : Cel} {n : Nat} (h : ∀ a e, C a = some e → a < n) (v : va_E) : Ext C (updC C n v) := fun a e q => by
  rw [upC_n (by have := h a e q; omega)]; exact q
theorem Tr.ext {C C' : Cel} (h : ExtT C C') : ∀ {d a E}, Tr d C a E → Tr d C' a E := by
  intro d
  induction d with
  | zero => intro a E q; exact q.elim
  | succ d ih =>
    intro a E q
    rcases q with ⟨v, e, r⟩ | ⟨k, hk, e, r⟩ | ⟨sg, a1, a2, E1, E2, e, t1, t2, r⟩ | ⟨sg, a0, a1, a2, E0, E1, E2, e, t0, t1, t2, r⟩
    · exact Or.inl ⟨v, h _ _ e ⟨_, _, rfl, by decide⟩, r⟩
    · exact Or.inr (Or.inl ⟨k, hk, h _ _ e ⟨_, _, rfl, by decide⟩, r⟩)
    · exact Or.inr (Or.inr (Or.inl ⟨sg, a1, a2, E1, E2, h _ _ e ⟨_, _, rfl, by decide⟩, ih t1, ih t2, r⟩))
    · exact Or.inr (Or.inr (Or.inr ⟨sg, a0, a1, a2, E0, E1, E2, h _ _ e ⟨_, _, rfl, by decide⟩, ih t0, ih t1, ih t2, r⟩))
theorem Tr.up {C : Cel} : ∀ {d a E}, Tr d C a E → Tr (d + 1) C a E := by
  intro d
  induction d with
  | zero => intro a E q; exact q.elim
  | succ d ih =>
    intro a E q
    rcases q with ⟨v, e, r⟩ | ⟨k, hk, e, r⟩ | ⟨sg, a1, a2, E1, E2, e, t1, t2, r⟩ | ⟨sg, a0, a1, a2, E0, E1, E2, e, t0, t1, t2, r⟩
    · exact Or.inl ⟨v, e, r⟩
    · exact Or.inr (Or.inl ⟨k, hk, e, r⟩)
    · exact Or.inr (Or.inr (Or.inl ⟨sg, a1, a2, E1, E2, e, ih t1, ih t2, r⟩))
    · exact Or.inr (Or.inr (Or.inr ⟨sg, a0, a1, a2, E0, E1, E2, e, ih t0, ih t1, ih t2, r⟩))
theorem Tr.le {C : Cel} {d d' a : Nat} {E : Den} (h : Tr d C a E) (hd : d ≤ d') : Tr d' C a E := by
  induction d' with
  | zero => have : d = 0 := by omega
            subst this; exact h
  | succ n ih =>
    by_cases e : d = n + 1
    · subst e; exact h
    · exact (ih (by omega)).up
theorem recW_tr {N : Nat} {σ : Mem} : ∀ {d a : Nat} {E : Den}, Tr d (gC σ) a E → recW N d σ a = some (E (gI σ 65)) ∧ ∃ c, dC 16 20 σ a = some c := by
  intro d
  induction d with
  | zero => intro a E q; exact q.elim
  | succ d ih =>
    intro a E q
    rcases q with ⟨v, e, r⟩ | ⟨k, hk, e, r⟩ | ⟨sg, a1, a2, E1, E2, e, t1, t2, r⟩ | ⟨sg, a0, a1, a2, E0, E1, E2, e, t0, t1, t2, r⟩
    · subst r
      refine ⟨?_, 16, by simp [dC, e]⟩
      simp [recW, dC, e, fX16_worth, dI]
    · subst r
      refine ⟨?_, 17, by simp [dC, e]⟩
      have h1 : inb (nI k) 7 = true := inb_T hk (by decide)
      have h2 : ix (nI k) = k := ix_n (by omega)
      simp [recW, dC, e, fX17_worth, fX16_worth, dI, h1, h2, gb]
    · subst r
      refine ⟨?_, 18, by simp [dC, e]⟩
      have h1 := (ih t1).1
      have h2 := (ih t2).1
      simp only [recW, dC, e, fX19_worth, dI, dR]
      simp [h1, h2, mO]
      by_cases q1 : sg = 43
      · simp [q1]
      · simp [q1]
    · subst r
      refine ⟨?_, 19, by simp [dC, e]⟩
      have h0 := (ih t0).1
      have h1 := (ih t1).1
      have h2 := (ih t2).1
      simp only [recW, dC, e, fX20_worth, dI, dR]
      simp [h0, h1, h2, mO]
      by_cases q1 : E0 (gI σ 65) ≤ 0
      · simp [q1]
      · simp [q1]
