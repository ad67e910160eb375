/-! THE RELATION between the component's memory σ and the reference's τ -/
set_option maxRecDepth 100000
def Tab (rw ra pl bi fa : Nat → Int32) : Prop := (∀ k, k < 495 → rw k = nI (rowT k)) ∧ (∀ k, k < 495 → ra k = nI (rowT k)) ∧ (∀ r, r < 4096 → pl r = if pcn r = 4 then nI (cnt r) else -1) ∧ (∀ r, r < 4096 → bi r = nI (pcn r)) ∧ (∀ k j, k < 495 → j < 5 → fa (5 * k + j) = nI (facT (rowT k) j))
/-- numbers: people p, weeks w, bought b -/
def Num (g s : Nat → Int32) (p w b : Nat) : Prop := p ≤ 12 ∧ w ≤ 40 ∧ b ≤ 40 ∧ g 0 = nI p ∧ s 0 = nI p ∧ g 1 = nI w ∧ s 1 = nI w ∧ g 2 = nI b ∧ s 5 = nI b ∧ g 3 = s 2
def hiR (j : Nat) : Nat := if j = 0 then 99 else if j = 6 then 999999 else if j = 7 then 99999999 else 100
def Rul (ru s : Nat → Int32) : Prop := ∀ k, k < 8 → ru k = s (10 + k) ∧ ∃ n, n ≤ hiR k ∧ s (10 + k) = nI n
/-- people's things: class by kind, how many -/
def Grp (G : Nat → Option Nat) (C : Cel) (s : Nat → Int32) (p : Nat) : Prop := ∀ q, q < p → ∃ a k m, G q = some a ∧ k < 8 ∧ m ≤ 99999 ∧ C a = some (.inr (8 + k, [.int (nI m)])) ∧ s (20 + q) = nI k ∧ s (32 + q) = nI m
def Apt (G : Nat → Option Nat) (p : Nat) : Prop := ∀ i j, i < p → j < p → G i = G j → i = j
def Lik (li : Option Nat) (C : Cel) (s : Nat → Int32) : Prop := (s 3 = nI 0 ∧ li = none) ∨ (s 3 = nI 1 ∧ ∃ a z, li = some a ∧ z ≤ 60 ∧ s 4 = nI z ∧ (whole (byS s) z).1 = true ∧ Tr 70 C a (whole (byS s) z).2.2)
def Hnd (bp bm s : Nat → Int32) (b : Nat) : Prop := ∃ pl mn : Nat → Nat, (∀ k, k < b → pl k < 495 ∧ bp k = nI (pl k) ∧ bm k = nI (mn k) ∧ 1 ≤ mn k ∧ mn k ≤ 99999 ∧ s (424 + pl k) = nI (mn k)) ∧ (∀ i j, i < b → j < b → pl i = pl j → i = j) ∧ ∀ r, r < 495 → (∀ k, k < b → pl k ≠ r) → s (424 + r) = nI 0
def Bok (bk : Nat → Nat → Int32) (s : Nat → Int32) (w : Nat) : Prop := ∀ v, v < w → (∀ k, k < 8 → bk k v = s (104 + 8 * v + k)) ∧ ∃ n, n ≤ 5300000 ∧ bk 3 v = nI n
/-- a game against a row of numbers -/
def Gm (g ru : Nat → Int32) (G : Nat → Option Nat) (li : Option Nat) (bp bm : Nat → Int32) (bk : Nat → Nat → Int32) (C : Cel) (s : Nat → Int32) : Prop :=
  ∃ p w b, Num g s p w b ∧ Rul ru s ∧ Grp G C s p ∧ Apt G p ∧ Lik li C s ∧ Hnd bp bm s b ∧ Bok bk s w
/-- no thing of one game is one of the other's -/
def Dis (G K : Nat → Option Nat) (p k : Nat) : Prop := ∀ i j, i < p → j < k → G i ≠ K j
def Tap (tx : Nat → Int32) (n m : Int32) (tm : Nat → Int32) : Prop := ∃ t, t ≤ 60 ∧ n = nI t ∧ m = nI t ∧ ∀ k, k < t → ∃ b, b < 256 ∧ tm k = nI b ∧ tx k = (nI b).toInt8.toInt32
/-- a sheet -/
def She (a : Option Nat) (C : Cel) (bits size : Int32) (nu : Nat → Int64) : Prop :=
  (a = none ∧ bits = -1 ∧ size = nI 0) ∨ ∃ c n, a = some c ∧ n ≤ 40 ∧ size = nI n ∧
    ((bits = nI 8 ∧ ∃ f, C c = some (.inl (3, n, .inl f)) ∧ ∀ i, i < n → f i = (f i).toInt8.toInt32 ∧ nu i = (f i).toInt64) ∨
     (bits = nI 16 ∧ ∃ f, C c = some (.inl (4, n, .inl f)) ∧ ∀ i, i < n → f i = (f i).toInt16.toInt32 ∧ nu i = (f i).toInt64) ∨
     (bits = nI 64 ∧ ∃ f, C c = some (.inl (1, n, .inr (.inl f))) ∧ ∀ i, i < n → nu i = f i))
def Shs (S : Nat → Option Nat) (C : Cel) (bits size : Nat → Int32) (nu : Nat → Int64) : Prop := (∀ t, t < 4 → She (S t) C (bits t) (size t) (fun i => nu (40 * t + i))) ∧ ∀ t u a, t < 4 → u < 4 → S t = some a → S u = some a → t = u
def Fnd (fx fm : Nat → Int32) : Prop := (∀ k, k < 7 → fx k = fm (k + 1)) ∧ fm 0 = sm fx 7
def CaX (fr aw : Int32) (sa cr : Nat → Int32) (to : Int64) (wi : Nat → Nat → Int32) (s : Nat → Int32) : Prop := fr = nI 0 ∨ (fr = nI 1 ∧ (∀ r, r < 495 → sa r = nI (sayN s r)) ∧ (∀ r, r < 495 → cr r = nI (crN s r)) ∧ to = lN (toN s) ∧ (aw = nI 0 ∨ (aw = nI 1 ∧ ∀ d k, d < 495 → k < 5 → wi k d = nI (wnN s d k))))
def CaM (nw sn wn : Int32) (li al lo : Nat → Int32) (ac : Int32) (wi s : Nat → Int32) : Prop := (nw = nI 0 ∨ nw = nI 1) ∧ (sn = nI 0 ∨ sn = nI 1) ∧ (sn = nI 0 → ∀ r, r < 495 → li r = nI (sayN s r)) ∧ (nw = nI 0 → sn = nI 0 ∧ (∀ r, r < 495 → al r = nI (crN s r)) ∧ (∀ p, p < ix (s 0) → lo p = nI (LN s p)) ∧ ac = nI (toN s) ∧ (wn = nI 0 ∨ wn = nI 1) ∧ (wn = nI 0 → ∀ d k, d < 495 → k < 3 → wi (3 * d + k) = nI (wnN s d (k + 2))))
def Siz (C : Cel) (n : Nat) : Prop := 97 ≤ n ∧ ∀ a e, C a = some e → 97 ≤ a ∧ a < n
def pk4 {α : Type} (a0 a1 a2 a3 : α) (k : Nat) : α := match k with
  | 0 => a0
  | 1 => a1
  | 2 => a2
  | _ => a3
def pk5 {α : Type} (a0 a1 a2 a3 a4 : α) (k : Nat) : α := match k with
  | 0 => a0
  | 1 => a1
  | 2 => a2
  | 3 => a3
  | _ => a4
def pk8 {α : Type} (a0 a1 a2 a3 a4 a5 a6 a7 : α) (k : Nat) : α := match k with
  | 0 => a0
  | 1 => a1
  | 2 => a2
  | 3 => a3
  | 4 => a4
  | 5 => a5
  | 6 => a6
  | _ => a7
def pk12 {α : Type} (a0 a1 a2 a3 a4 a5 a6 a7 a8 a9 a10 a11 : α) (k : Nat) : α := match k with
  | 0 => a0
  | 1 => a1
  | 2 => a2
  | 3 => a3
  | 4 => a4
  | 5 => a5
  | 6 => a6
  | 7 => a7
  | 8 => a8
  | 9 => a9
  | 10 => a10
  | _ => a11
theorem bk_1 (σ : Mem) : ∀ {k : Nat}, k < 8 → pk8 (gI σ 20) (gI σ 21) (gI σ 22) (gI σ 23) (gI σ 24) (gI σ 25) (gI σ 26) (gI σ 27) k = gI σ (20 + k)
  | 0, _ => rfl
  | 1, _ => rfl
  | 2, _ => rfl
  | 3, _ => rfl
  | 4, _ => rfl
  | 5, _ => rfl
  | 6, _ => rfl
  | 7, _ => rfl
  | k + 8, h => absurd h (by omega)
theorem bk_28 (σ : Mem) : ∀ {k : Nat}, k < 8 → pk8 (gI σ 47) (gI σ 48) (gI σ 49) (gI σ 50) (gI σ 51) (gI σ 52) (gI σ 53) (gI σ 54) k = gI σ (47 + k)
  | 0, _ => rfl
  | 1, _ => rfl
  | 2, _ => rfl
  | 3, _ => rfl
  | 4, _ => rfl
  | 5, _ => rfl
  | 6, _ => rfl
  | 7, _ => rfl
  | k + 8, h => absurd h (by omega)
theorem gr_1 (σ : Mem) : ∀ {k : Nat}, k < 12 → pk12 (gR σ 4 0) (gR σ 5 0) (gR σ 6 0) (gR σ 7 0) (gR σ 8 0) (gR σ 9 0) (gR σ 10 0) (gR σ 11 0) (gR σ 12 0) (gR σ 13 0) (gR σ 14 0) (gR σ 15 0) k = gR σ (4 + k) 0
  | 0, _ => rfl
  | 1, _ => rfl
  | 2, _ => rfl
  | 3, _ => rfl
  | 4, _ => rfl
  | 5, _ => rfl
  | 6, _ => rfl
  | 7, _ => rfl
  | 8, _ => rfl
  | 9, _ => rfl
  | 10, _ => rfl
  | 11, _ => rfl
  | k + 12, h => absurd h (by omega)
theorem gr_28 (σ : Mem) : ∀ {k : Nat}, k < 12 → pk12 (gR σ 31 0) (gR σ 32 0) (gR σ 33 0) (gR σ 34 0) (gR σ 35 0) (gR σ 36 0) (gR σ 37 0) (gR σ 38 0) (gR σ 39 0) (gR σ 40 0) (gR σ 41 0) (gR σ 42 0) k = gR σ (31 + k) 0
  | 0, _ => rfl
  | 1, _ => rfl
  | 2, _ => rfl
  | 3, _ => rfl
  | 4, _ => rfl
  | 5, _ => rfl
  | 6, _ => rfl
  | 7, _ => rfl
  | 8, _ => rfl
  | 9, _ => rfl
  | 10, _ => rfl
  | 11, _ => rfl
  | k + 12, h => absurd h (by omega)
theorem wi_0 (σ : Mem) : ∀ {k : Nat}, k < 5 → pk5 (gI σ 70) (gI σ 71) (gI σ 72) (gI σ 73) (gI σ 74) k = gI σ (70 + k)
  | 0, _ => rfl
  | 1, _ => rfl
  | 2, _ => rfl
  | 3, _ => rfl
  | 4, _ => rfl
  | k + 5, h => absurd h (by omega)
theorem sh_0 (σ : Mem) : ∀ {k : Nat}, k < 4 → pk4 (gR σ 57 0) (gR σ 58 0) (gR σ 59 0) (gR σ 60 0) k = gR σ (57 + k) 0
  | 0, _ => rfl
  | 1, _ => rfl
  | 2, _ => rfl
  | 3, _ => rfl
  | k + 4, h => absurd h (by omega)
def Kpt (σ τ : Mem) : Prop := Gm (gI σ 28) (gI σ 29) (pk12 (gR σ 31 0) (gR σ 32 0) (gR σ 33 0) (gR σ 34 0) (gR σ 35 0) (gR σ 36 0) (gR σ 37 0) (gR σ 38 0) (gR σ 39 0) (gR σ 40 0) (gR σ 41 0) (gR σ 42 0)) (gR σ 43 0) (gI σ 44) (gI σ 45) (pk8 (gI σ 47) (gI σ 48) (gI σ 49) (gI σ 50) (gI σ 51) (gI σ 52) (gI σ 53) (gI σ 54)) (gC σ) (gI τ 2) ∧ Dis (pk12 (gR σ 4 0) (gR σ 5 0) (gR σ 6 0) (gR σ 7 0) (gR σ 8 0) (gR σ 9 0) (gR σ 10 0) (gR σ 11 0) (gR σ 12 0) (gR σ 13 0) (gR σ 14 0) (gR σ 15 0)) (pk12 (gR σ 31 0) (gR σ 32 0) (gR σ 33 0) (gR σ 34 0) (gR σ 35 0) (gR σ 36 0) (gR σ 37 0) (gR σ 38 0) (gR σ 39 0) (gR σ 40 0) (gR σ 41 0) (gR σ 42 0)) (ix (gI σ 1 0)) (ix (gI σ 28 0))
def R (σ τ : Mem) : Prop :=
  Tab (gI σ 62) (gI τ 4) (gI τ 5) (gI τ 6) (gI τ 7) ∧
  Gm (gI σ 1) (gI σ 2) (pk12 (gR σ 4 0) (gR σ 5 0) (gR σ 6 0) (gR σ 7 0) (gR σ 8 0) (gR σ 9 0) (gR σ 10 0) (gR σ 11 0) (gR σ 12 0) (gR σ 13 0) (gR σ 14 0) (gR σ 15 0)) (gR σ 16 0) (gI σ 17) (gI σ 18) (pk8 (gI σ 20) (gI σ 21) (gI σ 22) (gI σ 23) (gI σ 24) (gI σ 25) (gI σ 26) (gI σ 27)) (gC σ) (gI τ 1) ∧
  (gI σ 0 2 = gI τ 0 2 ∧ (gI τ 0 2 = nI 0 ∨ (gI τ 0 2 = nI 1 ∧ Kpt σ τ))) ∧
  Tap (gI σ 55) (gI σ 0 4) (gI τ 0 9) (gI τ 8) ∧
  Shs (pk4 (gR σ 57 0) (gR σ 58 0) (gR σ 59 0) (gR σ 60 0)) (gC σ) (gI τ 9) (gI τ 10) (gL τ 11) ∧
  Fnd (gI σ 61) (gI τ 3) ∧
  CaX (gI σ 0 10) (gI σ 0 11) (gI σ 66) (gI σ 68) (gL σ 0 15) (pk5 (gI σ 70) (gI σ 71) (gI σ 72) (gI σ 73) (gI σ 74)) (gI τ 1) ∧
  CaM (gI τ 0 18) (gI τ 0 19) (gI τ 0 20) (gI τ 12) (gI τ 13) (gI τ 14) (gI τ 0 24) (gI τ 15) (gI τ 1) ∧
  Siz (gC σ) (gN σ) ∧ gI τ 0 16 = nI 0
theorem Grp.ext {G : Nat → Option Nat} {C C' : Cel} {s : Nat → Int32} {p : Nat} (h : Ext C C') (q : Grp G C s p) : Grp G C' s p := fun i hi => by
  obtain ⟨a, k, m, h1, h2, h3, h4, h5⟩ := q i hi
  exact ⟨a, k, m, h1, h2, h3, h _ _ h4, h5⟩
theorem Lik.ext {li : Option Nat} {C C' : Cel} {s : Nat → Int32} (h : ExtT C C') (q : Lik li C s) : Lik li C' s := by
  rcases q with q | ⟨h1, a, z, h2, h3, h4, h5, h6⟩
  · exact Or.inl q
  · exact Or.inr ⟨h1, a, z, h2, h3, h4, h5, h6.ext h⟩
theorem Gm.ext {g ru : Nat → Int32} {G : Nat → Option Nat} {li : Option Nat} {bp bm : Nat → Int32} {bk : Nat → Nat → Int32} {C C' : Cel} {s : Nat → Int32} (h : Ext C C') (q : Gm g ru G li bp bm bk C s) : Gm g ru G li bp bm bk C' s := by
  obtain ⟨p, w, b, h1, h2, h3, h4, h5, h6, h7⟩ := q
  exact ⟨p, w, b, h1, h2, h3.ext h, h4, h5.ext h.T, h6, h7⟩
theorem She.ext {a : Option Nat} {C C' : Cel} {bits size : Int32} {nu : Nat → Int64} (h : Ext C C') (q : She a C bits size nu) : She a C' bits size nu := by
  rcases q with q | ⟨c, n, h1, h2, h3, h4⟩
  · exact Or.inl q
  · refine Or.inr ⟨c, n, h1, h2, h3, ?_⟩
    rcases h4 with ⟨h4, f, h5, h6⟩ | ⟨h4, f, h5, h6⟩ | ⟨h4, f, h5, h6⟩
    · exact Or.inl ⟨h4, f, h _ _ h5, h6⟩
    · exact Or.inr (Or.inl ⟨h4, f, h _ _ h5, h6⟩)
    · exact Or.inr (Or.inr ⟨h4, f, h _ _ h5, h6⟩)
theorem Shs.ext {S : Nat → Option Nat} {C C' : Cel} {bits size : Nat → Int32} {nu : Nat → Int64} (h : Ext C C') (q : Shs S C bits size nu) : Shs S C' bits size nu := ⟨fun t ht => (q.1 t ht).ext h, q.2⟩
theorem Siz.new {C : Cel} {n : Nat} (h : Siz C n) (v : va_E) : Siz (updC C n v) (n + 1) := by
  refine ⟨by have := h.1; omega, fun a e q => ?_⟩
  by_cases e1 : a = n
  · have := h.1; omega
  · rw [upC_n e1] at q
    have := h.2 a e q
    omega
theorem Siz.lt {C : Cel} {n : Nat} (h : Siz C n) : ∀ a e, C a = some e → a < n := fun a e q => (h.2 a e q).2
/-- cells grow, nothing else changes -/
theorem R.grow {σ τ : Mem} (h : R σ τ) {C : Cel} {n : Nat} (h1 : Ext (gC σ) C) (h2 : Siz C n) : R (wC σ C n) τ := by
  obtain ⟨a, b, c, d, e, f, g, i, j, k⟩ := h
  refine ⟨a, b.ext h1, ⟨c.1, ?_⟩, d, e.ext h1, f, g, i, h2, k⟩
  rcases c.2 with c2 | c2
  · exact Or.inl c2
  · exact Or.inr ⟨c2.1, c2.2.1.ext h1, c2.2.2⟩
theorem cT2_l {β γ : Type} (v : β) (s : Mem) (k1 : β → Mem → Option γ) (k2 : Nat → Mem → Option γ) : cT2 (.inl v, s) k1 k2 = k1 v s := rfl
theorem cT2_r {β γ : Type} (b : Nat) (s : Mem) (k1 : β → Mem → Option γ) (k2 : Nat → Mem → Option γ) : cT2 (.inr b, s) k1 k2 = k2 b s := rfl
theorem mO_n {γ : Type} (k1 : Option γ) (k2 : Nat → Option γ) : mO none k1 k2 = k1 := rfl
theorem mO_s {γ : Type} (a : Nat) (k1 : Option γ) (k2 : Nat → Option γ) : mO (some a) k1 k2 = k2 a := rfl
/-! findings -/
def fdE (w : Nat) : va_E := .inr (5, [.null, .null, .null, .null, .null, .int 0, .int (nI w)])
def erX (σ : Mem) (w : Nat) : Mem := wI (wC σ (updC (gC σ) (gN σ) (fdE w)) (gN σ + 1)) 61 (upd (gI σ 61) w (gI σ 61 w + 1))
def erM (τ : Mem) (w : Nat) : Mem := wI τ 3 (upd (upd (gI τ 3) 0 (gI τ 3 0 + 1)) (w + 1) (gI τ 3 (w + 1) + 1))
def cod (w : Nat) : Int32 := -1000000001 - nI w
theorem updC2 (C : Cel) (n : Nat) (a b : va_E) : updC (updC C n a) n b = updC C n b := by
  funext j
  by_cases h : j = n
  · subst h; rw [upC_s, upC_s]
  · rw [upC_n h, upC_n h, upC_n h]
theorem need_1 (N : Nat) (σ : Mem) (w : Int32) : fX0_need N σ (nI 1) w = some (.inl (), σ) := if_neg (by decide)
theorem need_0 (N : Nat) (σ : Mem) (w : Nat) : fX0_need N σ (nI 0) (nI w) = some (.inr (gN σ), wC σ (updC (gC σ) (gN σ) (fdE w)) (gN σ + 1)) := by
  unfold fX0_need
  rw [if_pos (show nI 0 = (0 : Int32) from rfl), lt_d]
  have h1 : gC (nC σ (.inr (5, [.null, .null, .null, .null, .null, .int 0, .int 0]))) (gN σ) = some (.inr (5, [.null, .null, .null, .null, .null, .int 0, .int 0])) := upC_s
  have h2 : thrOK (nC σ (.inr (5, [.null, .null, .null, .null, .null, .int 0, .int 0]))) (gN σ) = true := by unfold thrOK; rw [h1]; rfl
  have h3 : wV 5 6 (nC σ (.inr (5, [.null, .null, .null, .null, .null, .int 0, .int 0]))) (gN σ) 6 (.int (nI w)) = some (wC σ (updC (gC σ) (gN σ) (fdE w)) (gN σ + 1)) := by
    unfold wV; rw [h1]
    show some (pC (nC σ _) (gN σ) (fdE w)) = _
    rw [pC_w, nC_w, gC_wC, gN_wC, wC_wC, updC2]
  unfold fX6_init
  rw [h2, gbT, h3]
  rfl
theorem finds_n (N : Nat) (σ : Mem) {w : Nat} (hw : w < 7) : gb (isC (wC σ (updC (gC σ) (gN σ) (fdE w)) (gN σ + 1)) (gN σ) 5) ((fX0_finds N (wC σ (updC (gC σ) (gN σ) (fdE w)) (gN σ + 1)) (gN σ)).bind (fun q => some (q.1, q.2))) = some (cod w, erX σ w) := by
  have h1 : gC (wC σ (updC (gC σ) (gN σ) (fdE w)) (gN σ + 1)) (gN σ) = some (fdE w) := upC_s
  have h2 : isC (wC σ (updC (gC σ) (gN σ) (fdE w)) (gN σ + 1)) (gN σ) 5 = true := by unfold isC; rw [h1]; rfl
  have h3 : dI 5 6 (wC σ (updC (gC σ) (gN σ) (fdE w)) (gN σ + 1)) (gN σ) 6 = some (nI w) := by unfold dI; rw [h1]; rfl
  have h4 : gC (erX σ w) (gN σ) = some (fdE w) := upC_s
  have h5 : isC (erX σ w) (gN σ) 5 = true := by unfold isC; rw [h4]; rfl
  have h6 : fX6_answer N (erX σ w) (gN σ) = some (cod w) := by unfold fX6_answer dI; rw [h4]; rfl
  have h7 : pI (wC σ (updC (gC σ) (gN σ) (fdE w)) (gN σ + 1)) 61 w (gI (wC σ (updC (gC σ) (gN σ) (fdE w)) (gN σ + 1)) 61 w + 1) = erX σ w := pI_w _ _ _ _
  rw [h2, gbT]
  unfold fX0_finds
  rw [h3, Option.bind_some, inb_T hw (by decide), gbT, gbT, ix_n (by omega), lt_d, h7, h5, gbT, h6]
  rfl
theorem R.err {σ τ : Mem} (h : R σ τ) {w : Nat} (hw : w < 7) : R (erX σ w) (erM τ w) := by
  have h' := h.grow (Ext.new h.2.2.2.2.2.2.2.2.1.lt (fdE w)) (h.2.2.2.2.2.2.2.2.1.new (fdE w))
  obtain ⟨a, b, c, d, e, f, g, i, j, k⟩ := h'
  refine ⟨a, b, c, d, e, ?_, g, i, j, k⟩
  obtain ⟨f1, f2⟩ := f
  show Fnd (upd (gI σ 61) w (gI σ 61 w + 1)) (upd (upd (gI τ 3) 0 (gI τ 3 0 + 1)) (w + 1) (gI τ 3 (w + 1) + 1))
  have u1 : ∀ k, k < 7 → gI σ 61 k = gI τ 3 (k + 1) := f1
  have u2 : gI τ 3 0 = sm (gI σ 61) 7 := f2
  refine ⟨fun k hk => ?_, ?_⟩
  · by_cases e : k = w
    · subst e; rw [up_s, up_s, u1 k hk]
    · rw [up_n e, up_n (by omega), up_n (by omega), u1 k hk]
  · rw [up_n (by omega), up_s, u2]
    have key : ∀ n, w < n → sm (upd (gI σ 61) w (gI σ 61 w + 1)) n = sm (gI σ 61) n + 1 := by
      intro n
      induction n with
      | zero => intro q; omega
      | succ n ih =>
        intro q
        show sm _ n + _ = sm _ n + _ + 1
        by_cases e : w = n
        · subst e
          rw [up_s, sm_c (g := gI σ 61) (fun k hk => up_n (by omega)), Int32.add_assoc]
        · rw [up_n (by omega), ih (by omega), Int32.add_assoc, Int32.add_assoc, Int32.add_comm 1]
    exact (key 7 hw).symm
theorem findsM (N : Nat) (τ : Mem) (x : Int32) (w : Nat) (hw : w < 7) (hx : ((-1000000001 : Int32) - x) + 1 = nI (w + 1)) : fX5_finds N τ x = some (x, erM τ w) := by
  unfold fX5_finds
  rw [hx, lt_d, inb_T (by omega) (by decide), gbT, gbT, ix_n (by omega), lt_d, pI_w, pI_w, wI_wI, gI_wI, up_n (by omega : w + 1 ≠ 0)]
  rfl
theorem fM_1 (N : Nat) (τ : Mem) : fX5_finds N τ (-nI 1000000001) = some (cod 0, erM τ 0) := findsM N τ _ 0 (by decide) (by decide)
theorem fM_2 (N : Nat) (τ : Mem) : fX5_finds N τ (-nI 1000000002) = some (cod 1, erM τ 1) := findsM N τ _ 1 (by decide) (by decide)
theorem fM_3 (N : Nat) (τ : Mem) : fX5_finds N τ (-nI 1000000003) = some (cod 2, erM τ 2) := findsM N τ _ 2 (by decide) (by decide)
theorem fM_4 (N : Nat) (τ : Mem) : fX5_finds N τ (-nI 1000000004) = some (cod 3, erM τ 3) := findsM N τ _ 3 (by decide) (by decide)
theorem fM_6 (N : Nat) (τ : Mem) : fX5_finds N τ (-nI 1000000006) = some (cod 5, erM τ 5) := findsM N τ _ 5 (by decide) (by decide)
theorem fM_7 (N : Nat) (τ : Mem) : fX5_finds N τ (-nI 1000000007) = some (cod 6, erM τ 6) := findsM N τ _ 6 (by decide) (by decide)
/-- an operation that answers alike on both sides -/
def Op {α : Type} (σ τ : Mem) (F G : Option (α × Mem)) : Prop := ∃ v σ' τ', F = some (v, σ') ∧ G = some (v, τ') ∧ R σ' τ'
theorem Op.err {σ τ : Mem} (h : R σ τ) {w : Nat} (hw : w < 7) {F G : Option (Int32 × Mem)} (h1 : F = some (cod w, erX σ w)) (h2 : G = some (cod w, erM τ w)) : Op σ τ F G := ⟨_, _, _, h1, h2, h.err hw⟩
/-! ranges -/
def nb (b : Bool) : Int32 := match b with
  | true => nI 1
  | false => nI 0
theorem nb_t : nb true = nI 1 := rfl
theorem nb_f : nb false = nI 0 := rfl
def inR (x : Int32) (a b : Nat) : Bool := decide (nI a ≤ x) && decide (x ≤ nI b)
def inP (x : Int32) (p : Nat) : Bool := !decide (x < nI 0) && decide (x < nI p)
theorem inP_T {x : Int32} {p : Nat} (hp : p < 2147483648) (h : inP x p = true) : ∃ j, j < p ∧ x = nI j := by
  simp only [inP, Bool.and_eq_true, Bool.not_eq_true', decide_eq_false_iff_not, decide_eq_true_eq] at h
  obtain ⟨j, hj, e⟩ := nI_of h.1
  subst e
  exact ⟨j, (nI_ltI hj hp).mp h.2, rfl⟩
theorem inR_T {x : Int32} {a b : Nat} (ha : a ≤ b) (hb : b < 2147483648) (h : inR x a b = true) : ∃ j, a ≤ j ∧ j ≤ b ∧ x = nI j := by
  simp only [inR, Bool.and_eq_true, decide_eq_true_eq] at h
  have h0 : ¬ x < 0 := by
    intro q
    have h1 := Int32.le_iff_toInt_le.mp h.1
    have h2 := Int32.lt_iff_toInt_lt.mp q
    rw [nI_toInt (by omega)] at h1
    have : (0 : Int32).toInt = 0 := rfl
    omega
  obtain ⟨j, hj, e⟩ := nI_of h0
  subst e
  exact ⟨j, (nI_leI (by omega) hj).mp h.1, (nI_leI hj (by omega)).mp h.2, rfl⟩
theorem w_lt (a b : Int32) : a.toInt64 < b.toInt64 ↔ a < b := by rw [Int64.lt_iff_toInt_lt, Int32.lt_iff_toInt_lt, Int32.toInt_toInt64, Int32.toInt_toInt64]
theorem in_32 (N : Nat) (σ : Mem) (x a b : Int32) : fX0_in N σ x.toInt64 a.toInt64 b.toInt64 = some (nb (decide (a ≤ x) && decide (x ≤ b))) := by
  unfold fX0_in
  simp only [w_lt]
  by_cases h1 : x < a
  · have h2 : ¬ a ≤ x := Int32.not_le.mpr h1
    simp [h1, h2, nb, nI]
  · have h2 : a ≤ x := Int32.not_lt.mp h1
    by_cases h3 : b < x
    · have h4 : ¬ x ≤ b := Int32.not_le.mpr h3
      simp [h1, h2, h3, h4, nb, nI]
    · have h4 : x ≤ b := Int32.not_lt.mp h3
      simp [h1, h2, h3, h4, nb, nI]
theorem in_R (N : Nat) (σ : Mem) (x : Int32) {a b : Nat} (ha : a < 2147483648) (hb : b < 2147483648) : fX0_in N σ x.toInt64 (lN a) (lN b) = some (nb (inR x a b)) := by
  rw [← n_l ha, ← n_l hb, in_32]; rfl
theorem isIn_R (N : Nat) (σ : Mem) (x : Int32) {a b : Nat} (ha : a < 2147483648) (hb : b < 2147483648) : fX5_isIn N σ x.toInt64 (lN a) (lN b) = some (nb (inR x a b)) := in_R N σ x ha hb
theorem inR_P (x : Int32) {b : Nat} (hb : b + 1 < 2147483648) : inR x 0 b = inP x (b + 1) := by
  unfold inR inP
  rcases pk_ix x (n := b + 1) hb with h | h | ⟨j, hj, rfl⟩
  · have h1 : ¬ nI 0 ≤ x := Int32.not_le.mpr h
    have h2 : x < nI 0 := h
    simp [h1, h2]
  · have h1 : ¬ x ≤ nI b := by
      intro q
      exact absurd (Int32.le_trans h q) (nI_ge (by omega) (by omega))
    have h2 : ¬ x < nI (b + 1) := Int32.not_lt.mpr h
    simp [h1, h2]
  · simp only [le_T (Nat.zero_le j) (by omega : j < 2147483648), le_T (by omega : j ≤ b) (by omega), l_F (Nat.zero_le j) (by omega : j < 2147483648), l_T hj (by omega)]
    rfl
theorem in_P (N : Nat) (σ : Mem) (x : Int32) {p : Nat} (hp : p < 2147483648) : fX0_in N σ x.toInt64 (lN 0) ((nI p - nI 1).toInt64) = some (nb (inP x p)) := by
  cases p with
  | zero =>
    show fX0_in N σ x.toInt64 ((nI 0).toInt64) ((nI 0 - nI 1).toInt64) = _
    rw [in_32]
    congr 2
    unfold inP
    by_cases h : x < nI 0
    · have : ¬ nI 0 ≤ x := Int32.not_le.mpr h
      simp [h, this]
    · have h2 : ¬ x ≤ nI 0 - nI 1 := by
        intro q
        have : nI 0 - nI 1 < nI 0 := by decide
        exact h (Int32.lt_of_le_of_lt q this)
      simp [h, h2]
  | succ b =>
    rw [n_sub (by omega), Nat.add_sub_cancel, n_l (by omega), in_R N σ x (by omega) (by omega), inR_P x hp]
theorem isIn_P (N : Nat) (σ : Mem) (x : Int32) {p : Nat} (hp : p < 2147483648) : fX5_isIn N σ x.toInt64 (lN 0) ((nI p - nI 1).toInt64) = some (nb (inP x p)) := in_P N σ x hp
theorem nb_P (x : Int32) (n : Nat) : (if x < nI 0 then nI 0 else if nI n ≤ x then nI 0 else nI 1) = nb (inP x n) := by
  unfold inP
  by_cases h1 : x < nI 0
  · rw [if_pos h1, decide_eq_true h1]; rfl
  · rw [if_neg h1, decide_eq_false h1]
    by_cases h2 : nI n ≤ x
    · rw [if_pos h2, decide_eq_false (Int32.not_lt.mpr h2)]; rfl
    · rw [if_neg h2, decide_eq_true (Int32.not_le.mp h2)]; rfl
theorem isPlX (N : Nat) (σ : Mem) (x : Int32) : fX0_isPlace N σ x = some (nb (inP x 495)) := by
  unfold fX0_isPlace
  have h : fX0_in N σ x.toInt64 (0 : Int64) (494 : Int64) = some (nb (inR x 0 494)) := in_R N σ x (a := 0) (b := 494) (by omega) (by omega)
  rw [h, inR_P x (by omega), Option.bind_some]
  cases inP x 495 <;> rfl
theorem isPlM (N : Nat) (σ : Mem) (x : Int32) : fX5_isPlace N σ x = some (nb (inP x 495)) := congrArg some (nb_P x 495)
theorem isPeM (N : Nat) (σ : Mem) (x : Int32) {p : Nat} (hp : gI σ 1 0 = nI p) : fX5_isPeople N σ x = some (nb (inP x p)) := by
  rw [← nb_P]
  unfold fX5_isPeople
  rw [hp]
  by_cases h : x < nI 0
  · rw [if_pos h, if_pos (show x < 0 from h)]; rfl
  · rw [if_neg h, if_neg (show ¬ x < 0 from h)]; rfl
theorem isShM (N : Nat) (σ : Mem) (x : Int32) : fX5_isSheet N σ x = some (nb (inP x 4)) := congrArg some (nb_P x 4)
theorem isNuX (N : Nat) (σ : Mem) (x : Int32) : fX0_isNumber N σ x = some (nb (inP x 12)) := by
  unfold fX0_isNumber
  have h : fX0_in N σ x.toInt64 (0 : Int64) (11 : Int64) = some (nb (inR x 0 11)) := in_R N σ x (a := 0) (b := 11) (by omega) (by omega)
  rw [h, inR_P x (by omega), Option.bind_some]
  cases inP x 12 <;> rfl
