/-! PURE BASE: rows of memory, loops, numbers -/
set_option maxRecDepth 100000
theorem lt_d {α β : Type} (v : α) (k : α → β) : lt_ v k = k v := rfl
theorem gbT {α : Type} (k : Option α) : gb true k = k := rfl
theorem lit (n : Nat) : (OfNat.ofNat n : Int32) = nI n := rfl
theorem litL (n : Nat) : (OfNat.ofNat n : Int64) = lN n := rfl
theorem ix_n {n : Nat} (h : n < 2147483648) : ix (nI n) = n := nI_clamp h
theorem inb_T {k n : Nat} (h : k < n) (hn : n < 2147483648) : inb (nI k) n = true := by
  have h1 := nI_pos (n := k) (by omega)
  have h2 := nI_clamp (n := k) (by omega)
  simp only [inb, h1, h2, decide_false, Bool.not_false, Bool.true_and, decide_eq_true_eq]
  exact h
theorem inb_F {k n : Nat} (h : n ≤ k) (hn : k < 2147483648) : inb (nI k) n = false := by
  have h2 := nI_clamp (n := k) (by omega)
  simp only [inb, h2, Bool.and_eq_false_iff, decide_eq_false_iff_not]
  exact Or.inr (by omega)
theorem inb_neg {x : Int32} (n : Nat) (h : x < 0) : inb x n = false := by simp [inb, h]
theorem le_T {a b : Nat} (h : a ≤ b) (hb : b < 2147483648) : (nI a ≤ nI b) = True := eq_true (nI_le h hb)
theorem le_F {a b : Nat} (h : b < a) (hb : a < 2147483648) : (nI a ≤ nI b) = False := eq_false (nI_ge h hb)
theorem l_T {a b : Nat} (h : a < b) (hb : b < 2147483648) : (nI a < nI b) = True := eq_true (nI_lt h hb)
theorem l_F {a b : Nat} (h : b ≤ a) (hb : a < 2147483648) : (nI a < nI b) = False := eq_false (nI_nlt h hb)
theorem e_F {a b : Nat} (h : a ≠ b) (ha : a < 2147483648) (hb : b < 2147483648) : (nI a = nI b) = False := eq_false (fun e => h ((nI_eq ha hb).mp e))
theorem e_R (a : Nat) : (nI a = nI a) = True := eq_true rfl
theorem n_add (a b : Nat) : nI a + nI b = nI (a + b) := nI_add a b
theorem n_mul (a b : Nat) : nI a * nI b = nI (a * b) := pk_mul a b
theorem n_sub {a b : Nat} (h : b ≤ a) : nI a - nI b = nI (a - b) := pk_sub h
theorem n_l {n : Nat} (h : n < 2147483648) : (nI n).toInt64 = lN n := nI_l h
theorem n_div {a d : Nat} (ha : a < 2147483648) (h0 : 0 < d) (hd : d < 2147483648) : nI a / nI d = nI (a / d) := pk_div ha h0 hd
theorem ifT {α : Type} (a b : α) : (if True then a else b) = a := if_pos trivial
theorem ifF {α : Type} (a b : α) : (if False then a else b) = b := if_neg id
/-! whole rows -/
def wI (σ : Mem) (c : Nat) (f : Nat → Int32) : Mem := (fun c' => if c' = c then f else σ.1 c', σ.2)
def wL (σ : Mem) (c : Nat) (f : Nat → Int64) : Mem := (σ.1, fun c' => if c' = c then f else σ.2.1 c', σ.2.2)
def wR (σ : Mem) (c : Nat) (f : Nat → Option Nat) : Mem := (σ.1, σ.2.1, fun c' => if c' = c then f else σ.2.2.1 c', σ.2.2.2)
def wC (σ : Mem) (f : Nat → Option va_E) (n : Nat) : Mem := (σ.1, σ.2.1, σ.2.2.1, f, n)
def updR (f : Nat → Option Nat) (k : Nat) (x : Option Nat) : Nat → Option Nat := fun j => if j = k then x else f j
def updC (f : Nat → Option va_E) (k : Nat) (x : va_E) : Nat → Option va_E := fun j => if j = k then some x else f j
theorem pI_w (σ : Mem) (c i : Nat) (v : Int32) : pI σ c i v = wI σ c (upd (gI σ c) i v) := by
  have : (fun c' i' => if c' = c ∧ i' = i then v else σ.1 c' i') = (fun c' => if c' = c then upd (gI σ c) i v else σ.1 c') := by
    funext c' i'
    by_cases h : c' = c
    · subst h
      by_cases h2 : i' = i
      · simp [upd, h2]
      · simp [upd, h2, gI]
    · simp [h]
  exact congrArg (fun f => ((f, σ.2) : Mem)) this
theorem pL_w (σ : Mem) (c i : Nat) (v : Int64) : pL σ c i v = wL σ c (vp_updL (gL σ c) i v) := by
  have : (fun c' i' => if c' = c ∧ i' = i then v else σ.2.1 c' i') = (fun c' => if c' = c then vp_updL (gL σ c) i v else σ.2.1 c') := by
    funext c' i'
    by_cases h : c' = c
    · subst h
      by_cases h2 : i' = i
      · simp [vp_updL, h2]
      · simp [vp_updL, h2, gL]
    · simp [h]
  exact congrArg (fun f => ((σ.1, f, σ.2.2) : Mem)) this
theorem pR_w (σ : Mem) (c i : Nat) (v : Option Nat) : pR σ c i v = wR σ c (updR (gR σ c) i v) := by
  have : (fun c' i' => if c' = c ∧ i' = i then v else σ.2.2.1 c' i') = (fun c' => if c' = c then updR (gR σ c) i v else σ.2.2.1 c') := by
    funext c' i'
    by_cases h : c' = c
    · subst h
      by_cases h2 : i' = i
      · simp [updR, h2]
      · simp [updR, h2, gR]
    · simp [h]
  exact congrArg (fun f => ((σ.1, σ.2.1, f, σ.2.2.2) : Mem)) this
theorem pC_w (σ : Mem) (a : Nat) (v : va_E) : pC σ a v = wC σ (updC (gC σ) a v) (gN σ) := rfl
theorem nC_w (σ : Mem) (v : va_E) : nC σ v = wC σ (updC (gC σ) (gN σ) v) (gN σ + 1) := rfl
section
variable (σ : Mem) (c c' : Nat) (f g : Nat → Int32) (fl gl : Nat → Int64) (fr gr : Nat → Option Nat) (fc gc : Nat → Option va_E) (n n' : Nat)
theorem gI_wI : gI (wI σ c f) c = f := if_pos rfl
theorem gI_wIn {c c' : Nat} (h : c' ≠ c) : gI (wI σ c f) c' = gI σ c' := if_neg h
theorem gI_wL : gI (wL σ c fl) = gI σ := rfl
theorem gI_wR : gI (wR σ c fr) = gI σ := rfl
theorem gI_wC : gI (wC σ fc n) = gI σ := rfl
theorem gL_wL : gL (wL σ c fl) c = fl := if_pos rfl
theorem gL_wLn {c c' : Nat} (h : c' ≠ c) : gL (wL σ c fl) c' = gL σ c' := if_neg h
theorem gL_wI : gL (wI σ c f) = gL σ := rfl
theorem gL_wR : gL (wR σ c fr) = gL σ := rfl
theorem gL_wC : gL (wC σ fc n) = gL σ := rfl
theorem gR_wR : gR (wR σ c fr) c = fr := if_pos rfl
theorem gR_wRn {c c' : Nat} (h : c' ≠ c) : gR (wR σ c fr) c' = gR σ c' := if_neg h
theorem gR_wI : gR (wI σ c f) = gR σ := rfl
theorem gR_wL : gR (wL σ c fl) = gR σ := rfl
theorem gR_wC : gR (wC σ fc n) = gR σ := rfl
theorem gC_wI : gC (wI σ c f) = gC σ := rfl
theorem gC_wL : gC (wL σ c fl) = gC σ := rfl
theorem gC_wR : gC (wR σ c fr) = gC σ := rfl
theorem gC_wC : gC (wC σ fc n) = fc := rfl
theorem gN_wI : gN (wI σ c f) = gN σ := rfl
theorem gN_wL : gN (wL σ c fl) = gN σ := rfl
theorem gN_wR : gN (wR σ c fr) = gN σ := rfl
theorem gN_wC : gN (wC σ fc n) = n := rfl
theorem wI_wI : wI (wI σ c f) c g = wI σ c g := by
  have : (fun c' => if c' = c then g else if c' = c then f else σ.1 c') = (fun c' => if c' = c then g else σ.1 c') := by
    funext q; by_cases h : q = c <;> simp [h]
  exact congrArg (fun f => ((f, σ.2) : Mem)) this
theorem wL_wL : wL (wL σ c fl) c gl = wL σ c gl := by
  have : (fun c' => if c' = c then gl else if c' = c then fl else σ.2.1 c') = (fun c' => if c' = c then gl else σ.2.1 c') := by
    funext q; by_cases h : q = c <;> simp [h]
  exact congrArg (fun f => ((σ.1, f, σ.2.2) : Mem)) this
theorem wR_wR : wR (wR σ c fr) c gr = wR σ c gr := by
  have : (fun c' => if c' = c then gr else if c' = c then fr else σ.2.2.1 c') = (fun c' => if c' = c then gr else σ.2.2.1 c') := by
    funext q; by_cases h : q = c <;> simp [h]
  exact congrArg (fun f => ((σ.1, σ.2.1, f, σ.2.2.2) : Mem)) this
theorem wC_wC : wC (wC σ fc n) gc n' = wC σ gc n' := rfl
theorem wI_id : wI σ c (gI σ c) = σ := by
  have : (fun c' => if c' = c then gI σ c else σ.1 c') = σ.1 := by
    funext q; by_cases h : q = c
    · subst h; rw [if_pos rfl]; rfl
    · rw [if_neg h]
  exact congrArg (fun f => ((f, σ.2) : Mem)) this
theorem wI_sw {c c' : Nat} (h : c ≠ c') : wI (wI σ c f) c' g = wI (wI σ c' g) c f := by
  have : (fun q => if q = c' then g else if q = c then f else σ.1 q) = (fun q => if q = c then f else if q = c' then g else σ.1 q) := by
    funext q
    by_cases h1 : q = c
    · subst h1; rw [if_neg h, if_pos rfl, if_pos rfl]
    · rw [if_neg h1, if_neg h1]
  exact congrArg (fun f => ((f, σ.2) : Mem)) this
theorem wL_wI : wL (wI σ c f) c' fl = wI (wL σ c' fl) c f := rfl
theorem wR_wI : wR (wI σ c f) c' fr = wI (wR σ c' fr) c f := rfl
theorem wC_wI : wC (wI σ c f) fc n = wI (wC σ fc n) c f := rfl
theorem wR_wL : wR (wL σ c fl) c' fr = wL (wR σ c' fr) c fl := rfl
theorem wC_wL : wC (wL σ c fl) fc n = wL (wC σ fc n) c fl := rfl
theorem wC_wR : wC (wR σ c fr) fc n = wR (wC σ fc n) c fr := rfl
end
theorem mem_ext {a b : Mem} (h1 : gI a = gI b) (h2 : gL a = gL b) (h3 : gR a = gR b) (h4 : gC a = gC b) (h5 : gN a = gN b) : a = b := by
  obtain ⟨a1, a2, a3, a4, a5⟩ := a
  obtain ⟨b1, b2, b3, b4, b5⟩ := b
  simp only [gI, gL, gR, gC, gN] at h1 h2 h3 h4 h5
  have e1 : a1 = b1 := h1
  have e2 : a2 = b2 := h2
  have e3 : a3 = b3 := h3
  have e4 : a4 = b4 := h4
  have e5 : a5 = b5 := h5
  rw [e1, e2, e3, e4, e5]
theorem up_s {f : Nat → Int32} {k : Nat} {x : Int32} : upd f k x k = x := pk_us
theorem up_n {f : Nat → Int32} {k j : Nat} {x : Int32} (h : j ≠ k) : upd f k x j = f j := pk_un h
theorem upR_s {f : Nat → Option Nat} {k : Nat} {x : Option Nat} : updR f k x k = x := if_pos rfl
theorem upR_n {f : Nat → Option Nat} {k j : Nat} {x : Option Nat} (h : j ≠ k) : updR f k x j = f j := if_neg h
theorem upC_s {f : Nat → Option va_E} {k : Nat} {x : va_E} : updC f k x k = some x := if_pos rfl
theorem upC_n {f : Nat → Option va_E} {k j : Nat} {x : va_E} (h : j ≠ k) : updC f k x j = f j := if_neg h
theorem upL_s {f : Nat → Int64} {k : Nat} {x : Int64} : vp_updL f k x k = x := pk_uLs
theorem upL_n {f : Nat → Int64} {k j : Nat} {x : Int64} (h : j ≠ k) : vp_updL f k x j = f j := pk_uLn h
theorem up_id (f : Nat → Int32) (k : Nat) : upd f k (f k) = f := by
  funext j; by_cases h : j = k
  · subst h; exact up_s
  · exact up_n h
/-! loops -/
theorem lp_fun {S T : Type} {b : (S → Option T) → S → Option T} (st : Nat → S) (n : Nat) {N : Nat} (hN : n < N) (hs : ∀ k rec, k < n → b rec (st k) = rec (st (k + 1))) {r : Option T} (he : ∀ rec, b rec (st n) = r) : lp b N (st 0) = r := by
  have key : ∀ m k, k + m = n → ∀ N, m < N → lp b N (st k) = r := by
    intro m
    induction m with
    | zero =>
      intro k hk N hN
      have : k = n := by omega
      subst this
      cases N with
      | zero => omega
      | succ N => exact he _
    | succ m ih =>
      intro k hk N hN
      cases N with
      | zero => omega
      | succ N =>
        show b (lp b N) (st k) = r
        rw [hs k (lp b N) (by omega)]
        exact ih (k + 1) (by omega) N (by omega)
  exact key n 0 (by omega) N hN
/-- a loop by an invariant: it ends in a state of its end -/
theorem lp_inv {S T : Type} {b : (S → Option T) → S → Option T} (P : Nat → S → Prop) (n : Nat) {N : Nat} (hN : n < N) (hs : ∀ k s, k < n → P k s → ∃ s', P (k + 1) s' ∧ ∀ rec, b rec s = rec s') {Q : Option T → Prop} (he : ∀ s, P n s → ∀ rec, Q (b rec s)) (s : S) (h0 : P 0 s) : Q (lp b N s) := by
  have key : ∀ m k, k + m = n → ∀ N, m < N → ∀ s, P k s → Q (lp b N s) := by
    intro m
    induction m with
    | zero =>
      intro k hk N hN s h
      have : k = n := by omega
      subst this
      cases N with
      | zero => omega
      | succ N => exact he s h _
    | succ m ih =>
      intro k hk N hN s h
      cases N with
      | zero => omega
      | succ N =>
        obtain ⟨s', h1, h2⟩ := hs k s (by omega) h
        show Q (b (lp b N) s)
        rw [h2]
        exact ih (k + 1) (by omega) N (by omega) s' h1
  exact key n 0 (by omega) N hN s h0
/-- a loop by a measure -/
theorem lp_mu {S T : Type} {b : (S → Option T) → S → Option T} (P : S → Prop) (μ : S → Nat) {Q : Option T → Prop} (hs : ∀ s, P s → (∀ rec, Q (b rec s)) ∨ ∃ s', P s' ∧ μ s' < μ s ∧ ∀ rec, b rec s = rec s') : ∀ (N : Nat) (s : S), μ s < N → P s → Q (lp b N s) := by
  intro N
  induction N with
  | zero => intro s h; omega
  | succ N ih =>
    intro s h hp
    show Q (b (lp b N) s)
    rcases hs s hp with h1 | ⟨s', h1, h2, h3⟩
    · exact h1 _
    · rw [h3]; exact ih s' (by omega) h1
/-- the first k of a row are f's -/
def fil {α : Type} (f g : Nat → α) (k : Nat) : Nat → α := fun j => if j < k then f j else g j
theorem fil_0 {α : Type} (f g : Nat → α) : fil f g 0 = g := funext fun j => if_neg (Nat.not_lt_zero j)
theorem fil_in {α : Type} {f g : Nat → α} {j k : Nat} (h : j < k) : fil f g k j = f j := if_pos h
theorem fil_out {α : Type} {f g : Nat → α} {j k : Nat} (h : k ≤ j) : fil f g k j = g j := if_neg (Nat.not_lt.mpr h)
theorem fil_s {f g : Nat → Int32} {k : Nat} {v : Int32} (h : v = f k) : upd (fil f g k) k v = fil f g (k + 1) := by
  subst h
  funext j
  by_cases h1 : j = k
  · subst h1; rw [up_s, fil_in (by omega)]
  · rw [up_n h1]
    by_cases h2 : j < k
    · rw [fil_in h2, fil_in (by omega)]
    · rw [fil_out (by omega), fil_out (by omega)]
theorem filL_s {f g : Nat → Int64} {k : Nat} {v : Int64} (h : v = f k) : vp_updL (fil f g k) k v = fil f g (k + 1) := by
  subst h
  funext j
  by_cases h1 : j = k
  · subst h1; rw [upL_s, fil_in (by omega)]
  · rw [upL_n h1]
    by_cases h2 : j < k
    · rw [fil_in h2, fil_in (by omega)]
    · rw [fil_out (by omega), fil_out (by omega)]
/-! sums -/
def sm (f : Nat → Int32) : Nat → Int32
  | 0 => 0
  | k + 1 => sm f k + f k
def sN (f : Nat → Nat) : Nat → Nat
  | 0 => 0
  | k + 1 => sN f k + f k
def sL (f : Nat → Int64) : Nat → Int64
  | 0 => 0
  | k + 1 => sL f k + f k
theorem sm_c {f g : Nat → Int32} : ∀ {n : Nat}, (∀ k, k < n → f k = g k) → sm f n = sm g n
  | 0, _ => rfl
  | n + 1, h => by show sm f n + f n = sm g n + g n; rw [sm_c (fun k hk => h k (by omega)), h n (by omega)]
theorem sN_c {f g : Nat → Nat} : ∀ {n : Nat}, (∀ k, k < n → f k = g k) → sN f n = sN g n
  | 0, _ => rfl
  | n + 1, h => by show sN f n + f n = sN g n + g n; rw [sN_c (fun k hk => h k (by omega)), h n (by omega)]
theorem sL_c {f g : Nat → Int64} : ∀ {n : Nat}, (∀ k, k < n → f k = g k) → sL f n = sL g n
  | 0, _ => rfl
  | n + 1, h => by show sL f n + f n = sL g n + g n; rw [sL_c (fun k hk => h k (by omega)), h n (by omega)]
theorem sm_n {f : Nat → Int32} {g : Nat → Nat} : ∀ {n : Nat}, (∀ k, k < n → f k = nI (g k)) → sm f n = nI (sN g n)
  | 0, _ => rfl
  | n + 1, h => by show sm f n + f n = nI (sN g n + g n); rw [sm_n (fun k hk => h k (by omega)), h n (by omega), n_add]
theorem l_add (a b : Nat) : lN a + lN b = lN (a + b) := by
  unfold lN; exact (Int64.ofNat_add a b).symm
theorem sL_n {f : Nat → Int64} {g : Nat → Nat} : ∀ {n : Nat}, (∀ k, k < n → f k = lN (g k)) → sL f n = lN (sN g n)
  | 0, _ => rfl
  | n + 1, h => by show sL f n + f n = lN (sN g n + g n); rw [sL_n (fun k hk => h k (by omega)), h n (by omega), l_add]
theorem sN_b {f : Nat → Nat} {c : Nat} : ∀ {n : Nat}, (∀ k, k < n → f k ≤ c) → sN f n ≤ n * c
  | 0, _ => by simp [sN]
  | n + 1, h => by
    have h1 := sN_b (n := n) (fun k hk => h k (by omega))
    have h2 := h n (by omega)
    show sN f n + f n ≤ (n + 1) * c
    rw [Nat.add_mul]; omega
theorem sN_add (f g : Nat → Nat) : ∀ n, sN (fun k => f k + g k) n = sN f n + sN g n
  | 0 => rfl
  | n + 1 => by show sN (fun k => f k + g k) n + (f n + g n) = (sN f n + f n) + (sN g n + g n); rw [sN_add f g n]; omega
theorem sN_le {f g : Nat → Nat} : ∀ {n : Nat}, (∀ k, k < n → f k ≤ g k) → sN f n ≤ sN g n
  | 0, _ => Nat.le_refl _
  | n + 1, h => by
    have h1 := sN_le (n := n) (fun k hk => h k (by omega))
    have h2 := h n (by omega)
    show sN f n + f n ≤ sN g n + g n
    omega
theorem sN_part {f : Nat → Nat} : ∀ {n i : Nat}, i < n → f i ≤ sN f n
  | n + 1, i, h => by
    show f i ≤ sN f n + f n
    by_cases e : i = n
    · subst e; omega
    · have := sN_part (f := f) (n := n) (i := i) (by omega); omega
theorem sN_upd {f : Nat → Nat} {i v : Nat} : ∀ {n : Nat}, i < n → sN (fun k => if k = i then v else f k) n + f i = sN f n + v
  | n + 1, h => by
    show sN (fun k => if k = i then v else f k) n + (if n = i then v else f n) + f i = sN f n + f n + v
    by_cases e : n = i
    · subst e
      rw [if_pos rfl, sN_c (g := f) (fun k hk => if_neg (by omega))]; omega
    · rw [if_neg e]
      have := sN_upd (f := f) (i := i) (v := v) (n := n) (by omega); omega
