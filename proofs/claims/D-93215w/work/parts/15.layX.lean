/-! module X: its layout -/
set_option maxRecDepth 100000
def YX (g : Geo) (k : Nat) (a : Nat → Int32) (b : Nat → Int64) (r : Nat → Option Nat) : va_E := match k with
  | 0 => .inr (0, [.ref (g.2.2.1 + 1), .ref (g.2.2.1 + 28), .int (a 2), .ref (g.2.2.1 + 55), .int (a 4), .ref (g.2.2.1 + 56), .ref (g.2.2.1 + 61), .ref (g.2.2.1 + 62), .ref (g.2.2.1 + 63), .ref (g.2.2.1 + 64), .int (a 10), .int (a 11), .ref (g.2.2.1 + 66), .ref (g.2.2.1 + 67), .ref (g.2.2.1 + 68), .long (b 15), .ref (g.2.2.1 + 69), .ref (g.2.2.1 + 75), .ref (g.2.2.1 + 76)])
  | 1 => .inr (1, [.int (a 0), .int (a 1), .int (a 2), .int (a 3), .ref (g.2.2.1 + 2), .ref (g.2.2.1 + 3), .ref (g.2.2.1 + 16), .ref (g.2.2.1 + 17), .ref (g.2.2.1 + 18), .ref (g.2.2.1 + 19)])
  | 2 => .inl (g.2.1 0, 8, .inl a)
  | 3 => .inl (g.2.1 5, 12, .inr (.inr (.inr (.inr (fun j => some (g.2.2.1 + (4 + j)))))))
  | 4 => .inr (2, [va_rf ((r 0).map (g.2.2.1 + ·))])
  | 5 => .inr (2, [va_rf ((r 0).map (g.2.2.1 + ·))])
  | 6 => .inr (2, [va_rf ((r 0).map (g.2.2.1 + ·))])
  | 7 => .inr (2, [va_rf ((r 0).map (g.2.2.1 + ·))])
  | 8 => .inr (2, [va_rf ((r 0).map (g.2.2.1 + ·))])
  | 9 => .inr (2, [va_rf ((r 0).map (g.2.2.1 + ·))])
  | 10 => .inr (2, [va_rf ((r 0).map (g.2.2.1 + ·))])
  | 11 => .inr (2, [va_rf ((r 0).map (g.2.2.1 + ·))])
  | 12 => .inr (2, [va_rf ((r 0).map (g.2.2.1 + ·))])
  | 13 => .inr (2, [va_rf ((r 0).map (g.2.2.1 + ·))])
  | 14 => .inr (2, [va_rf ((r 0).map (g.2.2.1 + ·))])
  | 15 => .inr (2, [va_rf ((r 0).map (g.2.2.1 + ·))])
  | 16 => .inr (2, [va_rf ((r 0).map (g.2.2.1 + ·))])
  | 17 => .inl (g.2.1 0, 40, .inl a)
  | 18 => .inl (g.2.1 0, 40, .inl a)
  | 19 => .inl (g.2.1 6, 8, .inr (.inr (.inr (.inr (fun j => some (g.2.2.1 + (20 + j)))))))
  | 20 => .inl (g.2.1 0, 40, .inl a)
  | 21 => .inl (g.2.1 0, 40, .inl a)
  | 22 => .inl (g.2.1 0, 40, .inl a)
  | 23 => .inl (g.2.1 0, 40, .inl a)
  | 24 => .inl (g.2.1 0, 40, .inl a)
  | 25 => .inl (g.2.1 0, 40, .inl a)
  | 26 => .inl (g.2.1 0, 40, .inl a)
  | 27 => .inl (g.2.1 0, 40, .inl a)
  | 28 => .inr (1, [.int (a 0), .int (a 1), .int (a 2), .int (a 3), .ref (g.2.2.1 + 29), .ref (g.2.2.1 + 30), .ref (g.2.2.1 + 43), .ref (g.2.2.1 + 44), .ref (g.2.2.1 + 45), .ref (g.2.2.1 + 46)])
  | 29 => .inl (g.2.1 0, 8, .inl a)
  | 30 => .inl (g.2.1 5, 12, .inr (.inr (.inr (.inr (fun j => some (g.2.2.1 + (31 + j)))))))
  | 31 => .inr (2, [va_rf ((r 0).map (g.2.2.1 + ·))])
  | 32 => .inr (2, [va_rf ((r 0).map (g.2.2.1 + ·))])
  | 33 => .inr (2, [va_rf ((r 0).map (g.2.2.1 + ·))])
  | 34 => .inr (2, [va_rf ((r 0).map (g.2.2.1 + ·))])
  | 35 => .inr (2, [va_rf ((r 0).map (g.2.2.1 + ·))])
  | 36 => .inr (2, [va_rf ((r 0).map (g.2.2.1 + ·))])
  | 37 => .inr (2, [va_rf ((r 0).map (g.2.2.1 + ·))])
  | 38 => .inr (2, [va_rf ((r 0).map (g.2.2.1 + ·))])
  | 39 => .inr (2, [va_rf ((r 0).map (g.2.2.1 + ·))])
  | 40 => .inr (2, [va_rf ((r 0).map (g.2.2.1 + ·))])
  | 41 => .inr (2, [va_rf ((r 0).map (g.2.2.1 + ·))])
  | 42 => .inr (2, [va_rf ((r 0).map (g.2.2.1 + ·))])
  | 43 => .inr (2, [va_rf ((r 0).map (g.2.2.1 + ·))])
  | 44 => .inl (g.2.1 0, 40, .inl a)
  | 45 => .inl (g.2.1 0, 40, .inl a)
  | 46 => .inl (g.2.1 6, 8, .inr (.inr (.inr (.inr (fun j => some (g.2.2.1 + (47 + j)))))))
  | 47 => .inl (g.2.1 0, 40, .inl a)
  | 48 => .inl (g.2.1 0, 40, .inl a)
  | 49 => .inl (g.2.1 0, 40, .inl a)
  | 50 => .inl (g.2.1 0, 40, .inl a)
  | 51 => .inl (g.2.1 0, 40, .inl a)
  | 52 => .inl (g.2.1 0, 40, .inl a)
  | 53 => .inl (g.2.1 0, 40, .inl a)
  | 54 => .inl (g.2.1 0, 40, .inl a)
  | 55 => .inl (g.2.1 3, 60, .inl a)
  | 56 => .inl (g.2.1 5, 4, .inr (.inr (.inr (.inr (fun j => some (g.2.2.1 + (57 + j)))))))
  | 57 => .inr (2, [va_rf ((r 0).map (g.2.2.1 + ·))])
  | 58 => .inr (2, [va_rf ((r 0).map (g.2.2.1 + ·))])
  | 59 => .inr (2, [va_rf ((r 0).map (g.2.2.1 + ·))])
  | 60 => .inr (2, [va_rf ((r 0).map (g.2.2.1 + ·))])
  | 61 => .inl (g.2.1 0, 7, .inl a)
  | 62 => .inl (g.2.1 0, 495, .inl a)
  | 63 => .inr (3, [.int (a 0), .int (a 1), .int (a 2), .int (a 3)])
  | 64 => .inr (4, [.ref (g.2.2.1 + 65)])
  | 65 => .inl (g.2.1 0, 7, .inl a)
  | 66 => .inl (g.2.1 0, 495, .inl a)
  | 67 => .inl (g.2.1 0, 495, .inl a)
  | 68 => .inl (g.2.1 0, 495, .inl a)
  | 69 => .inl (g.2.1 6, 5, .inr (.inr (.inr (.inr (fun j => some (g.2.2.1 + (70 + j)))))))
  | 70 => .inl (g.2.1 0, 495, .inl a)
  | 71 => .inl (g.2.1 0, 495, .inl a)
  | 72 => .inl (g.2.1 0, 495, .inl a)
  | 73 => .inl (g.2.1 0, 495, .inl a)
  | 74 => .inl (g.2.1 0, 495, .inl a)
  | 75 => .inl (g.2.1 0, 495, .inl a)
  | 76 => .inl (g.2.1 2, 495, .inl a)
  | _ => .inl (g.2.1 0, 0, .inl a)
abbrev clX : List vw_C := [(RX0, TX0, 19), (RX1, TX1, 10), (RX2, TX2, 1), (RX3, TX3, 4), (RX4, TX4, 1), (RX6, TX6, 7), (RX18, TX18, 7), (RX15, TX15, 4), (RX7, TX7, 1), (RX8, TX8, 1), (RX9, TX9, 1), (RX10, TX10, 1), (RX11, TX11, 1), (RX12, TX12, 1), (RX13, TX13, 1), (RX14, TX14, 1), (RX16, TX16, 1), (RX17, TX17, 1), (RX19, TX19, 3), (RX20, TX20, 4)]
abbrev GeoX : Type := Geo × (Nat → Option Cell)
def xw : List Cond := [.methodLinkNest "SlipWeeks" 41 ⟨"SlipWeeks$Game", "<init>", "()V"⟩ "SlipWeeks",
  .methodLinkNest "SlipWeeks" 9 ⟨"SlipWeeks$Slot", "<init>", "()V"⟩ "SlipWeeks",
  .methodLinkNest "SlipWeeks" 72 ⟨"SlipWeeks$Look", "<init>", "()V"⟩ "SlipWeeks",
  .methodLinkNest "SlipWeeks" 79 ⟨"SlipWeeks$Named", "<init>", "()V"⟩ "SlipWeeks",
  .methodLinkNest "SlipWeeks$Game" 19 ⟨"SlipWeeks", "slots", "(I)[LSlipWeeks$Slot;"⟩ "SlipWeeks",
  .methodLinkNest "SlipWeeks$Game" 29 ⟨"SlipWeeks$Slot", "<init>", "()V"⟩ "SlipWeeks",
  .castable "SlipWeeks$Machine" "SlipWeeks$Cross",
  .castable "SlipWeeks$Last" "SlipWeeks$Cross",
  .methodLinkNest "SlipWeeks$Lucky" 23 ⟨"SlipWeeks", "has", "(II)Z"⟩ "SlipWeeks",
  .castable "SlipWeeks$Lucky" "SlipWeeks$Cross",
  .castable "SlipWeeks$Sought" "SlipWeeks$Cross",
  .castable "SlipWeeks$Bought" "SlipWeeks$Cross",
  .methodLinkNest "SlipWeeks$Reader" 56 ⟨"SlipWeeks", "in", "(JJJ)Z"⟩ "SlipWeeks",
  .castable "SlipWeeks$Plain" "SlipWeeks$Part",
  .unhidden "SlipWeeks$Plain" "worth" "(LSlipWeeks$Named;)I",
  .publicMethod ⟨"SlipWeeks$Plain", "worth", "(LSlipWeeks$Named;)I"⟩,
  .unhidden "SlipWeeks$Plain" "held" "(LSlipWeeks$Named;)I",
  .castable "SlipWeeks$Name" "SlipWeeks$Part",
  .unhidden "SlipWeeks$Name" "worth" "(LSlipWeeks$Named;)I",
  .publicMethod ⟨"SlipWeeks$Name", "worth", "(LSlipWeeks$Named;)I"⟩,
  .unhidden "SlipWeeks$Name" "held" "(LSlipWeeks$Named;)I",
  .castable "SlipWeeks$Fault" "SlipWeeks$Fault",
  .castable "SlipWeeks$Two" "SlipWeeks$Part",
  .unhidden "SlipWeeks$Two" "worth" "(LSlipWeeks$Named;)I",
  .publicMethod ⟨"SlipWeeks$Two", "worth", "(LSlipWeeks$Named;)I"⟩,
  .unhidden "SlipWeeks$Two" "held" "(LSlipWeeks$Named;)I",
  .castable "SlipWeeks$Choice" "SlipWeeks$Part",
  .unhidden "SlipWeeks$Choice" "held" "(LSlipWeeks$Named;)I",
  .unhidden "SlipWeeks$Choice" "worth" "(LSlipWeeks$Named;)I",
  .publicMethod ⟨"SlipWeeks$Choice", "worth", "(LSlipWeeks$Named;)I"⟩,
  .interfaceMethod "SlipWeeks$Part" "SlipWeeks$Part" "held" "(LSlipWeeks$Named;)I",
  .declares ⟨"SlipWeeks$Part", "held", "(LSlipWeeks$Named;)I"⟩,
  .publicMethod ⟨"SlipWeeks$Part", "held", "(LSlipWeeks$Named;)I"⟩,
  .interfaceMethod "SlipWeeks$Part" "SlipWeeks$Part" "worth" "(LSlipWeeks$Named;)I",
  .declares ⟨"SlipWeeks$Part", "worth", "(LSlipWeeks$Named;)I"⟩,
  .methodLinkNest "SlipWeeks$Named" 15 ⟨"SlipWeeks", "has", "(II)Z"⟩ "SlipWeeks",
  .castable "SlipWeeks$Finding" "SlipWeeks$Finding",
  .castable "SlipWeeks$Born" "SlipWeeks$Cross",
  .castable "SlipWeeks$Drawn" "SlipWeeks$Cross"]
/-- the words that don't ride in the lists; what isn't castable; the two statics of Throwable -/
def zS (F : Nat → Option Cell) (C n d : String) (U : State) : Prop := ∃ (cf : ClassId) (kf : Class) (fi : Nat) (f : Field) (a : Nat) (cell : Cell) (v : Value), U.fieldFound? C n d = some (cf, kf, fi, f) ∧ f.isStatic = true ∧ kf.init = .initialized ∧ kf.statics = some a ∧ F a = some cell ∧ cell.vm.isStatics = true ∧ cell.slots[f.slot]? = some v ∧ (v = .null ∨ ∃ t, v = .ref t)
def EX (F : Nat → Option Cell) (U : State) : Prop := (∀ w ∈ xw, va_Nw w U) ∧ (∀ q ∈ [("[S", "[B"), ("[J", "[B"), ("[J", "[S")], va_Nc q.1 q.2 U) ∧ zS F "java/lang/Throwable" "UNASSIGNED_STACK" "[Ljava/lang/StackTraceElement;" U ∧ zS F "java/lang/Throwable" "SUPPRESSED_SENTINEL" "Ljava/util/List;" U ∧ ∀ q ∈ ["SlipWeeks$Plain", "SlipWeeks$Name", "SlipWeeks$Two", "SlipWeeks$Choice"], va_Nw (.landsInDefault q ⟨"SlipWeeks$Part", "held", "(LSlipWeeks$Named;)I"⟩ ⟨"SlipWeeks$Part", "held", "(LSlipWeeks$Named;)I"⟩) U
def VX (g : GeoX) : Mod := (g.1.1, clX, [(g.1.2.1 0, .int), (g.1.2.1 1, .long), (g.1.2.1 2, .boolean), (g.1.2.1 3, .byte), (g.1.2.1 4, .short), (g.1.2.1 5, (.object "SlipWeeks$Slot")), (g.1.2.1 6, (.array .int))], YX g.1, 77, g.1.2.2.1, 97, g.2, EX g.2)
theorem YX_4 (g : Geo) (a : Nat → Int32) (b : Nat → Int64) (r : Nat → Option Nat) : ∀ j, j < 12 → YX g (4 + j) a b r = .inr (2, [va_rf ((r 0).map (g.2.2.1 + ·))]) := by
  intro j hj
  match j, hj with
  | 0, _ => rfl
  | 1, _ => rfl
  | 2, _ => rfl
  | 3, _ => rfl
  | 4, _ => rfl
  | 5, _ => rfl
  | 6, _ => rfl
  | 7, _ => rfl
  | 8, _ => rfl
  | 9, _ => rfl
  | 10, _ => rfl
  | 11, _ => rfl
  | j + 12, hj => exact absurd hj (by omega)
theorem YXk_4 (g : GeoX) : ∀ j, j < 12 → 4 + j < vK (VX g) := fun j hj => Nat.lt_of_lt_of_le (Nat.add_lt_add_left hj 4) (Nat.le_of_ble_eq_true rfl)
theorem YX_31 (g : Geo) (a : Nat → Int32) (b : Nat → Int64) (r : Nat → Option Nat) : ∀ j, j < 12 → YX g (31 + j) a b r = .inr (2, [va_rf ((r 0).map (g.2.2.1 + ·))]) := by
  intro j hj
  match j, hj with
  | 0, _ => rfl
  | 1, _ => rfl
  | 2, _ => rfl
  | 3, _ => rfl
  | 4, _ => rfl
  | 5, _ => rfl
  | 6, _ => rfl
  | 7, _ => rfl
  | 8, _ => rfl
  | 9, _ => rfl
  | 10, _ => rfl
  | 11, _ => rfl
  | j + 12, hj => exact absurd hj (by omega)
theorem YXk_31 (g : GeoX) : ∀ j, j < 12 → 31 + j < vK (VX g) := fun j hj => Nat.lt_of_lt_of_le (Nat.add_lt_add_left hj 31) (Nat.le_of_ble_eq_true rfl)
theorem YX_57 (g : Geo) (a : Nat → Int32) (b : Nat → Int64) (r : Nat → Option Nat) : ∀ j, j < 4 → YX g (57 + j) a b r = .inr (2, [va_rf ((r 0).map (g.2.2.1 + ·))]) := by
  intro j hj
  match j, hj with
  | 0, _ => rfl
  | 1, _ => rfl
  | 2, _ => rfl
  | 3, _ => rfl
  | j + 4, hj => exact absurd hj (by omega)
theorem YXk_57 (g : GeoX) : ∀ j, j < 4 → 57 + j < vK (VX g) := fun j hj => Nat.lt_of_lt_of_le (Nat.add_lt_add_left hj 57) (Nat.le_of_ble_eq_true rfl)
theorem YX_20 (g : Geo) (a : Nat → Int32) (b : Nat → Int64) (r : Nat → Option Nat) : ∀ j, j < 8 → YX g (20 + j) a b r = .inl (g.2.1 0, 40, .inl a) := by
  intro j hj
  match j, hj with
  | 0, _ => rfl
  | 1, _ => rfl
  | 2, _ => rfl
  | 3, _ => rfl
  | 4, _ => rfl
  | 5, _ => rfl
  | 6, _ => rfl
  | 7, _ => rfl
  | j + 8, hj => exact absurd hj (by omega)
theorem YXk_20 (g : GeoX) : ∀ j, j < 8 → 20 + j < vK (VX g) := fun j hj => Nat.lt_of_lt_of_le (Nat.add_lt_add_left hj 20) (Nat.le_of_ble_eq_true rfl)
theorem YX_47 (g : Geo) (a : Nat → Int32) (b : Nat → Int64) (r : Nat → Option Nat) : ∀ j, j < 8 → YX g (47 + j) a b r = .inl (g.2.1 0, 40, .inl a) := by
  intro j hj
  match j, hj with
  | 0, _ => rfl
  | 1, _ => rfl
  | 2, _ => rfl
  | 3, _ => rfl
  | 4, _ => rfl
  | 5, _ => rfl
  | 6, _ => rfl
  | 7, _ => rfl
  | j + 8, hj => exact absurd hj (by omega)
theorem YXk_47 (g : GeoX) : ∀ j, j < 8 → 47 + j < vK (VX g) := fun j hj => Nat.lt_of_lt_of_le (Nat.add_lt_add_left hj 47) (Nat.le_of_ble_eq_true rfl)
theorem YX_70 (g : Geo) (a : Nat → Int32) (b : Nat → Int64) (r : Nat → Option Nat) : ∀ j, j < 5 → YX g (70 + j) a b r = .inl (g.2.1 0, 495, .inl a) := by
  intro j hj
  match j, hj with
  | 0, _ => rfl
  | 1, _ => rfl
  | 2, _ => rfl
  | 3, _ => rfl
  | 4, _ => rfl
  | j + 5, hj => exact absurd hj (by omega)
theorem YXk_70 (g : GeoX) : ∀ j, j < 5 → 70 + j < vK (VX g) := fun j hj => Nat.lt_of_lt_of_le (Nat.add_lt_add_left hj 70) (Nat.le_of_ble_eq_true rfl)
theorem inb_lt {i : Int32} {n : Nat} (h : inb i n = true) : ix i < n := by
  have h' := inb_spec h
  show i.toNatClampNeg < n
  exact Nat.not_le.mp fun q => h' (Or.inr q)
theorem s_opt {γ : Type} {Θ : ThT Mem} {nL : Nat} {ρ : γ} {σ : Mem} {F1 : Option γ} {K : Nat → Option γ} {cs : Nat × Nat} {pc : Nat} {lv : List (Nat × Value)} {st : List Value} {o : Nat} {r : Option Nat} (h0 : r = none → Sim Θ nL ρ σ F1 cs pc lv (.null :: st)) (h1 : ∀ a, r = some a → Sim Θ nL ρ σ (K a) cs pc lv (.ref (o + a) :: st)) : Sim Θ nL ρ σ (mO r F1 K) cs pc lv (va_rf (r.map (o + ·)) :: st) := by
  cases r with
  | none => exact h0 rfl
  | some a => exact h1 a rfl
theorem s_wid {Sg γ : Type} {Θ : ThT Sg} {cc : ByteArray} {nL : Nat} {own : String} {ρ : γ} {σ : Sg} {F : Option γ} {cs : Nat × Nat} {pc : Nat} {lv : List (Nat × Value)} {st : List Value} (hc : Cx0 Θ cc nL own) (cs' : Nat × Nat) (h1 : cs.1 ≤ cs'.1) (h2 : cs.2 ≤ cs'.2) (kk : Sim Θ nL ρ σ F cs' pc lv st) : Sim Θ nL ρ σ F cs pc lv st := by
  obtain ⟨p, l, e, R, s, m, args, below, meth, c, Q, WW, A, rfl, hx, hb, hml, ho, hts⟩ := hc
  intro hF ls hl H locs hW hS
  exact W.widen h1 h2 (kk hF ls hl H locs hW hS)
def isC (σ : Mem) (a c : Nat) : Bool := match gC σ a with
  | some (.inr (c', _)) => c' == c
  | _ => false
def cT2 {β γ : Type} (q : (β ⊕ Nat) × Mem) (k1 : β → Mem → Option γ) (k2 : Nat → Mem → Option γ) : Option γ := match q with
  | (.inl v, σ) => k1 v σ
  | (.inr a, σ) => k2 a σ
theorem s_c2 {γ β : Type} {Θ : ThT Mem} {nL : Nat} {ρ : γ} {s : Mem} {v : β} {f : β → Mem → Option γ} {f2 : Nat → Mem → Option γ} {cs : Nat × Nat} {pc : Nat} {lv : List (Nat × Value)} {st : List Value} (h : Sim Θ nL ρ s (f v s) cs pc lv st) : Sim Θ nL ρ ((Sum.inl v, s) : (β ⊕ Nat) × Mem).2 (cT2 (Sum.inl v, s) f f2) cs pc lv st := h
theorem isC_ob {V : Mod} {σ : Mem} {a c : Nat} (h : isC σ a c = true) : Ob V σ a c := by
  unfold isC at h
  split at h
  · rename_i c' fs he
    have : c' = c := by simpa using h
    subst this
    exact Or.inr ⟨fs, he⟩
  · cases h
theorem lw_O {own : String} {idx : Nat} {C owner : String} {x y : MethodName} {b : ByteArray} {L : Nat} {r : Option FieldType} (h1 : Cond.methodLink own idx x ∈ lw_all) (h2 : Cond.sameMethod x.cls owner x.name x.desc ∈ lw_all) (h3 : Cond.instanceMethod ⟨owner, x.name, x.desc⟩ ∈ lw_all) (h4 : Cond.selects C x y ∈ lw_all) (h5 : Cond.instanceMethod y ∈ lw_all) (h6 : Cond.initialized y.cls ∈ lw_all) (h7 : Cond.code y b L r ∈ lw_all) : GoodIn lw_all (va_wsO own idx C owner x y (ws_ y b L r)) := by
  refine lw_app ?_ (lw_meth h7)
  intro w hw
  simp only [List.mem_cons, List.not_mem_nil, or_false] at hw
  rcases hw with e | e | e | e | e | e <;> rw [e] <;> assumption
theorem lw_SU {own : String} {idx : Nat} {y : MethodName} {b : ByteArray} {L : Nat} {r : Option FieldType} (h1 : Cond.methodLink own idx y ∈ lw_all) (h2 : Cond.sameMethod y.cls y.cls y.name y.desc ∈ lw_all) (h3 : Cond.superclass own y.cls ∈ lw_all) (h5 : Cond.instanceMethod y ∈ lw_all) (h6 : Cond.initialized y.cls ∈ lw_all) (h7 : Cond.code y b L r ∈ lw_all) : GoodIn lw_all (va_wsSU own idx y (ws_ y b L r)) := by
  refine lw_app ?_ (lw_meth h7)
  intro w hw
  simp only [List.mem_cons, List.not_mem_nil, or_false] at hw
  rcases hw with e | e | e | e | e <;> rw [e] <;> assumption
theorem lw_F {own : String} {idx : Nat} {C : String} {x y : MethodName} {b : ByteArray} {L : Nat} {r : Option FieldType} (h1 : Cond.methodLink own idx x ∈ lw_all) (h4 : Cond.selects C x y ∈ lw_all) (h5 : Cond.instanceMethod y ∈ lw_all) (h6 : Cond.initialized y.cls ∈ lw_all) (h7 : Cond.code y b L r ∈ lw_all) : GoodIn lw_all (va_wsF own idx C x y (ws_ y b L r)) := by
  refine lw_app ?_ (lw_meth h7)
  intro w hw
  simp only [List.mem_cons, List.not_mem_nil, or_false] at hw
  rcases hw with e | e | e | e <;> rw [e] <;> assumption
theorem nr_byte (x : Int32) : narrow .byte (.int x.toInt8.toInt32) = .int x.toInt8.toInt32 := pk_nb x
theorem nr_short (x : Int32) : narrow .short (.int x.toInt16.toInt32) = .int x.toInt16.toInt32 := pk_ns x
