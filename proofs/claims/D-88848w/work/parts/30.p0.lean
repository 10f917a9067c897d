/-! PURE PART, the tools: small numbers as Int32, loops, bits -/
abbrev i32 (k : Nat) : Int32 := Int32.ofNat k
theorem tn_i {k : Nat} (h : k < 2147483648) : (Int32.ofNat k).toNatClampNeg = k := Int32.toNatClampNeg_ofNat_of_lt h
theorem ti_i {k : Nat} (h : k < 2147483648) : (Int32.ofNat k).toInt = (k : Int) := Int32.toInt_ofNat_of_lt h
theorem i_inj {a b : Nat} (ha : a < 2147483648) (hb : b < 2147483648) : Int32.ofNat a = Int32.ofNat b ↔ a = b := by
  constructor
  · intro h
    have h2 := congrArg Int32.toNatClampNeg h
    rwa [tn_i ha, tn_i hb] at h2
  · intro h
    rw [h]
theorem i_le {a b : Nat} (ha : a < 2147483648) (hb : b < 2147483648) : Int32.ofNat a ≤ Int32.ofNat b ↔ a ≤ b := Int32.ofNat_le_iff_le ha hb
theorem i_lt {a b : Nat} (ha : a < 2147483648) (hb : b < 2147483648) : Int32.ofNat a < Int32.ofNat b ↔ a < b := Int32.ofNat_lt_iff_lt ha hb
theorem i_add (a b : Nat) : Int32.ofNat a + Int32.ofNat b = Int32.ofNat (a + b) := (Int32.ofNat_add a b).symm
theorem i_add_1 (a : Nat) : Int32.ofNat a + 1 = Int32.ofNat (a + 1) := (Int32.ofNat_add a 1).symm
theorem i_mul (a b : Nat) : Int32.ofNat a * Int32.ofNat b = Int32.ofNat (a * b) := (Int32.ofNat_mul a b).symm
theorem i_sub {a b : Nat} (h : b ≤ a) : Int32.ofNat a - Int32.ofNat b = Int32.ofNat (a - b) := (Int32.ofNat_sub a b h).symm
theorem i_nn {a : Nat} (h : a < 2147483648) : ¬ Int32.ofNat a < 0 := by
  rw [Int32.lt_iff_toInt_lt, ti_i h, show (0 : Int32).toInt = 0 from rfl]
  omega
theorem i_ge0 {a : Nat} (h : a < 2147483648) : (0 : Int32) ≤ Int32.ofNat a := by
  rw [Int32.le_iff_toInt_le, ti_i h, show (0 : Int32).toInt = 0 from rfl]
  omega
theorem inb_i {k n : Nat} (hk : k < 2147483648) : inb (Int32.ofNat k) n ↔ k < n := by
  unfold inb
  rw [tn_i hk]
  constructor
  · intro h
    exact Nat.lt_of_not_le fun q => h (Or.inr q)
  · intro h q
    rcases q with q | q
    · exact i_nn hk q
    · omega
/-- a number that is not below 0 -/
theorem i_of {x : Int32} (h : ¬ x < 0) : x = Int32.ofNat x.toNatClampNeg := (Int32.ofNat_toNatClampNeg x (by
  rw [Int32.le_iff_toInt_le]
  rw [Int32.lt_iff_toInt_lt] at h
  omega)).symm
theorem i_bd (x : Int32) : x.toNatClampNeg < 2147483648 := Int32.toNatClampNeg_lt x
/-- in(v, 0, k - 1), in(v, lo, hi) -/
theorem inIff (a b c : Int32) (w : Wd) : f_X4_in a b c w = true ↔ b ≤ a ∧ a ≤ c := by
  unfold f_X4_in
  rw [Int32.le_iff_toInt_le, Int32.le_iff_toInt_le]
  by_cases h1 : a < b
  · rw [if_pos h1]
    rw [Int32.lt_iff_toInt_lt] at h1
    constructor
    · intro h; cases h
    · intro h; omega
  · rw [if_neg h1]
    rw [Int32.lt_iff_toInt_lt] at h1
    by_cases h2 : c < a
    · rw [if_pos h2]
      rw [Int32.lt_iff_toInt_lt] at h2
      constructor
      · intro h; cases h
      · intro h; omega
    · rw [if_neg h2]
      rw [Int32.lt_iff_toInt_lt] at h2
      exact ⟨fun _ => by omega, fun _ => rfl⟩
theorem inX0 (a b c : Int32) (w w' : Wd) : f_X0_in a b c w = f_X4_in a b c w' := rfl
theorem in_w (a b c : Int32) (w w' : Wd) : f_X4_in a b c w = f_X4_in a b c w' := rfl
theorem in_lt {a : Int32} {n : Nat} {w : Wd} (hn : n < 2147483648) (h : f_X4_in a 0 (Int32.ofNat n - 1) w = true) : ∃ k, k < n ∧ a = Int32.ofNat k := by
  obtain ⟨h1, h2⟩ := (inIff _ _ _ _).mp h
  refine ⟨a.toNatClampNeg, ?_, i_of ?_⟩
  · rw [Int32.le_iff_toInt_le] at h1 h2
    rw [show (0 : Int32).toInt = 0 from rfl] at h1
    have h3 : (a.toNatClampNeg : Int) = a.toInt := Int32.cast_toNatClampNeg a (Int32.le_iff_toInt_le.mpr h1)
    rw [Int32.toInt_sub, ti_i hn, show (1 : Int32).toInt = 1 from rfl, Int.bmod_eq_of_le (by omega) (by omega)] at h2
    omega
  · rw [Int32.le_iff_toInt_le] at h1
    rw [Int32.lt_iff_toInt_lt]
    omega
theorem in_le {a : Int32} {n : Nat} {w : Wd} (hn : n < 2147483648) (h : f_X4_in a 0 (Int32.ofNat n) w = true) : ∃ k, k ≤ n ∧ a = Int32.ofNat k := by
  obtain ⟨h1, h2⟩ := (inIff _ _ _ _).mp h
  rw [Int32.le_iff_toInt_le] at h1 h2
  rw [show (0 : Int32).toInt = 0 from rfl] at h1
  have h3 : (a.toNatClampNeg : Int) = a.toInt := Int32.cast_toNatClampNeg a (Int32.le_iff_toInt_le.mpr h1)
  rw [ti_i hn] at h2
  refine ⟨a.toNatClampNeg, by omega, i_of ?_⟩
  rw [Int32.lt_iff_toInt_lt]
  exact Int.not_lt.mpr h1
theorem in_yes {k n : Nat} {w : Wd} (hn : n < 2147483648) (h : k < n) : f_X4_in (Int32.ofNat k) 0 (Int32.ofNat n - 1) w = true := by
  rw [inIff]
  refine ⟨i_ge0 (by omega), ?_⟩
  rw [show (1 : Int32) = Int32.ofNat 1 from rfl, i_sub (by omega), i_le (by omega) (by omega)]
  omega
/-! loops -/
theorem it_succ {S T : Type} (n : Nat) (b : S → Option (S ⊕ T)) (s : S) : it (n + 1) b s = match b s with
    | none => none
    | some (.inl s') => it n b s'
    | some (.inr t) => some t := rfl
theorem it_go {S T : Type} {n : Nat} {b : S → Option (S ⊕ T)} {s s' : S} (h : b s = some (.inl s')) : it (n + 1) b s = it n b s' := by rw [it_succ, h]
theorem it_stop {S T : Type} {n : Nat} {b : S → Option (S ⊕ T)} {s : S} {t : T} (h : b s = some (.inr t)) : it (n + 1) b s = some t := by rw [it_succ, h]
/-- a loop that counts up, or leaves -/
theorem it_up {S T : Type} {b : S → Option (S ⊕ T)} (I : Nat → S → Prop) (Post : T → Prop) (hi : Nat)
    (hstep : ∀ k s, k < hi → I k s → (∃ s', b s = some (.inl s') ∧ I (k + 1) s') ∨ ∃ t, b s = some (.inr t) ∧ Post t)
    (hend : ∀ s, I hi s → ∃ t, b s = some (.inr t) ∧ Post t) : ∀ (d k n : Nat) (s : S), k + d = hi → d < n → I k s → ∃ t, it n b s = some t ∧ Post t := by
  intro d
  induction d with
  | zero =>
    intro k n s hk hn hI
    obtain ⟨n, rfl⟩ : ∃ m, n = m + 1 := ⟨n - 1, by omega⟩
    have hk : k = hi := by omega
    subst hk
    obtain ⟨t, h1, h2⟩ := hend s hI
    exact ⟨t, it_stop h1, h2⟩
  | succ d ih =>
    intro k n s hk hn hI
    obtain ⟨n, rfl⟩ : ∃ m, n = m + 1 := ⟨n - 1, by omega⟩
    rcases hstep k s (by omega) hI with ⟨s', h1, h2⟩ | ⟨t, h1, h2⟩
    · rw [it_go h1]
      exact ih (k + 1) n s' (by omega) (by omega) h2
    · exact ⟨t, it_stop h1, h2⟩
/-- a loop that counts up and does not leave -/
theorem it_all {S T : Type} {b : S → Option (S ⊕ T)} (I : Nat → S → Prop) (Post : T → Prop) (hi : Nat)
    (hstep : ∀ k s, k < hi → I k s → ∃ s', b s = some (.inl s') ∧ I (k + 1) s')
    (hend : ∀ s, I hi s → ∃ t, b s = some (.inr t) ∧ Post t) (n : Nat) (s : S) (hn : hi < n) (h0 : I 0 s) : ∃ t, it n b s = some t ∧ Post t :=
  it_up I Post hi (fun k s hk hI => Or.inl (hstep k s hk hI)) hend hi 0 n s (by omega) hn h0
/-- many steps of a loop, fuel counted -/
def Go {S T : Type} (b : S → Option (S ⊕ T)) (s s' : S) : Prop := ∃ k, ∀ n, it (k + n) b s = it n b s'
theorem Go.rfl' {S T : Type} {b : S → Option (S ⊕ T)} {s : S} : Go b s s := ⟨0, fun n => by rw [Nat.zero_add]⟩
theorem Go.one {S T : Type} {b : S → Option (S ⊕ T)} {s s' : S} (h : b s = some (.inl s')) : Go b s s' := ⟨1, fun n => by rw [Nat.add_comm, it_go h]⟩
theorem Go.trans {S T : Type} {b : S → Option (S ⊕ T)} {s s' s'' : S} (h1 : Go b s s') (h2 : Go b s' s'') : Go b s s'' := by
  obtain ⟨k1, h1⟩ := h1
  obtain ⟨k2, h2⟩ := h2
  exact ⟨k1 + k2, fun n => by rw [Nat.add_assoc, h1, h2]⟩
theorem Go.step {S T : Type} {b : S → Option (S ⊕ T)} {s s' s'' : S} (h : b s = some (.inl s')) (h2 : Go b s' s'') : Go b s s'' := (Go.one h).trans h2
/-- it ends -/
def Ends {S T : Type} (b : S → Option (S ⊕ T)) (s : S) (t : T) : Prop := ∃ k, ∀ n, it (k + n) b s = some t
theorem Ends.one {S T : Type} {b : S → Option (S ⊕ T)} {s : S} {t : T} (h : b s = some (.inr t)) : Ends b s t := ⟨1, fun n => by rw [Nat.add_comm, it_stop h]⟩
theorem Go.ends {S T : Type} {b : S → Option (S ⊕ T)} {s s' : S} {t : T} (h1 : Go b s s') (h2 : Ends b s' t) : Ends b s t := by
  obtain ⟨k1, h1⟩ := h1
  obtain ⟨k2, h2⟩ := h2
  exact ⟨k1 + k2, fun n => by rw [Nat.add_assoc, h1, h2]⟩
theorem Ends.it {S T : Type} {b : S → Option (S ⊕ T)} {s : S} {t : T} (h : Ends b s t) : ∃ n, ∀ m, n ≤ m → it m b s = some t := by
  obtain ⟨k, h⟩ := h
  exact ⟨k, fun m hm => by rw [show m = k + (m - k) by omega, h]⟩
/-! reading a changed world -/
section RD
variable (w : Wd)
theorem wI_ne {a b f k : Nat} {v : Int32} (h : a ≠ b) : wI (sI w b f v) a k = wI w a k := by rw [wI_sI, if_neg (fun q => h q.1)]
theorem wI_nf {a f k : Nat} {v : Int32} (h : k ≠ f) : wI (sI w a f v) a k = wI w a k := by rw [wI_sI, if_neg (fun q => h q.2)]
theorem wI_eq {a f : Nat} {v : Int32} : wI (sI w a f v) a f = v := wI_self w a f v
theorem wI_N {a t n k : Nat} (h : a ≠ wZ w) : wI (sN w t n) a k = wI w a k := by rw [wI_sN, if_neg h]
theorem wI_Nz {t n k : Nat} : wI (sN w t n) (wZ w) k = 0 := by rw [wI_sN, if_pos rfl]
theorem wL_ne {a b f k : Nat} {v : Int64} (h : a ≠ b) : wL (sL w b f v) a k = wL w a k := by rw [wL_sL, if_neg (fun q => h q.1)]
theorem wL_nf {a f k : Nat} {v : Int64} (h : k ≠ f) : wL (sL w a f v) a k = wL w a k := by rw [wL_sL, if_neg (fun q => h q.2)]
theorem wL_eq {a f : Nat} {v : Int64} : wL (sL w a f v) a f = v := wL_self w a f v
theorem wL_N {a t n k : Nat} (h : a ≠ wZ w) : wL (sN w t n) a k = wL w a k := by rw [wL_sN, if_neg h]
theorem wL_Nz {t n k : Nat} : wL (sN w t n) (wZ w) k = 0 := by rw [wL_sN, if_pos rfl]
theorem wR_ne {a b f k : Nat} {v : Option Nat} (h : a ≠ b) : wR (sR w b f v) a k = wR w a k := by rw [wR_sR, if_neg (fun q => h q.1)]
theorem wR_nf {a f k : Nat} {v : Option Nat} (h : k ≠ f) : wR (sR w a f v) a k = wR w a k := by rw [wR_sR, if_neg (fun q => h q.2)]
theorem wR_eq {a f : Nat} {v : Option Nat} : wR (sR w a f v) a f = v := by rw [wR_sR, if_pos ⟨rfl, rfl⟩]
theorem wR_N {a t n k : Nat} (h : a ≠ wZ w) : wR (sN w t n) a k = wR w a k := by rw [wR_sN, if_neg h]
theorem wR_Nz {t n k : Nat} : wR (sN w t n) (wZ w) k = none := by rw [wR_sN, if_pos rfl]
theorem wT_N {a t n : Nat} (h : a ≠ wZ w) : wT (sN w t n) a = wT w a := by rw [wT_sN, if_neg h]
theorem wT_Nz {t n : Nat} : wT (sN w t n) (wZ w) = (t, n) := by rw [wT_sN, if_pos rfl]
theorem wI_Ne {a t n k : Nat} (h : a = wZ w) : wI (sN w t n) a k = 0 := by rw [wI_sN, if_pos h]
theorem wL_Ne {a t n k : Nat} (h : a = wZ w) : wL (sN w t n) a k = 0 := by rw [wL_sN, if_pos h]
theorem wR_Ne {a t n k : Nat} (h : a = wZ w) : wR (sN w t n) a k = none := by rw [wR_sN, if_pos h]
theorem wT_Ne {a t n : Nat} (h : a = wZ w) : wT (sN w t n) a = (t, n) := by rw [wT_sN, if_pos h]
end RD
/-! bits (rows of kit/laws/BITS, family Int32 by its bits, then mine) -/
def bt (x : Int32) (i : Nat) : Bool := x.toBitVec.getLsbD i
theorem b_ext {x y : Int32} (h : ∀ i, i < 32 → bt x i = bt y i) : x = y := Int32.toBitVec_inj.mp (BitVec.eq_of_getLsbD_eq (fun i hi => h i hi))
theorem b_or (x y : Int32) (i : Nat) : bt (x ||| y) i = (bt x i || bt y i) := by unfold bt; rw [Int32.toBitVec_or, BitVec.getLsbD_or]
theorem b_and (x y : Int32) (i : Nat) : bt (x &&& y) i = (bt x i && bt y i) := by unfold bt; rw [Int32.toBitVec_and, BitVec.getLsbD_and]
theorem b_xor (x y : Int32) (i : Nat) : bt (x ^^^ y) i = (bt x i ^^ bt y i) := by unfold bt; rw [Int32.toBitVec_xor, BitVec.getLsbD_xor]
theorem b_big {x : Int32} {i : Nat} (h : 32 ≤ i) : bt x i = false := BitVec.getLsbD_of_ge _ _ h
theorem b_m1 : ∀ i, i < 32 → bt (-1) i = true := by decide +kernel
theorem b_0 (i : Nat) : bt 0 i = false := BitVec.getLsbD_zero
theorem s_l : ∀ n, n < 32 → ((nI n &&& 31).toBitVec.smod 32).toNat = n := by decide +kernel
theorem s_u : ∀ n, n < 32 → (((nI n).toUInt32 &&& Int32.toUInt32 31).toBitVec % 32).toNat = n := by decide +kernel
theorem b_shl (n : Nat) (hn : n < 32) (x : Int32) {i : Nat} (hi : i < 32) : bt (x <<< (nI n &&& 31)) i = (decide (n ≤ i) && bt x (i - n)) := by
  unfold bt
  rw [Int32.toBitVec_shiftLeft]
  show (x.toBitVec <<< ((nI n &&& 31).toBitVec.smod 32).toNat).getLsbD i = _
  rw [s_l n hn, BitVec.getLsbD_shiftLeft]
  rcases Nat.lt_or_ge i n with h | h
  · simp [h, Nat.not_le.mpr h]
  · simp [hi, h, Nat.not_lt.mpr h]
theorem b_ushr (n : Nat) (hn : n < 32) (x : Int32) (i : Nat) : bt ((x.toUInt32 >>> ((nI n).toUInt32 &&& Int32.toUInt32 31)).toInt32) i = bt x (n + i) := by
  show (x.toUInt32 >>> ((nI n).toUInt32 &&& Int32.toUInt32 31)).toBitVec.getLsbD i = x.toUInt32.toBitVec.getLsbD (n + i)
  rw [UInt32.toBitVec_shiftRight]
  show (x.toUInt32.toBitVec >>> (((nI n).toUInt32 &&& Int32.toUInt32 31).toBitVec % 32).toNat).getLsbD i = _
  rw [s_u n hn, BitVec.getLsbD_ushiftRight]
theorem b_sshr (n : Nat) (hn : n < 32) (x : Int32) {i : Nat} (hi : i < 32) : bt (x >>> (nI n &&& 31)) i = if n + i < 32 then bt x (n + i) else bt x 31 := by
  unfold bt
  rw [Int32.toBitVec_shiftRight]
  show (x.toBitVec.sshiftRight ((nI n &&& 31).toBitVec.smod 32).toNat).getLsbD i = _
  rw [s_l n hn, BitVec.getLsbD_sshiftRight, BitVec.msb_eq_getLsbD_last]
  simp [hi]
theorem b_1 : ∀ i, i < 32 → bt 1 i = decide (i = 0) := by decide +kernel
theorem b_not (x : Int32) {i : Nat} (hi : i < 32) : bt (x ^^^ (-1)) i = !bt x i := by rw [b_xor, b_m1 i hi, Bool.xor_true]
theorem b_of (v : Nat) {i : Nat} (hi : i < 32) : bt (Int32.ofNat v) i = v.testBit i := by
  show (BitVec.ofNat 32 v).getLsbD i = _
  rw [BitVec.getLsbD_ofNat]
  simp [hi]
theorem bit_is {y : Nat} (hy : y < 32) (x : Int32) : (x >>> (Int32.ofNat y &&& 31)) &&& 1 = if bt x y = true then 1 else 0 := by
  apply b_ext
  intro i hi
  rw [b_and, b_1 i hi]
  show (bt (x >>> (nI y &&& 31)) i && decide (i = 0)) = _
  rw [b_sshr y hy x hi]
  by_cases c : i = 0
  · subst c
    rw [if_pos (by omega), Nat.add_zero]
    cases bt x y <;> decide
  · rw [decide_eq_false c, Bool.and_false]
    split
    · rw [b_1 i hi, decide_eq_false c]
    · rw [b_0]
theorem bit1 {y : Nat} (hy : y < 32) (x : Int32) : ((x >>> (Int32.ofNat y &&& 31)) &&& 1 = 1) = (bt x y = true) := by
  rw [bit_is hy]
  cases bt x y <;> simp
theorem bit0 {y : Nat} (hy : y < 32) (x : Int32) : ((x >>> (Int32.ofNat y &&& 31)) &&& 1 = 0) = (bt x y = false) := by
  rw [bit_is hy]
  cases bt x y <;> simp
theorem sh1 {y i : Nat} (hy : y < 32) (hi : i < 32) : bt ((1 : Int32) <<< (Int32.ofNat y &&& 31)) i = decide (i = y) := by
  show bt ((1 : Int32) <<< (nI y &&& 31)) i = _
  rw [b_shl y hy 1 hi, b_1 (i - y) (by omega)]
  by_cases c : i = y
  · subst c
    simp
  · by_cases c2 : y ≤ i
    · rw [decide_eq_true c2, decide_eq_false (by omega), decide_eq_false c]
      rfl
    · rw [decide_eq_false c2, decide_eq_false c]
      rfl
/-- no bit from 16 on -/
def H16 (x : Int32) : Prop := ∀ i, 16 ≤ i → bt x i = false
theorem H16.of {v : Nat} (h : v ≤ 65535) : H16 (Int32.ofNat v) := by
  intro i hi
  rcases Nat.lt_or_ge i 32 with q | q
  · rw [b_of v q]
    exact Nat.testBit_lt_two_pow (Nat.lt_of_lt_of_le (show v < 2 ^ 16 by omega) (Nat.pow_le_pow_right (by omega) hi))
  · exact b_big q
theorem H16.nat {x : Int32} (h : H16 x) : ∃ v, v ≤ 65535 ∧ x = Int32.ofNat v := by
  refine ⟨x.toBitVec.toNat % 65536, by omega, ?_⟩
  apply b_ext
  intro i hi
  rw [b_of _ hi, show (65536 : Nat) = 2 ^ 16 from rfl, Nat.testBit_mod_two_pow]
  rcases Nat.lt_or_ge i 16 with q | q
  · rw [decide_eq_true q, Bool.true_and]
    rfl
  · rw [h i q, decide_eq_false (by omega), Bool.false_and]
theorem H16.or {x y : Int32} (hx : H16 x) (hy : H16 y) : H16 (x ||| y) := fun i hi => by rw [b_or, hx i hi, hy i hi]; rfl
theorem H16.and {x : Int32} (hx : H16 x) (y : Int32) : H16 (x &&& y) := fun i hi => by rw [b_and, hx i hi]; rfl
theorem H16.xor {x y : Int32} (hx : H16 x) (hy : H16 y) : H16 (x ^^^ y) := fun i hi => by rw [b_xor, hx i hi, hy i hi]; rfl
theorem H16.sh {y : Nat} (hy : y < 16) : H16 ((1 : Int32) <<< (Int32.ofNat y &&& 31)) := by
  intro i hi
  rcases Nat.lt_or_ge i 32 with q | q
  · rw [sh1 (by omega) q, decide_eq_false (by omega)]
  · exact b_big q
theorem H16.zero : H16 0 := fun i _ => b_0 i
theorem H16.ext {x y : Int32} (hx : H16 x) (hy : H16 y) (h : ∀ i, i < 16 → bt x i = bt y i) : x = y := by
  apply b_ext
  intro i _
  rcases Nat.lt_or_ge i 16 with q | q
  · exact h i q
  · rw [hx i q, hy i q]
