/-! PURE PART: texts, what they say; h p: the letter at p, -1 behind the end -/
abbrev Vl : Type := Int32 → Int32 → Bool
abbrev Tf : Type := Vl → Bool
abbrev Cl : Type := Nat × Int32 × Int32 × Tf
def hr (t : Nat → Int32) (s p : Nat) : Int32 := if p < s then t p else -1
def pw (h : Nat → Int32) : List Int32 → Nat → Bool × Nat
  | [], p => (true, p)
  | c :: cs, p => if h p = c then pw h cs (p + 1) else (false, p)
def isDg (c : Int32) : Bool := decide (48 ≤ c ∧ c ≤ 57)
def pd (h : Nat → Int32) : Nat → Int32 → Nat → Int32 × Nat
  | 0, n, p => (n, p)
  | k + 1, n, p => if isDg (h p) = true then pd h k (10 * n + h p - 48) (p + 1) else (n, p)
def pn (h : Nat → Int32) (p : Nat) : Option Int32 × Nat := if isDg (h p) = true then (some (pd h 4 0 p).1, (pd h 4 0 p).2) else (none, p)
def isLet (c : Int32) : Bool := decide (c = 97 ∨ c = 98 ∨ c = 99 ∨ c = 119 ∨ c = 121)
def pFac (rec : Nat → Nat → Nat → Option Tf × Nat) (h : Nat → Int32) (dp p : Nat) : Option Tf × Nat :=
  if h p = 33 then (if dp = 5 then (none, p) else (match rec 0 (dp + 1) (p + 1) with
    | (some φ, q) => (some (fun v => !φ v), q)
    | (none, q) => (none, q)))
  else if h p = 40 then (if dp = 5 then (none, p) else (match rec 2 (dp + 1) (p + 1) with
    | (some φ, q) => (if h q = 41 then (some φ, q + 1) else (none, q))
    | (none, q) => (none, q)))
  else if isLet (h p) = true then (match pn h (p + 1) with
    | (some n, q) => (some (fun v => v (h p) n), q)
    | (none, q) => (none, q))
  else (none, p)
def pSep (one : Nat → Option Tf × Nat) (h : Nat → Int32) (sep : Int32) (op : Bool → Bool → Bool) : Nat → Tf → Nat → Option Tf × Nat
  | 0, _, p => (none, p)
  | k + 1, φ, p => if h p = sep then (match one (p + 1) with
      | (some ψ, q) => pSep one h sep op k (fun v => op (φ v) (ψ v)) q
      | (none, q) => (none, q)) else (some φ, p)
def pAll (rec : Nat → Nat → Nat → Option Tf × Nat) (h : Nat → Int32) (dp p : Nat) : Option Tf × Nat := match rec 0 dp p with
  | (some φ, q) => pSep (rec 0 dp) h 38 and 200 φ q
  | (none, q) => (none, q)
def pSom (rec : Nat → Nat → Nat → Option Tf × Nat) (h : Nat → Int32) (dp p : Nat) : Option Tf × Nat := match rec 1 dp p with
  | (some φ, q) => pSep (rec 1 dp) h 124 or 200 φ q
  | (none, q) => (none, q)
/-- 0: a factor, 1: all, 2: some -/
def pT (h : Nat → Int32) : Nat → Nat → Nat → Nat → Option Tf × Nat
  | 0, _, _, p => (none, p)
  | d + 1, 0, dp, p => pFac (pT h d) h dp p
  | d + 1, 1, dp, p => pAll (pT h d) h dp p
  | d + 1, _ + 2, dp, p => pSom (pT h d) h dp p
def pNum (h : Nat → Int32) (p k : Nat) : Option Cl × Nat := match pn h p with
  | (some n, q) => (some (k, n, 0, fun _ => false), q)
  | (none, q) => (none, q)
def pWN (h : Nat → Int32) (p : Nat) (cs : List Int32) (k : Nat) : Option Cl × Nat := match pw h cs p with
  | (true, q) => pNum h q k
  | (false, q) => (none, q)
/-- a clause: 0 author, 1 title, 2 free author, 3 free title, 4 line, 5 leave -/
def pCl (h : Nat → Int32) (p : Nat) : Option Cl × Nat :=
  if h p = 97 then pWN h p [97, 117, 116, 104, 111, 114, 32] 0
  else if h p = 102 then (match pw h [114, 101, 101] (p + 1) with
    | (true, q) => (if h q = 97 then pWN h q [97, 117, 116, 104, 111, 114, 32] 2 else if h q = 32 then pNum h (q + 1) 3 else (none, q))
    | (false, q) => (none, q))
  else if h p = 108 then (if h (p + 1) = 105 then (match pw h [105, 110, 101, 32] (p + 1) with
      | (true, q) => (match pT h 20 2 0 q with
        | (some φ, r) => (some (4, 0, 0, φ), r)
        | (none, r) => (none, r))
      | (false, q) => (none, q))
    else (match pw h [101, 97, 118, 101, 32] (p + 1) with
      | (true, q) => (if 48 ≤ h q ∧ h q ≤ 53 then (if h (q + 1) = 32 then (match pn h (q + 2) with
          | (some n, r) => (some (5, h q - 48, n, fun _ => false), r)
          | (none, r) => (none, r)) else (none, q + 1)) else (none, q))
      | (false, q) => (none, q)))
  else if h p = 116 then pWN h p [116, 105, 116, 108, 101, 32] 1
  else (none, p)
def pD (h : Nat → Int32) (s : Nat) : Nat → List Cl → Nat → Option (List Cl) × Nat
  | 0, _, p => (none, p)
  | k + 1, acc, p => match pCl h p with
    | (some c, q) => (if q = s then (some (acc ++ [c]), q) else if k = 0 then (none, q) else if h q = 59 then pD h s k (acc ++ [c]) (q + 1) else (none, q))
    | (none, q) => (none, q)
/-! where the reading comes to -/
/-- nothing stands behind s -/
def Sz (h : Nat → Int32) (s : Nat) : Prop := ∀ p, s ≤ p → h p = -1
theorem hr_Sz (t : Nat → Int32) (s : Nat) : Sz (hr t s) s := fun p hp => if_neg (by omega)
theorem hr_cong {t t' : Nat → Int32} {s : Nat} (h : ∀ k, k < s → t k = t' k) : hr t s = hr t' s := by
  funext p
  unfold hr
  split
  · rename_i q
    exact h p q
  · rfl
section PL
variable {h : Nat → Int32} {s : Nat}
theorem Sz.lt (hs : Sz h s) {p : Nat} {c : Int32} (e : h p = c) (hc : c ≠ -1) : p < s := by
  rcases Nat.lt_or_ge p s with q | q
  · exact q
  · rw [hs p q] at e
    exact absurd e.symm hc
theorem pw_le (hs : Sz h s) : ∀ (cs : List Int32) (p : Nat), (∀ c ∈ cs, c ≠ -1) → p ≤ s → p ≤ (pw h cs p).2 ∧ (pw h cs p).2 ≤ s := by
  intro cs
  induction cs with
  | nil => intro p _ h; exact ⟨Nat.le_refl _, h⟩
  | cons c cs ih =>
    intro p hc hp
    unfold pw
    split
    · rename_i h1
      have h2 := hs.lt h1 (hc c List.mem_cons_self)
      have h3 := ih (p + 1) (fun x hx => hc x (List.mem_cons_of_mem _ hx)) h2
      exact ⟨by omega, h3.2⟩
    · exact ⟨Nat.le_refl _, hp⟩
theorem pw_len : ∀ (cs : List Int32) (p q : Nat), pw h cs p = (true, q) → q = p + cs.length := by
  intro cs
  induction cs with
  | nil => intro p q h; cases h; rfl
  | cons c cs ih =>
    intro p q h
    unfold pw at h
    split at h
    · have := ih (p + 1) q h
      simp only [List.length_cons]
      omega
    · cases h
theorem isDg_ne : isDg (-1) = false := by decide
theorem isDg_lt (hs : Sz h s) {p : Nat} (e : isDg (h p) = true) : p < s := by
  rcases Nat.lt_or_ge p s with q | q
  · exact q
  · rw [hs p q, isDg_ne] at e
    cases e
theorem pd_le (hs : Sz h s) : ∀ (k : Nat) (n : Int32) (p : Nat), p ≤ s → p ≤ (pd h k n p).2 ∧ (pd h k n p).2 ≤ s := by
  intro k
  induction k with
  | zero => intro n p h; exact ⟨Nat.le_refl _, h⟩
  | succ k ih =>
    intro n p hp
    unfold pd
    split
    · rename_i h1
      have h3 := ih (10 * n + h p - 48) (p + 1) (isDg_lt hs h1)
      exact ⟨by omega, h3.2⟩
    · exact ⟨Nat.le_refl _, hp⟩
theorem pn_le (hs : Sz h s) {p : Nat} (hp : p ≤ s) : p ≤ (pn h p).2 ∧ (pn h p).2 ≤ s := by
  unfold pn
  split
  · exact pd_le hs 4 0 p hp
  · exact ⟨Nat.le_refl _, hp⟩
theorem isDg_of {c : Int32} (h : isDg c = true) : ∃ k, k ≤ 9 ∧ c = Int32.ofNat (48 + k) := by
  have h := of_decide_eq_true h
  have h0 : ¬ c < 0 := by
    rw [Int32.lt_iff_toInt_lt]
    have := Int32.le_iff_toInt_le.mp h.1
    rw [show (48 : Int32).toInt = 48 from rfl] at this
    rw [show (0 : Int32).toInt = 0 from rfl]
    omega
  have e := i_of h0
  have b := i_bd c
  rw [e, show (48 : Int32) = Int32.ofNat 48 from rfl, show (57 : Int32) = Int32.ofNat 57 from rfl, i_le (by omega) b, i_le b (by omega)] at h
  exact ⟨c.toNatClampNeg - 48, by omega, by rw [show 48 + (c.toNatClampNeg - 48) = c.toNatClampNeg by omega]; exact e⟩
/-- a number has at most so many digits -/
theorem pd_num : ∀ (k v p : Nat), k ≤ 4 → v < 10 ^ (4 - k) → ∃ u, u < 10 ^ 4 ∧ (pd h k (Int32.ofNat v) p).1 = Int32.ofNat u := by
  intro k
  induction k with
  | zero => intro v p _ h; exact ⟨v, h, rfl⟩
  | succ k ih =>
    intro v p hk hv
    unfold pd
    split
    · rename_i h1
      obtain ⟨c, hc, e⟩ := isDg_of h1
      rw [e, show (10 : Int32) = Int32.ofNat 10 from rfl, show (48 : Int32) = Int32.ofNat 48 from rfl, i_mul, i_add, i_sub (by omega)]
      refine ih _ (p + 1) (by omega) ?_
      have h2 : 10 ^ (4 - k) = 10 * 10 ^ (4 - (k + 1)) := by
        rw [show 4 - k = (4 - (k + 1)) + 1 by omega, Nat.pow_succ]
        omega
      omega
    · refine ⟨v, ?_, rfl⟩
      have h2 : 10 ^ (4 - (k + 1)) ≤ 10 ^ 4 := Nat.pow_le_pow_right (by omega) (by omega)
      omega
theorem pn_num {p : Nat} {n : Int32} {q : Nat} (e : pn h p = (some n, q)) : ∃ u, u ≤ 9999 ∧ n = Int32.ofNat u := by
  unfold pn at e
  split at e
  · obtain ⟨u, h1, h2⟩ := pd_num (h := h) 4 0 p (by omega) (by decide)
    have h3 := congrArg Prod.fst e
    have h4 := Option.some.inj h3
    rw [← h4]
    exact ⟨u, by omega, h2⟩
  · cases e
theorem pn_lt (hs : Sz h s) {p : Nat} {n : Int32} {q : Nat} (e : pn h p = (some n, q)) : p < q := by
  unfold pn at e
  split at e
  · rename_i h1
    have h3 := congrArg Prod.snd e
    have h4 : (pd h 4 0 p).2 = q := h3
    unfold pd at h4
    rw [if_pos h1] at h4
    rw [← h4]
    exact Nat.lt_of_lt_of_le (Nat.lt_succ_self p) (pd_le hs 3 _ (p + 1) (isDg_lt hs h1)).1
  · cases e
end PL
