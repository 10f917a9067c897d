/-! PURE PART: who owns a slot; what is kept -/
def own0 : Nat → Nat
  | 0 => 1 | 3 => 3 | 5 => 4 | 7 => 5 | 9 => 6 | 12 => 8 | 14 => 9 | 21 => 10 | 23 => 11 | 28 => 13 | 31 => 14 | 32 => 0 | 33 => 0 | 35 => 15 | 39 => 15 | _ => 98
def ownM : Nat → Nat
  | 0 => 1 | 1 => 3 | 2 => 4 | 3 => 5 | 17 => 6 | 18 => 7 | 25 => 9 | 26 => 13 | 27 => 8
  | 32 => 0 | 33 => 0 | 34 => 0 | 35 => 0 | 36 => 0 | 37 => 0 | 38 => 0 | 39 => 0 | 40 => 0 | 41 => 0 | 42 => 0 | 43 => 0 | 46 => 0 | 47 => 0 | 48 => 0 | 49 => 0 | 64 => 0
  | 50 => 10 | 55 => 11 | 67 => 14 | 70 => 15 | 71 => 15 | _ => 98
def ownF (a f : Nat) : Nat := match a with
  | 0 => own0 f | 1 => 98 | 2 => 2 | 3 => 2 | 4 => 2 | 5 => 2 | 6 => 2 | 7 => 2 | 8 => 2 | 9 => 2 | 10 => 3 | 11 => 4 | 12 => 5 | 13 => 6 | 14 => (if f = 1 then 7 else 98) | 15 => 7 | 16 => 8 | 17 => 9 | 18 => 0 | 19 => 98
  | 20 => 10 | 21 => 10 | 22 => 10 | 23 => 10 | 24 => 11 | 25 => 0 | 26 => 98 | 27 => 12 | 28 => 12 | 29 => 12 | 30 => 12 | 31 => 12 | 32 => 12 | 33 => 12 | 34 => 12 | 35 => 98
  | 36 => 0 | 37 => 0 | 38 => 0 | 39 => 0 | 40 => 0 | 41 => 0 | 42 => 0 | 43 => 0 | 44 => 12 | 45 => 13 | 46 => 14 | 47 => 14 | 48 => 15 | 49 => 15 | 50 => 15 | 51 => 15 | 52 => 16 | 53 => 16 | 54 => 16 | 55 => 16 | 56 => 16 | 57 => 16
  | 58 => ownM f | 59 => 2 | 60 => 3 | 61 => 3 | 62 => 4 | 63 => 4 | 64 => 4 | 65 => 4 | 66 => 4 | 67 => 5 | 68 => 5 | 69 => 5 | 70 => 5 | 71 => 0 | 72 => 6 | 73 => 6 | 74 => 6 | 75 => 6 | 76 => 7 | 77 => 6 | 78 => 9 | 79 => 9
  | 80 => (if f < 1920 then 9 else if f < 2880 then 13 else 8) | 81 => (if f < 16 then 9 else if f < 24 then 13 else 0) | 82 => 0 | 83 => 0 | 84 => 10 | 85 => 10 | 86 => 10 | 87 => 10 | 88 => 11 | 89 => 11 | 90 => 11 | 91 => 11 | 92 => 4 | 93 => 4 | 94 => 0 | 95 => 0 | 96 => 12 | 97 => 0
  | 98 => 14 | 99 => 0 | 100 => 15 | 101 => 15 | 102 => 15 | 103 => 15 | 104 => 16 | 105 => 16 | 106 => 16 | 107 => 0 | _ => 98
def ownD (t f : Nat) : Nat := match t with
  | 7 => (if f = 5 ∨ f = 7 then 4 else 99) | 12 => (if f = 4 then 6 else 99) | 15 => (if f = 4 then 6 else 99) | 17 => (if f = 0 ∨ f = 1 then 9 else 99) | 200 => 50 | 201 => 16 | 202 => 16 | 203 => 16 | 204 => 16 | _ => 99
def own (w : Wd) (a f : Nat) : Nat := if a < 108 then ownF a f else ownD (wT w a).1 f
theorem own_f {w : Wd} {a f : Nat} (h : a < 108) : own w a f = ownF a f := if_pos h
theorem own_d {w : Wd} {a f : Nat} (h : 108 ≤ a) : own w a f = ownD (wT w a).1 f := if_neg (by omega)
/-- the slots of P are kept, and all tags -/
def Kept (P : Nat → Nat → Prop) (w w' : Wd) : Prop := (∀ a f, a < wZ w → P a f → wI w' a f = wI w a f ∧ wL w' a f = wL w a f ∧ wR w' a f = wR w a f) ∧ (∀ a, a < wZ w → wT w' a = wT w a) ∧ wZ w ≤ wZ w'
theorem Kept.rfl' {P : Nat → Nat → Prop} {w : Wd} : Kept P w w := ⟨fun _ _ _ _ => ⟨rfl, rfl, rfl⟩, fun _ _ => rfl, Nat.le_refl _⟩
theorem Kept.I {P : Nat → Nat → Prop} {w w' : Wd} (h : Kept P w w') {a f : Nat} (ha : a < wZ w) (hp : P a f) : wI w' a f = wI w a f := (h.1 a f ha hp).1
theorem Kept.L {P : Nat → Nat → Prop} {w w' : Wd} (h : Kept P w w') {a f : Nat} (ha : a < wZ w) (hp : P a f) : wL w' a f = wL w a f := (h.1 a f ha hp).2.1
theorem Kept.R {P : Nat → Nat → Prop} {w w' : Wd} (h : Kept P w w') {a f : Nat} (ha : a < wZ w) (hp : P a f) : wR w' a f = wR w a f := (h.1 a f ha hp).2.2
theorem Kept.T {P : Nat → Nat → Prop} {w w' : Wd} (h : Kept P w w') {a : Nat} (ha : a < wZ w) : wT w' a = wT w a := h.2.1 a ha
theorem Kept.Z {P : Nat → Nat → Prop} {w w' : Wd} (h : Kept P w w') : wZ w ≤ wZ w' := h.2.2
theorem Kept.weak {P P' : Nat → Nat → Prop} {w w' : Wd} (h : Kept P w w') (hp : ∀ a f, a < wZ w → P' a f → P a f) : Kept P' w w' := ⟨fun a f ha h9 => h.1 a f ha (hp a f ha h9), h.2⟩
theorem Kept.trans {P : Nat → Nat → Prop} {w w1 w2 : Wd} (h : Kept P w w1) (h2 : Kept P w1 w2) : Kept P w w2 := by
  refine ⟨fun a f ha hp => ?_, fun a ha => ?_, Nat.le_trans h.Z h2.Z⟩
  · have ha1 := Nat.lt_of_lt_of_le ha h.Z
    exact ⟨(h2.I ha1 hp).trans (h.I ha hp), (h2.L ha1 hp).trans (h.L ha hp), (h2.R ha1 hp).trans (h.R ha hp)⟩
  · exact (h2.T (Nat.lt_of_lt_of_le ha h.Z)).trans (h.T ha)
theorem Kept.ow {P : Nat → Nat → Prop} {w w' : Wd} (h : Kept P w w') {a f : Nat} (ha : a < wZ w) : own w' a f = own w a f := by
  unfold own
  rw [h.T ha]
theorem Kept.sI {P : Nat → Nat → Prop} {w w' : Wd} (h : Kept P w w') {a f : Nat} {v : Int32} (hn : a < wZ w → ¬ P a f) : Kept P w (sI w' a f v) := by
  refine ⟨fun b k hb hp => ?_, h.2⟩
  obtain ⟨h1, h2, h3⟩ := h.1 b k hb hp
  refine ⟨?_, h2, h3⟩
  rw [wI_sI, if_neg]
  · exact h1
  · rintro ⟨rfl, rfl⟩
    exact hn hb hp
theorem Kept.sL {P : Nat → Nat → Prop} {w w' : Wd} (h : Kept P w w') {a f : Nat} {v : Int64} (hn : a < wZ w → ¬ P a f) : Kept P w (sL w' a f v) := by
  refine ⟨fun b k hb hp => ?_, h.2⟩
  obtain ⟨h1, h2, h3⟩ := h.1 b k hb hp
  refine ⟨h1, ?_, h3⟩
  rw [wL_sL, if_neg]
  · exact h2
  · rintro ⟨rfl, rfl⟩
    exact hn hb hp
theorem Kept.sR {P : Nat → Nat → Prop} {w w' : Wd} (h : Kept P w w') {a f : Nat} {v : Option Nat} (hn : a < wZ w → ¬ P a f) : Kept P w (sR w' a f v) := by
  refine ⟨fun b k hb hp => ?_, h.2⟩
  obtain ⟨h1, h2, h3⟩ := h.1 b k hb hp
  refine ⟨h1, h2, ?_⟩
  rw [wR_sR, if_neg]
  · exact h3
  · rintro ⟨rfl, rfl⟩
    exact hn hb hp
theorem Kept.sN {P : Nat → Nat → Prop} {w w' : Wd} (h : Kept P w w') (t n : Nat) : Kept P w (sN w' t n) := by
  refine ⟨fun b k hb hp => ?_, fun b hb => ?_, ?_⟩
  · obtain ⟨h1, h2, h3⟩ := h.1 b k hb hp
    have hne : b ≠ wZ w' := Nat.ne_of_lt (Nat.lt_of_lt_of_le hb h.Z)
    rw [wI_sN, if_neg hne, wL_sN, if_neg hne, wR_sN, if_neg hne]
    exact ⟨h1, h2, h3⟩
  · have hne : b ≠ wZ w' := Nat.ne_of_lt (Nat.lt_of_lt_of_le hb h.Z)
    rw [wT_sN, if_neg hne, h.T hb]
  · rw [wZ_sN]
    exact Nat.le_succ_of_le h.Z
theorem Kept.sX {P : Nat → Nat → Prop} {w w' : Wd} (h : Kept P w w') (k : Nat) : Kept P w (sX w' k) := by
  refine ⟨fun b f hb hp => h.1 b f hb hp, fun b hb => ?_, ?_⟩
  · rw [wT_sX, if_neg (Nat.not_le.mpr (Nat.lt_of_lt_of_le hb h.Z)), h.T hb]
  · rw [wZ_sX]
    exact Nat.le_trans h.Z (Nat.le_add_right _ _)
theorem Kept.sC {P : Nat → Nat → Prop} {w w' : Wd} (h : Kept P w w') {a : Nat} {g : Nat → Option Nat} (hn : wZ w ≤ a) : Kept P w (sC w' a g) := by
  refine ⟨fun b f hb hp => ⟨(h.1 b f hb hp).1, (h.1 b f hb hp).2.1, ?_⟩, h.2⟩
  show (if b = a then g f else wR w' b f) = _
  rw [if_neg (by omega)]
  exact (h.1 b f hb hp).2.2
theorem Kept.sT {P : Nat → Nat → Prop} {w w' : Wd} (h : Kept P w w') {a t : Nat} (hn : wZ w ≤ a) : Kept P w (sT w' a t) := by
  refine ⟨fun b f hb hp => h.1 b f hb hp, fun b hb => ?_, h.2.2⟩
  show (if b = a then (t, 0) else wT w' b) = _
  rw [if_neg (by omega)]
  exact h.T hb
/-- all but a component and what is nobody's -/
def But (c : Nat) (w : Wd) (a f : Nat) : Prop := own w a f ≠ c ∧ own w a f ≠ 0
/-- all but what is nobody's -/
def All (w : Wd) (a f : Nat) : Prop := own w a f ≠ 0
theorem fix_own {a f b : Nat} (h : fixR a f = some b) : a < 108 ∧ ownF a f = 98 := by
  have h1 := fixR_lt h
  refine ⟨h1.1, ?_⟩
  have h2 : (List.range 108).all (fun a => (List.range 80).all fun f => fixR a f == none || ownF a f == 98) = true := by decide +kernel
  have h3 := List.all_eq_true.mp (List.all_eq_true.mp h2 a (List.mem_range.mpr h1.1)) f (List.mem_range.mpr h1.2)
  rw [h] at h3
  simpa using h3
theorem Fix.kept {P : Nat → Nat → Prop} {w w' : Wd} (hF : Fix w) (h : Kept P w w') (hp : ∀ a f, own w a f = 98 → P a f) : Fix w' := by
  have hz := hF.2.2
  refine ⟨fun a f b hb => ?_, fun a t ht => ?_, Nat.le_trans hz h.Z⟩
  · obtain ⟨h1, h2⟩ := fix_own hb
    rw [h.R (by omega) (hp a f (by rw [own_f h1, h2]))]
    exact hF.1 a f b hb
  · have h1 : a < 108 := by
      rcases Nat.lt_or_ge a 108 with q | q
      · exact q
      · rw [fixT_dyn q] at ht
        cases ht
    rw [h.T (by omega)]
    exact hF.2.1 a t ht
