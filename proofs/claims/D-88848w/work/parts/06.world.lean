/-! THE WORLD: what lies in the heap from the law's start on, by relative addresses: ints, longs, references, (tag, length), how many cells -/
abbrev Wd : Type := (Nat → Nat → Int32) × (Nat → Nat → Int64) × (Nat → Nat → Option Nat) × (Nat → Nat × Nat) × Nat
def wI (w : Wd) (a f : Nat) : Int32 := w.1 a f
def wL (w : Wd) (a f : Nat) : Int64 := w.2.1 a f
def wR (w : Wd) (a f : Nat) : Option Nat := w.2.2.1 a f
def wT (w : Wd) (a : Nat) : Nat × Nat := w.2.2.2.1 a
def wZ (w : Wd) : Nat := w.2.2.2.2
def sI (w : Wd) (a f : Nat) (v : Int32) : Wd := (fun b k => if b = a ∧ k = f then v else w.1 b k, w.2)
def sL (w : Wd) (a f : Nat) (v : Int64) : Wd := (w.1, fun b k => if b = a ∧ k = f then v else w.2.1 b k, w.2.2)
def sR (w : Wd) (a f : Nat) (v : Option Nat) : Wd := (w.1, w.2.1, fun b k => if b = a ∧ k = f then v else w.2.2.1 b k, w.2.2.2)
/-- a new cell of a tag and a length: all zero -/
def sN (w : Wd) (t n : Nat) : Wd := (fun b k => if b = w.2.2.2.2 then 0 else w.1 b k, fun b k => if b = w.2.2.2.2 then 0 else w.2.1 b k, fun b k => if b = w.2.2.2.2 then none else w.2.2.1 b k, fun b => if b = w.2.2.2.2 then (t, n) else w.2.2.2.1 b, w.2.2.2.2 + 1)
/-- a new cell that nobody looks at -/
def sX (w : Wd) (k : Nat) : Wd := (w.1, w.2.1, w.2.2.1, fun b => if w.2.2.2.2 ≤ b then (0, 0) else w.2.2.2.1 b, w.2.2.2.2 + k)
theorem wI_sI (w : Wd) (a f : Nat) (v : Int32) (b k : Nat) : wI (sI w a f v) b k = if b = a ∧ k = f then v else wI w b k := rfl
theorem wL_sI (w : Wd) (a f : Nat) (v : Int32) (b k : Nat) : wL (sI w a f v) b k = wL w b k := rfl
theorem wR_sI (w : Wd) (a f : Nat) (v : Int32) (b k : Nat) : wR (sI w a f v) b k = wR w b k := rfl
theorem wT_sI (w : Wd) (a f : Nat) (v : Int32) (b : Nat) : wT (sI w a f v) b = wT w b := rfl
theorem wZ_sI (w : Wd) (a f : Nat) (v : Int32) : wZ (sI w a f v) = wZ w := rfl
theorem wI_sL (w : Wd) (a f : Nat) (v : Int64) (b k : Nat) : wI (sL w a f v) b k = wI w b k := rfl
theorem wL_sL (w : Wd) (a f : Nat) (v : Int64) (b k : Nat) : wL (sL w a f v) b k = if b = a ∧ k = f then v else wL w b k := rfl
theorem wR_sL (w : Wd) (a f : Nat) (v : Int64) (b k : Nat) : wR (sL w a f v) b k = wR w b k := rfl
theorem wT_sL (w : Wd) (a f : Nat) (v : Int64) (b : Nat) : wT (sL w a f v) b = wT w b := rfl
theorem wZ_sL (w : Wd) (a f : Nat) (v : Int64) : wZ (sL w a f v) = wZ w := rfl
theorem wI_sR (w : Wd) (a f : Nat) (v : Option Nat) (b k : Nat) : wI (sR w a f v) b k = wI w b k := rfl
theorem wL_sR (w : Wd) (a f : Nat) (v : Option Nat) (b k : Nat) : wL (sR w a f v) b k = wL w b k := rfl
theorem wR_sR (w : Wd) (a f : Nat) (v : Option Nat) (b k : Nat) : wR (sR w a f v) b k = if b = a ∧ k = f then v else wR w b k := rfl
theorem wT_sR (w : Wd) (a f : Nat) (v : Option Nat) (b : Nat) : wT (sR w a f v) b = wT w b := rfl
theorem wZ_sR (w : Wd) (a f : Nat) (v : Option Nat) : wZ (sR w a f v) = wZ w := rfl
theorem wI_sN (w : Wd) (t n b k : Nat) : wI (sN w t n) b k = if b = wZ w then 0 else wI w b k := rfl
theorem wL_sN (w : Wd) (t n b k : Nat) : wL (sN w t n) b k = if b = wZ w then 0 else wL w b k := rfl
theorem wR_sN (w : Wd) (t n b k : Nat) : wR (sN w t n) b k = if b = wZ w then none else wR w b k := rfl
theorem wT_sN (w : Wd) (t n b : Nat) : wT (sN w t n) b = if b = wZ w then (t, n) else wT w b := rfl
theorem wZ_sN (w : Wd) (t n : Nat) : wZ (sN w t n) = wZ w + 1 := rfl
theorem wI_sX (w : Wd) (j b k : Nat) : wI (sX w j) b k = wI w b k := rfl
theorem wL_sX (w : Wd) (j b k : Nat) : wL (sX w j) b k = wL w b k := rfl
theorem wR_sX (w : Wd) (j b k : Nat) : wR (sX w j) b k = wR w b k := rfl
theorem wT_sX (w : Wd) (j b : Nat) : wT (sX w j) b = if wZ w ≤ b then (0, 0) else wT w b := rfl
theorem wZ_sX (w : Wd) (j : Nat) : wZ (sX w j) = wZ w + j := rfl
def bI (b : Bool) : Int32 := if b then 1 else 0
abbrev inb (i : Int32) (n : Nat) : Prop := ¬ (i < 0 ∨ n ≤ i.toNatClampNeg)
/-- an Off: its place alone is looked at -/
def TX17p : u_T := fun _ => ("BarredBooks$Off", "place", "I", true)
def tyX17p : Nat → FieldType := fun _ => .int
theorem in_X17p : ∀ w ∈ u_ws RX17 TX17p 1, w ∈ lw_all := by
  intro w hw
  refine in_X17 w ?_
  obtain ⟨k, hk, rfl⟩ := List.mem_map.mp hw
  have hk0 : k < 1 := List.mem_range.mp hk
  exact List.mem_map.mpr ⟨6, List.mem_range.mpr (by decide), by cases k with | zero => rfl | succ k => omega⟩
/-- the classes, by number -/
abbrev cl : List vw_C := [(RX0, TX0, 40), (RX1, TX1, 2), (RX2, TX2, 2), (RX3, TX3, 1), (RX4, TX4, 80), (RX5, TX5, 2), (RX6, TX6, 8), (RX7, TX7, 5), (RX8, TX8, 4), (RX9, TX9, 4), (RX10, TX10, 4), (RX11, TX11, 5), (RX12, TX12, 4), (RX13, TX13, 4), (RX14, TX14, 5), (RX15, TX15, 4), (RX16, TX16, 3), (RX17, TX17p, 1), (RX19, TX19, 2), (RX20, TX20, 2), (RX21, TX21, 1), (RX26, TX26, 2), (RX23, TX23, 2), (RX24, TX24, 1), (RX25, TX25, 2), (RX27, TX27, 5), (RJ9, TJ9, 3), (RJ4, TJ4, 0), (RJ6, TJ6, 0), (RJ17, TJ17, 0), (RJ18, TJ18, 0), (RJ20, TJ20, 0)]
/-- the field types of a class, by its number -/
def tyc : Nat → Nat → FieldType
  | 0 => tyX0 | 1 => tyX1 | 2 => tyX2 | 3 => tyX3 | 4 => tyX4 | 5 => tyX5 | 6 => tyX6 | 7 => tyX7 | 8 => tyX8 | 9 => tyX9 | 10 => tyX10 | 11 => tyX11 | 12 => tyX12 | 13 => tyX13 | 14 => tyX14 | 15 => tyX15 | 16 => tyX16 | 17 => tyX17p | 18 => tyX19 | 19 => tyX20 | 20 => tyX21 | 21 => tyX26 | 22 => tyX23 | 23 => tyX24 | 24 => tyX25 | 25 => tyX27 | 26 => tyJ9 | _ => fun _ => .int
/-- the component types of arrays, by number -/
def aty : Nat → FieldType
  | 0 => .int | 1 => .byte | 2 => .short | 3 => .boolean | 4 => .long | 5 => .object "java/lang/Object" | 6 => .array .int | 7 => .object "BarredBooks$Person" | 8 => .object "BarredBooks$Book" | 9 => .object "BarredBooks$Edition" | 10 => .object "BarredBooks$Card" | 11 => .object "BarredBooks$Decree" | 12 => .object "BarredBooks$Tape" | 13 => .object "BarredBooks$Slip" | _ => .object "BarredBooks$Clause"
/-- 0: an int or less, 1: a long, 2: a reference -/
def ftS : FieldType → Nat
  | .long => 1
  | .object _ => 2
  | .array _ => 2
  | _ => 0
def rfv (z : Nat) (r : Option Nat) : Value := match r with
  | none => .null
  | some a => .ref (z + a)
def fv (z : Nat) (w : Wd) (a srt k : Nat) : Value := match srt with
  | 0 => .int (wI w a k)
  | 1 => .long (wL w a k)
  | _ => rfv z (wR w a k)
/-- classes' numbers, fields' slots, array classes' numbers, where ArrayList's empty array lies -/
abbrev Gw : Type := (Nat → ClassId) × (Nat → Nat → Nat) × (Nat → ClassId) × Nat
def KK (G : Gw) (U : State) : Prop := (∀ (c : Nat) (q : vw_C), cl[c]? = some q → u_Kn U q.1 q.2.1 q.2.2 (G.1 c) (G.2.1 c)) ∧ ∀ t : Nat, t < 15 → ArrOfT U (G.2.2.1 t) (aty t) ∧ va_RA U (G.2.2.1 t) (aty t)
theorem KK.moved {G : Gw} {u U : State} (hvm : u.vm.Alike U.vm) (h : KK G u) : KK G U := ⟨fun c q hq => u_Kn_moved hvm (h.1 c q hq), fun t ht => ⟨arrOfT_moved hvm (h.2 t ht).1, (h.2 t ht).2.moved hvm⟩⟩
/-- what never changes: the arrays of the two objects -/
def mref : Nat → Option Nat
  | 4 => some 59 | 5 => some 60 | 6 => some 61 | 7 => some 62 | 8 => some 63 | 9 => some 64 | 10 => some 65 | 11 => some 66 | 12 => some 67 | 13 => some 68 | 14 => some 69 | 15 => some 70 | 16 => some 71
  | 19 => some 72 | 20 => some 73 | 21 => some 74 | 22 => some 75 | 23 => some 76 | 24 => some 77 | 28 => some 78 | 29 => some 79 | 30 => some 80 | 31 => some 81 | 44 => some 82 | 45 => some 83
  | 51 => some 84 | 52 => some 85 | 53 => some 86 | 54 => some 87 | 56 => some 88 | 57 => some 89 | 58 => some 90 | 59 => some 91 | 60 => some 92 | 61 => some 93 | 62 => some 94 | 63 => some 95 | 65 => some 96 | 66 => some 97
  | 68 => some 98 | 69 => some 99 | 72 => some 100 | 73 => some 101 | 74 => some 102 | 75 => some 103 | 76 => some 104 | 77 => some 105 | 78 => some 106 | 79 => some 107
  | _ => none
def xref : Nat → Option Nat
  | 1 => some 1 | 2 => some 10 | 4 => some 11 | 6 => some 12 | 8 => some 13 | 10 => some 14 | 11 => some 16 | 13 => some 17 | 15 => some 18 | 16 => some 19 | 17 => some 20 | 18 => some 21 | 19 => some 22 | 20 => some 23 | 22 => some 24 | 24 => some 25 | 25 => some 26 | 26 => some 35 | 27 => some 45 | 29 => some 46 | 30 => some 47 | 34 => some 48 | 36 => some 49 | 37 => some 50 | 38 => some 51
  | _ => none
def fixR (a f : Nat) : Option Nat := match a with
  | 0 => xref f
  | 1 => if f < 8 then some (2 + f) else none
  | 14 => if f = 0 then some 15 else none
  | 19 => if f < 6 then some (52 + f) else none
  | 26 => if f < 8 then some (27 + f) else none
  | 35 => if f < 9 then some (36 + f) else none
  | 58 => mref f
  | _ => none
def fixT : Nat → Option (Nat × Nat)
  | 0 => some (1, 0)
  | 1 => some (206, 8) | 2 => some (200, 8) | 3 => some (200, 8) | 4 => some (200, 8) | 5 => some (200, 8) | 6 => some (200, 8) | 7 => some (200, 8) | 8 => some (200, 8) | 9 => some (200, 8)
  | 10 => some (207, 16) | 11 => some (208, 16) | 12 => some (209, 24) | 13 => some (210, 50) | 14 => some (2, 0) | 15 => some (200, 20) | 16 => some (201, 120) | 17 => some (211, 16) | 18 => some (3, 0) | 19 => some (212, 6)
  | 20 => some (200, 30) | 21 => some (200, 30) | 22 => some (200, 30) | 23 => some (200, 30) | 24 => some (213, 40) | 25 => some (200, 16) | 26 => some (206, 8)
  | 27 => some (200, 7) | 28 => some (200, 7) | 29 => some (200, 7) | 30 => some (200, 7) | 31 => some (200, 7) | 32 => some (200, 7) | 33 => some (200, 7) | 34 => some (200, 7) | 35 => some (206, 9)
  | 36 => some (200, 31) | 37 => some (200, 31) | 38 => some (200, 31) | 39 => some (200, 31) | 40 => some (200, 31) | 41 => some (200, 31) | 42 => some (200, 31) | 43 => some (200, 31) | 44 => some (200, 31)
  | 45 => some (214, 8) | 46 => some (200, 20) | 47 => some (200, 20) | 48 => some (209, 60) | 49 => some (200, 200) | 50 => some (200, 200) | 51 => some (200, 200) | 52 => some (4, 0) | 53 => some (4, 0) | 54 => some (4, 0) | 55 => some (4, 0) | 56 => some (4, 0) | 57 => some (4, 0)
  | 58 => some (5, 0)
  | 59 => some (200, 64) | 60 => some (200, 16) | 61 => some (200, 16) | 62 => some (200, 16) | 63 => some (200, 16) | 64 => some (200, 16) | 65 => some (200, 16) | 66 => some (200, 256) | 67 => some (200, 24) | 68 => some (200, 24) | 69 => some (200, 24) | 70 => some (200, 24) | 71 => some (200, 8)
  | 72 => some (200, 50) | 73 => some (200, 50) | 74 => some (200, 50) | 75 => some (200, 50) | 76 => some (200, 20) | 77 => some (203, 50) | 78 => some (200, 16) | 79 => some (200, 16) | 80 => some (200, 3000) | 81 => some (200, 25) | 82 => some (200, 121) | 83 => some (203, 121)
  | 84 => some (200, 30) | 85 => some (200, 30) | 86 => some (200, 30) | 87 => some (200, 30) | 88 => some (200, 40) | 89 => some (200, 40) | 90 => some (200, 40) | 91 => some (200, 40) | 92 => some (200, 16) | 93 => some (200, 256) | 94 => some (200, 9) | 95 => some (200, 9) | 96 => some (200, 56) | 97 => some (200, 279)
  | 98 => some (200, 24) | 99 => some (200, 192) | 100 => some (200, 60) | 101 => some (200, 200) | 102 => some (200, 200) | 103 => some (200, 200) | 104 => some (200, 6) | 105 => some (200, 6) | 106 => some (204, 360) | 107 => some (204, 60)
  | _ => none
def Fix (w : Wd) : Prop := (∀ a f b, fixR a f = some b → wR w a f = some b) ∧ (∀ a t, fixT a = some t → wT w a = t) ∧ 108 ≤ wZ w
theorem Fix.sI {w : Wd} (h : Fix w) (a f : Nat) (v : Int32) : Fix (sI w a f v) := h
theorem Fix.sL {w : Wd} (h : Fix w) (a f : Nat) (v : Int64) : Fix (sL w a f v) := h
theorem Fix.sR {w : Wd} (h : Fix w) {a f : Nat} {v : Option Nat} (hf : fixR a f = none) : Fix (sR w a f v) := by
  refine ⟨fun a' f' b' hb => ?_, h.2⟩
  rw [wR_sR]
  by_cases q : a' = a ∧ f' = f
  · obtain ⟨rfl, rfl⟩ := q
    rw [hf] at hb
    cases hb
  · rw [if_neg q]
    exact h.1 a' f' b' hb
theorem fixR_dyn {a f : Nat} (h : 108 ≤ a) : fixR a f = none := by
  unfold fixR
  split <;> first | omega | rfl
/-- the heap holds the world, from z on; below z it is as H0 -/
def Rp (G : Gw) (z : Nat) (H0 : Heap) (w : Wd) (H : Heap) : Prop :=
  H.size = z + wZ w ∧ (∀ q : Nat, q < z → H[q]? = H0[q]?) ∧ (∀ b : Nat, wZ w ≤ b → (wT w b).1 = 0) ∧
  (∀ (a ci : Nat) (r : vw_C), (wT w a).1 = ci + 1 → cl[ci]? = some r → t_OB (z + a) (G.1 ci) r.2.2 (G.2.1 ci) H (fun k => fv z w a (ftS (tyc ci k)) k)) ∧
  (∀ (a t n : Nat), wT w a = (200 + t, n) → t < 15 → H[z + a]? = some (arrV (G.2.2.1 t) n (fun j => fv z w a (ftS (aty t)) j))) ∧
  (∀ a : Nat, (wT w a).1 = 100 → t_OB (z + a) (G.1 26) 3 (G.2.1 26) H (fun k => if k = 1 then .ref G.2.2.2 else fv z w a 0 k))
def lok (z : Nat) (locs : List Loc) : Prop := ∀ l ∈ locs, z ≤ l.base
theorem lok_nil {z : Nat} : lok z [] := fun _ h => by cases h
theorem lok_add {z : Nat} {locs : List Loc} (h : lok z locs) (a i : Nat) : lok z (locs ++ [⟨z + a, i⟩]) := by
  intro l hl
  rcases List.mem_append.mp hl with h1 | h1
  · exact h l h1
  · cases List.mem_singleton.mp h1
    exact Nat.le_add_right _ _
theorem lok_app {z : Nat} {l1 l2 : List Loc} (h : lok z l1) (h2 : ∀ q ∈ l2, z ≤ q.base) : lok z (l1 ++ l2) := by
  intro l hl
  rcases List.mem_append.mp hl with h1 | h1
  · exact h l h1
  · exact h2 l h1
/-- functions' plumbing -/
theorem grd {P : Prop} [Decidable P] {α : Type} {x : Option α} {y : α} (h : (if P then x else none) = some y) : P ∧ x = some y := by
  by_cases q : P
  · rw [if_pos q] at h
    exact ⟨q, h⟩
  · rw [if_neg q] at h
    cases h
theorem bnd {α β : Type} {f : Option α} {k : α → Option β} {y : β} (h : f.bind k = some y) : ∃ a, f = some a ∧ k a = some y := by
  cases f with
  | none => cases h
  | some a => exact ⟨a, rfl, h⟩
/-- a loop: its body says how it goes on (left) or ends (right) -/
def it {S T : Type} : Nat → (S → Option (S ⊕ T)) → S → Option T
  | 0, _, _ => none
  | n + 1, b, s => match b s with
    | none => none
    | some (.inl s') => it n b s'
    | some (.inr t) => some t
theorem it_W {S T : Type} {b : S → Option (S ⊕ T)} {P : S → Prop} {K : T → Prop} (hB : ∀ s x, b s = some x → (∀ s', x = .inl s' → P s') → (∀ t, x = .inr t → K t) → P s) : ∀ (n : Nat) (s : S) (t : T), it n b s = some t → K t → P s := by
  intro n
  induction n with
  | zero => intro s t h; cases h
  | succ n ih =>
    intro s t h hK
    unfold it at h
    cases hb : b s with
    | none => rw [hb] at h; cases h
    | some x =>
      rw [hb] at h
      refine hB s x hb (fun s' e => ?_) (fun t' e => ?_)
      · subst e
        exact ih s' t h hK
      · subst e
        cases h
        exact hK
theorem fv_sI {z : Nat} {w : Wd} {a f : Nat} {v : Int32} {b s k : Nat} (h : b ≠ a) : fv z (sI w a f v) b s k = fv z w b s k := by
  match s with
  | 0 => show Value.int _ = Value.int _; rw [wI_sI, if_neg (fun q => h q.1)]
  | 1 => rfl
  | s + 2 => rfl
theorem fv_sL {z : Nat} {w : Wd} {a f : Nat} {v : Int64} {b s k : Nat} (h : b ≠ a) : fv z (sL w a f v) b s k = fv z w b s k := by
  match s with
  | 0 => rfl
  | 1 => show Value.long _ = Value.long _; rw [wL_sL, if_neg (fun q => h q.1)]
  | s + 2 => rfl
theorem fv_sR {z : Nat} {w : Wd} {a f : Nat} {v : Option Nat} {b s k : Nat} (h : b ≠ a) : fv z (sR w a f v) b s k = fv z w b s k := by
  match s with
  | 0 => rfl
  | 1 => rfl
  | s + 2 => show rfv z _ = rfv z _; rw [wR_sR, if_neg (fun q => h q.1)]
/-- one cell written: the world's new picture, if the cell's is right and no other has moved -/
theorem Rp.write {G : Gw} {z : Nat} {H0 H H1 : Heap} {w w1 : Wd} {a : Nat} (h : Rp G z H0 w H) (hT : ∀ b, wT w1 b = wT w b) (hZ : wZ w1 = wZ w) (hs : H1.size = H.size) (ho : ∀ q, q ≠ z + a → H1[q]? = H[q]?) (hf : ∀ b s k, b ≠ a → fv z w1 b s k = fv z w b s k)
    (hO : ∀ (ci : Nat) (r : vw_C), (wT w a).1 = ci + 1 → cl[ci]? = some r → t_OB (z + a) (G.1 ci) r.2.2 (G.2.1 ci) H1 (fun k => fv z w1 a (ftS (tyc ci k)) k))
    (hA : ∀ (t n : Nat), wT w a = (200 + t, n) → t < 15 → H1[z + a]? = some (arrV (G.2.2.1 t) n (fun j => fv z w1 a (ftS (aty t)) j)))
    (hE : (wT w a).1 = 100 → t_OB (z + a) (G.1 26) 3 (G.2.1 26) H1 (fun k => if k = 1 then .ref G.2.2.2 else fv z w1 a 0 k)) : Rp G z H0 w1 H1 := by
  obtain ⟨h1, h2, h3, h4, h5, h6⟩ := h
  refine ⟨by rw [hs, hZ]; exact h1, fun q hq => (ho q (by omega)).trans (h2 q hq), fun b hb => by rw [hT]; rw [hZ] at hb; exact h3 b hb, fun b ci r hb hc => ?_, fun b t n hb ht => ?_, fun b hb => ?_⟩
  · rw [hT] at hb
    by_cases q : b = a
    · subst q
      exact hO ci r hb hc
    · have e := (h4 b ci r hb hc).kept (ho (z + b) (by omega))
      exact e.to fun k _ => (hf b _ k q).symm
  · rw [hT] at hb
    by_cases q : b = a
    · subst q
      exact hA t n hb ht
    · rw [ho (z + b) (by omega), h5 b t n hb ht]
      congr 2
      funext j
      exact (hf b _ j q).symm
  · rw [hT] at hb
    by_cases q : b = a
    · subst q
      exact hE hb
    · have e := (h6 b hb).kept (ho (z + b) (by omega))
      refine e.to fun k _ => ?_
      by_cases hk : k = 1
      · simp [hk]
      · simp only [if_neg hk]
        exact (hf b _ k q).symm
/-- the classes' words, all of them -/
def clok (ci : Nat) : Prop := ∀ r : vw_C, cl[ci]? = some r → (∀ w ∈ u_ws r.1 r.2.1 r.2.2, w ∈ lw_all) ∧ (∀ k, k < r.2.2 → parseFieldDescriptor (r.2.1 k).2.2.1 = some (tyc ci k)) ∧ (∀ a, a < r.2.2 → ∀ b, b < r.2.2 → a ≠ b → (r.2.1 a).2.1 ≠ (r.2.1 b).2.1)
section WR
variable {p : Program} {l : Launch} {e : Env} {R : Room} {s : State} {m : MethodId} {args : Array Value} {below : List Frame} {meth : Method} {c : Code} {H : Heap} {locs : List Loc} {cells slots : Nat} {Q : State → Prop}
variable {cc : ByteArray} {pc : Nat} {ls : Array Slot} {rest : List Value} {G : Gw} {z : Nat} {H0 : Heap} {w : Wd} {a : Nat}
theorem r_get (hexec : p.tables.exec = Jvm.exec) (hb : c.code = cc) {own ref C : String} {T : u_T} {N ci index : Nat} (hts : ∀ w ∈ lw_all, w.before args s = true) (hok : clok ci) (hown : s.vm.findClass own = some m.cls) (hK : KK G s) (hR : Rp G z H0 w H) (ht : (wT w a).1 = ci + 1) (hc : cl[ci]? = some (C, T, N)) (k : Nat) (hk : k < N) (hlink : (Cond.fieldLink own index ref (T k).2.1 (T k).2.2.1).before args s = true) (hsame : ∀ x, s.fieldFound? (T k).1 (T k).2.1 (T k).2.2.1 = some x → s.fieldFound? ref (T k).2.1 (T k).2.2.1 = some x) {v : Value} (hv : fv z w a (ftS (tyc ci k)) k = v) (hdg : decode cc pc = .ok (.getfield index, 3))
    (kk : W p l e R s m args below meth c H locs cells slots Q (F0 m (pc + 3) ls (v :: rest))) : W p l e R s m args below meth c H locs cells slots Q (F0 m pc ls (.ref (z + a) :: rest)) := by
  obtain ⟨cell, q1, q2, q3, q4⟩ := hR.2.2.2.1 a ci _ ht hc
  obtain ⟨hS, hfc, kC, hkC, hkind⟩ := hK.1 ci _ hc
  obtain ⟨cf, kf, fi, f, hi, hsl⟩ := hS k hk
  refine W.getf hexec hb hown hlink (hsame _ hi) (u_facts hfc hkC (u_lays hts (hok _ hc).1 hk) hi).1 q1 (by rw [q3]; exact fun h => by cases h) (v := v) ?_ rfl rfl hdg kk
  rw [hsl, q4 k hk]
  exact congrArg some hv
theorem r_apart {C : String} {T : u_T} {N ci : Nat} (hts : ∀ w ∈ lw_all, w.before args s = true) (hok : clok ci) (hK : KK G s) (hc : cl[ci]? = some (C, T, N)) : ∀ x y, x < N → y < N → x ≠ y → (G.2.1 ci) x ≠ (G.2.1 ci) y := by
  intro x y hx hy hne
  obtain ⟨h1, h2, h3⟩ := hok _ hc
  obtain ⟨hS, -⟩ := hK.1 ci _ hc
  obtain ⟨_, _, _, fa, hia, ea⟩ := hS x hx
  obtain ⟨_, _, _, fb, hib, eb⟩ := hS y hy
  rw [← ea, ← eb]
  refine u_apart (u_lays hts h1 hx) (u_lays hts h1 hy) hia hib ?_
  rw [(State.fieldFound?_type hia (h2 x hx)).1, (State.fieldFound?_type hib (h2 y hy)).1]
  exact h3 x hx y hy hne
/-- a field that is not final: any value that fits -/
theorem r_put (hexec : p.tables.exec = Jvm.exec) (hb : c.code = cc) {own ref C : String} {T : u_T} {N ci index : Nat} (hts : ∀ w ∈ lw_all, w.before args s = true) (hok : clok ci) (hown : s.vm.findClass own = some m.cls) (hK : KK G s) (hR : Rp G z H0 w H) (hL : lok z locs) (ht : (wT w a).1 = ci + 1) (hc : cl[ci]? = some (C, T, N)) (k : Nat) (hk : k < N) (hlink : (Cond.fieldLink own index ref (T k).2.1 (T k).2.2.1).before args s = true) (hsame : ∀ x, s.fieldFound? (T k).1 (T k).2.1 (T k).2.2.1 = some x → s.fieldFound? ref (T k).2.1 (T k).2.2.1 = some x)
    (hfin : (T k).2.2.2 = false ∨ ((T k).2.2.2 = true ∧ meth.name = "<init>" ∧ (T k).1 = own)) {v : Value} {w1 : Wd} (hn : narrow (tyc ci k) v = v) (hfit : fits (tyc ci k) v = true) (hT : ∀ b, wT w1 b = wT w b) (hZ : wZ w1 = wZ w) (hf : ∀ b s k, b ≠ a → fv z w1 b s k = fv z w b s k) (hv : ∀ j, fv z w1 a (ftS (tyc ci j)) j = updV (fun k => fv z w a (ftS (tyc ci k)) k) k v j)
    (hdg : decode cc pc = .ok (.putfield index, 3)) (kk : ∀ (H1 : Heap) (locs1 : List Loc), Rp G z H0 w1 H1 → lok z locs1 → W p l e R s m args below meth c H1 locs1 cells slots Q (F0 m (pc + 3) ls rest)) : W p l e R s m args below meth c H locs cells slots Q (F0 m pc ls (v :: .ref (z + a) :: rest)) := by
  have hap := r_apart hts hok hK hc
  obtain ⟨g1, g2, g3⟩ := hok _ hc
  obtain ⟨cell, q1, q2, q3, q4⟩ := hR.2.2.2.1 a ci _ ht hc
  obtain ⟨hS, hfc, kC, hkC, hkind⟩ := hK.1 ci _ hc
  obtain ⟨cf, kf, fi, f, hi, hsl⟩ := hS k hk
  have hlay := hts _ (g1 _ (u_in_lay hk))
  unfold u_lay at hlay
  have hst := (u_facts hfc hkC (u_lays hts g1 hk) hi).1
  have fin : ∀ (H' : Heap), H'[z + a]? = some (cell.setSlot f.slot v) → H'.size = H.size → (∀ q, q ≠ z + a → H'[q]? = H[q]?) → W p l e R s m args below meth c H' (locs ++ [⟨z + a, f.slot⟩]) cells slots Q (F0 m (pc + 3) ls rest) := by
    intro H' e1 e2 e3
    refine kk H' _ (hR.write hT hZ e2 e3 hf (fun ci' r hc' hr => ?_) (fun t n ht' htl => ?_) (fun h100 => ?_)) (lok_add hL _ _)
    · have hci : ci' = ci := by
        rw [ht] at hc'
        omega
      subst hci
      cases hc.symm.trans hr
      rw [hsl] at e1
      exact t_OB.to (V := updV (fun k => fv z w a (ftS (tyc ci' k)) k) k v) ⟨_, e1, q2, q3, t_set q4 hap hk v⟩ (fun j _ => (hv j).symm)
    · rw [ht'] at ht
      have hlt := (List.getElem?_eq_some_iff.mp hc).1
      have h27 : cl.length = 32 := rfl
      have : 200 + t = ci + 1 := ht
      omega
    · have hlt := (List.getElem?_eq_some_iff.mp hc).1
      have h27 : cl.length = 32 := rfl
      omega
  rcases hfin with hfin | ⟨hfin, hin, hdecl⟩
  · rw [if_neg (by rw [hfin]; decide)] at hlay
    have h6 := u_store hfc hkC hkind hlay hi (g2 k hk) hn hfit
    exact W.putK hexec hb (f := f) ⟨hown, hlink, ⟨_, _, _, hsame _ hi⟩, hst⟩ (by rw [q2]; exact h6) q1 q3 (by rw [hsl]; exact k2_hasslot (q4 k hk)) rfl rfl hdg fin
  · rw [if_pos hfin] at hlay
    have hcf : m.cls = cf := by
      obtain ⟨_, _, c', _, _, _, -, -, hf', -, -, -, hown2, -⟩ := Cond.laysFinal_spec hlay
      have e1 : c' = cf := by have := hi.symm.trans hf'; simp at this; exact this.1.symm
      rw [hdecl] at hown2
      rw [← e1]; exact Option.some.inj (hown.symm.trans hown2)
    have h6 := u_fits hfc hkC hkind (Or.inr hlay) hi (g2 k hk) hn hfit
    exact W.putFinK hexec hb hown hlink (hsame _ hi) hst hcf hin (by rw [q2]; exact h6) q1 q3 (by rw [hsl]; exact k2_hasslot (q4 k hk)) rfl rfl hdg fin
theorem r_ald {t n : Nat} (hR : Rp G z H0 w H) (ht : wT w a = (200 + t, n)) (htl : t < 15) : H[z + a]? = some (arrV (G.2.2.1 t) n (fun j => fv z w a (ftS (aty t)) j)) := hR.2.2.2.2.1 a t n ht htl
theorem r_iald (hexec : p.tables.exec = Jvm.exec) (hb : c.code = cc) (hK : KK G s) (hR : Rp G z H0 w H) {n : Nat} (ht : wT w a = (200, n)) {i : Int32} (hin : inb i n) {v : Int32} (hv : wI w a i.toNatClampNeg = v) (hdg : decode cc pc = .ok (.iaload, 1))
    (kk : W p l e R s m args below meth c H locs cells slots Q (F0 m (pc + 1) ls (.int v :: rest))) : W p l e R s m args below meth c H locs cells slots Q (F0 m pc ls (.int i :: .ref (z + a) :: rest)) := by
  subst hv
  have hlt : i.toNatClampNeg < n := Nat.not_le.mp fun q => hin (Or.inr q)
  exact W.iald (v := .int (wI w a i.toNatClampNeg)) hexec hb (r_ald (t := 0) hR ht (by decide)) ((hK.2 0 (by decide)).1 n _) (fun q => by cases q) (by show ¬ (i < 0 ∨ (arrV _ _ _).slots.size ≤ _); rw [arrV_size]; exact hin) (by show (arrV _ _ _).slots[_]? = _; rw [arrV_read _ _ hlt]; rfl) rfl rfl hdg kk
theorem r_zald (hexec : p.tables.exec = Jvm.exec) (hb : c.code = cc) (hK : KK G s) (hR : Rp G z H0 w H) {n : Nat} (ht : wT w a = (203, n)) {i : Int32} (hin : inb i n) {v : Int32} (hv : wI w a i.toNatClampNeg = v) (hdg : decode cc pc = .ok (.baload, 1))
    (kk : W p l e R s m args below meth c H locs cells slots Q (F0 m (pc + 1) ls (.int v :: rest))) : W p l e R s m args below meth c H locs cells slots Q (F0 m pc ls (.int i :: .ref (z + a) :: rest)) := by
  subst hv
  have hlt : i.toNatClampNeg < n := Nat.not_le.mp fun q => hin (Or.inr q)
  exact W.zald (v := .int (wI w a i.toNatClampNeg)) hexec hb (r_ald (t := 3) hR ht (by decide)) ((hK.2 3 (by decide)).1 n _) (fun q => by cases q) (by show ¬ (i < 0 ∨ (arrV _ _ _).slots.size ≤ _); rw [arrV_size]; exact hin) (by show (arrV _ _ _).slots[_]? = _; rw [arrV_read _ _ hlt]; rfl) rfl rfl hdg kk
theorem r_bald (hexec : p.tables.exec = Jvm.exec) (hb : c.code = cc) (hK : KK G s) (hR : Rp G z H0 w H) {n : Nat} (ht : wT w a = (201, n)) {i : Int32} (hin : inb i n) {v : Int32} (hv : wI w a i.toNatClampNeg = v) (hdg : decode cc pc = .ok (.baload, 1))
    (kk : W p l e R s m args below meth c H locs cells slots Q (F0 m (pc + 1) ls (.int v :: rest))) : W p l e R s m args below meth c H locs cells slots Q (F0 m pc ls (.int i :: .ref (z + a) :: rest)) := by
  subst hv
  have hlt : i.toNatClampNeg < n := Nat.not_le.mp fun q => hin (Or.inr q)
  exact W.bald (v := .int (wI w a i.toNatClampNeg)) hexec hb (r_ald (t := 1) hR ht (by decide)) ((hK.2 1 (by decide)).1 n _) (fun q => by cases q) (by show ¬ (i < 0 ∨ (arrV _ _ _).slots.size ≤ _); rw [arrV_size]; exact hin) (by show (arrV _ _ _).slots[_]? = _; rw [arrV_read _ _ hlt]; rfl) rfl rfl hdg kk
theorem r_sald (hexec : p.tables.exec = Jvm.exec) (hb : c.code = cc) (hK : KK G s) (hR : Rp G z H0 w H) {n : Nat} (ht : wT w a = (202, n)) {i : Int32} (hin : inb i n) {v : Int32} (hv : wI w a i.toNatClampNeg = v) (hdg : decode cc pc = .ok (.saload, 1))
    (kk : W p l e R s m args below meth c H locs cells slots Q (F0 m (pc + 1) ls (.int v :: rest))) : W p l e R s m args below meth c H locs cells slots Q (F0 m pc ls (.int i :: .ref (z + a) :: rest)) := by
  subst hv
  have hlt : i.toNatClampNeg < n := Nat.not_le.mp fun q => hin (Or.inr q)
  exact W.sald (v := .int (wI w a i.toNatClampNeg)) hexec hb (r_ald (t := 2) hR ht (by decide)) ((hK.2 2 (by decide)).1 n _) (fun q => by cases q) (by show ¬ (i < 0 ∨ (arrV _ _ _).slots.size ≤ _); rw [arrV_size]; exact hin) (by show (arrV _ _ _).slots[_]? = _; rw [arrV_read _ _ hlt]; rfl) rfl rfl hdg kk
theorem r_lald (hexec : p.tables.exec = Jvm.exec) (hb : c.code = cc) (hK : KK G s) (hR : Rp G z H0 w H) {n : Nat} (ht : wT w a = (204, n)) {i : Int32} (hin : inb i n) {v : Int64} (hv : wL w a i.toNatClampNeg = v) (hdg : decode cc pc = .ok (.laload, 1))
    (kk : W p l e R s m args below meth c H locs cells slots Q (F0 m (pc + 1) ls (.long v :: rest))) : W p l e R s m args below meth c H locs cells slots Q (F0 m pc ls (.int i :: .ref (z + a) :: rest)) := by
  subst hv
  have hlt : i.toNatClampNeg < n := Nat.not_le.mp fun q => hin (Or.inr q)
  exact W.lald (v := .long (wL w a i.toNatClampNeg)) hexec hb (r_ald (t := 4) hR ht (by decide)) ((hK.2 4 (by decide)).1 n _) (fun q => by cases q) (by show ¬ (i < 0 ∨ (arrV _ _ _).slots.size ≤ _); rw [arrV_size]; exact hin) (by show (arrV _ _ _).slots[_]? = _; rw [arrV_read _ _ hlt]; rfl) rfl rfl hdg kk
/-- an array's cell written -/
theorem r_arrW {t n i : Nat} {v : Value} {w1 : Wd} {H1 : Heap} (hR : Rp G z H0 w H) (ht : wT w a = (200 + t, n)) (hT : ∀ b, wT w1 b = wT w b) (hZ : wZ w1 = wZ w) (hf : ∀ b s k, b ≠ a → fv z w1 b s k = fv z w b s k) (hv : ∀ j, fv z w1 a (ftS (aty t)) j = updV (fun j => fv z w a (ftS (aty t)) j) i v j)
    (e1 : H1[z + a]? = some ((arrV (G.2.2.1 t) n (fun j => fv z w a (ftS (aty t)) j)).setSlot i v)) (e2 : H1.size = H.size) (e3 : ∀ q, q ≠ z + a → H1[q]? = H[q]?) : Rp G z H0 w1 H1 := by
  refine hR.write hT hZ e2 e3 hf (fun ci r hc hr => ?_) (fun t' n' ht' htl => ?_) (fun h100 => by rw [ht] at h100; exact absurd (show 200 + t = 100 from h100) (by omega))
  · rw [ht] at hc
    have hlt := (List.getElem?_eq_some_iff.mp hr).1
    have h27 : cl.length = 32 := rfl
    have : 200 + t = ci + 1 := hc
    omega
  · rw [ht] at ht'
    have h1 : 200 + t = 200 + t' := congrArg Prod.fst ht'
    have h2 : n = n' := congrArg Prod.snd ht'
    have h3 : t = t' := by omega
    subst h2 h3
    rw [e1, arrV_store]
    congr 2
    funext j
    exact (hv j).symm
theorem r_iast (hexec : p.tables.exec = Jvm.exec) (hb : c.code = cc) (hK : KK G s) (hR : Rp G z H0 w H) (hL : lok z locs) {n : Nat} (ht : wT w a = (200, n)) {i x : Int32} (hin : inb i n) (hdg : decode cc pc = .ok (.iastore, 1))
    (kk : ∀ (H1 : Heap) (locs1 : List Loc), Rp G z H0 (sI w a i.toNatClampNeg x) H1 → lok z locs1 → W p l e R s m args below meth c H1 locs1 cells slots Q (F0 m (pc + 1) ls rest)) : W p l e R s m args below meth c H locs cells slots Q (F0 m pc ls (.int x :: .int i :: .ref (z + a) :: rest)) := by
  refine W.iast hexec hb (r_ald (t := 0) hR ht (by decide)) ((hK.2 0 (by decide)).1 n _) (fun q => by cases q) (by show ¬ (i < 0 ∨ (arrV _ _ _).slots.size ≤ _); rw [arrV_size]; exact hin) rfl rfl hdg fun H1 e1 e2 e3 => ?_
  refine kk H1 _ (r_arrW (t := 0) hR ht (fun _ => rfl) rfl (fun b s k h => fv_sI h) (fun j => ?_) e1 e2 e3) (lok_add hL _ _)
  show Value.int (wI (sI w a _ x) a j) = _
  rw [wI_sI]
  by_cases q : j = i.toNatClampNeg
  · subst q; simp [updV]
  · rw [if_neg (fun h => q h.2)]; simp [updV, q]; rfl
theorem r_zast (hexec : p.tables.exec = Jvm.exec) (hb : c.code = cc) (hK : KK G s) (hR : Rp G z H0 w H) (hL : lok z locs) {n : Nat} (ht : wT w a = (203, n)) {i x : Int32} (hin : inb i n) (hdg : decode cc pc = .ok (.bastore, 1))
    (kk : ∀ (H1 : Heap) (locs1 : List Loc), Rp G z H0 (sI w a i.toNatClampNeg (x &&& 1)) H1 → lok z locs1 → W p l e R s m args below meth c H1 locs1 cells slots Q (F0 m (pc + 1) ls rest)) : W p l e R s m args below meth c H locs cells slots Q (F0 m pc ls (.int x :: .int i :: .ref (z + a) :: rest)) := by
  refine W.zast hexec hb (r_ald (t := 3) hR ht (by decide)) ((hK.2 3 (by decide)).1 n _) (fun q => by cases q) (by show ¬ (i < 0 ∨ (arrV _ _ _).slots.size ≤ _); rw [arrV_size]; exact hin) rfl rfl hdg fun H1 e1 e2 e3 => ?_
  refine kk H1 _ (r_arrW (t := 3) hR ht (fun _ => rfl) rfl (fun b s k h => fv_sI h) (fun j => ?_) e1 e2 e3) (lok_add hL _ _)
  show Value.int (wI (sI w a _ (x &&& 1)) a j) = _
  rw [wI_sI]
  by_cases q : j = i.toNatClampNeg
  · subst q; simp [updV, narrow]
  · rw [if_neg (fun h => q h.2)]; simp [updV, q]; rfl
theorem r_bast (hexec : p.tables.exec = Jvm.exec) (hb : c.code = cc) (hK : KK G s) (hR : Rp G z H0 w H) (hL : lok z locs) {n : Nat} (ht : wT w a = (201, n)) {i x : Int32} (hin : inb i n) (hdg : decode cc pc = .ok (.bastore, 1))
    (kk : ∀ (H1 : Heap) (locs1 : List Loc), Rp G z H0 (sI w a i.toNatClampNeg x.toInt8.toInt32) H1 → lok z locs1 → W p l e R s m args below meth c H1 locs1 cells slots Q (F0 m (pc + 1) ls rest)) : W p l e R s m args below meth c H locs cells slots Q (F0 m pc ls (.int x :: .int i :: .ref (z + a) :: rest)) := by
  refine W.bast hexec hb (r_ald (t := 1) hR ht (by decide)) ((hK.2 1 (by decide)).1 n _) (fun q => by cases q) (by show ¬ (i < 0 ∨ (arrV _ _ _).slots.size ≤ _); rw [arrV_size]; exact hin) rfl rfl hdg fun H1 e1 e2 e3 => ?_
  refine kk H1 _ (r_arrW (t := 1) hR ht (fun _ => rfl) rfl (fun b s k h => fv_sI h) (fun j => ?_) e1 e2 e3) (lok_add hL _ _)
  show Value.int (wI (sI w a _ x.toInt8.toInt32) a j) = _
  rw [wI_sI]
  by_cases q : j = i.toNatClampNeg
  · subst q; simp [updV, narrow]
  · rw [if_neg (fun h => q h.2)]; simp [updV, q]; rfl
theorem r_sast (hexec : p.tables.exec = Jvm.exec) (hb : c.code = cc) (hK : KK G s) (hR : Rp G z H0 w H) (hL : lok z locs) {n : Nat} (ht : wT w a = (202, n)) {i x : Int32} (hin : inb i n) (hdg : decode cc pc = .ok (.sastore, 1))
    (kk : ∀ (H1 : Heap) (locs1 : List Loc), Rp G z H0 (sI w a i.toNatClampNeg x.toInt16.toInt32) H1 → lok z locs1 → W p l e R s m args below meth c H1 locs1 cells slots Q (F0 m (pc + 1) ls rest)) : W p l e R s m args below meth c H locs cells slots Q (F0 m pc ls (.int x :: .int i :: .ref (z + a) :: rest)) := by
  refine W.sast hexec hb (r_ald (t := 2) hR ht (by decide)) ((hK.2 2 (by decide)).1 n _) (fun q => by cases q) (by show ¬ (i < 0 ∨ (arrV _ _ _).slots.size ≤ _); rw [arrV_size]; exact hin) rfl rfl hdg fun H1 e1 e2 e3 => ?_
  refine kk H1 _ (r_arrW (t := 2) hR ht (fun _ => rfl) rfl (fun b s k h => fv_sI h) (fun j => ?_) e1 e2 e3) (lok_add hL _ _)
  show Value.int (wI (sI w a _ x.toInt16.toInt32) a j) = _
  rw [wI_sI]
  by_cases q : j = i.toNatClampNeg
  · subst q; simp [updV, narrow]
  · rw [if_neg (fun h => q h.2)]; simp [updV, q]; rfl
theorem r_last (hexec : p.tables.exec = Jvm.exec) (hb : c.code = cc) (hK : KK G s) (hR : Rp G z H0 w H) (hL : lok z locs) {n : Nat} (ht : wT w a = (204, n)) {i : Int32} {x : Int64} (hin : inb i n) (hdg : decode cc pc = .ok (.lastore, 1))
    (kk : ∀ (H1 : Heap) (locs1 : List Loc), Rp G z H0 (sL w a i.toNatClampNeg x) H1 → lok z locs1 → W p l e R s m args below meth c H1 locs1 cells slots Q (F0 m (pc + 1) ls rest)) : W p l e R s m args below meth c H locs cells slots Q (F0 m pc ls (.long x :: .int i :: .ref (z + a) :: rest)) := by
  refine W.last hexec hb (r_ald (t := 4) hR ht (by decide)) ((hK.2 4 (by decide)).1 n _) (fun q => by cases q) (by show ¬ (i < 0 ∨ (arrV _ _ _).slots.size ≤ _); rw [arrV_size]; exact hin) rfl rfl hdg fun H1 e1 e2 e3 => ?_
  refine kk H1 _ (r_arrW (t := 4) hR ht (fun _ => rfl) rfl (fun b s k h => fv_sL h) (fun j => ?_) e1 e2 e3) (lok_add hL _ _)
  show Value.long (wL (sL w a _ x) a j) = _
  rw [wL_sL]
  by_cases q : j = i.toNatClampNeg
  · subst q; simp [updV]
  · rw [if_neg (fun h => q h.2)]; simp [updV, q]; rfl
/-- an int field, not final -/
theorem r_putI (hexec : p.tables.exec = Jvm.exec) (hb : c.code = cc) {own ref C : String} {T : u_T} {N ci index : Nat} (hts : ∀ w ∈ lw_all, w.before args s = true) (hok : clok ci) (hown : s.vm.findClass own = some m.cls) (hK : KK G s) (hR : Rp G z H0 w H) (hL : lok z locs) (ht : (wT w a).1 = ci + 1) (hc : cl[ci]? = some (C, T, N)) (k : Nat) (hk : k < N) (hlink : (Cond.fieldLink own index ref (T k).2.1 (T k).2.2.1).before args s = true) (hsame : ∀ x, s.fieldFound? (T k).1 (T k).2.1 (T k).2.2.1 = some x → s.fieldFound? ref (T k).2.1 (T k).2.2.1 = some x)
    (hfin : (T k).2.2.2 = false ∨ ((T k).2.2.2 = true ∧ meth.name = "<init>" ∧ (T k).1 = own)) {v : Int32} (hs : ftS (tyc ci k) = 0) (hn : narrow (tyc ci k) (.int v) = .int v) (hfit : fits (tyc ci k) (.int v) = true)
    (hdg : decode cc pc = .ok (.putfield index, 3)) (kk : ∀ (H1 : Heap) (locs1 : List Loc), Rp G z H0 (sI w a k v) H1 → lok z locs1 → W p l e R s m args below meth c H1 locs1 cells slots Q (F0 m (pc + 3) ls rest)) : W p l e R s m args below meth c H locs cells slots Q (F0 m pc ls (.int v :: .ref (z + a) :: rest)) := by
  refine r_put (w1 := sI w a k v) hexec hb hts hok hown hK hR hL ht hc k hk hlink hsame hfin hn hfit (fun _ => rfl) rfl (fun b s k h => fv_sI h) (fun j => ?_) hdg kk
  by_cases q : j = k
  · subst q
    rw [hs]
    show Value.int (wI (sI w a j v) a j) = _
    rw [wI_sI, if_pos ⟨rfl, rfl⟩]
    simp [updV]
  · simp only [updV, if_neg q]
    generalize ftS (tyc ci j) = t
    match t with
    | 0 => show Value.int (wI (sI w a k v) a j) = Value.int _; rw [wI_sI, if_neg (fun h => q h.2)]
    | 1 => rfl
    | t + 2 => rfl
end WR

/-! CONTRACTS' SHAPES -/
/-- a start: the arguments, the classes, the world -/
def pcW (G : Gw) (z : Nat) (H0 : Heap) (w : Wd) (av : List Value) : Array Value → State → Prop := fun v U => v = av.toArray ∧ KK G U ∧ Rp G z H0 w U.heap ∧ Fix w
theorem pcW.blind {G : Gw} {z : Nat} {H0 : Heap} {w : Wd} {av : List Value} : FrameBlind (pcW G z H0 w av) := fun a U g mk h => ⟨h.1, h.2.1.moved (u := U) (U := U.calling g mk a) (Vm.Alike.refl U.vm), h.2.2⟩
/-- a start of a method that looks at nothing -/
def pcN (av : List Value) : Array Value → State → Prop := fun v _ => v = av.toArray
theorem pcN.blind {av : List Value} : FrameBlind (pcN av) := fun _ _ _ _ h => h
/-- an end that changes nothing -/
def qP (r : Option Value) : Array Value → State → Outcome → State → Prop := fun _ st oc t => oc = .returned r ∧ t.heap = st.heap
/-- an end with a new world -/
def qW (G : Gw) (z : Nat) (H0 : Heap) (w : Wd) (r : Option Value) : Array Value → State → Outcome → State → Prop := fun _ _ oc t => oc = .returned r ∧ Rp G z H0 w t.heap ∧ Fix w
section WC
variable {p : Program} {l : Launch} {e : Env} {R : Room} {s : State} {m : MethodId} {args : Array Value} {below : List Frame} {meth : Method} {c : Code} {H : Heap} {locs : List Loc} {cells slots : Nat} {Q : State → Prop}
variable {pc : Nat} {ls : Array Slot} {rest st0 : List Value} {G : Gw} {z : Nat} {H0 : Heap} {w : Wd} {a : Array Value} {mc ms : Nat}
/-- behind a call that changed nothing -/
theorem c_P {r : Option Value} (hr : va_Run p l e R s m args below meth c H locs cells slots mc ms (F0 m pc ls st0) rest (qP r a) (fun q => z ≤ q)) (hL : lok z locs)
    (kk : ∀ locs1 : List Loc, lok z locs1 → W p l e R s m args below meth c H locs1 (cells + mc) (slots + ms) Q (F0 m (pc + 3) ls (r.toList ++ rest))) : W p l e R s m args below meth c H locs cells slots Q (F0 m pc ls st0) := by
  intro T hT X
  obtain ⟨v, st₀, t, T', L, h0, X', hL', e1, e2, ⟨hv, hp⟩, st⟩ := hr T hT X
  cases hv
  obtain ⟨t2, a1, b1⟩ := kk (locs ++ L) (lok_app hL hL') T' (by rw [e1, hp, h0]) X'
  exact ⟨t2, st t2 a1, b1⟩
/-- behind a call that left a new world -/
theorem c_W {r : Option Value} (hr : va_Run p l e R s m args below meth c H locs cells slots mc ms (F0 m pc ls st0) rest (qW G z H0 w r a) (fun q => z ≤ q)) (hL : lok z locs)
    (kk : ∀ (H1 : Heap) (locs1 : List Loc), Rp G z H0 w H1 → Fix w → lok z locs1 → W p l e R s m args below meth c H1 locs1 (cells + mc) (slots + ms) Q (F0 m (pc + 3) ls (r.toList ++ rest))) : W p l e R s m args below meth c H locs cells slots Q (F0 m pc ls st0) := by
  intro T hT X
  obtain ⟨v, st₀, t, T', L, h0, X', hL', e1, e2, ⟨hv, hp⟩, st⟩ := hr T hT X
  cases hv
  obtain ⟨t2, a1, b1⟩ := kk T'.heap (locs ++ L) (by rw [e1]; exact hp.1) hp.2 (lok_app hL hL') T' rfl X'
  exact ⟨t2, st t2 a1, b1⟩
/-- a receiver -/
theorem r_recv {ci : Nat} {q : vw_C} {a : Nat} (hK : KK G s) (hR : Rp G z H0 w H) (ht : (wT w a).1 = ci + 1) (hc : cl[ci]? = some q) : ∃ cell : Cell, H[z + a]? = some cell ∧ cell.vm.isStatics = false ∧ s.vm.findClass q.1 = some cell.cls := by
  obtain ⟨cell, g1, g2, g3, -⟩ := hR.2.2.2.1 a ci q ht hc
  exact ⟨cell, g1, by rw [g3]; rfl, by rw [g2]; exact (hK.1 ci q hc).2.1⟩
end WC
theorem ok0 : clok 0 := by intro r hr; cases hr; exact ⟨in_X0, tyX0_ok, nmX0⟩
theorem ok1 : clok 1 := by intro r hr; cases hr; exact ⟨in_X1, tyX1_ok, nmX1⟩
theorem ok2 : clok 2 := by intro r hr; cases hr; exact ⟨in_X2, tyX2_ok, nmX2⟩
theorem ok3 : clok 3 := by intro r hr; cases hr; exact ⟨in_X3, tyX3_ok, nmX3⟩
theorem ok4 : clok 4 := by intro r hr; cases hr; exact ⟨in_X4, tyX4_ok, nmX4⟩
theorem ok5 : clok 5 := by intro r hr; cases hr; exact ⟨in_X5, tyX5_ok, nmX5⟩
theorem ok6 : clok 6 := by intro r hr; cases hr; exact ⟨in_X6, tyX6_ok, nmX6⟩
theorem ok7 : clok 7 := by intro r hr; cases hr; exact ⟨in_X7, tyX7_ok, nmX7⟩
theorem ok8 : clok 8 := by intro r hr; cases hr; exact ⟨in_X8, tyX8_ok, nmX8⟩
theorem ok9 : clok 9 := by intro r hr; cases hr; exact ⟨in_X9, tyX9_ok, nmX9⟩
theorem ok10 : clok 10 := by intro r hr; cases hr; exact ⟨in_X10, tyX10_ok, nmX10⟩
theorem ok11 : clok 11 := by intro r hr; cases hr; exact ⟨in_X11, tyX11_ok, nmX11⟩
theorem ok12 : clok 12 := by intro r hr; cases hr; exact ⟨in_X12, tyX12_ok, nmX12⟩
theorem ok13 : clok 13 := by intro r hr; cases hr; exact ⟨in_X13, tyX13_ok, nmX13⟩
theorem ok14 : clok 14 := by intro r hr; cases hr; exact ⟨in_X14, tyX14_ok, nmX14⟩
theorem ok15 : clok 15 := by intro r hr; cases hr; exact ⟨in_X15, tyX15_ok, nmX15⟩
theorem ok16 : clok 16 := by intro r hr; cases hr; exact ⟨in_X16, tyX16_ok, nmX16⟩
theorem ok17 : clok 17 := by intro r hr; cases hr; exact ⟨in_X17p, fun k _ => by show parseFieldDescriptor "I" = some .int; decide +kernel, fun a ha b hb hne => by have ha : a < 1 := ha; have hb : b < 1 := hb; omega⟩
theorem ok18 : clok 18 := by intro r hr; cases hr; exact ⟨in_X19, tyX19_ok, nmX19⟩
theorem ok19 : clok 19 := by intro r hr; cases hr; exact ⟨in_X20, tyX20_ok, nmX20⟩
theorem ok20 : clok 20 := by intro r hr; cases hr; exact ⟨in_X21, tyX21_ok, nmX21⟩
theorem ok21 : clok 21 := by intro r hr; cases hr; exact ⟨in_X26, tyX26_ok, nmX26⟩
theorem ok22 : clok 22 := by intro r hr; cases hr; exact ⟨in_X23, tyX23_ok, nmX23⟩
theorem ok23 : clok 23 := by intro r hr; cases hr; exact ⟨in_X24, tyX24_ok, nmX24⟩
theorem ok24 : clok 24 := by intro r hr; cases hr; exact ⟨in_X25, tyX25_ok, nmX25⟩
theorem ok25 : clok 25 := by intro r hr; cases hr; exact ⟨in_X27, tyX27_ok, nmX27⟩
theorem ok26 : clok 26 := by intro r hr; cases hr; exact ⟨in_J9, tyJ9_ok, nmJ9⟩
theorem bI_n {b : Bool} (h : bI b = 0) : ¬ b = true := by
  intro q
  subst q
  exact absurd h (by decide)
theorem bI_p {b : Bool} (h : ¬ bI b = 0) : b = true := by
  cases b with
  | true => rfl
  | false => exact absurd rfl h
theorem bI_nar (b : Bool) : narrow .boolean (.int (bI b)) = .int (bI b) := by cases b <;> rfl
theorem wI_self (w : Wd) (a f : Nat) (v : Int32) : wI (sI w a f v) a f = v := by rw [wI_sI, if_pos ⟨rfl, rfl⟩]
theorem wL_self (w : Wd) (a f : Nat) (v : Int64) : wL (sL w a f v) a f = v := by rw [wL_sL, if_pos ⟨rfl, rfl⟩]
/-- a method's walk: what is given at its entry -/
theorem mW {l : Launch} {y : MethodName} {cc : ByteArray} {maxL : Nat} {ret : Option FieldType} {rm : Room} {Qc : Array Value → State → Outcome → State → Prop} {mc ms : Nat} {G : Gw} {z : Nat} {H0 : Heap} {w : Wd} {av : List Value} (hy : plainName y.cls = true) (hn : (lg_sl av).length ≤ maxL)
    (body : ∀ (p : Program) (e : Env) (s : State) (m : MethodId) (below : List Frame) (meth : Method) (c : Code) (ls : Array Slot), p.tables.exec = Jvm.exec → c.code = cc → meth.sig.returnType = ret → c.maxLocals = maxL → s.vm.findClass y.cls = some m.cls → (∀ w ∈ lw_all, w.before av.toArray s = true) → meth.locks = false → meth.name = y.name → KK G s → Rp G z H0 w s.heap → Fix w → lv_has ls maxL (lv_args 0 av) →
      W p l e rm s m av.toArray below meth c s.heap [] 0 0 (MQ below Qc av.toArray s mc ms (fun q => z ≤ q)) (F0 m 0 ls [])) : Met l y (ws_ y cc maxL ret) rm (pcW G z H0 w av) Qc mc ms (fun q => z ≤ q) := by
  refine Met.ofW (cc := cc) (maxL := maxL) (ret := ret) hy rfl ?_
  intro p e s m args below meth c s₁ B hml hv
  obtain ⟨rfl, hK, hR, hF⟩ := hv
  have hts := atoms_spec (ws := ws_ y cc maxL ret) B.pre
  have hl := lv_entry av (n := maxL) hn
  rw [lg_entry_eq]
  exact body p e s m below meth c _ B.exec B.bytes B.returns hml (findClass_of_methodNamed B.named) (fun w h => hts w (List.mem_cons_of_mem _ h)) B.notSynchronized (name_of_methodNamed B.named B.method).1 hK hR hF hl
theorem bI_fit (b : Bool) : fits .boolean (.int (bI b)) = true := by cases b <;> rfl
theorem fv_fix {z : Nat} {w : Wd} {a f b : Nat} {t : FieldType} (hF : Fix w) (hs : ftS t = 2) (h : fixR a f = some b) : fv z w a (ftS t) f = .ref (z + b) := by
  rw [hs]
  show rfv z (wR w a f) = _
  rw [hF.1 a f b h]
  rfl
section WC2
variable {p : Program} {l : Launch} {e : Env} {R : Room} {s : State} {m : MethodId} {args : Array Value} {below : List Frame} {meth : Method} {c : Code} {H : Heap} {locs : List Loc} {cells slots : Nat} {Q : State → Prop}
variable {cc : ByteArray} {pc nL : Nat} {ls : Array Slot} {rest st0 : List Value} {G : Gw} {z : Nat} {H0 : Heap} {w w1 : Wd} {st1 : List Value}
/-- a call through an object of the class with the number ci: nothing changes, nothing is made -/
theorem c_VP {own : String} {y : MethodName} {bytes : ByteArray} {maxL index n a ci : Nat} {ret : Option FieldType} {rm : Room} {As : List Value} {r : Option Value} {q : vw_C} (hx : p.tables.exec = Jvm.exec) (hb : c.code = cc) (hml : c.maxLocals = nL) (hown : s.vm.findClass own = some m.cls) (hts : ∀ w ∈ lw_all, w.before args s = true) (hK : KK G s) (hR : Rp G z H0 w H) (hF : Fix w) (hL : lok z locs) (hls : ls.size = nL)
    (hM : Met l y (ws_ y bytes maxL ret) rm (pcW G z H0 w (.ref (z + a) :: As)) (qP r) 0 0 (fun q => z ≤ q)) (ht : (wT w a).1 = ci + 1) (hc : cl[ci]? = some q) (hrc : rm.cells = 0) (hrs : rm.slots = 0)
    (hd : y.cls = q.1 ∧ y.cls ≠ "java/lang/invoke/MethodHandle" ∧ y.cls ≠ "java/lang/invoke/VarHandle" ∧ (parseMethodDescriptor y.desc).map (fun d => d.parameters.length) = some n) (h1 : Cond.methodLink own index y ∈ lw_all) (h2 : Cond.instanceMethod y ∈ lw_all) (h3 : Cond.selects q.1 y y ∈ lw_all) (h4 : Cond.initialized q.1 ∈ lw_all) (h5 : Cond.code y bytes maxL ret ∈ lw_all)
    (hRm : rm.frames + 1 ≤ R.frames ∧ 8 + (maxL + 11) + rm.locals ≤ R.locals) (hcs : cells ≤ R.cells ∧ slots ≤ R.slots) (hn : As.length = n) (hst : st0 = As.reverse ++ .ref (z + a) :: rest) (hW : (rest.map fun v => v.category).sum ≤ 8) (hdg : decode cc pc = .ok (.invokevirtual index, 3))
    (hst1 : r.toList ++ rest = st1)
    (kk : ∀ locs1 : List Loc, lok z locs1 → W p l e R s m args below meth c H locs1 cells slots Q (F0 m (pc + 3) ls st1)) : W p l e R s m args below meth c H locs cells slots Q (F0 m pc ls st0) := by
  subst hst1
  refine c_P (mc := 0) (ms := 0) (va_runV (As := As) (rest := rest) ⟨hx, hb, hml, hown, hts⟩ hM (cwV n hts (lw_V h1 h2 h3 h4 h5) rfl hrc hrs hd hRm) ⟨pcW.blind, r_recv hK hR ht hc, fun U hU hW => ⟨rfl, hK.moved hW.alike, by rw [hU]; exact hR, hF⟩⟩ rfl hn hls hst (lv_room hW) hdg hcs) hL kk
theorem c_VW {own : String} {y : MethodName} {bytes : ByteArray} {maxL index n a ci : Nat} {ret : Option FieldType} {rm : Room} {As : List Value} {r : Option Value} {q : vw_C} (hx : p.tables.exec = Jvm.exec) (hb : c.code = cc) (hml : c.maxLocals = nL) (hown : s.vm.findClass own = some m.cls) (hts : ∀ w ∈ lw_all, w.before args s = true) (hK : KK G s) (hR : Rp G z H0 w H) (hF : Fix w) (hL : lok z locs) (hls : ls.size = nL)
    (hM : Met l y (ws_ y bytes maxL ret) rm (pcW G z H0 w (.ref (z + a) :: As)) (qW G z H0 w1 r) 0 0 (fun q => z ≤ q)) (ht : (wT w a).1 = ci + 1) (hc : cl[ci]? = some q) (hrc : rm.cells = 0) (hrs : rm.slots = 0)
    (hd : y.cls = q.1 ∧ y.cls ≠ "java/lang/invoke/MethodHandle" ∧ y.cls ≠ "java/lang/invoke/VarHandle" ∧ (parseMethodDescriptor y.desc).map (fun d => d.parameters.length) = some n) (h1 : Cond.methodLink own index y ∈ lw_all) (h2 : Cond.instanceMethod y ∈ lw_all) (h3 : Cond.selects q.1 y y ∈ lw_all) (h4 : Cond.initialized q.1 ∈ lw_all) (h5 : Cond.code y bytes maxL ret ∈ lw_all)
    (hRm : rm.frames + 1 ≤ R.frames ∧ 8 + (maxL + 11) + rm.locals ≤ R.locals) (hcs : cells ≤ R.cells ∧ slots ≤ R.slots) (hn : As.length = n) (hst : st0 = As.reverse ++ .ref (z + a) :: rest) (hW : (rest.map fun v => v.category).sum ≤ 8) (hdg : decode cc pc = .ok (.invokevirtual index, 3))
    (hst1 : r.toList ++ rest = st1)
    (kk : ∀ (H1 : Heap) (locs1 : List Loc), Rp G z H0 w1 H1 → Fix w1 → lok z locs1 → W p l e R s m args below meth c H1 locs1 cells slots Q (F0 m (pc + 3) ls st1)) : W p l e R s m args below meth c H locs cells slots Q (F0 m pc ls st0) := by
  subst hst1
  refine c_W (mc := 0) (ms := 0) (va_runV (As := As) (rest := rest) ⟨hx, hb, hml, hown, hts⟩ hM (cwV n hts (lw_V h1 h2 h3 h4 h5) rfl hrc hrs hd hRm) ⟨pcW.blind, r_recv hK hR ht hc, fun U hU hW => ⟨rfl, hK.moved hW.alike, by rw [hU]; exact hR, hF⟩⟩ rfl hn hls hst (lv_room hW) hdg hcs) hL kk
end WC2
theorem ok27 : clok 27 := by intro r hr; cases hr; exact ⟨(fun w h => by cases h), (fun k h => absurd h (Nat.not_lt_zero _)), (fun a h => absurd h (Nat.not_lt_zero _))⟩
theorem ok28 : clok 28 := by intro r hr; cases hr; exact ⟨(fun w h => by cases h), (fun k h => absurd h (Nat.not_lt_zero _)), (fun a h => absurd h (Nat.not_lt_zero _))⟩
theorem ok29 : clok 29 := by intro r hr; cases hr; exact ⟨(fun w h => by cases h), (fun k h => absurd h (Nat.not_lt_zero _)), (fun a h => absurd h (Nat.not_lt_zero _))⟩
theorem ok30 : clok 30 := by intro r hr; cases hr; exact ⟨(fun w h => by cases h), (fun k h => absurd h (Nat.not_lt_zero _)), (fun a h => absurd h (Nat.not_lt_zero _))⟩
theorem ok31 : clok 31 := by intro r hr; cases hr; exact ⟨(fun w h => by cases h), (fun k h => absurd h (Nat.not_lt_zero _)), (fun a h => absurd h (Nat.not_lt_zero _))⟩
