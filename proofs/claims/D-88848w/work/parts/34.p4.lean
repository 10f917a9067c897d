/-! PURE PART: what ties the two objects together, component by component -/
/-- a live dynamic cell of a tag -/
def Dy (w : Wd) (a t : Nat) : Prop := 108 ≤ a ∧ a < wZ w ∧ (wT w a).1 = t
def Tod (w : Wd) : Prop := ∃ t, t ≤ 9999 ∧ wI w 0 0 = Int32.ofNat t ∧ wI w 58 0 = Int32.ofNat t
def Way (w : Wd) : Prop := ∃ rd wy : Nat → Nat → Nat, WayOK rd wy ∧ ∀ a b, a < 8 → b < 8 → wI w 59 (8 * a + b) = Int32.ofNat (rd a b) ∧ wI w (2 + a) b = Int32.ofNat (wy a b)
def Per1 (w : Wd) (k : Nat) : Prop := ∃ a, wR w 10 k = some a ∧ Dy w a 6 ∧ wI w a 0 = wI w 60 k ∧ wI w a 1 = wI w 61 k ∧ (∃ t, t < 8 ∧ wI w 60 k = Int32.ofNat t) ∧ ∃ t, t < 6 ∧ wI w 61 k = Int32.ofNat t
def Per (w : Wd) : Prop := ∃ n, n ≤ 16 ∧ wI w 0 3 = Int32.ofNat n ∧ wI w 58 1 = Int32.ofNat n ∧ ∀ k, k < n → Per1 w k
/-- a book at a: its two arrays lie behind it -/
def BkO (w : Wd) (a : Nat) : Prop := Dy w a 7 ∧ a + 2 < wZ w ∧ wT w (a + 1) = (200, 16) ∧ wT w (a + 2) = (200, 16) ∧ wR w a 4 = some (a + 1) ∧ wR w a 6 = some (a + 2)
def Boo1 (w : Wd) (k : Nat) : Prop := ∃ a, wR w 11 k = some a ∧ BkO w a ∧ wI w a 0 = Int32.ofNat k ∧ wI w a 1 = wI w 62 k ∧ wI w a 2 = wI w 63 k ∧ wI w a 3 = wI w 64 k ∧ wI w a 5 = wI w 65 k ∧ wI w a 7 = wI w 92 k ∧ (∃ v, v ≤ 16 ∧ wI w 65 k = Int32.ofNat v) ∧ (∃ v, v ≤ 20 ∧ wI w 92 k = Int32.ofNat v) ∧
  (∃ v, v ≤ 99 ∧ wI w 62 k = Int32.ofNat v) ∧ (∃ v, v ≤ 19 ∧ wI w 63 k = Int32.ofNat v) ∧ (∃ v, v ≤ 2000 ∧ wI w 64 k = Int32.ofNat v) ∧
  ∀ l, l < 16 → wI w (a + 1) l = wI w 66 (16 * k + l) ∧ wI w (a + 2) l = wI w 93 (16 * k + l)
def Boo (w : Wd) : Prop := ∃ n, n ≤ 16 ∧ wI w 0 5 = Int32.ofNat n ∧ wI w 58 2 = Int32.ofNat n ∧ (∀ k, k < n → Boo1 w k) ∧ (∀ k, n ≤ k → k < 16 → wI w 92 k = 0 ∧ ∀ l, l < 16 → wI w 66 (16 * k + l) = 0 ∧ wI w 93 (16 * k + l) = 0) ∧
  (∀ k l, k < 16 → l < 16 → H16 (wI w 66 (16 * k + l)) ∧ H16 (wI w 93 (16 * k + l))) ∧
  (∀ k x y, k < 16 → x < 16 → y < 16 → bt (wI w 93 (16 * k + x)) y = bt (wI w 93 (16 * k + y)) x) ∧
  ∀ a, Dy w a 7 → ∃ k, k < n ∧ wR w 11 k = some a
def Edi1 (w : Wd) (k : Nat) : Prop := ∃ a b, wR w 12 k = some a ∧ Dy w a 8 ∧ wI w a 0 = Int32.ofNat k ∧ wI w a 1 = wI w 68 k ∧ wI w a 2 = wI w 69 k ∧ wI w a 4 = wI w 70 k ∧ wR w a 3 = some b ∧ Dy w b 7 ∧ wI w b 0 = wI w 67 k ∧ (∃ j, j < 16 ∧ wI w 67 k = Int32.ofNat j) ∧ (∃ v, 1 ≤ v ∧ v ≤ 65535 ∧ wI w 68 k = Int32.ofNat v) ∧ ∃ t, t < 8 ∧ wI w 69 k = Int32.ofNat t
def Edi (w : Wd) : Prop := ∃ n, n ≤ 24 ∧ wI w 0 7 = Int32.ofNat n ∧ wI w 58 3 = Int32.ofNat n ∧ (∀ k, k < n → Edi1 w k) ∧ ∀ a, Dy w a 8 → ∃ k, k < n ∧ wR w 12 k = some a
/-- a card's tag by its kind -/
def ctag : Nat → Nat
  | 0 => 9 | 1 => 10 | 2 => 11 | 3 => 12 | 4 => 15 | 5 => 13 | _ => 14
def Car1 (w : Wd) (k : Nat) : Prop := ∃ a c, wR w 13 k = some a ∧ c ≤ 6 ∧ Dy w a (ctag c) ∧ wR w a 0 = some 14 ∧ wI w a 1 = Int32.ofNat k ∧ wI w a 2 = wI w 73 k ∧ wI w a 3 = wI w 74 k ∧ ((c ≠ 4 ∧ wI w 77 k = 0 ∧ wI w 72 k = Int32.ofNat c) ∨ (c = 4 ∧ wI w 77 k = 1)) ∧ (c = 3 → wI w a 4 = wI w 75 k) ∧ ∃ v u, u ≤ v ∧ v ≤ 999 ∧ wI w 74 k = Int32.ofNat v ∧ wI w 75 k = Int32.ofNat u
def Car (w : Wd) : Prop := ∃ n, n ≤ 50 ∧ wI w 0 9 = Int32.ofNat n ∧ wI w 58 17 = Int32.ofNat n ∧ (∀ k, k < n → Car1 w k) ∧ ∀ k, n ≤ k → k < 50 → wI w 77 k = 0
def Tra (w : Wd) : Prop := ∃ n, n ≤ 1000 ∧ wI w 14 1 = Int32.ofNat n ∧ wI w 58 18 = Int32.ofNat n ∧ ∀ k, k < 20 → wI w 15 k = wI w 76 k
def Txt (w : Wd) : Prop := ∃ n, n ≤ 120 ∧ wI w 0 12 = Int32.ofNat n ∧ wI w 58 27 = Int32.ofNat n ∧ ∀ k, k < n → wI w 16 k = wI w 80 (2880 + k)
def Lea (w : Wd) : Prop := ∃ n, n ≤ 30 ∧ wI w 0 21 = Int32.ofNat n ∧ wI w 58 50 = Int32.ofNat n ∧ ∀ k, k < n → wI w 20 k = wI w 84 k ∧ wI w 21 k = wI w 85 k ∧ wI w 22 k = wI w 86 k ∧ wI w 23 k = wI w 87 k
/-- -1, or not below 0 -/
def Sg (x : Int32) : Prop := x = -1 ∨ ∃ v, v ≤ 9999 ∧ x = Int32.ofNat v
def Sli1 (w : Wd) (k : Nat) : Prop := ∃ a, wR w 24 k = some a ∧ Dy w a 26 ∧ wI w a 0 = Int32.ofNat k ∧ wI w a 1 = wI w 88 k ∧ wI w a 2 = wI w 89 k ∧ wI w a 3 = wI w 90 k ∧ Sg (wI w 88 k) ∧ Sg (wI w 89 k) ∧ Sg (wI w 90 k) ∧ ((wI w 91 k = -1 ∧ wR w a 4 = none) ∨ ∃ j, j < k ∧ wI w 91 k = Int32.ofNat j ∧ wR w a 4 = wR w 24 j)
def Sli (w : Wd) : Prop := ∃ n, n ≤ 40 ∧ wI w 0 23 = Int32.ofNat n ∧ wI w 58 55 = Int32.ofNat n ∧ ∀ k, k < n → Sli1 w k
def Por (w : Wd) : Prop := (∀ p h, p < 8 → h < 7 → ∃ v, v ≤ 999 ∧ wI w (27 + p) h = Int32.ofNat v ∧ wI w 96 (7 * p + h) = Int32.ofNat v) ∧ ∀ h, h < 31 → wI w 44 h = 0
def Aim (w : Wd) : Prop := ∃ n, n ≤ 20 ∧ wI w 0 31 = Int32.ofNat n ∧ wI w 58 67 = Int32.ofNat n ∧ (∀ k, k < n → ∃ e l, e < 24 ∧ l < 16 ∧ wI w 46 k = Int32.ofNat e ∧ wI w 47 k = Int32.ofNat l) ∧
  ∀ e, e < 24 → H16 (wI w 98 e) ∧ ∀ l, l < 16 → (bt (wI w 98 e) l = true ↔ ∃ k, k < n ∧ wI w 46 k = Int32.ofNat e ∧ wI w 47 k = Int32.ofNat l)
def Cop (w : Wd) : Prop := ∃ n q, n ≤ 60 ∧ q ≤ 200 ∧ wI w 0 35 = Int32.ofNat n ∧ wI w 58 70 = Int32.ofNat n ∧ wI w 0 39 = Int32.ofNat q ∧ wI w 58 71 = Int32.ofNat q ∧
  (∀ c, c < n → ∃ a, wR w 48 c = some a ∧ Dy w a 8 ∧ wI w a 0 = wI w 100 c ∧ ∃ e, e < 24 ∧ wI w 100 c = Int32.ofNat e) ∧
  ∀ k, k < q → wI w 49 k = wI w 101 k ∧ wI w 50 k = wI w 102 k ∧ wI w 51 k = wI w 103 k ∧ ∃ v, v ≤ 10 ∧ wI w 102 k = Int32.ofNat v
/-- a row's tag by its sort -/
def rtag : Nat → Nat
  | 0 => 201 | 1 => 202 | 2 => 200 | 3 => 204 | _ => 203
def Tap1 (w : Wd) (t : Nat) : Prop := (wI w 104 t = -1 ∧ wR w (52 + t) 0 = none ∧ wI w 105 t = 0) ∨ ∃ r s n, wR w (52 + t) 0 = some r ∧ s ≤ 4 ∧ n ≤ 60 ∧ 108 ≤ r ∧ r < wZ w ∧ wT w r = (rtag s, n) ∧ wI w 104 t = Int32.ofNat s ∧ wI w 105 t = Int32.ofNat n ∧
  (∀ k, k < n → if s = 3 then wL w 106 (60 * t + k) = wL w r k else wL w 106 (60 * t + k) = (wI w r k).toInt64) ∧
  (s = 0 → ∀ k, k < n → (wI w r k).toInt8.toInt32 = wI w r k) ∧ (s = 1 → ∀ k, k < n → (wI w r k).toInt16.toInt32 = wI w r k) ∧ (s = 4 → ∀ k, k < n → wI w r k = 0 ∨ wI w r k = 1) ∧
  (∀ t', t' < 6 → t' ≠ t → wR w (52 + t') 0 ≠ some r) ∧ ∀ b, Dy w b 7 → r ≠ b + 1 ∧ r ≠ b + 2
def Tap (w : Wd) : Prop := ∀ t, t < 6 → Tap1 w t
/-! tests, clauses, lists as objects -/
def LsO (w : Wd) (l : Nat) (es : List Nat) : Prop := Dy w l 27 ∧ wI w l 2 = Int32.ofNat es.length ∧ ∃ r, wR w l 1 = some r ∧ Dy w r 205 ∧ es.length ≤ (wT w r).2 ∧ es.length ≤ 100 ∧ ∀ k x : Nat, es[k]? = some x → wR w r k = some x
/-- a test at a says φ -/
def TsO (w : Wd) : Nat → Nat → Tf → Prop
  | 0, _, _ => False
  | d + 1, a, φ => (Dy w a 25 ∧ isLet (wI w a 0) = true ∧ (∃ u, u ≤ 9999 ∧ wI w a 1 = Int32.ofNat u) ∧ φ = fun v => v (wI w a 0) (wI w a 1)) ∨
    (Dy w a 24 ∧ ∃ b ψ, wR w a 0 = some b ∧ TsO w d b ψ ∧ φ = fun v => !ψ v) ∨
    (Dy w a 23 ∧ ∃ (l : Nat) (es : List Nat) (ψ : Nat → Tf), wR w a 1 = some l ∧ LsO w l es ∧ (∀ k x : Nat, es[k]? = some x → TsO w d x (ψ k)) ∧ ((wI w a 0 = 1 ∧ ∀ v, φ v = true ↔ ∀ k, k < es.length → ψ k v = true) ∨ (wI w a 0 = 0 ∧ ∀ v, φ v = true ↔ ∃ k, k < es.length ∧ ψ k v = true)))
def ClO (w : Wd) (a : Nat) (c : Cl) : Prop :=
  (c.1 = 0 ∧ Dy w a 19 ∧ wI w a 0 = c.2.1 ∧ wI w a 1 = 0) ∨ (c.1 = 1 ∧ Dy w a 20 ∧ wI w a 0 = c.2.1 ∧ wI w a 1 = 0) ∨ (c.1 = 2 ∧ Dy w a 19 ∧ wI w a 0 = c.2.1 ∧ wI w a 1 = 1) ∨ (c.1 = 3 ∧ Dy w a 20 ∧ wI w a 0 = c.2.1 ∧ wI w a 1 = 1) ∨
  (c.1 = 4 ∧ Dy w a 21 ∧ ∃ b, wR w a 0 = some b ∧ TsO w 30 b c.2.2.2) ∨ (c.1 = 5 ∧ Dy w a 22 ∧ wI w a 0 = c.2.1 ∧ wI w a 1 = c.2.2.1)
/-- a decree at a has the clauses cs -/
def DcO (w : Wd) (a : Nat) (cs : List Cl) : Prop := Dy w a 17 ∧ ∃ (l : Nat) (es : List Nat), wR w a 2 = some l ∧ LsO w l es ∧ es.length = cs.length ∧ ∀ (k x : Nat) (c : Cl), es[k]? = some x → cs[k]? = some c → ClO w x c
def txw (w : Wd) (d : Nat) : Nat → Int32 := fun k => wI w 80 (120 * d + k)
/-- the text kept at d has the clauses cs -/
def Tx (w : Wd) (d : Nat) (cs : List Cl) : Prop := ∃ s, s ≤ 120 ∧ wI w 81 d = Int32.ofNat s ∧ pD (hr (txw w d) s) s 8 [] 0 = (some cs, s)
def Dec1 (w : Wd) (d : Nat) : Prop := ∃ a cs, wR w 17 d = some a ∧ DcO w a cs ∧ Tx w d cs ∧ wI w a 0 = wI w 78 d ∧ wI w a 1 = wI w 79 d ∧ (∃ t, t ≤ 9999 ∧ wI w 78 d = Int32.ofNat t) ∧ Sg (wI w 79 d)
def Dec (w : Wd) : Prop := ∃ n, n ≤ 16 ∧ wI w 0 14 = Int32.ofNat n ∧ wI w 58 25 = Int32.ofNat n ∧ (∀ d, d < n → Dec1 w d) ∧ ∀ d d', d < d' → d' < n → wR w 17 d ≠ wR w 17 d'
def Cho1 (w : Wd) (c : Nat) : Prop := ∃ a x, wR w 45 c = some a ∧ ClO w a x ∧ (x.1 = 0 ∨ x.1 = 1 ∨ x.1 = 4) ∧ Tx w (16 + c) [x]
def Cho (w : Wd) : Prop := ∃ n, n ≤ 8 ∧ wI w 0 28 = Int32.ofNat n ∧ wI w 58 26 = Int32.ofNat n ∧ ∀ c, c < n → Cho1 w c
def Inv (j : Nat) (w : Wd) : Prop := Fix w ∧ wZ w ≤ 108 + 1200 * j ∧ Tod w ∧ Way w ∧ Per w ∧ Boo w ∧ Edi w ∧ Car w ∧ Tra w ∧ Txt w ∧ Dec w ∧ Lea w ∧ Sli w ∧ Por w ∧ Cho w ∧ Aim w ∧ Cop w ∧ Tap w
