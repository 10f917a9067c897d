/-! PURE PART: ways -/
def Trg (d : Nat → Nat → Nat) (j : Nat) : Prop := ∀ x y, x < 8 → y < 8 → d x y ≤ d x j + d j y
def Fea (p : Nat → Nat) (d : Nat → Nat → Nat) : Prop := ∀ x y, x < 8 → y < 8 → p y ≤ p x + d x y
def Sym (d : Nat → Nat → Nat) : Prop := ∀ x y, x < 8 → y < 8 → d x y = d y x
def WayOK (rd wy : Nat → Nat → Nat) : Prop := (∀ x, x < 8 → wy x x = 0) ∧ (∀ x y, x < 8 → y < 8 → wy x y ≤ rd x y ∧ rd x y ≤ 9999) ∧ Sym rd ∧ Sym wy ∧ (∀ j, j < 8 → Trg wy j) ∧ ∀ p, Fea p rd → Fea p wy
def set2 (d : Nat → Nat → Nat) (a b v : Nat) : Nat → Nat → Nat := fun x y => if (x = a ∧ y = b) ∨ (x = b ∧ y = a) then v else d x y
def fl (d : Nat → Nat → Nat) (k : Nat) : Nat → Nat → Nat := fun x y => min (d x y) (d x k + d k y)
def fls (d : Nat → Nat → Nat) : Nat → Nat → Nat → Nat
  | 0 => d
  | k + 1 => fl (fls d k) k
theorem fl_le (d : Nat → Nat → Nat) (k x y : Nat) : fl d k x y ≤ d x y := Nat.min_le_left _ _
theorem fl_diag {d : Nat → Nat → Nat} {k x : Nat} (h : d x x = 0) : fl d k x x = 0 := by
  have := fl_le d k x x
  omega
theorem fl_sym {d : Nat → Nat → Nat} {k : Nat} (hk : k < 8) (h : Sym d) : Sym (fl d k) := by
  intro x y hx hy
  unfold fl
  rw [h x y hx hy, h x k hx hk, h k y hk hy, Nat.add_comm]
theorem fl_fea {d : Nat → Nat → Nat} {k : Nat} {p : Nat → Nat} (hk : k < 8) (h : Fea p d) : Fea p (fl d k) := by
  intro x y hx hy
  have h1 := h x y hx hy
  have h2 := h x k hx hk
  have h3 := h k y hk hy
  unfold fl
  omega
theorem fl_trg {d : Nat → Nat → Nat} {k : Nat} (hk : k < 8) (h0 : d k k = 0) (h : ∀ j, j < k → Trg d j) : ∀ j, j < k + 1 → Trg (fl d k) j := by
  intro j hj x y hx hy
  unfold fl
  rcases Nat.lt_or_ge j k with q | q
  · have h1 := h j q x y hx hy
    have h2 := h j q k y hk hy
    have h3 := h j q x k hx hk
    omega
  · have e : j = k := by omega
    subst e
    omega
theorem fls_ok {d : Nat → Nat → Nat} (h0 : ∀ x, x < 8 → d x x = 0) (hs : Sym d) : ∀ k, k ≤ 8 → (∀ x, x < 8 → fls d k x x = 0) ∧ Sym (fls d k) ∧ (∀ x y, fls d k x y ≤ d x y) ∧ (∀ j, j < k → Trg (fls d k) j) ∧ ∀ p, Fea p d → Fea p (fls d k) := by
  intro k
  induction k with
  | zero => intro _; exact ⟨h0, hs, fun _ _ => Nat.le_refl _, fun j hj => absurd hj (Nat.not_lt_zero _), fun _ h => h⟩
  | succ k ih =>
    intro hk
    obtain ⟨h1, h2, h3, h4, h5⟩ := ih (by omega)
    refine ⟨fun x hx => fl_diag (h1 x hx), fl_sym (by omega) h2, fun x y => Nat.le_trans (fl_le _ _ _ _) (h3 x y), fl_trg (by omega) (h1 k (by omega)) h4, fun p hp => fl_fea (by omega) (h5 p hp)⟩
theorem set2_sym {d : Nat → Nat → Nat} {a b v : Nat} (h : Sym d) : Sym (set2 d a b v) := by
  intro x y hx hy
  unfold set2
  by_cases q : (x = a ∧ y = b) ∨ (x = b ∧ y = a)
  · rw [if_pos q, if_pos (by omega)]
  · rw [if_neg q, if_neg (by omega), h x y hx hy]
/-- the way is longer than the new road: both change -/
theorem way_less {rd wy : Nat → Nat → Nat} {a b v : Nat} (h : WayOK rd wy) (ha : a < 8) (hb : b < 8) (hab : a ≠ b) (hv : v < wy a b) : WayOK (set2 rd a b v) (fls (set2 wy a b v) 8) := by
  obtain ⟨h1, h2, h3, h4, h5, h6⟩ := h
  have d0 : ∀ x, x < 8 → set2 wy a b v x x = 0 := by
    intro x hx
    unfold set2
    rw [if_neg (by omega)]
    exact h1 x hx
  obtain ⟨g1, g2, g3, g4, g5⟩ := fls_ok d0 (set2_sym h4) 8 (Nat.le_refl _)
  have hba := h4 a b ha hb
  have r1 := h2 a b ha hb
  have r2 := h2 b a hb ha
  have r3 := h3 a b ha hb
  refine ⟨g1, fun x y hx hy => ?_, set2_sym h3, g2, g4, fun p hp => g5 p ?_⟩
  · have := g3 x y
    have := h2 x y hx hy
    unfold set2 at *
    by_cases q : (x = a ∧ y = b) ∨ (x = b ∧ y = a)
    · rw [if_pos q] at *
      omega
    · rw [if_neg q] at *
      omega
  · have hp0 : Fea p rd := by
      intro x y hx hy
      have := hp x y hx hy
      have := h2 x y hx hy
      unfold set2 at *
      by_cases q : (x = a ∧ y = b) ∨ (x = b ∧ y = a)
      · rw [if_pos q] at *
        rcases q with ⟨rfl, rfl⟩ | ⟨rfl, rfl⟩ <;> omega
      · rw [if_neg q] at *
        omega
    have hp1 := h6 p hp0
    intro x y hx hy
    have e1 := hp x y hx hy
    have e2 := hp1 x y hx hy
    unfold set2 at *
    by_cases q : (x = a ∧ y = b) ∨ (x = b ∧ y = a)
    · rw [if_pos q] at *
      exact e1
    · rw [if_neg q] at *
      exact e2
/-- the way is no longer than the new road -/
theorem way_more {rd wy : Nat → Nat → Nat} {a b v : Nat} (h : WayOK rd wy) (ha : a < 8) (hb : b < 8) (hv : wy a b ≤ v) (hr : v < rd a b) : WayOK (set2 rd a b v) wy := by
  obtain ⟨h1, h2, h3, h4, h5, h6⟩ := h
  have hba := h4 a b ha hb
  have r1 := h2 a b ha hb
  have r2 := h2 b a hb ha
  have r3 := h3 a b ha hb
  refine ⟨h1, fun x y hx hy => ?_, set2_sym h3, h4, h5, fun p hp => h6 p ?_⟩
  · have := h2 x y hx hy
    unfold set2
    by_cases q : (x = a ∧ y = b) ∨ (x = b ∧ y = a)
    · rw [if_pos q]
      rcases q with ⟨rfl, rfl⟩ | ⟨rfl, rfl⟩ <;> omega
    · rw [if_neg q]
      omega
  · intro x y hx hy
    have := hp x y hx hy
    unfold set2 at *
    by_cases q : (x = a ∧ y = b) ∨ (x = b ∧ y = a)
    · rw [if_pos q] at *
      rcases q with ⟨rfl, rfl⟩ | ⟨rfl, rfl⟩ <;> omega
    · rw [if_neg q] at *
      omega
/-! the other reckoning: from town 0, edge by edge -/
def rlx (rd : Nat → Nat → Nat) (f : Nat → Nat) (k : Nat) : Nat → Nat := if f (k / 8) + rd (k / 8) (k % 8) < f (k % 8) then (fun v => if v = k % 8 then f (k / 8) + rd (k / 8) (k % 8) else f v) else f
def rls (rd : Nat → Nat → Nat) (f : Nat → Nat) : Nat → Nat → Nat
  | 0 => f
  | k + 1 => rlx rd (rls rd f k) k
def trn (rd : Nat → Nat → Nat) (f : Nat → Nat) : Nat → Nat → Nat
  | 0 => f
  | k + 1 => rls rd (trn rd f k) 64
theorem rlx_le (rd : Nat → Nat → Nat) (f : Nat → Nat) (k v : Nat) : rlx rd f k v ≤ f v := by
  unfold rlx
  split
  · dsimp only
    split
    · rename_i h1 h2
      subst h2
      omega
    · exact Nat.le_refl _
  · exact Nat.le_refl _
theorem rlx_ge {rd : Nat → Nat → Nat} {f g : Nat → Nat} {k : Nat} (hk : k < 64) (hg : Fea g rd) (h : ∀ v, v < 8 → g v ≤ f v) : ∀ v, v < 8 → g v ≤ rlx rd f k v := by
  intro v hv
  unfold rlx
  split
  · dsimp only
    split
    · rename_i h1 h2
      subst h2
      have h3 := hg (k / 8) (k % 8) (by omega) (by omega)
      have h4 := h (k / 8) (by omega)
      omega
    · exact h v hv
  · exact h v hv
theorem rls_le (rd : Nat → Nat → Nat) (f : Nat → Nat) : ∀ k v, rls rd f k v ≤ f v := by
  intro k
  induction k with
  | zero => intro v; exact Nat.le_refl _
  | succ k ih => intro v; exact Nat.le_trans (rlx_le _ _ _ _) (ih v)
theorem rls_ge {rd : Nat → Nat → Nat} {f g : Nat → Nat} (hg : Fea g rd) (h : ∀ v, v < 8 → g v ≤ f v) : ∀ k, k ≤ 64 → ∀ v, v < 8 → g v ≤ rls rd f k v := by
  intro k
  induction k with
  | zero => intro _; exact h
  | succ k ih => intro hk; exact rlx_ge (by omega) hg (ih (by omega))
theorem rls_edge {rd : Nat → Nat → Nat} {f : Nat → Nat} : ∀ k, ∀ j, j < k → rls rd f k (j % 8) ≤ f (j / 8) + rd (j / 8) (j % 8) := by
  intro k
  induction k with
  | zero => intro j hj; exact absurd hj (Nat.not_lt_zero _)
  | succ k ih =>
    intro j hj
    rcases Nat.lt_or_ge j k with q | q
    · exact Nat.le_trans (rlx_le _ _ _ _) (ih j q)
    · have e : j = k := by omega
      subst e
      have h1 := rls_le rd f j (j / 8)
      show rlx rd (rls rd f j) j (j % 8) ≤ _
      unfold rlx
      split
      · dsimp only
        rw [if_pos rfl]
        omega
      · omega
def cnt8 (c : Nat → Nat) : Nat := c 0 + c 1 + c 2 + c 3 + c 4 + c 5 + c 6 + c 7
theorem lt8 {P : Nat → Prop} {v : Nat} (hv : v < 8) (h0 : P 0) (h1 : P 1) (h2 : P 2) (h3 : P 3) (h4 : P 4) (h5 : P 5) (h6 : P 6) (h7 : P 7) : P v := by
  rcases (show v = 0 ∨ v = 1 ∨ v = 2 ∨ v = 3 ∨ v = 4 ∨ v = 5 ∨ v = 6 ∨ v = 7 by omega) with rfl | rfl | rfl | rfl | rfl | rfl | rfl | rfl <;> assumption
theorem cnt8_lt {c c' : Nat → Nat} (h : ∀ v, v < 8 → c v ≤ c' v) {v : Nat} (hv : v < 8) (hs : c v < c' v) : cnt8 c < cnt8 c' := by
  have a0 := h 0 (by omega)
  have a1 := h 1 (by omega)
  have a2 := h 2 (by omega)
  have a3 := h 3 (by omega)
  have a4 := h 4 (by omega)
  have a5 := h 5 (by omega)
  have a6 := h 6 (by omega)
  have a7 := h 7 (by omega)
  unfold cnt8
  rcases (show v = 0 ∨ v = 1 ∨ v = 2 ∨ v = 3 ∨ v = 4 ∨ v = 5 ∨ v = 6 ∨ v = 7 by omega) with rfl | rfl | rfl | rfl | rfl | rfl | rfl | rfl <;> omega
def stl (g f : Nat → Nat) (v : Nat) : Nat := if f v = g v then 1 else 0
theorem stl_le (g f : Nat → Nat) (v : Nat) : stl g f v ≤ 1 := by
  unfold stl
  split <;> omega
/-- one turn settles one more, or all are -/
theorem one_turn {rd wy : Nat → Nat → Nat} {f : Nat → Nat} (h : WayOK rd wy) (hf : ∀ v, v < 8 → wy 0 v ≤ f v) (h0 : f 0 = 0) :
    (∀ v, v < 8 → f v = wy 0 v) ∨ cnt8 (stl (wy 0) f) < cnt8 (stl (wy 0) (rls rd f 64)) := by
  obtain ⟨h1, h2, h3, h4, h5, h6⟩ := h
  have hg : Fea (wy 0) rd := by
    intro x y hx hy
    have a1 := h5 x hx 0 y (by omega) hy
    have a2 := h2 x y hx hy
    omega
  have hge := rls_ge hg hf 64 (Nat.le_refl _)
  have hle := rls_le rd f 64
  by_cases q : ∃ u v, u < 8 ∧ v < 8 ∧ f u = wy 0 u ∧ f v ≠ wy 0 v ∧ wy 0 u + rd u v = wy 0 v
  · right
    obtain ⟨u, v, hu, hv, e1, e2, e3⟩ := q
    refine cnt8_lt (fun x hx => ?_) hv ?_
    · unfold stl
      have b1 := hge x hx
      have b2 := hle x
      split
      · rw [if_pos (by omega)]
        exact Nat.le_refl _
      · omega
    · have b3 := rls_edge (rd := rd) (f := f) 64 (8 * u + v) (by omega)
      rw [show (8 * u + v) % 8 = v by omega, show (8 * u + v) / 8 = u by omega] at b3
      have b1 := hge v hv
      unfold stl
      rw [if_neg e2, if_pos (by omega)]
      omega
  · left
    intro b hb
    by_cases e : f b = wy 0 b
    · exact e
    · exfalso
      have hp : Fea (fun x => if f x = wy 0 x then wy 0 x else wy 0 x + 1) rd := by
        intro x y hx hy
        have b1 := hg x y hx hy
        show (if f y = wy 0 y then wy 0 y else wy 0 y + 1) ≤ (if f x = wy 0 x then wy 0 x else wy 0 x + 1) + rd x y
        by_cases c1 : f x = wy 0 x
        · rw [if_pos c1]
          by_cases c2 : f y = wy 0 y
          · rw [if_pos c2]
            exact b1
          · rw [if_neg c2]
            have : wy 0 x + rd x y ≠ wy 0 y := fun e9 => q ⟨x, y, hx, hy, c1, c2, e9⟩
            omega
        · rw [if_neg c1]
          split <;> omega
      have := h6 _ hp 0 b (by omega) hb
      have h00 := h1 0 (by omega)
      simp only [if_neg e, if_pos (show f 0 = wy 0 0 by rw [h0, h00])] at this
      omega
theorem turns {rd wy : Nat → Nat → Nat} {f : Nat → Nat} (h : WayOK rd wy) (hf : ∀ v, v < 8 → wy 0 v ≤ f v) (h0 : f 0 = 0) :
    ∀ k, (∀ v, v < 8 → wy 0 v ≤ trn rd f k v) ∧ trn rd f k 0 = 0 ∧ ((∀ v, v < 8 → trn rd f k v = wy 0 v) ∨ k + 1 ≤ cnt8 (stl (wy 0) (trn rd f k))) := by
  have h00 := h.1 0 (by omega)
  have hg : Fea (wy 0) rd := by
    intro x y hx hy
    have a1 := h.2.2.2.2.1 x hx 0 y (by omega) hy
    have a2 := h.2.1 x y hx hy
    omega
  intro k
  induction k with
  | zero =>
    refine ⟨hf, h0, Or.inr ?_⟩
    have : stl (wy 0) f 0 = 1 := by
      unfold stl
      rw [if_pos (by rw [h0, h00])]
    show 1 ≤ cnt8 (stl (wy 0) f)
    unfold cnt8
    omega
  | succ k ih =>
    obtain ⟨i1, i2, i3⟩ := ih
    have g1 := rls_ge hg i1 64 (Nat.le_refl _)
    have g2 := rls_le rd (trn rd f k) 64
    refine ⟨g1, ?_, ?_⟩
    · have := g2 0
      show rls rd (trn rd f k) 64 0 = 0
      omega
    · have done : (∀ v, v < 8 → trn rd f k v = wy 0 v) → ∀ v, v < 8 → trn rd f (k + 1) v = wy 0 v := by
        intro e v hv
        have a1 := g1 v hv
        have a2 := g2 v
        have a3 := e v hv
        show rls rd (trn rd f k) 64 v = _
        omega
      rcases one_turn h i1 i2 with q | q
      · exact Or.inl (done q)
      · rcases i3 with e | e
        · exact Or.inl (done e)
        · exact Or.inr (by show k + 1 + 1 ≤ cnt8 (stl (wy 0) (rls rd (trn rd f k) 64)); omega)
theorem far_is {rd wy : Nat → Nat → Nat} {f : Nat → Nat} (h : WayOK rd wy) (hf : ∀ v, v < 8 → wy 0 v ≤ f v) (h0 : f 0 = 0) : ∀ v, v < 8 → trn rd f 8 v = wy 0 v := by
  obtain ⟨-, -, h1⟩ := turns h hf h0 8
  rcases h1 with h1 | h1
  · exact h1
  · exfalso
    have a0 := stl_le (wy 0) (trn rd f 8) 0
    have a1 := stl_le (wy 0) (trn rd f 8) 1
    have a2 := stl_le (wy 0) (trn rd f 8) 2
    have a3 := stl_le (wy 0) (trn rd f 8) 3
    have a4 := stl_le (wy 0) (trn rd f 8) 4
    have a5 := stl_le (wy 0) (trn rd f 8) 5
    have a6 := stl_le (wy 0) (trn rd f 8) 6
    have a7 := stl_le (wy 0) (trn rd f 8) 7
    unfold cnt8 at h1
    omega
