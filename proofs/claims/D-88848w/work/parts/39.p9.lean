/-! PURE PART: books, editions, and questions of them -/
theorem if_some {α : Type} {p : Prop} [Decidable p] {a y : α} {x : Option α} (h : x = some y) : (if p then some a else x) = some (if p then a else y) := by
  split
  · rfl
  · exact h
theorem st_40 {j : Nat} {w : Wd} {a1 a2 a3 a4 a5 : Int32} (h : Inv j w) : ∃ w2, okc_40 a1 a2 a3 a4 a5 w w2 ∧ Inv (j + 1) w2 := by
  obtain ⟨t, -, x0, m0⟩ := h.tod
  obtain ⟨n1, -, x1, m1, -⟩ := h.per
  obtain ⟨n2, -, x2, m2, -⟩ := h.boo
  obtain ⟨n3, -, x3, m3, -⟩ := h.edi
  obtain ⟨n4, q4, -, -, x4, m4, x12, m12, -⟩ := h.cop
  obtain ⟨n5, -, x5, m5, -⟩ := h.car
  obtain ⟨n6, -, x6, m6, -⟩ := h.dec
  obtain ⟨n7, -, x7, m7, -⟩ := h.txt
  obtain ⟨n8, -, x8, m8, -⟩ := h.lea
  obtain ⟨n9, -, x9, m9, -⟩ := h.sli
  obtain ⟨n10, -, x10, m10, -⟩ := h.cho
  obtain ⟨n11, -, x11, m11, -⟩ := h.aim
  obtain ⟨n13, -, x13, m13, -⟩ := h.tra
  refine ⟨w, ⟨0, 0, f_X4_count a1 w, ?_, rfl, rfl⟩, h.same⟩
  unfold f_X0_count f_X4_count
  rw [x0, m0, x1, m1, x2, m2, x3, m3, x4, m4, x5, m5, x6, m6, x7, m7, x8, m8, x9, m9, x10, m10, x11, m11, x12, m12, x13, m13]
  iterate 14 refine if_some ?_
  rfl
/-- an edition with its book -/
def EdB (w : Wd) (k a b j : Nat) : Prop := wR w 12 k = some a ∧ Dy w a 8 ∧ wI w a 0 = Int32.ofNat k ∧ wI w a 1 = wI w 68 k ∧ wI w a 2 = wI w 69 k ∧ wI w a 4 = wI w 70 k ∧ wR w a 3 = some b ∧ j < 16 ∧ wI w 67 k = Int32.ofNat j ∧ wR w 11 j = some b ∧ BkO w b ∧ wI w b 0 = Int32.ofNat j ∧ wI w b 1 = wI w 62 j ∧ wI w b 2 = wI w 63 j ∧ wI w b 3 = wI w 64 j ∧
  (∃ v, 1 ≤ v ∧ v ≤ 65535 ∧ wI w 68 k = Int32.ofNat v) ∧ (∀ l, l < 16 → wI w (b + 1) l = wI w 66 (16 * j + l) ∧ wI w (b + 2) l = wI w 93 (16 * j + l))
theorem edb {w : Wd} (hB : Boo w) {k : Nat} (hk : Edi1 w k) : ∃ a b j, EdB w k a b j := by
  obtain ⟨n, hn, -, -, hb, -, -, -, hr⟩ := hB
  obtain ⟨a, b, g1, g2, g3, g4, g5, g6, g7, g8, g9, ⟨j, hj, g10⟩, g11, g12⟩ := hk
  obtain ⟨j', hj', e⟩ := hr b g8
  obtain ⟨b', f1, f2, f3, f4, f5, f6, f7, f8, -, -, -, -, -, f9⟩ := hb j' hj'
  rw [e] at f1
  cases f1
  have ej : j = j' := by
    have : Int32.ofNat j' = Int32.ofNat j := by rw [← f3, g9, g10]
    exact ((i_inj (by omega) (by omega)).mp this).symm
  subst ej
  exact ⟨a, b, j, g1, g2, g3, g4, g5, g6, g7, hj, g10, e, f2, f3, f4, f5, f6, g11, f9⟩
theorem st_7 {j : Nat} {w : Wd} {a1 a2 a3 a4 a5 : Int32} (h : Inv j w) : ∃ w2, okc_7 a1 a2 a3 a4 a5 w w2 ∧ Inv (j + 1) w2 := by
  obtain ⟨n, hn, hx, hm, hk, hr⟩ := h.edi
  have hB := h.boo
  by_cases c1 : inB a1 0 (Int32.ofNat n - 1) = true
  rotate_left
  · have c1 := ne_of_tf c1
    refine ⟨w, ⟨0, 0, -1, ?_, ?_, rfl⟩, h.same⟩
    · simp only [f_X0_of, inX, inM, f_X0_isTown, f_X4_isTown, f_X0_isDay, f_X4_isDay, f_X0_isBook, f_X4_isBook, f_X0_isEdition, f_X4_isEdition, f_X0_isCard, f_X4_isCard, f_X0_isPerson, f_X4_isPerson, f_X0_isCopy, f_X0_isTape, f_X4_isTape, f_X0_isBy, f_X4_isTime, f_X0_isDecree, f_X4_isSlip, hx, hm, c1, ↓reduceIte, if_true, if_false, eq_self, ite_true, ite_false, Option.bind_some, not_true_eq_false, not_false_eq_true, Bool.false_eq_true]
    · simp only [f_X4_of, inX, inM, f_X0_isTown, f_X4_isTown, f_X0_isDay, f_X4_isDay, f_X0_isBook, f_X4_isBook, f_X0_isEdition, f_X4_isEdition, f_X0_isCard, f_X4_isCard, f_X0_isPerson, f_X4_isPerson, f_X0_isCopy, f_X0_isTape, f_X4_isTape, f_X0_isBy, f_X4_isTime, f_X0_isDecree, f_X4_isSlip, hx, hm, c1, ↓reduceIte, if_true, if_false, eq_self, ite_true, ite_false, Option.bind_some, not_true_eq_false, not_false_eq_true, Bool.false_eq_true]
  obtain ⟨k, hk1, rfl⟩ := inB_lt (by omega) c1
  obtain ⟨a, b, i, e1, e2, e3, e4, e5, e6, e7, e8, e9, e10, e11, e12, e13, e14, e15, e16, e17⟩ := edb hB (hk k hk1)
  have ta := e2.2.2
  have tb := e11.1.2.2
  have hin : inb (Int32.ofNat k) 24 = True := inb_t (by omega) (by decide)
  have hi2 : inb (Int32.ofNat i) 16 = True := inb_t (by omega) (by decide)
  refine ⟨w, ⟨0, 0, if a2 = 0 then Int32.ofNat i else if a2 = 1 then wI w 68 k else if a2 = 2 then wI w 69 k else if a2 = 3 then wI w 70 k else if a2 = 4 then wI w 62 i else if a2 = 5 then wI w 63 i else if a2 = 6 then wI w 64 i else -1, ?_, ?_, rfl⟩, h.same⟩
  · simp (disch := omega) only [f_X0_of, inX, inM, f_X0_isTown, f_X4_isTown, f_X0_isDay, f_X4_isDay, f_X0_isBook, f_X4_isBook, f_X0_isEdition, f_X4_isEdition, f_X0_isCard, f_X4_isCard, f_X0_isPerson, f_X4_isPerson, f_X0_isCopy, f_X0_isTape, f_X4_isTape, f_X0_isBy, f_X4_isTime, f_X0_isDecree, f_X4_isSlip, hx, c1, hin, tn_i, e1, e7, ta, tb, e12, e4, e5, e6, e13, e14, e15, ↓reduceIte, if_true, if_false, eq_self, ite_true, ite_false, Option.bind_some, not_true_eq_false, not_false_eq_true, Bool.false_eq_true]
    iterate 7 refine if_some ?_
    rfl
  · simp (disch := omega) only [f_X4_of, inX, inM, f_X0_isTown, f_X4_isTown, f_X0_isDay, f_X4_isDay, f_X0_isBook, f_X4_isBook, f_X0_isEdition, f_X4_isEdition, f_X0_isCard, f_X4_isCard, f_X0_isPerson, f_X4_isPerson, f_X0_isCopy, f_X0_isTape, f_X4_isTape, f_X0_isBy, f_X4_isTime, f_X0_isDecree, f_X4_isSlip, hm, c1, hin, hi2, tn_i, e9, ↓reduceIte, if_true, if_false, eq_self, ite_true, ite_false, Option.bind_some, not_true_eq_false, not_false_eq_true, Bool.false_eq_true]
    iterate 7 refine if_some ?_
    rfl
theorem bk_eq {w : Wd} {k k' a a' b b' i i' : Nat} (h : EdB w k a b i) (h' : EdB w k' a' b' i') : (wR w a 3 = wR w a' 3) = (wI w 67 k = wI w 67 k') := by
  obtain ⟨-, -, -, -, -, -, g7, g8, g9, g10, -, g12, -⟩ := h
  obtain ⟨-, -, -, -, -, -, f7, f8, f9, f10, -, f12, -⟩ := h'
  rw [g7, f7, g9, f9]
  apply propext
  constructor
  · intro e
    cases e
    rw [← g12, ← f12]
  · intro e
    have := (i_inj (by omega) (by omega)).mp e
    subst this
    rw [← g10, ← f10]
theorem st_24 {j : Nat} {w : Wd} {a1 a2 a3 a4 a5 : Int32} (h : Inv j w) : ∃ w2, okc_24 a1 a2 a3 a4 a5 w w2 ∧ Inv (j + 1) w2 := by
  obtain ⟨n, hn, hx, hm, hk, hr⟩ := h.edi
  have hB := h.boo
  by_cases c1 : inB a1 0 (Int32.ofNat n - 1) = true
  rotate_left
  · have c1 := ne_of_tf c1
    refine ⟨w, ⟨0, 0, -1, ?_, ?_, rfl⟩, h.same⟩
    · simp only [f_X0_unlike, inX, inM, f_X0_isTown, f_X4_isTown, f_X0_isDay, f_X4_isDay, f_X0_isBook, f_X4_isBook, f_X0_isEdition, f_X4_isEdition, f_X0_isCard, f_X4_isCard, f_X0_isPerson, f_X4_isPerson, f_X0_isCopy, f_X0_isTape, f_X4_isTape, f_X0_isBy, f_X4_isTime, f_X0_isDecree, f_X4_isSlip, hx, hm, c1, ↓reduceIte, if_true, if_false, eq_self, ite_true, ite_false, Option.bind_some, not_true_eq_false, not_false_eq_true, Bool.false_eq_true]
    · simp only [f_X4_unlike, inX, inM, f_X0_isTown, f_X4_isTown, f_X0_isDay, f_X4_isDay, f_X0_isBook, f_X4_isBook, f_X0_isEdition, f_X4_isEdition, f_X0_isCard, f_X4_isCard, f_X0_isPerson, f_X4_isPerson, f_X0_isCopy, f_X0_isTape, f_X4_isTape, f_X0_isBy, f_X4_isTime, f_X0_isDecree, f_X4_isSlip, hx, hm, c1, ↓reduceIte, if_true, if_false, eq_self, ite_true, ite_false, Option.bind_some, not_true_eq_false, not_false_eq_true, Bool.false_eq_true]
  by_cases c2 : inB a2 0 (Int32.ofNat n - 1) = true
  rotate_left
  · have c2 := ne_of_tf c2
    refine ⟨w, ⟨0, 0, -1, ?_, ?_, rfl⟩, h.same⟩
    · simp only [f_X0_unlike, inX, inM, f_X0_isTown, f_X4_isTown, f_X0_isDay, f_X4_isDay, f_X0_isBook, f_X4_isBook, f_X0_isEdition, f_X4_isEdition, f_X0_isCard, f_X4_isCard, f_X0_isPerson, f_X4_isPerson, f_X0_isCopy, f_X0_isTape, f_X4_isTape, f_X0_isBy, f_X4_isTime, f_X0_isDecree, f_X4_isSlip, hx, hm, c1, c2, ↓reduceIte, if_true, if_false, eq_self, ite_true, ite_false, Option.bind_some, not_true_eq_false, not_false_eq_true, Bool.false_eq_true]
    · simp only [f_X4_unlike, inX, inM, f_X0_isTown, f_X4_isTown, f_X0_isDay, f_X4_isDay, f_X0_isBook, f_X4_isBook, f_X0_isEdition, f_X4_isEdition, f_X0_isCard, f_X4_isCard, f_X0_isPerson, f_X4_isPerson, f_X0_isCopy, f_X0_isTape, f_X4_isTape, f_X0_isBy, f_X4_isTime, f_X0_isDecree, f_X4_isSlip, hx, hm, c1, c2, ↓reduceIte, if_true, if_false, eq_self, ite_true, ite_false, Option.bind_some, not_true_eq_false, not_false_eq_true, Bool.false_eq_true]
  obtain ⟨k, hk1, rfl⟩ := inB_lt (by omega) c1
  obtain ⟨k', hk1', rfl⟩ := inB_lt (by omega) c2
  obtain ⟨a, b, i, hE⟩ := edb hB (hk k hk1)
  obtain ⟨a', b', i', hE'⟩ := edb hB (hk k' hk1')
  have he := bk_eq hE hE'
  obtain ⟨e1, e2, e3, e4, -⟩ := hE
  obtain ⟨f1, f2, f3, f4, -⟩ := hE'
  have ta := e2.2.2
  have tb := f2.2.2
  have hin : inb (Int32.ofNat k) 24 = True := inb_t (by omega) (by decide)
  have hin' : inb (Int32.ofNat k') 24 = True := inb_t (by omega) (by decide)
  refine ⟨w, ⟨0, 0, if wI w 67 k = wI w 67 k' then wI w 68 k ^^^ wI w 68 k' else -3, ?_, ?_, rfl⟩, h.same⟩
  · simp (disch := omega) only [f_X0_unlike, inX, inM, f_X0_isTown, f_X4_isTown, f_X0_isDay, f_X4_isDay, f_X0_isBook, f_X4_isBook, f_X0_isEdition, f_X4_isEdition, f_X0_isCard, f_X4_isCard, f_X0_isPerson, f_X4_isPerson, f_X0_isCopy, f_X0_isTape, f_X4_isTape, f_X0_isBy, f_X4_isTime, f_X0_isDecree, f_X4_isSlip, hx, c1, c2, hin, hin', tn_i, e1, f1, ta, tb, he, e4, f4, ↓reduceIte, if_true, if_false, eq_self, ite_true, ite_false, Option.bind_some, not_true_eq_false, not_false_eq_true, Bool.false_eq_true]
    exact if_some rfl
  · simp (disch := omega) only [f_X4_unlike, inX, inM, f_X0_isTown, f_X4_isTown, f_X0_isDay, f_X4_isDay, f_X0_isBook, f_X4_isBook, f_X0_isEdition, f_X4_isEdition, f_X0_isCard, f_X4_isCard, f_X0_isPerson, f_X4_isPerson, f_X0_isCopy, f_X0_isTape, f_X4_isTape, f_X0_isBy, f_X4_isTime, f_X0_isDecree, f_X4_isSlip, hm, c1, c2, hin, hin', tn_i, ↓reduceIte, if_true, if_false, eq_self, ite_true, ite_false, Option.bind_some, not_true_eq_false, not_false_eq_true, Bool.false_eq_true]
    exact if_some rfl
theorem st_28 {j : Nat} {w : Wd} {a1 a2 a3 a4 a5 : Int32} (h : Inv j w) : ∃ w2, okc_28 a1 a2 a3 a4 a5 w w2 ∧ Inv (j + 1) w2 := by
  have hP := h.por
  have hz := h.z8
  by_cases c1 : inB a1 0 7 = true
  rotate_left
  · have c1 := ne_of_tf c1
    refine ⟨w, ⟨0, 0, -1, w, ?_, ?_⟩, h.same⟩
    · simp only [f_X0_port, inX, inM, f_X0_isTown, f_X4_isTown, f_X0_isDay, f_X4_isDay, f_X0_isBook, f_X4_isBook, f_X0_isEdition, f_X4_isEdition, f_X0_isCard, f_X4_isCard, f_X0_isPerson, f_X4_isPerson, f_X0_isCopy, f_X0_isTape, f_X4_isTape, f_X0_isBy, f_X4_isTime, f_X0_isDecree, f_X4_isSlip, c1, ↓reduceIte, if_true, if_false, eq_self, ite_true, ite_false, Option.bind_some, not_true_eq_false, not_false_eq_true, Bool.false_eq_true]
    · simp only [f_X4_port, inX, inM, f_X0_isTown, f_X4_isTown, f_X0_isDay, f_X4_isDay, f_X0_isBook, f_X4_isBook, f_X0_isEdition, f_X4_isEdition, f_X0_isCard, f_X4_isCard, f_X0_isPerson, f_X4_isPerson, f_X0_isCopy, f_X0_isTape, f_X4_isTape, f_X0_isBy, f_X4_isTime, f_X0_isDecree, f_X4_isSlip, c1, ↓reduceIte, if_true, if_false, eq_self, ite_true, ite_false, Option.bind_some, not_true_eq_false, not_false_eq_true, Bool.false_eq_true]
  by_cases c2 : inB a2 0 6 = true
  rotate_left
  · have c2 := ne_of_tf c2
    refine ⟨w, ⟨0, 0, -1, w, ?_, ?_⟩, h.same⟩
    · simp only [f_X0_port, inX, inM, f_X0_isTown, f_X4_isTown, f_X0_isDay, f_X4_isDay, f_X0_isBook, f_X4_isBook, f_X0_isEdition, f_X4_isEdition, f_X0_isCard, f_X4_isCard, f_X0_isPerson, f_X4_isPerson, f_X0_isCopy, f_X0_isTape, f_X4_isTape, f_X0_isBy, f_X4_isTime, f_X0_isDecree, f_X4_isSlip, c1, c2, ↓reduceIte, if_true, if_false, eq_self, ite_true, ite_false, Option.bind_some, not_true_eq_false, not_false_eq_true, Bool.false_eq_true]
    · simp only [f_X4_port, inX, inM, f_X0_isTown, f_X4_isTown, f_X0_isDay, f_X4_isDay, f_X0_isBook, f_X4_isBook, f_X0_isEdition, f_X4_isEdition, f_X0_isCard, f_X4_isCard, f_X0_isPerson, f_X4_isPerson, f_X0_isCopy, f_X0_isTape, f_X4_isTape, f_X0_isBy, f_X4_isTime, f_X0_isDecree, f_X4_isSlip, c1, c2, ↓reduceIte, if_true, if_false, eq_self, ite_true, ite_false, Option.bind_some, not_true_eq_false, not_false_eq_true, Bool.false_eq_true]
  by_cases c3 : inB a3 0 999 = true
  rotate_left
  · have c3 := ne_of_tf c3
    refine ⟨w, ⟨0, 0, -2, w, ?_, ?_⟩, h.same⟩
    · simp only [f_X0_port, inX, inM, f_X0_isTown, f_X4_isTown, f_X0_isDay, f_X4_isDay, f_X0_isBook, f_X4_isBook, f_X0_isEdition, f_X4_isEdition, f_X0_isCard, f_X4_isCard, f_X0_isPerson, f_X4_isPerson, f_X0_isCopy, f_X0_isTape, f_X4_isTape, f_X0_isBy, f_X4_isTime, f_X0_isDecree, f_X4_isSlip, c1, c2, c3, ↓reduceIte, if_true, if_false, eq_self, ite_true, ite_false, Option.bind_some, not_true_eq_false, not_false_eq_true, Bool.false_eq_true]
    · simp only [f_X4_port, inX, inM, f_X0_isTown, f_X4_isTown, f_X0_isDay, f_X4_isDay, f_X0_isBook, f_X4_isBook, f_X0_isEdition, f_X4_isEdition, f_X0_isCard, f_X4_isCard, f_X0_isPerson, f_X4_isPerson, f_X0_isCopy, f_X0_isTape, f_X4_isTape, f_X0_isBy, f_X4_isTime, f_X0_isDecree, f_X4_isSlip, c1, c2, c3, ↓reduceIte, if_true, if_false, eq_self, ite_true, ite_false, Option.bind_some, not_true_eq_false, not_false_eq_true, Bool.false_eq_true]
  obtain ⟨p, hp, rfl⟩ := inB_7 c1
  obtain ⟨q, -, hq, rfl⟩ := inB_bd (lo := 0) (hi := 6) (by decide) (by decide) c2
  obtain ⟨v, -, hv, rfl⟩ := inB_bd (lo := 0) (hi := 999) (by decide) (by decide) c3
  obtain ⟨u, hu, u1, u2⟩ := hP.1 p q hp (by omega)
  have hin : inb (Int32.ofNat p) 8 = True := inb_t hp (by decide)
  have hin2 : inb (Int32.ofNat q) 7 = True := inb_t (by omega) (by decide)
  have e7 : (7 : Int32) * Int32.ofNat p + Int32.ofNat q = Int32.ofNat (7 * p + q) := by rw [show (7 : Int32) = Int32.ofNat 7 from rfl, i_mul, i_add]
  have hin3 : inb (Int32.ofNat (7 * p + q)) 56 = True := inb_t (by omega) (by decide)
  have hR : wR w 26 p = some (27 + p) := h.1.1 26 p (27 + p) (by unfold fixR; simp only; rw [if_pos hp])
  have hT : wT w (27 + p) = (200, 7) := h.1.2.1 (27 + p) (200, 7) (lt8 (P := fun p => fixT (27 + p) = some (200, 7)) hp rfl rfl rfl rfl rfl rfl rfl rfl)
  refine ⟨sI (sI w (27 + p) q (Int32.ofNat v)) 96 (7 * p + q) (Int32.ofNat v), ⟨0, 0, Int32.ofNat u, sI w (27 + p) q (Int32.ofNat v), ?_, ?_⟩, ?_⟩
  · simp (disch := omega) only [f_X0_port, inX, inM, f_X0_isTown, f_X4_isTown, f_X0_isDay, f_X4_isDay, f_X0_isBook, f_X4_isBook, f_X0_isEdition, f_X4_isEdition, f_X0_isCard, f_X4_isCard, f_X0_isPerson, f_X4_isPerson, f_X0_isCopy, f_X0_isTape, f_X4_isTape, f_X0_isBy, f_X4_isTime, f_X0_isDecree, f_X4_isSlip, c1, c2, c3, hin, tn_i, hR, hT, hin2, u1, ↓reduceIte, if_true, if_false, eq_self, ite_true, ite_false, Option.bind_some, not_true_eq_false, not_false_eq_true, Bool.false_eq_true]
  · simp (disch := omega) only [f_X4_port, inX, inM, f_X0_isTown, f_X4_isTown, f_X0_isDay, f_X4_isDay, f_X0_isBook, f_X4_isBook, f_X0_isEdition, f_X4_isEdition, f_X0_isCard, f_X4_isCard, f_X0_isPerson, f_X4_isPerson, f_X0_isCopy, f_X0_isTape, f_X4_isTape, f_X0_isBy, f_X4_isTime, f_X0_isDecree, f_X4_isSlip, c1, c2, c3, e7, hin3, tn_i, wI_ne, wI_nf, wI_eq, wI_sR, wI_sL, wI_N, wI_Nz, wR_ne, wR_nf, wR_eq, wR_sI, wR_sL, wR_N, wR_Nz, wL_ne, wL_nf, wL_eq, wL_sI, wL_sR, wL_N, wL_Nz, wT_sI, wT_sR, wT_sL, wT_N, wT_Nz, wZ_sI, wZ_sR, wZ_sL, wZ_sN, wI_sX, wL_sX, wR_sX, wZ_sX, u2, ↓reduceIte, if_true, if_false, eq_self, ite_true, ite_false, Option.bind_some, not_true_eq_false, not_false_eq_true, Bool.false_eq_true]
  · refine Inv.m12 (h.rest' ((Kept.rfl'.sI (fun _ hb => hb.1 (by rw [own_f (by omega), own_port hp]))).sI (fun _ hb => hb.1 rfl)) (fun _ => noNew_of rfl 7) (fun _ => noNew_of rfl 8) (by decide)) ⟨fun p' q' hp' hq' => ?_, fun q' hq' => ?_⟩ (by have := h.2.1; show wZ w ≤ _; omega)
    · by_cases e : p' = p ∧ q' = q
      · obtain ⟨rfl, rfl⟩ := e
        refine ⟨v, hv, ?_, ?_⟩
        · simp (disch := omega) only [wI_ne, wI_nf, wI_eq, wI_sR, wI_sL, wI_N, wI_Nz, wR_ne, wR_nf, wR_eq, wR_sI, wR_sL, wR_N, wR_Nz, wL_ne, wL_nf, wL_eq, wL_sI, wL_sR, wL_N, wL_Nz, wT_sI, wT_sR, wT_sL, wT_N, wT_Nz, wZ_sI, wZ_sR, wZ_sL, wZ_sN, wI_sX, wL_sX, wR_sX, wZ_sX]
        · simp (disch := omega) only [wI_ne, wI_nf, wI_eq, wI_sR, wI_sL, wI_N, wI_Nz, wR_ne, wR_nf, wR_eq, wR_sI, wR_sL, wR_N, wR_Nz, wL_ne, wL_nf, wL_eq, wL_sI, wL_sR, wL_N, wL_Nz, wT_sI, wT_sR, wT_sL, wT_N, wT_Nz, wZ_sI, wZ_sR, wZ_sL, wZ_sN, wI_sX, wL_sX, wR_sX, wZ_sX]
      · obtain ⟨v', hv', v1, v2⟩ := hP.1 p' q' hp' hq'
        refine ⟨v', hv', ?_, ?_⟩
        · rw [wI_ne _ (by omega), wI_sI, if_neg (by omega), v1]
        · rw [wI_sI, if_neg (by omega), wI_ne _ (by omega), v2]
    · rw [wI_ne _ (by omega), wI_ne _ (by omega)]
      exact hP.2 q' hq'
theorem st_20 {j : Nat} {w : Wd} {a1 a2 a3 a4 a5 : Int32} (h : Inv j w) : ∃ w2, okc_20 a1 a2 a3 a4 a5 w w2 ∧ Inv (j + 1) w2 := by
  obtain ⟨n, hn, hx, hm, hk⟩ := h.lea
  obtain ⟨n1, hn1, hx1, hm1, -⟩ := h.per
  obtain ⟨n2, hn2, hx2, hm2, -⟩ := h.boo
  have hz := h.z8
  by_cases c1 : inB a1 0 (Int32.ofNat n1 - 1) = true
  rotate_left
  · have c1 := ne_of_tf c1
    refine ⟨w, ⟨0, 0, -1, w, ?_, ?_⟩, h.same⟩
    · simp only [f_X0_leave, inX, inM, f_X0_isTown, f_X4_isTown, f_X0_isDay, f_X4_isDay, f_X0_isBook, f_X4_isBook, f_X0_isEdition, f_X4_isEdition, f_X0_isCard, f_X4_isCard, f_X0_isPerson, f_X4_isPerson, f_X0_isCopy, f_X0_isTape, f_X4_isTape, f_X0_isBy, f_X4_isTime, f_X0_isDecree, f_X4_isSlip, hx, hm, hx1, hm1, hx2, hm2, c1, ↓reduceIte, if_true, if_false, eq_self, ite_true, ite_false, Option.bind_some, not_true_eq_false, not_false_eq_true, Bool.false_eq_true]
    · simp only [f_X4_leave, inX, inM, f_X0_isTown, f_X4_isTown, f_X0_isDay, f_X4_isDay, f_X0_isBook, f_X4_isBook, f_X0_isEdition, f_X4_isEdition, f_X0_isCard, f_X4_isCard, f_X0_isPerson, f_X4_isPerson, f_X0_isCopy, f_X0_isTape, f_X4_isTape, f_X0_isBy, f_X4_isTime, f_X0_isDecree, f_X4_isSlip, hx, hm, hx1, hm1, hx2, hm2, c1, ↓reduceIte, if_true, if_false, eq_self, ite_true, ite_false, Option.bind_some, not_true_eq_false, not_false_eq_true, Bool.false_eq_true]
  by_cases c2 : inB a2 0 (Int32.ofNat n2 - 1) = true
  rotate_left
  · have c2 := ne_of_tf c2
    refine ⟨w, ⟨0, 0, -1, w, ?_, ?_⟩, h.same⟩
    · simp only [f_X0_leave, inX, inM, f_X0_isTown, f_X4_isTown, f_X0_isDay, f_X4_isDay, f_X0_isBook, f_X4_isBook, f_X0_isEdition, f_X4_isEdition, f_X0_isCard, f_X4_isCard, f_X0_isPerson, f_X4_isPerson, f_X0_isCopy, f_X0_isTape, f_X4_isTape, f_X0_isBy, f_X4_isTime, f_X0_isDecree, f_X4_isSlip, hx, hm, hx1, hm1, hx2, hm2, c1, c2, ↓reduceIte, if_true, if_false, eq_self, ite_true, ite_false, Option.bind_some, not_true_eq_false, not_false_eq_true, Bool.false_eq_true]
    · simp only [f_X4_leave, inX, inM, f_X0_isTown, f_X4_isTown, f_X0_isDay, f_X4_isDay, f_X0_isBook, f_X4_isBook, f_X0_isEdition, f_X4_isEdition, f_X0_isCard, f_X4_isCard, f_X0_isPerson, f_X4_isPerson, f_X0_isCopy, f_X0_isTape, f_X4_isTape, f_X0_isBy, f_X4_isTime, f_X0_isDecree, f_X4_isSlip, hx, hm, hx1, hm1, hx2, hm2, c1, c2, ↓reduceIte, if_true, if_false, eq_self, ite_true, ite_false, Option.bind_some, not_true_eq_false, not_false_eq_true, Bool.false_eq_true]
  by_cases c3 : inB a3 0 9999 = true
  rotate_left
  · have c3 := ne_of_tf c3
    refine ⟨w, ⟨0, 0, -2, w, ?_, ?_⟩, h.same⟩
    · simp only [f_X0_leave, inX, inM, f_X0_isTown, f_X4_isTown, f_X0_isDay, f_X4_isDay, f_X0_isBook, f_X4_isBook, f_X0_isEdition, f_X4_isEdition, f_X0_isCard, f_X4_isCard, f_X0_isPerson, f_X4_isPerson, f_X0_isCopy, f_X0_isTape, f_X4_isTape, f_X0_isBy, f_X4_isTime, f_X0_isDecree, f_X4_isSlip, hx, hm, hx1, hm1, hx2, hm2, c1, c2, c3, ↓reduceIte, if_true, if_false, eq_self, ite_true, ite_false, Option.bind_some, not_true_eq_false, not_false_eq_true, Bool.false_eq_true]
    · simp only [f_X4_leave, inX, inM, f_X0_isTown, f_X4_isTown, f_X0_isDay, f_X4_isDay, f_X0_isBook, f_X4_isBook, f_X0_isEdition, f_X4_isEdition, f_X0_isCard, f_X4_isCard, f_X0_isPerson, f_X4_isPerson, f_X0_isCopy, f_X0_isTape, f_X4_isTape, f_X0_isBy, f_X4_isTime, f_X0_isDecree, f_X4_isSlip, hx, hm, hx1, hm1, hx2, hm2, c1, c2, c3, ↓reduceIte, if_true, if_false, eq_self, ite_true, ite_false, Option.bind_some, not_true_eq_false, not_false_eq_true, Bool.false_eq_true]
  obtain ⟨u, -, hu, e3⟩ := inB_bd (lo := 0) (hi := 9999) (by decide) (by decide) c3
  by_cases c4 : inB a4 a3 9999 = true
  rotate_left
  · by_cases c5 : inB a4 0 9999 = true
    · have c6 : (a3 ≤ a4) = False := by
        apply eq_false
        intro q
        obtain ⟨v, -, hv, e4⟩ := inB_bd (lo := 0) (hi := 9999) (by decide) (by decide) c5
        apply c4
        exact (inIff _ _ _ _).mpr ⟨q, ((inIff _ _ _ _).mp c5).2⟩
      have c4 := ne_of_tf c4
      refine ⟨w, ⟨0, 0, -2, w, ?_, ?_⟩, h.same⟩
      · simp only [f_X0_leave, inX, inM, f_X0_isTown, f_X4_isTown, f_X0_isDay, f_X4_isDay, f_X0_isBook, f_X4_isBook, f_X0_isEdition, f_X4_isEdition, f_X0_isCard, f_X4_isCard, f_X0_isPerson, f_X4_isPerson, f_X0_isCopy, f_X0_isTape, f_X4_isTape, f_X0_isBy, f_X4_isTime, f_X0_isDecree, f_X4_isSlip, hx, hm, hx1, hm1, hx2, hm2, c1, c2, c3, c4, c5, c6, ↓reduceIte, if_true, if_false, eq_self, ite_true, ite_false, Option.bind_some, not_true_eq_false, not_false_eq_true, Bool.false_eq_true]
      · simp only [f_X4_leave, inX, inM, f_X0_isTown, f_X4_isTown, f_X0_isDay, f_X4_isDay, f_X0_isBook, f_X4_isBook, f_X0_isEdition, f_X4_isEdition, f_X0_isCard, f_X4_isCard, f_X0_isPerson, f_X4_isPerson, f_X0_isCopy, f_X0_isTape, f_X4_isTape, f_X0_isBy, f_X4_isTime, f_X0_isDecree, f_X4_isSlip, hx, hm, hx1, hm1, hx2, hm2, c1, c2, c3, c4, c5, c6, ↓reduceIte, if_true, if_false, eq_self, ite_true, ite_false, Option.bind_some, not_true_eq_false, not_false_eq_true, Bool.false_eq_true]
    · have c5 := ne_of_tf c5
      have c4 := ne_of_tf c4
      refine ⟨w, ⟨0, 0, -2, w, ?_, ?_⟩, h.same⟩
      · simp only [f_X0_leave, inX, inM, f_X0_isTown, f_X4_isTown, f_X0_isDay, f_X4_isDay, f_X0_isBook, f_X4_isBook, f_X0_isEdition, f_X4_isEdition, f_X0_isCard, f_X4_isCard, f_X0_isPerson, f_X4_isPerson, f_X0_isCopy, f_X0_isTape, f_X4_isTape, f_X0_isBy, f_X4_isTime, f_X0_isDecree, f_X4_isSlip, hx, hx1, hx2, c1, c2, c3, c4, ↓reduceIte, if_true, if_false, eq_self, ite_true, ite_false, Option.bind_some, not_true_eq_false, not_false_eq_true, Bool.false_eq_true]
      · simp only [f_X4_leave, inX, inM, f_X0_isTown, f_X4_isTown, f_X0_isDay, f_X4_isDay, f_X0_isBook, f_X4_isBook, f_X0_isEdition, f_X4_isEdition, f_X0_isCard, f_X4_isCard, f_X0_isPerson, f_X4_isPerson, f_X0_isCopy, f_X0_isTape, f_X4_isTape, f_X0_isBy, f_X4_isTime, f_X0_isDecree, f_X4_isSlip, hm, hm1, hm2, c1, c2, c3, c5, ↓reduceIte, if_true, if_false, eq_self, ite_true, ite_false, Option.bind_some, not_true_eq_false, not_false_eq_true, Bool.false_eq_true]
  have c5 : inB a4 0 9999 = true := by
    obtain ⟨q1, q2⟩ := (inIff _ _ _ _).mp c4
    obtain ⟨q3, q4⟩ := (inIff _ _ _ _).mp c3
    exact (inIff _ _ _ _).mpr ⟨Int32.le_trans q3 q1, q2⟩
  have c6 : (a3 ≤ a4) = True := eq_true ((inIff _ _ _ _).mp c4).1
  by_cases c7 : n = 30
  · subst c7
    have e9 : (Int32.ofNat 30 = 30) = True := eq_true rfl
    refine ⟨w, ⟨0, 0, -4, w, ?_, ?_⟩, h.same⟩
    · simp only [f_X0_leave, inX, inM, f_X0_isTown, f_X4_isTown, f_X0_isDay, f_X4_isDay, f_X0_isBook, f_X4_isBook, f_X0_isEdition, f_X4_isEdition, f_X0_isCard, f_X4_isCard, f_X0_isPerson, f_X4_isPerson, f_X0_isCopy, f_X0_isTape, f_X4_isTape, f_X0_isBy, f_X4_isTime, f_X0_isDecree, f_X4_isSlip, hx, hx1, hx2, c1, c2, c3, c4, e9, ↓reduceIte, if_true, if_false, eq_self, ite_true, ite_false, Option.bind_some, not_true_eq_false, not_false_eq_true, Bool.false_eq_true]
    · simp only [f_X4_leave, inX, inM, f_X0_isTown, f_X4_isTown, f_X0_isDay, f_X4_isDay, f_X0_isBook, f_X4_isBook, f_X0_isEdition, f_X4_isEdition, f_X0_isCard, f_X4_isCard, f_X0_isPerson, f_X4_isPerson, f_X0_isCopy, f_X0_isTape, f_X4_isTape, f_X0_isBy, f_X4_isTime, f_X0_isDecree, f_X4_isSlip, hm, hm1, hm2, c1, c2, c3, c5, c6, e9, ↓reduceIte, if_true, if_false, eq_self, ite_true, ite_false, Option.bind_some, not_true_eq_false, not_false_eq_true, Bool.false_eq_true]
  have hne : (Int32.ofNat n = 30) = False := eq_false (fun q => c7 ((i_inj (b := 30) (by omega) (by decide)).mp q))
  have hin : inb (Int32.ofNat n) 30 = True := inb_t (by omega) (by decide)
  have hs1 : Int32.ofNat n + 1 = Int32.ofNat (n + 1) := i_add n 1
  have hs2 : Int32.ofNat (n + 1) - 1 = Int32.ofNat n := i_sub (b := 1) (by omega)
  obtain ⟨w1, hw1⟩ : ∃ w1, w1 = sI (sI (sI (sI (sI w 20 n a1) 21 n a2) 22 n a3) 23 n a4) 0 21 (Int32.ofNat (n + 1)) := ⟨_, rfl⟩
  obtain ⟨w2, hw2⟩ : ∃ w2, w2 = sI (sI (sI (sI (sI w1 84 n a1) 85 n a2) 86 n a3) 87 n a4) 58 50 (Int32.ofNat (n + 1)) := ⟨_, rfl⟩
  refine ⟨w2, ⟨0, 0, Int32.ofNat n, w1, ?_, ?_⟩, ?_⟩
  · rw [hw1]
    simp (disch := omega) only [f_X0_leave, inX, inM, f_X0_isTown, f_X4_isTown, f_X0_isDay, f_X4_isDay, f_X0_isBook, f_X4_isBook, f_X0_isEdition, f_X4_isEdition, f_X0_isCard, f_X4_isCard, f_X0_isPerson, f_X4_isPerson, f_X0_isCopy, f_X0_isTape, f_X4_isTape, f_X0_isBy, f_X4_isTime, f_X0_isDecree, f_X4_isSlip, hx, hx1, hx2, c1, c2, c3, c4, hne, hin, tn_i, hs1, ↓reduceIte, if_true, if_false, eq_self, ite_true, ite_false, Option.bind_some, not_true_eq_false, not_false_eq_true, Bool.false_eq_true]
  · have em : wI w1 58 50 = Int32.ofNat n := by rw [hw1]; simp (disch := omega) only [wI_ne, wI_nf, wI_eq, wI_sR, wI_sL, wI_N, wI_Nz, wR_ne, wR_nf, wR_eq, wR_sI, wR_sL, wR_N, wR_Nz, wL_ne, wL_nf, wL_eq, wL_sI, wL_sR, wL_N, wL_Nz, wT_sI, wT_sR, wT_sL, wT_N, wT_Nz, wZ_sI, wZ_sR, wZ_sL, wZ_sN, wI_sX, wL_sX, wR_sX, wZ_sX]; exact hm
    have em1 : wI w1 58 1 = Int32.ofNat n1 := by rw [hw1]; simp (disch := omega) only [wI_ne, wI_nf, wI_eq, wI_sR, wI_sL, wI_N, wI_Nz, wR_ne, wR_nf, wR_eq, wR_sI, wR_sL, wR_N, wR_Nz, wL_ne, wL_nf, wL_eq, wL_sI, wL_sR, wL_N, wL_Nz, wT_sI, wT_sR, wT_sL, wT_N, wT_Nz, wZ_sI, wZ_sR, wZ_sL, wZ_sN, wI_sX, wL_sX, wR_sX, wZ_sX]; exact hm1
    have em2 : wI w1 58 2 = Int32.ofNat n2 := by rw [hw1]; simp (disch := omega) only [wI_ne, wI_nf, wI_eq, wI_sR, wI_sL, wI_N, wI_Nz, wR_ne, wR_nf, wR_eq, wR_sI, wR_sL, wR_N, wR_Nz, wL_ne, wL_nf, wL_eq, wL_sI, wL_sR, wL_N, wL_Nz, wT_sI, wT_sR, wT_sL, wT_N, wT_Nz, wZ_sI, wZ_sR, wZ_sL, wZ_sN, wI_sX, wL_sX, wR_sX, wZ_sX]; exact hm2
    rw [hw2]
    simp (disch := omega) only [f_X4_leave, inX, inM, f_X0_isTown, f_X4_isTown, f_X0_isDay, f_X4_isDay, f_X0_isBook, f_X4_isBook, f_X0_isEdition, f_X4_isEdition, f_X0_isCard, f_X4_isCard, f_X0_isPerson, f_X4_isPerson, f_X0_isCopy, f_X0_isTape, f_X4_isTape, f_X0_isBy, f_X4_isTime, f_X0_isDecree, f_X4_isSlip, em, em1, em2, c1, c2, c3, c5, c6, hne, hin, tn_i, hs1, hs2, ↓reduceIte, if_true, if_false, eq_self, ite_true, ite_false, Option.bind_some, not_true_eq_false, not_false_eq_true, Bool.false_eq_true]
  · have k2 : Kept (But 10 w) w w2 := by
      rw [hw2, hw1]
      exact (((((((((Kept.rfl'.sI (fun _ hb => hb.1 rfl)).sI (fun _ hb => hb.1 rfl)).sI (fun _ hb => hb.1 rfl)).sI (fun _ hb => hb.1 rfl)).sI (fun _ hb => hb.1 rfl)).sI (fun _ hb => hb.1 rfl)).sI (fun _ hb => hb.1 rfl)).sI (fun _ hb => hb.1 rfl)).sI (fun _ hb => hb.1 rfl)).sI (fun _ hb => hb.1 rfl)
    have hz2 : wZ w2 = wZ w := by rw [hw2, hw1]; rfl
    refine Inv.m10 (h.rest' k2 (fun _ => noNew_of hz2 7) (fun _ => noNew_of hz2 8) (by decide)) ⟨n + 1, by omega, ?_, ?_, fun k hk9 => ?_⟩ (by have := h.2.1; omega)
    · rw [hw2, hw1]
      simp (disch := omega) only [wI_ne, wI_nf, wI_eq, wI_sR, wI_sL, wI_N, wI_Nz, wR_ne, wR_nf, wR_eq, wR_sI, wR_sL, wR_N, wR_Nz, wL_ne, wL_nf, wL_eq, wL_sI, wL_sR, wL_N, wL_Nz, wT_sI, wT_sR, wT_sL, wT_N, wT_Nz, wZ_sI, wZ_sR, wZ_sL, wZ_sN, wI_sX, wL_sX, wR_sX, wZ_sX]
    · rw [hw2]
      simp (disch := omega) only [wI_ne, wI_nf, wI_eq, wI_sR, wI_sL, wI_N, wI_Nz, wR_ne, wR_nf, wR_eq, wR_sI, wR_sL, wR_N, wR_Nz, wL_ne, wL_nf, wL_eq, wL_sI, wL_sR, wL_N, wL_Nz, wT_sI, wT_sR, wT_sL, wT_N, wT_Nz, wZ_sI, wZ_sR, wZ_sL, wZ_sN, wI_sX, wL_sX, wR_sX, wZ_sX]
    · by_cases q : k = n
      · subst q
        rw [hw2, hw1]
        simp (disch := omega) only [wI_ne, wI_nf, wI_eq, wI_sR, wI_sL, wI_N, wI_Nz, wR_ne, wR_nf, wR_eq, wR_sI, wR_sL, wR_N, wR_Nz, wL_ne, wL_nf, wL_eq, wL_sI, wL_sR, wL_N, wL_Nz, wT_sI, wT_sR, wT_sL, wT_N, wT_Nz, wZ_sI, wZ_sR, wZ_sL, wZ_sN, wI_sX, wL_sX, wR_sX, wZ_sX]
        exact ⟨trivial, trivial, trivial, trivial⟩
      · have := hk k (by omega)
        rw [hw2, hw1]
        simp (disch := omega) only [wI_ne, wI_nf, wI_eq, wI_sR, wI_sL, wI_N, wI_Nz, wR_ne, wR_nf, wR_eq, wR_sI, wR_sL, wR_N, wR_Nz, wL_ne, wL_nf, wL_eq, wL_sI, wL_sR, wL_N, wL_Nz, wT_sI, wT_sR, wT_sL, wT_N, wT_Nz, wZ_sI, wZ_sR, wZ_sL, wZ_sN, wI_sX, wL_sX, wR_sX, wZ_sX]
        exact this
