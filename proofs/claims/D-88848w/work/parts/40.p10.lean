/-! PURE PART: book, line, part, edition -/
theorem st_4 {j : Nat} {w : Wd} {a1 a2 a3 a4 a5 : Int32} (h : Inv j w) : ∃ w2, okc_4 a1 a2 a3 a4 a5 w w2 ∧ Inv (j + 1) w2 := by
  obtain ⟨n, hn, hx, hm, hk, h0, hb, hs, hr⟩ := h.boo
  have hz := h.z8
  by_cases c1 : inB a1 0 99 = true
  rotate_left
  · have c1 := ne_of_tf c1
    refine ⟨w, ⟨0, 0, -2, w, ?_, ?_⟩, h.same⟩
    · simp only [f_X0_book, inX, inM, f_X0_isTown, f_X4_isTown, f_X0_isDay, f_X4_isDay, f_X0_isBook, f_X4_isBook, f_X0_isEdition, f_X4_isEdition, f_X0_isCard, f_X4_isCard, f_X0_isPerson, f_X4_isPerson, f_X0_isCopy, f_X0_isTape, f_X4_isTape, f_X0_isBy, f_X4_isTime, f_X0_isDecree, f_X4_isSlip, hx, hm, c1, ↓reduceIte, if_true, if_false, eq_self, ite_true, ite_false, Option.bind_some, not_true_eq_false, not_false_eq_true, Bool.false_eq_true]
    · simp only [f_X4_book, inX, inM, f_X0_isTown, f_X4_isTown, f_X0_isDay, f_X4_isDay, f_X0_isBook, f_X4_isBook, f_X0_isEdition, f_X4_isEdition, f_X0_isCard, f_X4_isCard, f_X0_isPerson, f_X4_isPerson, f_X0_isCopy, f_X0_isTape, f_X4_isTape, f_X0_isBy, f_X4_isTime, f_X0_isDecree, f_X4_isSlip, hx, hm, c1, ↓reduceIte, if_true, if_false, eq_self, ite_true, ite_false, Option.bind_some, not_true_eq_false, not_false_eq_true, Bool.false_eq_true]
  by_cases c2 : inB a2 0 19 = true
  rotate_left
  · have c2 := ne_of_tf c2
    refine ⟨w, ⟨0, 0, -2, w, ?_, ?_⟩, h.same⟩
    · simp only [f_X0_book, inX, inM, f_X0_isTown, f_X4_isTown, f_X0_isDay, f_X4_isDay, f_X0_isBook, f_X4_isBook, f_X0_isEdition, f_X4_isEdition, f_X0_isCard, f_X4_isCard, f_X0_isPerson, f_X4_isPerson, f_X0_isCopy, f_X0_isTape, f_X4_isTape, f_X0_isBy, f_X4_isTime, f_X0_isDecree, f_X4_isSlip, hx, hm, c1, c2, ↓reduceIte, if_true, if_false, eq_self, ite_true, ite_false, Option.bind_some, not_true_eq_false, not_false_eq_true, Bool.false_eq_true]
    · simp only [f_X4_book, inX, inM, f_X0_isTown, f_X4_isTown, f_X0_isDay, f_X4_isDay, f_X0_isBook, f_X4_isBook, f_X0_isEdition, f_X4_isEdition, f_X0_isCard, f_X4_isCard, f_X0_isPerson, f_X4_isPerson, f_X0_isCopy, f_X0_isTape, f_X4_isTape, f_X0_isBy, f_X4_isTime, f_X0_isDecree, f_X4_isSlip, hx, hm, c1, c2, ↓reduceIte, if_true, if_false, eq_self, ite_true, ite_false, Option.bind_some, not_true_eq_false, not_false_eq_true, Bool.false_eq_true]
  by_cases c3 : inB a3 0 2000 = true
  rotate_left
  · have c3 := ne_of_tf c3
    refine ⟨w, ⟨0, 0, -2, w, ?_, ?_⟩, h.same⟩
    · simp only [f_X0_book, inX, inM, f_X0_isTown, f_X4_isTown, f_X0_isDay, f_X4_isDay, f_X0_isBook, f_X4_isBook, f_X0_isEdition, f_X4_isEdition, f_X0_isCard, f_X4_isCard, f_X0_isPerson, f_X4_isPerson, f_X0_isCopy, f_X0_isTape, f_X4_isTape, f_X0_isBy, f_X4_isTime, f_X0_isDecree, f_X4_isSlip, hx, hm, c1, c2, c3, ↓reduceIte, if_true, if_false, eq_self, ite_true, ite_false, Option.bind_some, not_true_eq_false, not_false_eq_true, Bool.false_eq_true]
    · simp only [f_X4_book, inX, inM, f_X0_isTown, f_X4_isTown, f_X0_isDay, f_X4_isDay, f_X0_isBook, f_X4_isBook, f_X0_isEdition, f_X4_isEdition, f_X0_isCard, f_X4_isCard, f_X0_isPerson, f_X4_isPerson, f_X0_isCopy, f_X0_isTape, f_X4_isTape, f_X0_isBy, f_X4_isTime, f_X0_isDecree, f_X4_isSlip, hx, hm, c1, c2, c3, ↓reduceIte, if_true, if_false, eq_self, ite_true, ite_false, Option.bind_some, not_true_eq_false, not_false_eq_true, Bool.false_eq_true]
  by_cases c4 : n = 16
  · subst c4
    have e9 : (Int32.ofNat 16 = 16) = True := eq_true rfl
    refine ⟨w, ⟨0, 0, -4, w, ?_, ?_⟩, h.same⟩
    · simp only [f_X0_book, inX, inM, f_X0_isTown, f_X4_isTown, f_X0_isDay, f_X4_isDay, f_X0_isBook, f_X4_isBook, f_X0_isEdition, f_X4_isEdition, f_X0_isCard, f_X4_isCard, f_X0_isPerson, f_X4_isPerson, f_X0_isCopy, f_X0_isTape, f_X4_isTape, f_X0_isBy, f_X4_isTime, f_X0_isDecree, f_X4_isSlip, hx, hm, c1, c2, c3, e9, ↓reduceIte, if_true, if_false, eq_self, ite_true, ite_false, Option.bind_some, not_true_eq_false, not_false_eq_true, Bool.false_eq_true]
    · simp only [f_X4_book, inX, inM, f_X0_isTown, f_X4_isTown, f_X0_isDay, f_X4_isDay, f_X0_isBook, f_X4_isBook, f_X0_isEdition, f_X4_isEdition, f_X0_isCard, f_X4_isCard, f_X0_isPerson, f_X4_isPerson, f_X0_isCopy, f_X0_isTape, f_X4_isTape, f_X0_isBy, f_X4_isTime, f_X0_isDecree, f_X4_isSlip, hx, hm, c1, c2, c3, e9, ↓reduceIte, if_true, if_false, eq_self, ite_true, ite_false, Option.bind_some, not_true_eq_false, not_false_eq_true, Bool.false_eq_true]
  have hne : (Int32.ofNat n = 16) = False := eq_false (fun q => c4 ((i_inj (b := 16) (by omega) (by decide)).mp q))
  have hin : inb (Int32.ofNat n) 16 = True := inb_t (by omega) (by decide)
  have hs1 : Int32.ofNat n + 1 = Int32.ofNat (n + 1) := i_add n 1
  have hs2 : Int32.ofNat (n + 1) - 1 = Int32.ofNat n := i_sub (b := 1) (by omega)
  have hz8 : (108 ≤ wZ w) = True := eq_true hz
  obtain ⟨w1, hw1⟩ : ∃ w1, w1 = sI (sR (sI (sI (sI (sI (sR (sN (sR (sN (sN w 7 0) 200 16) (wZ w) 4 (some (wZ w + 1))) 200 16) (wZ w) 6 (some (wZ w + 1 + 1))) (wZ w) 0 (Int32.ofNat n)) (wZ w) 1 a1) (wZ w) 2 a2) (wZ w) 3 a3) 11 n (some (wZ w))) 0 5 (Int32.ofNat (n + 1)) := ⟨_, rfl⟩
  obtain ⟨w2, hw2⟩ : ∃ w2, w2 = sI (sI (sI (sI (sI w1 62 n a1) 63 n a2) 64 n a3) 65 n 0) 58 2 (Int32.ofNat (n + 1)) := ⟨_, rfl⟩
  have nz : ∀ {f : Nat} {P : Nat → Nat → Prop}, wZ w < wZ w → ¬ P (wZ w) f := fun h9 => absurd h9 (Nat.lt_irrefl _)
  have k2 : Kept (But 4 w) w w2 := by
    rw [hw2, hw1]
    exact ((((((((((((((Kept.rfl'.sN 7 0).sN 200 16).sR nz).sN 200 16).sR nz).sI nz).sI nz).sI nz).sI nz).sR (fun _ hb => hb.1 rfl)).sI (fun _ hb => hb.1 rfl)).sI (fun _ hb => hb.1 rfl)).sI (fun _ hb => hb.1 rfl)).sI (fun _ hb => hb.1 rfl)).sI (fun _ hb => hb.1 rfl) |>.sI (fun _ hb => hb.1 rfl)
  have hz2 : wZ w2 = wZ w + 3 := by rw [hw2, hw1]; rfl
  have hT : ∀ a, wT w2 a = if a = wZ w + 2 then (200, 16) else if a = wZ w + 1 then (200, 16) else if a = wZ w then (7, 0) else wT w a := by
    intro a
    rw [hw2, hw1]
    rfl
  refine ⟨w2, ⟨0, 0, Int32.ofNat n, w1, ?_, ?_⟩, ?_⟩
  · rw [hw1]
    simp (disch := first | omega | (simp only [wZ_sI, wZ_sR, wZ_sL, wZ_sN, wZ_sX]; done) | (simp only [wZ_sI, wZ_sR, wZ_sL, wZ_sN, wZ_sX]; omega)) only [f_X0_book, f_X6_init, inX, inM, f_X0_isTown, f_X4_isTown, f_X0_isDay, f_X4_isDay, f_X0_isBook, f_X4_isBook, f_X0_isEdition, f_X4_isEdition, f_X0_isCard, f_X4_isCard, f_X0_isPerson, f_X4_isPerson, f_X0_isCopy, f_X0_isTape, f_X4_isTape, f_X0_isBy, f_X4_isTime, f_X0_isDecree, f_X4_isSlip, wI_ne, wI_nf, wI_eq, wI_sR, wI_sL, wI_N, wI_Ne, wR_ne, wR_nf, wR_eq, wR_sI, wR_sL, wR_N, wR_Ne, wL_ne, wL_nf, wL_eq, wL_sI, wL_sR, wL_N, wL_Ne, wT_sI, wT_sR, wT_sL, wT_N, wT_Ne, wZ_sI, wZ_sR, wZ_sL, wZ_sN, wI_sX, wL_sX, wR_sX, wZ_sX, hx, hz8, c1, c2, c3, hne, hin, tn_i, hs1, ↓reduceIte, if_true, if_false, eq_self, ite_true, ite_false, Option.bind_some, not_true_eq_false, not_false_eq_true, Bool.false_eq_true]
  · rw [hw2]
    have em : wI w1 58 2 = Int32.ofNat n := by rw [hw1]; simp (disch := first | omega | (simp only [wZ_sI, wZ_sR, wZ_sL, wZ_sN, wZ_sX]; done) | (simp only [wZ_sI, wZ_sR, wZ_sL, wZ_sN, wZ_sX]; omega)) only [wI_ne, wI_nf, wI_eq, wI_sR, wI_sL, wI_N, wI_Ne, wR_ne, wR_nf, wR_eq, wR_sI, wR_sL, wR_N, wR_Ne, wL_ne, wL_nf, wL_eq, wL_sI, wL_sR, wL_N, wL_Ne, wT_sI, wT_sR, wT_sL, wT_N, wT_Ne, wZ_sI, wZ_sR, wZ_sL, wZ_sN, wI_sX, wL_sX, wR_sX, wZ_sX]; exact hm
    simp (disch := omega) only [f_X4_book, inX, inM, f_X0_isTown, f_X4_isTown, f_X0_isDay, f_X4_isDay, f_X0_isBook, f_X4_isBook, f_X0_isEdition, f_X4_isEdition, f_X0_isCard, f_X4_isCard, f_X0_isPerson, f_X4_isPerson, f_X0_isCopy, f_X0_isTape, f_X4_isTape, f_X0_isBy, f_X4_isTime, f_X0_isDecree, f_X4_isSlip, em, c1, c2, c3, hne, hin, tn_i, hs1, hs2, ↓reduceIte, if_true, if_false, eq_self, ite_true, ite_false, Option.bind_some, not_true_eq_false, not_false_eq_true, Bool.false_eq_true]
  · have oI : ∀ a f, 108 ≤ a → a < wZ w → wI w2 a f = wI w a f := by
      intro a f q1 q2
      rw [hw2, hw1]
      simp (disch := first | omega | (simp only [wZ_sI, wZ_sR, wZ_sL, wZ_sN, wZ_sX]; done) | (simp only [wZ_sI, wZ_sR, wZ_sL, wZ_sN, wZ_sX]; omega)) only [wI_ne, wI_nf, wI_eq, wI_sR, wI_sL, wI_N, wI_Ne, wR_ne, wR_nf, wR_eq, wR_sI, wR_sL, wR_N, wR_Ne, wL_ne, wL_nf, wL_eq, wL_sI, wL_sR, wL_N, wL_Ne, wT_sI, wT_sR, wT_sL, wT_N, wT_Ne, wZ_sI, wZ_sR, wZ_sL, wZ_sN, wI_sX, wL_sX, wR_sX, wZ_sX]
    have oR : ∀ a f, 108 ≤ a → a < wZ w → wR w2 a f = wR w a f := by
      intro a f q1 q2
      rw [hw2, hw1]
      simp (disch := first | omega | (simp only [wZ_sI, wZ_sR, wZ_sL, wZ_sN, wZ_sX]; done) | (simp only [wZ_sI, wZ_sR, wZ_sL, wZ_sN, wZ_sX]; omega)) only [wI_ne, wI_nf, wI_eq, wI_sR, wI_sL, wI_N, wI_Ne, wR_ne, wR_nf, wR_eq, wR_sI, wR_sL, wR_N, wR_Ne, wL_ne, wL_nf, wL_eq, wL_sI, wL_sR, wL_N, wL_Ne, wT_sI, wT_sR, wT_sL, wT_N, wT_Ne, wZ_sI, wZ_sR, wZ_sL, wZ_sN, wI_sX, wL_sX, wR_sX, wZ_sX]
    have oT : ∀ a, a < wZ w → wT w2 a = wT w a := by
      intro a q1
      rw [hT, if_neg (by omega), if_neg (by omega), if_neg (by omega)]
    have e66 : ∀ f, wI w2 66 f = wI w 66 f := by intro f; rw [hw2, hw1]; simp (disch := first | omega | (simp only [wZ_sI, wZ_sR, wZ_sL, wZ_sN, wZ_sX]; done) | (simp only [wZ_sI, wZ_sR, wZ_sL, wZ_sN, wZ_sX]; omega)) only [wI_ne, wI_nf, wI_eq, wI_sR, wI_sL, wI_N, wI_Ne, wR_ne, wR_nf, wR_eq, wR_sI, wR_sL, wR_N, wR_Ne, wL_ne, wL_nf, wL_eq, wL_sI, wL_sR, wL_N, wL_Ne, wT_sI, wT_sR, wT_sL, wT_N, wT_Ne, wZ_sI, wZ_sR, wZ_sL, wZ_sN, wI_sX, wL_sX, wR_sX, wZ_sX]
    have e93 : ∀ f, wI w2 93 f = wI w 93 f := by intro f; rw [hw2, hw1]; simp (disch := first | omega | (simp only [wZ_sI, wZ_sR, wZ_sL, wZ_sN, wZ_sX]; done) | (simp only [wZ_sI, wZ_sR, wZ_sL, wZ_sN, wZ_sX]; omega)) only [wI_ne, wI_nf, wI_eq, wI_sR, wI_sL, wI_N, wI_Ne, wR_ne, wR_nf, wR_eq, wR_sI, wR_sL, wR_N, wR_Ne, wL_ne, wL_nf, wL_eq, wL_sI, wL_sR, wL_N, wL_Ne, wT_sI, wT_sR, wT_sL, wT_N, wT_Ne, wZ_sI, wZ_sR, wZ_sL, wZ_sN, wI_sX, wL_sX, wR_sX, wZ_sX]
    have e92 : ∀ f, wI w2 92 f = wI w 92 f := by intro f; rw [hw2, hw1]; simp (disch := first | omega | (simp only [wZ_sI, wZ_sR, wZ_sL, wZ_sN, wZ_sX]; done) | (simp only [wZ_sI, wZ_sR, wZ_sL, wZ_sN, wZ_sX]; omega)) only [wI_ne, wI_nf, wI_eq, wI_sR, wI_sL, wI_N, wI_Ne, wR_ne, wR_nf, wR_eq, wR_sI, wR_sL, wR_N, wR_Ne, wL_ne, wL_nf, wL_eq, wL_sI, wL_sR, wL_N, wL_Ne, wT_sI, wT_sR, wT_sL, wT_N, wT_Ne, wZ_sI, wZ_sR, wZ_sL, wZ_sN, wI_sX, wL_sX, wR_sX, wZ_sX]
    have e11 : ∀ f, f ≠ n → wR w2 11 f = wR w 11 f := by intro f hf; rw [hw2, hw1]; simp (disch := first | omega | (simp only [wZ_sI, wZ_sR, wZ_sL, wZ_sN, wZ_sX]; done) | (simp only [wZ_sI, wZ_sR, wZ_sL, wZ_sN, wZ_sX]; omega)) only [wI_ne, wI_nf, wI_eq, wI_sR, wI_sL, wI_N, wI_Ne, wR_ne, wR_nf, wR_eq, wR_sI, wR_sL, wR_N, wR_Ne, wL_ne, wL_nf, wL_eq, wL_sI, wL_sR, wL_N, wL_Ne, wT_sI, wT_sR, wT_sL, wT_N, wT_Ne, wZ_sI, wZ_sR, wZ_sL, wZ_sN, wI_sX, wL_sX, wR_sX, wZ_sX]
    have e11n : wR w2 11 n = some (wZ w) := by rw [hw2, hw1]; simp (disch := first | omega | (simp only [wZ_sI, wZ_sR, wZ_sL, wZ_sN, wZ_sX]; done) | (simp only [wZ_sI, wZ_sR, wZ_sL, wZ_sN, wZ_sX]; omega)) only [wI_ne, wI_nf, wI_eq, wI_sR, wI_sL, wI_N, wI_Ne, wR_ne, wR_nf, wR_eq, wR_sI, wR_sL, wR_N, wR_Ne, wL_ne, wL_nf, wL_eq, wL_sI, wL_sR, wL_N, wL_Ne, wT_sI, wT_sR, wT_sL, wT_N, wT_Ne, wZ_sI, wZ_sR, wZ_sL, wZ_sN, wI_sX, wL_sX, wR_sX, wZ_sX]
    have e62 : ∀ f, f ≠ n → wI w2 62 f = wI w 62 f := by intro f hf; rw [hw2, hw1]; simp (disch := first | omega | (simp only [wZ_sI, wZ_sR, wZ_sL, wZ_sN, wZ_sX]; done) | (simp only [wZ_sI, wZ_sR, wZ_sL, wZ_sN, wZ_sX]; omega)) only [wI_ne, wI_nf, wI_eq, wI_sR, wI_sL, wI_N, wI_Ne, wR_ne, wR_nf, wR_eq, wR_sI, wR_sL, wR_N, wR_Ne, wL_ne, wL_nf, wL_eq, wL_sI, wL_sR, wL_N, wL_Ne, wT_sI, wT_sR, wT_sL, wT_N, wT_Ne, wZ_sI, wZ_sR, wZ_sL, wZ_sN, wI_sX, wL_sX, wR_sX, wZ_sX]
    have e63 : ∀ f, f ≠ n → wI w2 63 f = wI w 63 f := by intro f hf; rw [hw2, hw1]; simp (disch := first | omega | (simp only [wZ_sI, wZ_sR, wZ_sL, wZ_sN, wZ_sX]; done) | (simp only [wZ_sI, wZ_sR, wZ_sL, wZ_sN, wZ_sX]; omega)) only [wI_ne, wI_nf, wI_eq, wI_sR, wI_sL, wI_N, wI_Ne, wR_ne, wR_nf, wR_eq, wR_sI, wR_sL, wR_N, wR_Ne, wL_ne, wL_nf, wL_eq, wL_sI, wL_sR, wL_N, wL_Ne, wT_sI, wT_sR, wT_sL, wT_N, wT_Ne, wZ_sI, wZ_sR, wZ_sL, wZ_sN, wI_sX, wL_sX, wR_sX, wZ_sX]
    have e64 : ∀ f, f ≠ n → wI w2 64 f = wI w 64 f := by intro f hf; rw [hw2, hw1]; simp (disch := first | omega | (simp only [wZ_sI, wZ_sR, wZ_sL, wZ_sN, wZ_sX]; done) | (simp only [wZ_sI, wZ_sR, wZ_sL, wZ_sN, wZ_sX]; omega)) only [wI_ne, wI_nf, wI_eq, wI_sR, wI_sL, wI_N, wI_Ne, wR_ne, wR_nf, wR_eq, wR_sI, wR_sL, wR_N, wR_Ne, wL_ne, wL_nf, wL_eq, wL_sI, wL_sR, wL_N, wL_Ne, wT_sI, wT_sR, wT_sL, wT_N, wT_Ne, wZ_sI, wZ_sR, wZ_sL, wZ_sN, wI_sX, wL_sX, wR_sX, wZ_sX]
    have e65 : ∀ f, f ≠ n → wI w2 65 f = wI w 65 f := by intro f hf; rw [hw2, hw1]; simp (disch := first | omega | (simp only [wZ_sI, wZ_sR, wZ_sL, wZ_sN, wZ_sX]; done) | (simp only [wZ_sI, wZ_sR, wZ_sL, wZ_sN, wZ_sX]; omega)) only [wI_ne, wI_nf, wI_eq, wI_sR, wI_sL, wI_N, wI_Ne, wR_ne, wR_nf, wR_eq, wR_sI, wR_sL, wR_N, wR_Ne, wL_ne, wL_nf, wL_eq, wL_sI, wL_sR, wL_N, wL_Ne, wT_sI, wT_sR, wT_sL, wT_N, wT_Ne, wZ_sI, wZ_sR, wZ_sL, wZ_sN, wI_sX, wL_sX, wR_sX, wZ_sX]
    obtain ⟨v1, -, hv1, ev1⟩ := inB_bd (lo := 0) (hi := 99) (by decide) (by decide) c1
    obtain ⟨v2, -, hv2, ev2⟩ := inB_bd (lo := 0) (hi := 19) (by decide) (by decide) c2
    obtain ⟨v3, -, hv3, ev3⟩ := inB_bd (lo := 0) (hi := 2000) (by decide) (by decide) c3
    refine Inv.m4 (h.rest' k2 (fun q => absurd rfl q) (fun _ a ha hd => ?_) (by decide)) ⟨n + 1, by omega, ?_, ?_, fun k hk9 => ?_, fun k q1 q2 => ?_, fun k l q1 q2 => ?_, fun k x y q1 q2 q3 => ?_, fun a ha => ?_⟩ (by have := h.2.1; omega)
    · have h1 := hd.2.1
      have h2 := hd.2.2
      rw [hT] at h2
      split at h2
      · cases h2
      · split at h2
        · cases h2
        · rw [if_pos (by omega)] at h2
          cases h2
    · rw [hw2, hw1]
      simp (disch := omega) only [wI_ne, wI_nf, wI_eq, wI_sR, wI_sL, wI_N, wI_Nz, wR_ne, wR_nf, wR_eq, wR_sI, wR_sL, wR_N, wR_Nz, wL_ne, wL_nf, wL_eq, wL_sI, wL_sR, wL_N, wL_Nz, wT_sI, wT_sR, wT_sL, wT_N, wT_Nz, wZ_sI, wZ_sR, wZ_sL, wZ_sN, wI_sX, wL_sX, wR_sX, wZ_sX]
    · rw [hw2]
      simp (disch := omega) only [wI_ne, wI_nf, wI_eq, wI_sR, wI_sL, wI_N, wI_Nz, wR_ne, wR_nf, wR_eq, wR_sI, wR_sL, wR_N, wR_Nz, wL_ne, wL_nf, wL_eq, wL_sI, wL_sR, wL_N, wL_Nz, wT_sI, wT_sR, wT_sL, wT_N, wT_Nz, wZ_sI, wZ_sR, wZ_sL, wZ_sN, wI_sX, wL_sX, wR_sX, wZ_sX]
    · by_cases q : k = n
      · subst q
        have z0 := (h0 k (Nat.le_refl _) (by omega)).1
        have z1 := (h0 k (Nat.le_refl _) (by omega)).2
        refine ⟨wZ w, e11n, ⟨⟨hz, by omega, ?_⟩, by omega, ?_, ?_, ?_, ?_⟩, ?_⟩
        · rw [hT, if_neg (by omega), if_neg (by omega), if_pos rfl]
        · rw [hT, if_neg (by omega), if_pos rfl]
        · rw [hT, if_pos rfl]
        · rw [hw2, hw1]
          simp (disch := first | omega | (simp only [wZ_sI, wZ_sR, wZ_sL, wZ_sN, wZ_sX]; done) | (simp only [wZ_sI, wZ_sR, wZ_sL, wZ_sN, wZ_sX]; omega)) only [wI_ne, wI_nf, wI_eq, wI_sR, wI_sL, wI_N, wI_Ne, wR_ne, wR_nf, wR_eq, wR_sI, wR_sL, wR_N, wR_Ne, wL_ne, wL_nf, wL_eq, wL_sI, wL_sR, wL_N, wL_Ne, wT_sI, wT_sR, wT_sL, wT_N, wT_Ne, wZ_sI, wZ_sR, wZ_sL, wZ_sN, wI_sX, wL_sX, wR_sX, wZ_sX]
        · rw [hw2, hw1]
          simp (disch := first | omega | (simp only [wZ_sI, wZ_sR, wZ_sL, wZ_sN, wZ_sX]; done) | (simp only [wZ_sI, wZ_sR, wZ_sL, wZ_sN, wZ_sX]; omega)) only [wI_ne, wI_nf, wI_eq, wI_sR, wI_sL, wI_N, wI_Ne, wR_ne, wR_nf, wR_eq, wR_sI, wR_sL, wR_N, wR_Ne, wL_ne, wL_nf, wL_eq, wL_sI, wL_sR, wL_N, wL_Ne, wT_sI, wT_sR, wT_sL, wT_N, wT_Ne, wZ_sI, wZ_sR, wZ_sL, wZ_sN, wI_sX, wL_sX, wR_sX, wZ_sX]
        · simp only [e92, e66, e93, z0]
          refine ⟨?_, ?_, ?_, ?_, ?_, ?_, ⟨0, by omega, ?_⟩, ⟨0, by omega, rfl⟩, ⟨v1, hv1, ?_⟩, ⟨v2, hv2, ?_⟩, ⟨v3, hv3, ?_⟩, fun l hl => ?_⟩
          · rw [hw2, hw1]; simp (disch := first | omega | (simp only [wZ_sI, wZ_sR, wZ_sL, wZ_sN, wZ_sX]; done) | (simp only [wZ_sI, wZ_sR, wZ_sL, wZ_sN, wZ_sX]; omega)) only [wI_ne, wI_nf, wI_eq, wI_sR, wI_sL, wI_N, wI_Ne, wR_ne, wR_nf, wR_eq, wR_sI, wR_sL, wR_N, wR_Ne, wL_ne, wL_nf, wL_eq, wL_sI, wL_sR, wL_N, wL_Ne, wT_sI, wT_sR, wT_sL, wT_N, wT_Ne, wZ_sI, wZ_sR, wZ_sL, wZ_sN, wI_sX, wL_sX, wR_sX, wZ_sX]
          · rw [hw2, hw1]; simp (disch := first | omega | (simp only [wZ_sI, wZ_sR, wZ_sL, wZ_sN, wZ_sX]; done) | (simp only [wZ_sI, wZ_sR, wZ_sL, wZ_sN, wZ_sX]; omega)) only [wI_ne, wI_nf, wI_eq, wI_sR, wI_sL, wI_N, wI_Ne, wR_ne, wR_nf, wR_eq, wR_sI, wR_sL, wR_N, wR_Ne, wL_ne, wL_nf, wL_eq, wL_sI, wL_sR, wL_N, wL_Ne, wT_sI, wT_sR, wT_sL, wT_N, wT_Ne, wZ_sI, wZ_sR, wZ_sL, wZ_sN, wI_sX, wL_sX, wR_sX, wZ_sX]
          · rw [hw2, hw1]; simp (disch := first | omega | (simp only [wZ_sI, wZ_sR, wZ_sL, wZ_sN, wZ_sX]; done) | (simp only [wZ_sI, wZ_sR, wZ_sL, wZ_sN, wZ_sX]; omega)) only [wI_ne, wI_nf, wI_eq, wI_sR, wI_sL, wI_N, wI_Ne, wR_ne, wR_nf, wR_eq, wR_sI, wR_sL, wR_N, wR_Ne, wL_ne, wL_nf, wL_eq, wL_sI, wL_sR, wL_N, wL_Ne, wT_sI, wT_sR, wT_sL, wT_N, wT_Ne, wZ_sI, wZ_sR, wZ_sL, wZ_sN, wI_sX, wL_sX, wR_sX, wZ_sX]
          · rw [hw2, hw1]; simp (disch := first | omega | (simp only [wZ_sI, wZ_sR, wZ_sL, wZ_sN, wZ_sX]; done) | (simp only [wZ_sI, wZ_sR, wZ_sL, wZ_sN, wZ_sX]; omega)) only [wI_ne, wI_nf, wI_eq, wI_sR, wI_sL, wI_N, wI_Ne, wR_ne, wR_nf, wR_eq, wR_sI, wR_sL, wR_N, wR_Ne, wL_ne, wL_nf, wL_eq, wL_sI, wL_sR, wL_N, wL_Ne, wT_sI, wT_sR, wT_sL, wT_N, wT_Ne, wZ_sI, wZ_sR, wZ_sL, wZ_sN, wI_sX, wL_sX, wR_sX, wZ_sX]
          · rw [hw2, hw1]; simp (disch := first | omega | (simp only [wZ_sI, wZ_sR, wZ_sL, wZ_sN, wZ_sX]; done) | (simp only [wZ_sI, wZ_sR, wZ_sL, wZ_sN, wZ_sX]; omega)) only [wI_ne, wI_nf, wI_eq, wI_sR, wI_sL, wI_N, wI_Ne, wR_ne, wR_nf, wR_eq, wR_sI, wR_sL, wR_N, wR_Ne, wL_ne, wL_nf, wL_eq, wL_sI, wL_sR, wL_N, wL_Ne, wT_sI, wT_sR, wT_sL, wT_N, wT_Ne, wZ_sI, wZ_sR, wZ_sL, wZ_sN, wI_sX, wL_sX, wR_sX, wZ_sX]
          · rw [hw2, hw1]; simp (disch := first | omega | (simp only [wZ_sI, wZ_sR, wZ_sL, wZ_sN, wZ_sX]; done) | (simp only [wZ_sI, wZ_sR, wZ_sL, wZ_sN, wZ_sX]; omega)) only [wI_ne, wI_nf, wI_eq, wI_sR, wI_sL, wI_N, wI_Ne, wR_ne, wR_nf, wR_eq, wR_sI, wR_sL, wR_N, wR_Ne, wL_ne, wL_nf, wL_eq, wL_sI, wL_sR, wL_N, wL_Ne, wT_sI, wT_sR, wT_sL, wT_N, wT_Ne, wZ_sI, wZ_sR, wZ_sL, wZ_sN, wI_sX, wL_sX, wR_sX, wZ_sX]
          · rw [hw2, hw1]; simp (disch := first | omega | (simp only [wZ_sI, wZ_sR, wZ_sL, wZ_sN, wZ_sX]; done) | (simp only [wZ_sI, wZ_sR, wZ_sL, wZ_sN, wZ_sX]; omega)) only [wI_ne, wI_nf, wI_eq, wI_sR, wI_sL, wI_N, wI_Ne, wR_ne, wR_nf, wR_eq, wR_sI, wR_sL, wR_N, wR_Ne, wL_ne, wL_nf, wL_eq, wL_sI, wL_sR, wL_N, wL_Ne, wT_sI, wT_sR, wT_sL, wT_N, wT_Ne, wZ_sI, wZ_sR, wZ_sL, wZ_sN, wI_sX, wL_sX, wR_sX, wZ_sX]; rfl
          · rw [hw2, hw1, ← ev1]; simp (disch := first | omega | (simp only [wZ_sI, wZ_sR, wZ_sL, wZ_sN, wZ_sX]; done) | (simp only [wZ_sI, wZ_sR, wZ_sL, wZ_sN, wZ_sX]; omega)) only [wI_ne, wI_nf, wI_eq, wI_sR, wI_sL, wI_N, wI_Ne, wR_ne, wR_nf, wR_eq, wR_sI, wR_sL, wR_N, wR_Ne, wL_ne, wL_nf, wL_eq, wL_sI, wL_sR, wL_N, wL_Ne, wT_sI, wT_sR, wT_sL, wT_N, wT_Ne, wZ_sI, wZ_sR, wZ_sL, wZ_sN, wI_sX, wL_sX, wR_sX, wZ_sX]
          · rw [hw2, hw1, ← ev2]; simp (disch := first | omega | (simp only [wZ_sI, wZ_sR, wZ_sL, wZ_sN, wZ_sX]; done) | (simp only [wZ_sI, wZ_sR, wZ_sL, wZ_sN, wZ_sX]; omega)) only [wI_ne, wI_nf, wI_eq, wI_sR, wI_sL, wI_N, wI_Ne, wR_ne, wR_nf, wR_eq, wR_sI, wR_sL, wR_N, wR_Ne, wL_ne, wL_nf, wL_eq, wL_sI, wL_sR, wL_N, wL_Ne, wT_sI, wT_sR, wT_sL, wT_N, wT_Ne, wZ_sI, wZ_sR, wZ_sL, wZ_sN, wI_sX, wL_sX, wR_sX, wZ_sX]
          · rw [hw2, hw1, ← ev3]; simp (disch := first | omega | (simp only [wZ_sI, wZ_sR, wZ_sL, wZ_sN, wZ_sX]; done) | (simp only [wZ_sI, wZ_sR, wZ_sL, wZ_sN, wZ_sX]; omega)) only [wI_ne, wI_nf, wI_eq, wI_sR, wI_sL, wI_N, wI_Ne, wR_ne, wR_nf, wR_eq, wR_sI, wR_sL, wR_N, wR_Ne, wL_ne, wL_nf, wL_eq, wL_sI, wL_sR, wL_N, wL_Ne, wT_sI, wT_sR, wT_sL, wT_N, wT_Ne, wZ_sI, wZ_sR, wZ_sL, wZ_sN, wI_sX, wL_sX, wR_sX, wZ_sX]
          · rw [(z1 l hl).1, (z1 l hl).2, hw2, hw1]; simp (disch := first | omega | (simp only [wZ_sI, wZ_sR, wZ_sL, wZ_sN, wZ_sX]; done) | (simp only [wZ_sI, wZ_sR, wZ_sL, wZ_sN, wZ_sX]; omega)) only [wI_ne, wI_nf, wI_eq, wI_sR, wI_sL, wI_N, wI_Ne, wR_ne, wR_nf, wR_eq, wR_sI, wR_sL, wR_N, wR_Ne, wL_ne, wL_nf, wL_eq, wL_sI, wL_sR, wL_N, wL_Ne, wT_sI, wT_sR, wT_sL, wT_N, wT_Ne, wZ_sI, wZ_sR, wZ_sL, wZ_sN, wI_sX, wL_sX, wR_sX, wZ_sX]; exact ⟨wI_Ne _ rfl, wI_Ne _ rfl⟩
      · obtain ⟨a, g1, g2, g3⟩ := hk k (by omega)
        have q1 := g2.1.1
        have q2 := g2.2.1
        refine ⟨a, by rw [e11 k q]; exact g1, ⟨⟨q1, by omega, by rw [oT a (by omega)]; exact g2.1.2.2⟩, by omega, ?_, ?_, ?_, ?_⟩, ?_⟩
        · rw [oT _ (by omega)]; exact g2.2.2.1
        · rw [oT _ (by omega)]; exact g2.2.2.2.1
        · rw [oR a 4 q1 (by omega)]; exact g2.2.2.2.2.1
        · rw [oR a 6 q1 (by omega)]; exact g2.2.2.2.2.2
        · rw [oI a 0 q1 (by omega), oI a 1 q1 (by omega), oI a 2 q1 (by omega), oI a 3 q1 (by omega), oI a 5 q1 (by omega), oI a 7 q1 (by omega), e62 k q, e63 k q, e64 k q, e65 k q, e92]
          simp only [e66, e93, oI (a + 1) _ (by omega) (by omega), oI (a + 2) _ (by omega) q2]
          exact g3
    · rw [e92]
      simp only [e66, e93]
      exact h0 k (by omega) q2
    · rw [e66, e93]
      exact hb k l q1 q2
    · rw [e93, e93]
      exact hs k x y q1 q2 q3
    · have h1 := ha.2.1
      have h2 := ha.2.2
      rw [hT] at h2
      split at h2
      · cases h2
      · split at h2
        · cases h2
        · split at h2
          · rename_i e
            subst e
            exact ⟨n, by omega, e11n⟩
          · obtain ⟨k, q1, q2⟩ := hr a ⟨ha.1, by omega, h2⟩
            exact ⟨k, by omega, by rw [e11 k (by omega)]; exact q2⟩
theorem bk_apart {w : Wd} (hB : Boo w) {b b' : Nat} (hb : BkO w b) (hb' : BkO w b') (hne : b ≠ b') : b' ≠ b + 1 ∧ b' ≠ b + 2 ∧ b' + 1 ≠ b + 1 ∧ b' + 1 ≠ b + 2 ∧ b' + 2 ≠ b + 1 ∧ b' + 2 ≠ b + 2 ∧ b' + 1 ≠ b ∧ b' + 2 ≠ b := by
  have t1 := hb.1.2.2
  have t2 := hb'.1.2.2
  have a1 := congrArg Prod.fst hb.2.2.1
  have a2 := congrArg Prod.fst hb.2.2.2.1
  have b1 := congrArg Prod.fst hb'.2.2.1
  have b2 := congrArg Prod.fst hb'.2.2.2.1
  refine ⟨?_, ?_, ?_, ?_, ?_, ?_, ?_, ?_⟩ <;> intro e
  · subst e; rw [t2] at a1; cases a1
  · subst e; rw [t2] at a2; cases a2
  · omega
  · have : b' = b + 1 := by omega
    subst this; rw [t2] at a1; cases a1
  · have : b = b' + 1 := by omega
    subst this; rw [t1] at b1; cases b1
  · omega
  · subst e; rw [t1] at b1; cases b1
  · subst e; rw [t1] at b2; cases b2
/-- the slots that a change inside one book touches -/
def BkP (w : Wd) (b : Nat) (a f : Nat) : Prop := But 4 w a f ∧ a ≠ b + 1 ∧ a ≠ b + 2
theorem BkP.rest {j : Nat} {w w' : Wd} {b : Nat} (h : Inv j w) (hb : BkO w b) (k : Kept (BkP w b) w w') (hz : wZ w' = wZ w) : Fix w' ∧ Rest 4 w' := by
  have e1 : own w (b + 1) = fun _ => 50 := by
    funext f
    rw [own_d (by have := hb.1.1; omega), hb.2.2.1]
    rfl
  have e2 : own w (b + 2) = fun _ => 50 := by
    funext f
    rw [own_d (by have := hb.1.1; omega), hb.2.2.2.1]
    rfl
  refine h.rest (c := 4) k (fun a f q1 q2 q3 => ⟨⟨q1, q2⟩, fun e => q3 (by rw [e, e1]), fun e => q3 (by rw [e, e2])⟩) (fun q => absurd rfl q) (fun _ t r f ht hr => ?_) (fun q => absurd rfl q) (fun _ => noNew_of hz 8) (by decide)
  refine ⟨But.T h.tap (by decide) (by decide) t r f ht hr, ?_⟩
  rcases h.tap t ht with ⟨-, g2, -⟩ | ⟨r', s, n, g1, -, -, -, -, -, -, -, -, -, -, -, -, g14⟩
  · rw [g2] at hr
    cases hr
  · rw [g1] at hr
    cases hr
    exact g14 b hb.1
theorem Boo.is {w : Wd} {n k k' a a' : Nat} (hn : n ≤ 16) (hk : k < n) (hk' : k' < n) (h1 : wI w a 0 = Int32.ofNat k) (h2 : wI w a' 0 = Int32.ofNat k') (hne : k ≠ k') : a ≠ a' := by
  intro e
  subst e
  rw [h1] at h2
  exact hne ((i_inj (by omega) (by omega)).mp h2)
theorem st_5 {j : Nat} {w : Wd} {a1 a2 a3 a4 a5 : Int32} (h : Inv j w) : ∃ w2, okc_5 a1 a2 a3 a4 a5 w w2 ∧ Inv (j + 1) w2 := by
  obtain ⟨n, hn, hx, hm, hk, h0, hb, hs, hr⟩ := id h.boo
  have hz := h.z8
  by_cases c1 : inB a1 0 (Int32.ofNat n - 1) = true
  rotate_left
  · have c1 := ne_of_tf c1
    refine ⟨w, ⟨0, 0, -1, w, ?_, ?_⟩, h.same⟩
    · simp only [f_X0_line, inX, inM, f_X0_isTown, f_X4_isTown, f_X0_isDay, f_X4_isDay, f_X0_isBook, f_X4_isBook, f_X0_isEdition, f_X4_isEdition, f_X0_isCard, f_X4_isCard, f_X0_isPerson, f_X4_isPerson, f_X0_isCopy, f_X0_isTape, f_X4_isTape, f_X0_isBy, f_X4_isTime, f_X0_isDecree, f_X4_isSlip, hx, hm, c1, ↓reduceIte, if_true, if_false, eq_self, ite_true, ite_false, Option.bind_some, not_true_eq_false, not_false_eq_true, Bool.false_eq_true]
    · simp only [f_X4_line, inX, inM, f_X0_isTown, f_X4_isTown, f_X0_isDay, f_X4_isDay, f_X0_isBook, f_X4_isBook, f_X0_isEdition, f_X4_isEdition, f_X0_isCard, f_X4_isCard, f_X0_isPerson, f_X4_isPerson, f_X0_isCopy, f_X0_isTape, f_X4_isTape, f_X0_isBy, f_X4_isTime, f_X0_isDecree, f_X4_isSlip, hx, hm, c1, ↓reduceIte, if_true, if_false, eq_self, ite_true, ite_false, Option.bind_some, not_true_eq_false, not_false_eq_true, Bool.false_eq_true]
  by_cases c2 : inB a2 1 65535 = true
  rotate_left
  · have c2 := ne_of_tf c2
    refine ⟨w, ⟨0, 0, -2, w, ?_, ?_⟩, h.same⟩
    · simp only [f_X0_line, inX, inM, f_X0_isTown, f_X4_isTown, f_X0_isDay, f_X4_isDay, f_X0_isBook, f_X4_isBook, f_X0_isEdition, f_X4_isEdition, f_X0_isCard, f_X4_isCard, f_X0_isPerson, f_X4_isPerson, f_X0_isCopy, f_X0_isTape, f_X4_isTape, f_X0_isBy, f_X4_isTime, f_X0_isDecree, f_X4_isSlip, hx, hm, c1, c2, ↓reduceIte, if_true, if_false, eq_self, ite_true, ite_false, Option.bind_some, not_true_eq_false, not_false_eq_true, Bool.false_eq_true]
    · simp only [f_X4_line, inX, inM, f_X0_isTown, f_X4_isTown, f_X0_isDay, f_X4_isDay, f_X0_isBook, f_X4_isBook, f_X0_isEdition, f_X4_isEdition, f_X0_isCard, f_X4_isCard, f_X0_isPerson, f_X4_isPerson, f_X0_isCopy, f_X0_isTape, f_X4_isTape, f_X0_isBy, f_X4_isTime, f_X0_isDecree, f_X4_isSlip, hx, hm, c1, c2, ↓reduceIte, if_true, if_false, eq_self, ite_true, ite_false, Option.bind_some, not_true_eq_false, not_false_eq_true, Bool.false_eq_true]
  obtain ⟨k, hk1, rfl⟩ := inB_lt (by omega) c1
  obtain ⟨v, hv0, hv, rfl⟩ := inB_bd (lo := 1) (hi := 65535) (by decide) (by decide) c2
  obtain ⟨b, g1, g2, g3, g4, g5, g6, g7, g8, ⟨L, hL, g9⟩, g10, g11, g12, g13, g14⟩ := hk k hk1
  have hbz := g2.2.1
  have hb8 := g2.1.1
  have tb := g2.1.2.2
  have hin : inb (Int32.ofNat k) 16 = True := inb_t (by omega) (by decide)
  by_cases c3 : L = 16
  · subst c3
    have e9 : (Int32.ofNat 16 = 16) = True := eq_true rfl
    refine ⟨w, ⟨0, 0, -4, w, ?_, ?_⟩, h.same⟩
    · simp (disch := omega) only [f_X0_line, inX, inM, f_X0_isTown, f_X4_isTown, f_X0_isDay, f_X4_isDay, f_X0_isBook, f_X4_isBook, f_X0_isEdition, f_X4_isEdition, f_X0_isCard, f_X4_isCard, f_X0_isPerson, f_X4_isPerson, f_X0_isCopy, f_X0_isTape, f_X4_isTape, f_X0_isBy, f_X4_isTime, f_X0_isDecree, f_X4_isSlip, hx, c1, c2, hin, tn_i, g1, tb, g7, g9, e9, ↓reduceIte, if_true, if_false, eq_self, ite_true, ite_false, Option.bind_some, not_true_eq_false, not_false_eq_true, Bool.false_eq_true]
    · simp (disch := omega) only [f_X4_line, inX, inM, f_X0_isTown, f_X4_isTown, f_X0_isDay, f_X4_isDay, f_X0_isBook, f_X4_isBook, f_X0_isEdition, f_X4_isEdition, f_X0_isCard, f_X4_isCard, f_X0_isPerson, f_X4_isPerson, f_X0_isCopy, f_X0_isTape, f_X4_isTape, f_X0_isBy, f_X4_isTime, f_X0_isDecree, f_X4_isSlip, hm, c1, c2, hin, tn_i, g9, e9, ↓reduceIte, if_true, if_false, eq_self, ite_true, ite_false, Option.bind_some, not_true_eq_false, not_false_eq_true, Bool.false_eq_true]
  have hne : (Int32.ofNat L = 16) = False := eq_false (fun q => c3 ((i_inj (b := 16) (by omega) (by decide)).mp q))
  have hinL : inb (Int32.ofNat L) 16 = True := inb_t (by omega) (by decide)
  have hs1 : Int32.ofNat L + 1 = Int32.ofNat (L + 1) := i_add L 1
  have hs2 : Int32.ofNat (L + 1) - 1 = Int32.ofNat L := i_sub (b := 1) (by omega)
  have e16 : (16 : Int32) * Int32.ofNat k + Int32.ofNat L = Int32.ofNat (16 * k + L) := by rw [show (16 : Int32) = Int32.ofNat 16 from rfl, i_mul, i_add]
  have hin6 : inb (Int32.ofNat (16 * k + L)) 256 = True := inb_t (by omega) (by decide)
  obtain ⟨w1, hw1⟩ : ∃ w1, w1 = sI (sI w (b + 1) L (Int32.ofNat v)) b 5 (Int32.ofNat (L + 1)) := ⟨_, rfl⟩
  obtain ⟨w2, hw2⟩ : ∃ w2, w2 = sI (sI w1 66 (16 * k + L) (Int32.ofNat v)) 65 k (Int32.ofNat (L + 1)) := ⟨_, rfl⟩
  refine ⟨w2, ⟨0, 0, Int32.ofNat L, w1, ?_, ?_⟩, ?_⟩
  · rw [hw1]
    simp (disch := omega) only [f_X0_line, inX, inM, f_X0_isTown, f_X4_isTown, f_X0_isDay, f_X4_isDay, f_X0_isBook, f_X4_isBook, f_X0_isEdition, f_X4_isEdition, f_X0_isCard, f_X4_isCard, f_X0_isPerson, f_X4_isPerson, f_X0_isCopy, f_X0_isTape, f_X4_isTape, f_X0_isBy, f_X4_isTime, f_X0_isDecree, f_X4_isSlip, wI_ne, wI_nf, wI_eq, wI_sR, wI_sL, wI_N, wI_Nz, wR_ne, wR_nf, wR_eq, wR_sI, wR_sL, wR_N, wR_Nz, wL_ne, wL_nf, wL_eq, wL_sI, wL_sR, wL_N, wL_Nz, wT_sI, wT_sR, wT_sL, wT_N, wT_Nz, wZ_sI, wZ_sR, wZ_sL, wZ_sN, wI_sX, wL_sX, wR_sX, wZ_sX, hx, c1, c2, hin, tn_i, g1, tb, g7, g9, hne, g2.2.2.2.2.1, g2.2.2.1, hinL, hs1, ↓reduceIte, if_true, if_false, eq_self, ite_true, ite_false, Option.bind_some, not_true_eq_false, not_false_eq_true, Bool.false_eq_true]
  · rw [hw2]
    have em : wI w1 58 2 = Int32.ofNat n := by rw [hw1]; simp (disch := omega) only [wI_ne, wI_nf, wI_eq, wI_sR, wI_sL, wI_N, wI_Nz, wR_ne, wR_nf, wR_eq, wR_sI, wR_sL, wR_N, wR_Nz, wL_ne, wL_nf, wL_eq, wL_sI, wL_sR, wL_N, wL_Nz, wT_sI, wT_sR, wT_sL, wT_N, wT_Nz, wZ_sI, wZ_sR, wZ_sL, wZ_sN, wI_sX, wL_sX, wR_sX, wZ_sX]; exact hm
    have e65 : wI w1 65 k = Int32.ofNat L := by rw [hw1]; simp (disch := omega) only [wI_ne, wI_nf, wI_eq, wI_sR, wI_sL, wI_N, wI_Nz, wR_ne, wR_nf, wR_eq, wR_sI, wR_sL, wR_N, wR_Nz, wL_ne, wL_nf, wL_eq, wL_sI, wL_sR, wL_N, wL_Nz, wT_sI, wT_sR, wT_sL, wT_N, wT_Nz, wZ_sI, wZ_sR, wZ_sL, wZ_sN, wI_sX, wL_sX, wR_sX, wZ_sX]; exact g9
    simp (disch := omega) only [f_X4_line, inX, inM, f_X0_isTown, f_X4_isTown, f_X0_isDay, f_X4_isDay, f_X0_isBook, f_X4_isBook, f_X0_isEdition, f_X4_isEdition, f_X0_isCard, f_X4_isCard, f_X0_isPerson, f_X4_isPerson, f_X0_isCopy, f_X0_isTape, f_X4_isTape, f_X0_isBy, f_X4_isTime, f_X0_isDecree, f_X4_isSlip, em, e65, c1, c2, hin, tn_i, hne, e16, hin6, hs1, hs2, ↓reduceIte, if_true, if_false, eq_self, ite_true, ite_false, Option.bind_some, not_true_eq_false, not_false_eq_true, Bool.false_eq_true]
  · have k2 : Kept (BkP w b) w w2 := by
      rw [hw2, hw1]
      exact (((Kept.rfl'.sI (fun _ hb => hb.2.1 rfl)).sI (fun _ hb => hb.1.1 (by rw [g2.1.ow]; rfl))).sI (fun _ hb => hb.1.1 rfl)).sI (fun _ hb => hb.1.1 rfl)
    have hz2 : wZ w2 = wZ w := by rw [hw2, hw1]; rfl
    have hT : ∀ a, wT w2 a = wT w a := by intro a; rw [hw2, hw1]; rfl
    have oR : ∀ a f, wR w2 a f = wR w a f := by intro a f; rw [hw2, hw1]; rfl
    have oI : ∀ a f, 108 ≤ a → a ≠ b → a ≠ b + 1 → wI w2 a f = wI w a f := by
      intro a f q1 q2 q3
      rw [hw2, hw1]
      simp (disch := omega) only [wI_ne, wI_nf, wI_eq, wI_sR, wI_sL, wI_N, wI_Nz, wR_ne, wR_nf, wR_eq, wR_sI, wR_sL, wR_N, wR_Nz, wL_ne, wL_nf, wL_eq, wL_sI, wL_sR, wL_N, wL_Nz, wT_sI, wT_sR, wT_sL, wT_N, wT_Nz, wZ_sI, wZ_sR, wZ_sL, wZ_sN, wI_sX, wL_sX, wR_sX, wZ_sX]
    have oB : ∀ f, f ≠ 5 → wI w2 b f = wI w b f := by intro f q; rw [hw2, hw1]; simp (disch := omega) only [wI_ne, wI_nf, wI_eq, wI_sR, wI_sL, wI_N, wI_Nz, wR_ne, wR_nf, wR_eq, wR_sI, wR_sL, wR_N, wR_Nz, wL_ne, wL_nf, wL_eq, wL_sI, wL_sR, wL_N, wL_Nz, wT_sI, wT_sR, wT_sL, wT_N, wT_Nz, wZ_sI, wZ_sR, wZ_sL, wZ_sN, wI_sX, wL_sX, wR_sX, wZ_sX]
    have e66 : ∀ f, f ≠ 16 * k + L → wI w2 66 f = wI w 66 f := by intro f q; rw [hw2, hw1]; simp (disch := omega) only [wI_ne, wI_nf, wI_eq, wI_sR, wI_sL, wI_N, wI_Nz, wR_ne, wR_nf, wR_eq, wR_sI, wR_sL, wR_N, wR_Nz, wL_ne, wL_nf, wL_eq, wL_sI, wL_sR, wL_N, wL_Nz, wT_sI, wT_sR, wT_sL, wT_N, wT_Nz, wZ_sI, wZ_sR, wZ_sL, wZ_sN, wI_sX, wL_sX, wR_sX, wZ_sX]
    have e65 : ∀ f, f ≠ k → wI w2 65 f = wI w 65 f := by intro f q; rw [hw2, hw1]; simp (disch := omega) only [wI_ne, wI_nf, wI_eq, wI_sR, wI_sL, wI_N, wI_Nz, wR_ne, wR_nf, wR_eq, wR_sI, wR_sL, wR_N, wR_Nz, wL_ne, wL_nf, wL_eq, wL_sI, wL_sR, wL_N, wL_Nz, wT_sI, wT_sR, wT_sL, wT_N, wT_Nz, wZ_sI, wZ_sR, wZ_sL, wZ_sN, wI_sX, wL_sX, wR_sX, wZ_sX]
    have eo : ∀ c f, c = 62 ∨ c = 63 ∨ c = 64 ∨ c = 92 ∨ c = 93 → wI w2 c f = wI w c f := by
      intro c f q
      rw [hw2, hw1]
      simp (disch := omega) only [wI_ne, wI_nf, wI_eq, wI_sR, wI_sL, wI_N, wI_Nz, wR_ne, wR_nf, wR_eq, wR_sI, wR_sL, wR_N, wR_Nz, wL_ne, wL_nf, wL_eq, wL_sI, wL_sR, wL_N, wL_Nz, wT_sI, wT_sR, wT_sL, wT_N, wT_Nz, wZ_sI, wZ_sR, wZ_sL, wZ_sN, wI_sX, wL_sX, wR_sX, wZ_sX]
    have k' : ∀ k', k' ≠ k → k' < n → ∀ b', wR w 11 k' = some b' → BkO w b' → wI w b' 0 = Int32.ofNat k' → b' ≠ b := fun k' q q' b' _ _ q3 => Boo.is hn q' hk1 q3 g3 q
    refine Inv.m4 (BkP.rest h g2 k2 hz2) ⟨n, hn, ?_, ?_, fun i hi => ?_, fun i q1 q2 => ?_, fun i l q1 q2 => ?_, fun i x y q1 q2 q3 => ?_, fun a ha => ?_⟩ (by have := h.2.1; omega)
    · rw [hw2, hw1]; simp (disch := omega) only [wI_ne, wI_nf, wI_eq, wI_sR, wI_sL, wI_N, wI_Nz, wR_ne, wR_nf, wR_eq, wR_sI, wR_sL, wR_N, wR_Nz, wL_ne, wL_nf, wL_eq, wL_sI, wL_sR, wL_N, wL_Nz, wT_sI, wT_sR, wT_sL, wT_N, wT_Nz, wZ_sI, wZ_sR, wZ_sL, wZ_sN, wI_sX, wL_sX, wR_sX, wZ_sX]; exact hx
    · rw [hw2, hw1]; simp (disch := omega) only [wI_ne, wI_nf, wI_eq, wI_sR, wI_sL, wI_N, wI_Nz, wR_ne, wR_nf, wR_eq, wR_sI, wR_sL, wR_N, wR_Nz, wL_ne, wL_nf, wL_eq, wL_sI, wL_sR, wL_N, wL_Nz, wT_sI, wT_sR, wT_sL, wT_N, wT_Nz, wZ_sI, wZ_sR, wZ_sL, wZ_sN, wI_sX, wL_sX, wR_sX, wZ_sX]; exact hm
    · have bkk : ∀ a, BkO w a → BkO w2 a := fun a q => by unfold BkO Dy; simp only [hz2, hT, oR]; exact q
      by_cases q : i = k
      · subst q
        refine ⟨b, by rw [oR]; exact g1, bkk b g2, ?_⟩
        simp only [eo 62 _ (by omega), eo 63 _ (by omega), eo 64 _ (by omega), eo 92 _ (by omega), eo 93 _ (by omega), oB 0 (by decide), oB 1 (by decide), oB 2 (by decide), oB 3 (by decide), oB 7 (by decide)]
        refine ⟨g3, g4, g5, g6, ?_, g8, ⟨L + 1, by omega, ?_⟩, g10, g11, g12, g13, fun l hl => ?_⟩
        · rw [hw2, hw1]; simp (disch := omega) only [wI_ne, wI_nf, wI_eq, wI_sR, wI_sL, wI_N, wI_Nz, wR_ne, wR_nf, wR_eq, wR_sI, wR_sL, wR_N, wR_Nz, wL_ne, wL_nf, wL_eq, wL_sI, wL_sR, wL_N, wL_Nz, wT_sI, wT_sR, wT_sL, wT_N, wT_Nz, wZ_sI, wZ_sR, wZ_sL, wZ_sN, wI_sX, wL_sX, wR_sX, wZ_sX]
        · rw [hw2, hw1]; simp (disch := omega) only [wI_ne, wI_nf, wI_eq, wI_sR, wI_sL, wI_N, wI_Nz, wR_ne, wR_nf, wR_eq, wR_sI, wR_sL, wR_N, wR_Nz, wL_ne, wL_nf, wL_eq, wL_sI, wL_sR, wL_N, wL_Nz, wT_sI, wT_sR, wT_sL, wT_N, wT_Nz, wZ_sI, wZ_sR, wZ_sL, wZ_sN, wI_sX, wL_sX, wR_sX, wZ_sX]
        · rw [oI (b + 2) l (by omega) (by omega) (by omega)]
          refine ⟨?_, (g14 l hl).2⟩
          by_cases ql : l = L
          · subst ql
            rw [hw2, hw1]; simp (disch := omega) only [wI_ne, wI_nf, wI_eq, wI_sR, wI_sL, wI_N, wI_Nz, wR_ne, wR_nf, wR_eq, wR_sI, wR_sL, wR_N, wR_Nz, wL_ne, wL_nf, wL_eq, wL_sI, wL_sR, wL_N, wL_Nz, wT_sI, wT_sR, wT_sL, wT_N, wT_Nz, wZ_sI, wZ_sR, wZ_sL, wZ_sN, wI_sX, wL_sX, wR_sX, wZ_sX]
          · rw [e66 _ (by omega), ← (g14 l hl).1, hw2, hw1]; simp (disch := omega) only [wI_ne, wI_nf, wI_eq, wI_sR, wI_sL, wI_N, wI_Nz, wR_ne, wR_nf, wR_eq, wR_sI, wR_sL, wR_N, wR_Nz, wL_ne, wL_nf, wL_eq, wL_sI, wL_sR, wL_N, wL_Nz, wT_sI, wT_sR, wT_sL, wT_N, wT_Nz, wZ_sI, wZ_sR, wZ_sL, wZ_sN, wI_sX, wL_sX, wR_sX, wZ_sX]
      · obtain ⟨a, f1, f2, f3, f4⟩ := hk i hi
        have hne := k' i q hi a f1 f2 f3
        obtain ⟨p1, p2, p3, p4, p5, p6, p7, p8⟩ := bk_apart h.boo g2 f2 (Ne.symm hne)
        have := f2.1.1
        refine ⟨a, by rw [oR]; exact f1, bkk a f2, ?_⟩
        simp only [eo 62 _ (by omega), eo 63 _ (by omega), eo 64 _ (by omega), eo 92 _ (by omega), eo 93 _ (by omega), e65 i q, oI a _ (by omega) hne p1, oI (a + 1) _ (by omega) p7 p3, oI (a + 2) _ (by omega) p8 p5]
        refine ⟨f3, f4.1, f4.2.1, f4.2.2.1, f4.2.2.2.1, f4.2.2.2.2.1, f4.2.2.2.2.2.1, f4.2.2.2.2.2.2.1, f4.2.2.2.2.2.2.2.1, f4.2.2.2.2.2.2.2.2.1, f4.2.2.2.2.2.2.2.2.2.1, fun l hl => ?_⟩
        rw [e66 _ (by omega)]
        exact f4.2.2.2.2.2.2.2.2.2.2 l hl
    · rw [eo 92 _ (by omega)]
      refine ⟨(h0 i q1 q2).1, fun l hl => ?_⟩
      rw [eo 93 _ (by omega), e66 _ (by omega)]
      exact (h0 i q1 q2).2 l hl
    · rw [eo 93 _ (by omega)]
      refine ⟨?_, (hb i l q1 q2).2⟩
      by_cases q : 16 * i + l = 16 * k + L
      · rw [q, hw2, hw1]
        simp (disch := omega) only [wI_ne, wI_nf, wI_eq, wI_sR, wI_sL, wI_N, wI_Nz, wR_ne, wR_nf, wR_eq, wR_sI, wR_sL, wR_N, wR_Nz, wL_ne, wL_nf, wL_eq, wL_sI, wL_sR, wL_N, wL_Nz, wT_sI, wT_sR, wT_sL, wT_N, wT_Nz, wZ_sI, wZ_sR, wZ_sL, wZ_sN, wI_sX, wL_sX, wR_sX, wZ_sX]
        exact H16.of hv
      · rw [e66 _ q]
        exact (hb i l q1 q2).1
    · rw [eo 93 _ (by omega), eo 93 _ (by omega)]
      exact hs i x y q1 q2 q3
    · have ha' : Dy w a 7 := by unfold Dy at ha ⊢; rw [hz2, hT] at ha; exact ha
      obtain ⟨i, q1, q2⟩ := hr a ha'
      exact ⟨i, q1, by rw [oR]; exact q2⟩
theorem st_26 {j : Nat} {w : Wd} {a1 a2 a3 a4 a5 : Int32} (h : Inv j w) : ∃ w2, okc_26 a1 a2 a3 a4 a5 w w2 ∧ Inv (j + 1) w2 := by
  obtain ⟨n, hn, hx, hm, hk, h0, hb, hs, hr⟩ := id h.boo
  have hz := h.z8
  by_cases c1 : inB a1 0 (Int32.ofNat n - 1) = true
  rotate_left
  · have c1 := ne_of_tf c1
    refine ⟨w, ⟨0, 0, -1, w, ?_, ?_⟩, h.same⟩
    · simp only [f_X0_part, inX, inM, f_X0_isTown, f_X4_isTown, f_X0_isDay, f_X4_isDay, f_X0_isBook, f_X4_isBook, f_X0_isEdition, f_X4_isEdition, f_X0_isCard, f_X4_isCard, f_X0_isPerson, f_X4_isPerson, f_X0_isCopy, f_X0_isTape, f_X4_isTape, f_X0_isBy, f_X4_isTime, f_X0_isDecree, f_X4_isSlip, hx, hm, c1, ↓reduceIte, if_true, if_false, eq_self, ite_true, ite_false, Option.bind_some, not_true_eq_false, not_false_eq_true, Bool.false_eq_true]
    · simp only [f_X4_part, inX, inM, f_X0_isTown, f_X4_isTown, f_X0_isDay, f_X4_isDay, f_X0_isBook, f_X4_isBook, f_X0_isEdition, f_X4_isEdition, f_X0_isCard, f_X4_isCard, f_X0_isPerson, f_X4_isPerson, f_X0_isCopy, f_X0_isTape, f_X4_isTape, f_X0_isBy, f_X4_isTime, f_X0_isDecree, f_X4_isSlip, hx, hm, c1, ↓reduceIte, if_true, if_false, eq_self, ite_true, ite_false, Option.bind_some, not_true_eq_false, not_false_eq_true, Bool.false_eq_true]
  obtain ⟨k, hk1, rfl⟩ := inB_lt (by omega) c1
  obtain ⟨b, g1, g2, g3, g4, g5, g6, g7, g8, ⟨L, hL, g9⟩, ⟨u, hu, g10⟩, g11, g12, g13, g14⟩ := hk k hk1
  have hbz := g2.2.1
  have hb8 := g2.1.1
  have tb := g2.1.2.2
  have hin : inb (Int32.ofNat k) 16 = True := inb_t (by omega) (by decide)
  have gk : wR w 11 (Int32.ofNat k).toNatClampNeg = some b := by rw [tn_i (by omega)]; exact g1
  have hR6 : wR w b 6 = some (b + 2) := g2.2.2.2.2.2
  by_cases c2 : inB a2 0 (Int32.ofNat L - 1) = true
  rotate_left
  · have c2 := ne_of_tf c2
    refine ⟨w, ⟨0, 0, -1, w, ?_, ?_⟩, h.same⟩
    · unfold f_X0_part
      rw [gk, Option.bind_some, hR6, Option.bind_some]
      simp (disch := omega) only [ inX, inM, f_X0_isTown, f_X4_isTown, f_X0_isDay, f_X4_isDay, f_X0_isBook, f_X4_isBook, f_X0_isEdition, f_X4_isEdition, f_X0_isCard, f_X4_isCard, f_X0_isPerson, f_X4_isPerson, f_X0_isCopy, f_X0_isTape, f_X4_isTape, f_X0_isBy, f_X4_isTime, f_X0_isDecree, f_X4_isSlip, hx, c1, c2, hin, tn_i, g1, tb, g7, g9, ↓reduceIte, if_true, if_false, eq_self, ite_true, ite_false, Option.bind_some, not_true_eq_false, not_false_eq_true, Bool.false_eq_true]
    · simp (disch := omega) only [f_X4_part, inX, inM, f_X0_isTown, f_X4_isTown, f_X0_isDay, f_X4_isDay, f_X0_isBook, f_X4_isBook, f_X0_isEdition, f_X4_isEdition, f_X0_isCard, f_X4_isCard, f_X0_isPerson, f_X4_isPerson, f_X0_isCopy, f_X0_isTape, f_X4_isTape, f_X0_isBy, f_X4_isTime, f_X0_isDecree, f_X4_isSlip, hm, c1, c2, hin, tn_i, g9, ↓reduceIte, if_true, if_false, eq_self, ite_true, ite_false, Option.bind_some, not_true_eq_false, not_false_eq_true, Bool.false_eq_true]
  by_cases c3 : inB a3 0 (Int32.ofNat L - 1) = true
  rotate_left
  · have c3 := ne_of_tf c3
    refine ⟨w, ⟨0, 0, -1, w, ?_, ?_⟩, h.same⟩
    · unfold f_X0_part
      rw [gk, Option.bind_some, hR6, Option.bind_some]
      simp (disch := omega) only [ inX, inM, f_X0_isTown, f_X4_isTown, f_X0_isDay, f_X4_isDay, f_X0_isBook, f_X4_isBook, f_X0_isEdition, f_X4_isEdition, f_X0_isCard, f_X4_isCard, f_X0_isPerson, f_X4_isPerson, f_X0_isCopy, f_X0_isTape, f_X4_isTape, f_X0_isBy, f_X4_isTime, f_X0_isDecree, f_X4_isSlip, hx, c1, c2, c3, hin, tn_i, g1, tb, g7, g9, ↓reduceIte, if_true, if_false, eq_self, ite_true, ite_false, Option.bind_some, not_true_eq_false, not_false_eq_true, Bool.false_eq_true]
    · simp (disch := omega) only [f_X4_part, inX, inM, f_X0_isTown, f_X4_isTown, f_X0_isDay, f_X4_isDay, f_X0_isBook, f_X4_isBook, f_X0_isEdition, f_X4_isEdition, f_X0_isCard, f_X4_isCard, f_X0_isPerson, f_X4_isPerson, f_X0_isCopy, f_X0_isTape, f_X4_isTape, f_X0_isBy, f_X4_isTime, f_X0_isDecree, f_X4_isSlip, hm, c1, c2, c3, hin, tn_i, g9, ↓reduceIte, if_true, if_false, eq_self, ite_true, ite_false, Option.bind_some, not_true_eq_false, not_false_eq_true, Bool.false_eq_true]
  obtain ⟨x, hx1, rfl⟩ := inB_lt (by omega) c2
  obtain ⟨y, hy1, rfl⟩ := inB_lt (by omega) c3
  by_cases c4 : x = y
  · subst c4
    refine ⟨w, ⟨0, 0, -2, w, ?_, ?_⟩, h.same⟩
    · unfold f_X0_part
      rw [gk, Option.bind_some, hR6, Option.bind_some]
      simp (disch := omega) only [ inX, inM, f_X0_isTown, f_X4_isTown, f_X0_isDay, f_X4_isDay, f_X0_isBook, f_X4_isBook, f_X0_isEdition, f_X4_isEdition, f_X0_isCard, f_X4_isCard, f_X0_isPerson, f_X4_isPerson, f_X0_isCopy, f_X0_isTape, f_X4_isTape, f_X0_isBy, f_X4_isTime, f_X0_isDecree, f_X4_isSlip, hx, c1, c2, hin, tn_i, g1, tb, g7, g9, ↓reduceIte, if_true, if_false, eq_self, ite_true, ite_false, Option.bind_some, not_true_eq_false, not_false_eq_true, Bool.false_eq_true]
    · simp (disch := omega) only [f_X4_part, inX, inM, f_X0_isTown, f_X4_isTown, f_X0_isDay, f_X4_isDay, f_X0_isBook, f_X4_isBook, f_X0_isEdition, f_X4_isEdition, f_X0_isCard, f_X4_isCard, f_X0_isPerson, f_X4_isPerson, f_X0_isCopy, f_X0_isTape, f_X4_isTape, f_X0_isBy, f_X4_isTime, f_X0_isDecree, f_X4_isSlip, hm, c1, c2, hin, tn_i, g9, ↓reduceIte, if_true, if_false, eq_self, ite_true, ite_false, Option.bind_some, not_true_eq_false, not_false_eq_true, Bool.false_eq_true]
  have hxy : (Int32.ofNat x = Int32.ofNat y) = False := eq_false (fun q => c4 ((i_inj (by omega) (by omega)).mp q))
  have inx : inb (Int32.ofNat x) 16 = True := inb_t (by omega) (by decide)
  have iny : inb (Int32.ofNat y) 16 = True := inb_t (by omega) (by decide)
  have e16 : ∀ t, (16 : Int32) * Int32.ofNat k + Int32.ofNat t = Int32.ofNat (16 * k + t) := fun t => by rw [show (16 : Int32) = Int32.ofNat 16 from rfl, i_mul, i_add]
  have inx6 : inb (Int32.ofNat (16 * k + x)) 256 = True := inb_t (by omega) (by decide)
  have iny6 : inb (Int32.ofNat (16 * k + y)) 256 = True := inb_t (by omega) (by decide)
  have ex := (g14 x (by omega)).2
  have ey := (g14 y (by omega)).2
  have hT2 : wT w (b + 2) = (200, 16) := g2.2.2.2.1
  by_cases c5 : bt (wI w 93 (16 * k + x)) y = true
  · refine ⟨w, ⟨0, 0, -3, w, ?_, ?_⟩, h.same⟩
    · unfold f_X0_part
      rw [gk, Option.bind_some, hR6, Option.bind_some]
      simp (disch := omega) only [ inX, inM, f_X0_isTown, f_X4_isTown, f_X0_isDay, f_X4_isDay, f_X0_isBook, f_X4_isBook, f_X0_isEdition, f_X4_isEdition, f_X0_isCard, f_X4_isCard, f_X0_isPerson, f_X4_isPerson, f_X0_isCopy, f_X0_isTape, f_X4_isTape, f_X0_isBy, f_X4_isTime, f_X0_isDecree, f_X4_isSlip, hx, c1, c2, c3, hxy, hin, inx, tn_i, g1, tb, g7, g9, hR6, hT2, ex, bit1, c5, ↓reduceIte, if_true, if_false, eq_self, ite_true, ite_false, Option.bind_some, not_true_eq_false, not_false_eq_true, Bool.false_eq_true]
    · simp (disch := omega) only [f_X4_part, inX, inM, f_X0_isTown, f_X4_isTown, f_X0_isDay, f_X4_isDay, f_X0_isBook, f_X4_isBook, f_X0_isEdition, f_X4_isEdition, f_X0_isCard, f_X4_isCard, f_X0_isPerson, f_X4_isPerson, f_X0_isCopy, f_X0_isTape, f_X4_isTape, f_X0_isBy, f_X4_isTime, f_X0_isDecree, f_X4_isSlip, hm, c1, c2, c3, hxy, hin, tn_i, g9, e16, inx6, bit1, c5, ↓reduceIte, if_true, if_false, eq_self, ite_true, ite_false, Option.bind_some, not_true_eq_false, not_false_eq_true, Bool.false_eq_true]
  have c5 := ne_of_tf c5
  by_cases c6 : u = 20
  · subst c6
    have e9 : (Int32.ofNat 20 = 20) = True := eq_true rfl
    refine ⟨w, ⟨0, 0, -4, w, ?_, ?_⟩, h.same⟩
    · unfold f_X0_part
      rw [gk, Option.bind_some, hR6, Option.bind_some]
      simp (disch := omega) only [ inX, inM, f_X0_isTown, f_X4_isTown, f_X0_isDay, f_X4_isDay, f_X0_isBook, f_X4_isBook, f_X0_isEdition, f_X4_isEdition, f_X0_isCard, f_X4_isCard, f_X0_isPerson, f_X4_isPerson, f_X0_isCopy, f_X0_isTape, f_X4_isTape, f_X0_isBy, f_X4_isTime, f_X0_isDecree, f_X4_isSlip, hx, c1, c2, c3, hxy, hin, inx, tn_i, g1, tb, g7, g9, hR6, hT2, ex, bit1, c5, g8, g10, e9, ↓reduceIte, if_true, if_false, eq_self, ite_true, ite_false, Option.bind_some, not_true_eq_false, not_false_eq_true, Bool.false_eq_true]
    · simp (disch := omega) only [f_X4_part, inX, inM, f_X0_isTown, f_X4_isTown, f_X0_isDay, f_X4_isDay, f_X0_isBook, f_X4_isBook, f_X0_isEdition, f_X4_isEdition, f_X0_isCard, f_X4_isCard, f_X0_isPerson, f_X4_isPerson, f_X0_isCopy, f_X0_isTape, f_X4_isTape, f_X0_isBy, f_X4_isTime, f_X0_isDecree, f_X4_isSlip, hm, c1, c2, c3, hxy, hin, tn_i, g9, e16, inx6, bit1, c5, g10, e9, ↓reduceIte, if_true, if_false, eq_self, ite_true, ite_false, Option.bind_some, not_true_eq_false, not_false_eq_true, Bool.false_eq_true]
  have hne : (Int32.ofNat u = 20) = False := eq_false (fun q => c6 ((i_inj (b := 20) (by omega) (by decide)).mp q))
  have hs1 : Int32.ofNat u + 1 = Int32.ofNat (u + 1) := i_add u 1
  obtain ⟨X, hX⟩ : ∃ X, X = wI w 93 (16 * k + x) ||| (1 : Int32) <<< (Int32.ofNat y &&& 31) := ⟨_, rfl⟩
  obtain ⟨Y, hY⟩ : ∃ Y, Y = wI w 93 (16 * k + y) ||| (1 : Int32) <<< (Int32.ofNat x &&& 31) := ⟨_, rfl⟩
  obtain ⟨w1, hw1⟩ : ∃ w1, w1 = sI (sI (sI w (b + 2) x X) (b + 2) y Y) b 7 (Int32.ofNat (u + 1)) := ⟨_, rfl⟩
  obtain ⟨w2, hw2⟩ : ∃ w2, w2 = sI (sI (sI w1 93 (16 * k + x) X) 93 (16 * k + y) Y) 92 k (Int32.ofNat (u + 1)) := ⟨_, rfl⟩
  refine ⟨w2, ⟨0, 0, Int32.ofNat (u + 1), w1, ?_, ?_⟩, ?_⟩
  · rw [hw1, hX, hY]
    unfold f_X0_part
    rw [gk, Option.bind_some, hR6, Option.bind_some]
    simp (disch := omega) only [ inX, inM, f_X0_isTown, f_X4_isTown, f_X0_isDay, f_X4_isDay, f_X0_isBook, f_X4_isBook, f_X0_isEdition, f_X4_isEdition, f_X0_isCard, f_X4_isCard, f_X0_isPerson, f_X4_isPerson, f_X0_isCopy, f_X0_isTape, f_X4_isTape, f_X0_isBy, f_X4_isTime, f_X0_isDecree, f_X4_isSlip, wI_ne, wI_nf, wI_eq, wI_sR, wI_sL, wI_N, wI_Nz, wR_ne, wR_nf, wR_eq, wR_sI, wR_sL, wR_N, wR_Nz, wL_ne, wL_nf, wL_eq, wL_sI, wL_sR, wL_N, wL_Nz, wT_sI, wT_sR, wT_sL, wT_N, wT_Nz, wZ_sI, wZ_sR, wZ_sL, wZ_sN, wI_sX, wL_sX, wR_sX, wZ_sX, hx, c1, c2, c3, hxy, hin, inx, iny, tn_i, g1, tb, g7, g9, hR6, hT2, ex, ey, bit1, c5, g8, g10, hne, hs1, ↓reduceIte, if_true, if_false, eq_self, ite_true, ite_false, Option.bind_some, not_true_eq_false, not_false_eq_true, Bool.false_eq_true]
  · have em : wI w1 58 2 = Int32.ofNat n := by rw [hw1]; simp (disch := omega) only [wI_ne, wI_nf, wI_eq, wI_sR, wI_sL, wI_N, wI_Nz, wR_ne, wR_nf, wR_eq, wR_sI, wR_sL, wR_N, wR_Nz, wL_ne, wL_nf, wL_eq, wL_sI, wL_sR, wL_N, wL_Nz, wT_sI, wT_sR, wT_sL, wT_N, wT_Nz, wZ_sI, wZ_sR, wZ_sL, wZ_sN, wI_sX, wL_sX, wR_sX, wZ_sX]; exact hm
    have e65 : wI w1 65 k = Int32.ofNat L := by rw [hw1]; simp (disch := omega) only [wI_ne, wI_nf, wI_eq, wI_sR, wI_sL, wI_N, wI_Nz, wR_ne, wR_nf, wR_eq, wR_sI, wR_sL, wR_N, wR_Nz, wL_ne, wL_nf, wL_eq, wL_sI, wL_sR, wL_N, wL_Nz, wT_sI, wT_sR, wT_sL, wT_N, wT_Nz, wZ_sI, wZ_sR, wZ_sL, wZ_sN, wI_sX, wL_sX, wR_sX, wZ_sX]; exact g9
    have e92 : wI w1 92 k = Int32.ofNat u := by rw [hw1]; simp (disch := omega) only [wI_ne, wI_nf, wI_eq, wI_sR, wI_sL, wI_N, wI_Nz, wR_ne, wR_nf, wR_eq, wR_sI, wR_sL, wR_N, wR_Nz, wL_ne, wL_nf, wL_eq, wL_sI, wL_sR, wL_N, wL_Nz, wT_sI, wT_sR, wT_sL, wT_N, wT_Nz, wZ_sI, wZ_sR, wZ_sL, wZ_sN, wI_sX, wL_sX, wR_sX, wZ_sX]; exact g10
    have e93 : ∀ f, wI w1 93 f = wI w 93 f := by intro f; rw [hw1]; simp (disch := omega) only [wI_ne, wI_nf, wI_eq, wI_sR, wI_sL, wI_N, wI_Nz, wR_ne, wR_nf, wR_eq, wR_sI, wR_sL, wR_N, wR_Nz, wL_ne, wL_nf, wL_eq, wL_sI, wL_sR, wL_N, wL_Nz, wT_sI, wT_sR, wT_sL, wT_N, wT_Nz, wZ_sI, wZ_sR, wZ_sL, wZ_sN, wI_sX, wL_sX, wR_sX, wZ_sX]
    rw [hw2, hX, hY]
    simp (disch := omega) only [f_X4_part, inX, inM, f_X0_isTown, f_X4_isTown, f_X0_isDay, f_X4_isDay, f_X0_isBook, f_X4_isBook, f_X0_isEdition, f_X4_isEdition, f_X0_isCard, f_X4_isCard, f_X0_isPerson, f_X4_isPerson, f_X0_isCopy, f_X0_isTape, f_X4_isTape, f_X0_isBy, f_X4_isTime, f_X0_isDecree, f_X4_isSlip, wI_ne, wI_nf, wI_eq, wI_sR, wI_sL, wI_N, wI_Nz, wR_ne, wR_nf, wR_eq, wR_sI, wR_sL, wR_N, wR_Nz, wL_ne, wL_nf, wL_eq, wL_sI, wL_sR, wL_N, wL_Nz, wT_sI, wT_sR, wT_sL, wT_N, wT_Nz, wZ_sI, wZ_sR, wZ_sL, wZ_sN, wI_sX, wL_sX, wR_sX, wZ_sX, em, e65, e92, e93, c1, c2, c3, hxy, hin, tn_i, e16, inx6, iny6, bit1, c5, hne, hs1, ↓reduceIte, if_true, if_false, eq_self, ite_true, ite_false, Option.bind_some, not_true_eq_false, not_false_eq_true, Bool.false_eq_true]
  · have k2 : Kept (BkP w b) w w2 := by
      rw [hw2, hw1]
      exact (((((Kept.rfl'.sI (fun _ hb => hb.2.2 rfl)).sI (fun _ hb => hb.2.2 rfl)).sI (fun _ hb => hb.1.1 (by rw [g2.1.ow]; rfl))).sI (fun _ hb => hb.1.1 rfl)).sI (fun _ hb => hb.1.1 rfl)).sI (fun _ hb => hb.1.1 rfl)
    have hz2 : wZ w2 = wZ w := by rw [hw2, hw1]; rfl
    have hT : ∀ a, wT w2 a = wT w a := by intro a; rw [hw2, hw1]; rfl
    have oR : ∀ a f, wR w2 a f = wR w a f := by intro a f; rw [hw2, hw1]; rfl
    have oI : ∀ a f, 108 ≤ a → a ≠ b → a ≠ b + 2 → wI w2 a f = wI w a f := by
      intro a f q1 q2 q3
      rw [hw2, hw1]
      simp (disch := omega) only [wI_ne, wI_nf, wI_eq, wI_sR, wI_sL, wI_N, wI_Nz, wR_ne, wR_nf, wR_eq, wR_sI, wR_sL, wR_N, wR_Nz, wL_ne, wL_nf, wL_eq, wL_sI, wL_sR, wL_N, wL_Nz, wT_sI, wT_sR, wT_sL, wT_N, wT_Nz, wZ_sI, wZ_sR, wZ_sL, wZ_sN, wI_sX, wL_sX, wR_sX, wZ_sX]
    have oB : ∀ f, f ≠ 7 → wI w2 b f = wI w b f := by intro f q; rw [hw2, hw1]; simp (disch := omega) only [wI_ne, wI_nf, wI_eq, wI_sR, wI_sL, wI_N, wI_Nz, wR_ne, wR_nf, wR_eq, wR_sI, wR_sL, wR_N, wR_Nz, wL_ne, wL_nf, wL_eq, wL_sI, wL_sR, wL_N, wL_Nz, wT_sI, wT_sR, wT_sL, wT_N, wT_Nz, wZ_sI, wZ_sR, wZ_sL, wZ_sN, wI_sX, wL_sX, wR_sX, wZ_sX]
    have e93 : ∀ f, f ≠ 16 * k + x → f ≠ 16 * k + y → wI w2 93 f = wI w 93 f := by intro f q q'; rw [hw2, hw1]; simp (disch := omega) only [wI_ne, wI_nf, wI_eq, wI_sR, wI_sL, wI_N, wI_Nz, wR_ne, wR_nf, wR_eq, wR_sI, wR_sL, wR_N, wR_Nz, wL_ne, wL_nf, wL_eq, wL_sI, wL_sR, wL_N, wL_Nz, wT_sI, wT_sR, wT_sL, wT_N, wT_Nz, wZ_sI, wZ_sR, wZ_sL, wZ_sN, wI_sX, wL_sX, wR_sX, wZ_sX]
    have e93x : wI w2 93 (16 * k + x) = X := by rw [hw2, hw1]; simp (disch := omega) only [wI_ne, wI_nf, wI_eq, wI_sR, wI_sL, wI_N, wI_Nz, wR_ne, wR_nf, wR_eq, wR_sI, wR_sL, wR_N, wR_Nz, wL_ne, wL_nf, wL_eq, wL_sI, wL_sR, wL_N, wL_Nz, wT_sI, wT_sR, wT_sL, wT_N, wT_Nz, wZ_sI, wZ_sR, wZ_sL, wZ_sN, wI_sX, wL_sX, wR_sX, wZ_sX]
    have e93y : wI w2 93 (16 * k + y) = Y := by rw [hw2, hw1]; simp (disch := omega) only [wI_ne, wI_nf, wI_eq, wI_sR, wI_sL, wI_N, wI_Nz, wR_ne, wR_nf, wR_eq, wR_sI, wR_sL, wR_N, wR_Nz, wL_ne, wL_nf, wL_eq, wL_sI, wL_sR, wL_N, wL_Nz, wT_sI, wT_sR, wT_sL, wT_N, wT_Nz, wZ_sI, wZ_sR, wZ_sL, wZ_sN, wI_sX, wL_sX, wR_sX, wZ_sX]
    have e92 : ∀ f, f ≠ k → wI w2 92 f = wI w 92 f := by intro f q; rw [hw2, hw1]; simp (disch := omega) only [wI_ne, wI_nf, wI_eq, wI_sR, wI_sL, wI_N, wI_Nz, wR_ne, wR_nf, wR_eq, wR_sI, wR_sL, wR_N, wR_Nz, wL_ne, wL_nf, wL_eq, wL_sI, wL_sR, wL_N, wL_Nz, wT_sI, wT_sR, wT_sL, wT_N, wT_Nz, wZ_sI, wZ_sR, wZ_sL, wZ_sN, wI_sX, wL_sX, wR_sX, wZ_sX]
    have eo : ∀ c f, c = 62 ∨ c = 63 ∨ c = 64 ∨ c = 65 ∨ c = 66 → wI w2 c f = wI w c f := by
      intro c f q
      rw [hw2, hw1]
      simp (disch := omega) only [wI_ne, wI_nf, wI_eq, wI_sR, wI_sL, wI_N, wI_Nz, wR_ne, wR_nf, wR_eq, wR_sI, wR_sL, wR_N, wR_Nz, wL_ne, wL_nf, wL_eq, wL_sI, wL_sR, wL_N, wL_Nz, wT_sI, wT_sR, wT_sL, wT_N, wT_Nz, wZ_sI, wZ_sR, wZ_sL, wZ_sN, wI_sX, wL_sX, wR_sX, wZ_sX]
    have hX16 : H16 X := by rw [hX]; exact (hb k x (by omega) (by omega)).2.or (H16.sh (by omega))
    have hY16 : H16 Y := by rw [hY]; exact (hb k y (by omega) (by omega)).2.or (H16.sh (by omega))
    have bX : ∀ i, i < 16 → bt X i = (bt (wI w 93 (16 * k + x)) i || decide (i = y)) := by intro i hi; rw [hX, b_or, sh1 (by omega) (by omega)]
    have bY : ∀ i, i < 16 → bt Y i = (bt (wI w 93 (16 * k + y)) i || decide (i = x)) := by intro i hi; rw [hY, b_or, sh1 (by omega) (by omega)]
    refine Inv.m4 (BkP.rest h g2 k2 hz2) ⟨n, hn, ?_, ?_, fun i hi => ?_, fun i q1 q2 => ?_, fun i l q1 q2 => ?_, fun i x' y' q1 q2 q3 => ?_, fun a ha => ?_⟩ (by have := h.2.1; omega)
    · rw [hw2, hw1]; simp (disch := omega) only [wI_ne, wI_nf, wI_eq, wI_sR, wI_sL, wI_N, wI_Nz, wR_ne, wR_nf, wR_eq, wR_sI, wR_sL, wR_N, wR_Nz, wL_ne, wL_nf, wL_eq, wL_sI, wL_sR, wL_N, wL_Nz, wT_sI, wT_sR, wT_sL, wT_N, wT_Nz, wZ_sI, wZ_sR, wZ_sL, wZ_sN, wI_sX, wL_sX, wR_sX, wZ_sX]; exact hx
    · rw [hw2, hw1]; simp (disch := omega) only [wI_ne, wI_nf, wI_eq, wI_sR, wI_sL, wI_N, wI_Nz, wR_ne, wR_nf, wR_eq, wR_sI, wR_sL, wR_N, wR_Nz, wL_ne, wL_nf, wL_eq, wL_sI, wL_sR, wL_N, wL_Nz, wT_sI, wT_sR, wT_sL, wT_N, wT_Nz, wZ_sI, wZ_sR, wZ_sL, wZ_sN, wI_sX, wL_sX, wR_sX, wZ_sX]; exact hm
    · have bkk : ∀ a, BkO w a → BkO w2 a := fun a q => by unfold BkO Dy; simp only [hz2, hT, oR]; exact q
      by_cases q : i = k
      · subst q
        refine ⟨b, by rw [oR]; exact g1, bkk b g2, ?_⟩
        simp only [eo 62 _ (by omega), eo 63 _ (by omega), eo 64 _ (by omega), eo 65 _ (by omega), eo 66 _ (by omega), oB 0 (by decide), oB 1 (by decide), oB 2 (by decide), oB 3 (by decide), oB 5 (by decide)]
        refine ⟨g3, g4, g5, g6, g7, ?_, ⟨L, hL, g9⟩, ⟨u + 1, by omega, ?_⟩, g11, g12, g13, fun l hl => ?_⟩
        · rw [hw2, hw1]; simp (disch := omega) only [wI_ne, wI_nf, wI_eq, wI_sR, wI_sL, wI_N, wI_Nz, wR_ne, wR_nf, wR_eq, wR_sI, wR_sL, wR_N, wR_Nz, wL_ne, wL_nf, wL_eq, wL_sI, wL_sR, wL_N, wL_Nz, wT_sI, wT_sR, wT_sL, wT_N, wT_Nz, wZ_sI, wZ_sR, wZ_sL, wZ_sN, wI_sX, wL_sX, wR_sX, wZ_sX]
        · rw [hw2, hw1]; simp (disch := omega) only [wI_ne, wI_nf, wI_eq, wI_sR, wI_sL, wI_N, wI_Nz, wR_ne, wR_nf, wR_eq, wR_sI, wR_sL, wR_N, wR_Nz, wL_ne, wL_nf, wL_eq, wL_sI, wL_sR, wL_N, wL_Nz, wT_sI, wT_sR, wT_sL, wT_N, wT_Nz, wZ_sI, wZ_sR, wZ_sL, wZ_sN, wI_sX, wL_sX, wR_sX, wZ_sX]
        · rw [oI (b + 1) l (by omega) (by omega) (by omega)]
          refine ⟨(g14 l hl).1, ?_⟩
          by_cases ql : l = y
          · subst ql
            rw [e93y, hw2, hw1]; simp (disch := omega) only [wI_ne, wI_nf, wI_eq, wI_sR, wI_sL, wI_N, wI_Nz, wR_ne, wR_nf, wR_eq, wR_sI, wR_sL, wR_N, wR_Nz, wL_ne, wL_nf, wL_eq, wL_sI, wL_sR, wL_N, wL_Nz, wT_sI, wT_sR, wT_sL, wT_N, wT_Nz, wZ_sI, wZ_sR, wZ_sL, wZ_sN, wI_sX, wL_sX, wR_sX, wZ_sX]
          · by_cases qm : l = x
            · subst qm
              rw [e93x, hw2, hw1]; simp (disch := omega) only [wI_ne, wI_nf, wI_eq, wI_sR, wI_sL, wI_N, wI_Nz, wR_ne, wR_nf, wR_eq, wR_sI, wR_sL, wR_N, wR_Nz, wL_ne, wL_nf, wL_eq, wL_sI, wL_sR, wL_N, wL_Nz, wT_sI, wT_sR, wT_sL, wT_N, wT_Nz, wZ_sI, wZ_sR, wZ_sL, wZ_sN, wI_sX, wL_sX, wR_sX, wZ_sX]
            · rw [e93 _ (by omega) (by omega), ← (g14 l hl).2, hw2, hw1]; simp (disch := omega) only [wI_ne, wI_nf, wI_eq, wI_sR, wI_sL, wI_N, wI_Nz, wR_ne, wR_nf, wR_eq, wR_sI, wR_sL, wR_N, wR_Nz, wL_ne, wL_nf, wL_eq, wL_sI, wL_sR, wL_N, wL_Nz, wT_sI, wT_sR, wT_sL, wT_N, wT_Nz, wZ_sI, wZ_sR, wZ_sL, wZ_sN, wI_sX, wL_sX, wR_sX, wZ_sX]
      · obtain ⟨a, f1, f2, f3, f4⟩ := hk i hi
        have hne := Boo.is hn hi hk1 f3 g3 q
        obtain ⟨p1, p2, p3, p4, p5, p6, p7, p8⟩ := bk_apart h.boo g2 f2 (Ne.symm hne)
        have := f2.1.1
        refine ⟨a, by rw [oR]; exact f1, bkk a f2, ?_⟩
        simp only [eo 62 _ (by omega), eo 63 _ (by omega), eo 64 _ (by omega), eo 65 _ (by omega), eo 66 _ (by omega), e92 i q, oI a _ (by omega) hne p2, oI (a + 1) _ (by omega) p7 p4, oI (a + 2) _ (by omega) p8 p6]
        refine ⟨f3, f4.1, f4.2.1, f4.2.2.1, f4.2.2.2.1, f4.2.2.2.2.1, f4.2.2.2.2.2.1, f4.2.2.2.2.2.2.1, f4.2.2.2.2.2.2.2.1, f4.2.2.2.2.2.2.2.2.1, f4.2.2.2.2.2.2.2.2.2.1, fun l hl => ?_⟩
        rw [e93 _ (by omega) (by omega)]
        exact f4.2.2.2.2.2.2.2.2.2.2 l hl
    · rw [e92 _ (by omega)]
      refine ⟨(h0 i q1 q2).1, fun l hl => ?_⟩
      rw [eo 66 _ (by omega), e93 _ (by omega) (by omega)]
      exact (h0 i q1 q2).2 l hl
    · rw [eo 66 _ (by omega)]
      refine ⟨(hb i l q1 q2).1, ?_⟩
      by_cases q : 16 * i + l = 16 * k + y
      · rw [q, e93y]
        exact hY16
      · by_cases q' : 16 * i + l = 16 * k + x
        · rw [q', e93x]
          exact hX16
        · rw [e93 _ q' q]
          exact (hb i l q1 q2).2
    · have r : ∀ l m, l < 16 → m < 16 → bt (wI w2 93 (16 * i + l)) m = (bt (wI w 93 (16 * i + l)) m || (decide (i = k) && ((decide (l = x) && decide (m = y)) || (decide (l = y) && decide (m = x))))) := by
        intro l m hl hm9
        by_cases q : i = k
        · subst q
          by_cases ql : l = y
          · subst ql
            rw [e93y, bY m hm9, decide_eq_true (rfl : i = i), decide_eq_true (rfl : l = l), decide_eq_false (show ¬ l = x from fun e => c4 e.symm)]
            simp
          · by_cases qm : l = x
            · subst qm
              rw [e93x, bX m hm9, decide_eq_true (rfl : i = i), decide_eq_true (rfl : l = l), decide_eq_false ql]
              simp
            · rw [e93 _ (by omega) (by omega), decide_eq_false ql, decide_eq_false qm]
              simp
        · rw [e93 _ (by omega) (by omega), decide_eq_false q]
          simp
      rw [r x' y' q2 q3, r y' x' q3 q2, hs i x' y' q1 q2 q3, Bool.and_comm (decide (y' = x)), Bool.and_comm (decide (y' = y)), Bool.or_comm (decide (x' = y) && decide (y' = x))]
    · have ha' : Dy w a 7 := by unfold Dy at ha ⊢; rw [hz2, hT] at ha; exact ha
      obtain ⟨i, q1, q2⟩ := hr a ha'
      exact ⟨i, q1, by rw [oR]; exact q2⟩
