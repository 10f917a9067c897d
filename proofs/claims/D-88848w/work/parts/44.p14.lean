/-! PURE PART: mend, taken -/
theorem exc_T (w : Wd) (k t a : Nat) : wT (sN (sX w k) t 0) a = if a = wZ w + k then (t, 0) else if wZ w ≤ a then (0, 0) else wT w a := rfl
theorem exc_inv {j : Nat} {w : Wd} {k t : Nat} (h : Inv j w) (h7 : t ≠ 7) (h8 : t ≠ 8) (hk : k + 1 ≤ 1200) : Inv (j + 1) (sN (sX w k) t 0) := by
  have nn : ∀ t', t' ≠ t → t' ≠ 0 → NoNew w (sN (sX w k) t 0) t' := by
    intro t' q1 q2 a ha hd
    have h2 := hd.2.2
    rw [exc_T] at h2
    split at h2
    · exact q1 h2.symm
    · exact q2 (by first | exact h2.symm | (rw [if_pos ha] at h2; exact h2.symm))
  exact Inv.m0 (h.rest' ((Kept.rfl'.sX k).sN t 0) (fun _ => nn 7 (Ne.symm h7) (by decide)) (fun _ => nn 8 (Ne.symm h8) (by decide)) (by decide)) (by have := h.2.1; show wZ w + k + 1 ≤ _; omega)
theorem exc_I {w : Wd} {k t a f : Nat} (hz : 108 ≤ wZ w) (ha : a < 108) : wI (sN (sX w k) t 0) a f = wI w a f := by rw [wI_N _ (by show a ≠ wZ w + k; omega)]; rfl
theorem exc_R {w : Wd} {k t a f : Nat} (hz : 108 ≤ wZ w) (ha : a < 108) : wR (sN (sX w k) t 0) a f = wR w a f := by rw [wR_N _ (by show a ≠ wZ w + k; omega)]; rfl
theorem exc_L {w : Wd} {k t a f : Nat} (hz : 108 ≤ wZ w) (ha : a < 108) : wL (sN (sX w k) t 0) a f = wL w a f := by rw [wL_N _ (by show a ≠ wZ w + k; omega)]; rfl
theorem st_9 {j : Nat} {w : Wd} {a1 a2 a3 a4 a5 : Int32} (h : Inv j w) : ∃ w2, okc_9 a1 a2 a3 a4 a5 w w2 ∧ Inv (j + 1) w2 := by
  obtain ⟨n, hn, hx, hm, hk, h0⟩ := id h.car
  have hz := h.z8
  by_cases c1 : inB a1 0 (Int32.ofNat n - 1) = true
  rotate_left
  · have c1 := ne_of_tf c1
    refine ⟨w, ⟨0, 0, -1, w, ⟨?_, Nat.le_add_right _ _⟩, ?_⟩, h.same⟩
    · simp only [f_X0_mend, inX, inM, f_X0_isTown, f_X4_isTown, f_X0_isDay, f_X4_isDay, f_X0_isBook, f_X4_isBook, f_X0_isEdition, f_X4_isEdition, f_X0_isCard, f_X4_isCard, f_X0_isPerson, f_X4_isPerson, f_X0_isCopy, f_X0_isTape, f_X4_isTape, f_X0_isBy, f_X4_isTime, f_X0_isDecree, f_X4_isSlip, hx, hm, c1, ↓reduceIte, if_true, if_false, eq_self, ite_true, ite_false, Option.bind_some, not_true_eq_false, not_false_eq_true, Bool.false_eq_true]
    · simp only [f_X4_mend, inX, inM, f_X0_isTown, f_X4_isTown, f_X0_isDay, f_X4_isDay, f_X0_isBook, f_X4_isBook, f_X0_isEdition, f_X4_isEdition, f_X0_isCard, f_X4_isCard, f_X0_isPerson, f_X4_isPerson, f_X0_isCopy, f_X0_isTape, f_X4_isTape, f_X0_isBy, f_X4_isTime, f_X0_isDecree, f_X4_isSlip, hx, hm, c1, ↓reduceIte, if_true, if_false, eq_self, ite_true, ite_false, Option.bind_some, not_true_eq_false, not_false_eq_true, Bool.false_eq_true]
  by_cases c2 : inB a2 0 99 = true
  rotate_left
  · have c2 := ne_of_tf c2
    refine ⟨w, ⟨0, 0, -2, w, ⟨?_, Nat.le_add_right _ _⟩, ?_⟩, h.same⟩
    · simp only [f_X0_mend, inX, inM, f_X0_isTown, f_X4_isTown, f_X0_isDay, f_X4_isDay, f_X0_isBook, f_X4_isBook, f_X0_isEdition, f_X4_isEdition, f_X0_isCard, f_X4_isCard, f_X0_isPerson, f_X4_isPerson, f_X0_isCopy, f_X0_isTape, f_X4_isTape, f_X0_isBy, f_X4_isTime, f_X0_isDecree, f_X4_isSlip, hx, hm, c1, c2, ↓reduceIte, if_true, if_false, eq_self, ite_true, ite_false, Option.bind_some, not_true_eq_false, not_false_eq_true, Bool.false_eq_true]
    · simp only [f_X4_mend, inX, inM, f_X0_isTown, f_X4_isTown, f_X0_isDay, f_X4_isDay, f_X0_isBook, f_X4_isBook, f_X0_isEdition, f_X4_isEdition, f_X0_isCard, f_X4_isCard, f_X0_isPerson, f_X4_isPerson, f_X0_isCopy, f_X0_isTape, f_X4_isTape, f_X0_isBy, f_X4_isTime, f_X0_isDecree, f_X4_isSlip, hx, hm, c1, c2, ↓reduceIte, if_true, if_false, eq_self, ite_true, ite_false, Option.bind_some, not_true_eq_false, not_false_eq_true, Bool.false_eq_true]
  obtain ⟨k, hk1, rfl⟩ := inB_lt (by omega) c1
  obtain ⟨m, -, hm1, rfl⟩ := inB_bd (lo := 0) (hi := 99) (by decide) (by decide) c2
  obtain ⟨a, c, g1, g2, g3, g4, g5, g6, g7, g8, g9, v, u, hu, hv, g10, g11⟩ := id (hk k hk1)
  have hin : inb (Int32.ofNat k) 50 = True := inb_t (by omega) (by decide)
  have ga : wR w 13 (Int32.ofNat k).toNatClampNeg = some a := by rw [tn_i (by omega)]; exact g1
  have ta := g3.2.2
  have qa := g3.1
  have qz := g3.2.1
  have tg := ctag_bd g2
  have tg1 : (9 ≤ ctag c ∧ ctag c ≤ 15) = True := eq_true tg
  have co : (cardOk w (some a) = true) = True := by show (decide (9 ≤ (wT w a).1 ∧ (wT w a).1 ≤ 15) = true) = True; rw [ta]; exact eq_true (decide_eq_true tg)
  have km := kind_M (w := w) (k := k) (c := c) (by omega) g8
  by_cases c3 : c = 3 ∨ c = 4
  rotate_left
  · have cc : (castOk w (some a) [12, 15] = false) = True := by
      show ([12, 15].contains (wT w a).1 = false) = True
      rw [ta]
      rcases (show c = 0 ∨ c = 1 ∨ c = 2 ∨ c = 5 ∨ c = 6 by omega) with rfl | rfl | rfl | rfl | rfl <;> exact eq_true rfl
    have z3 : (wZ w + 3 ≤ wZ w + 1200) = True := eq_true (by omega)
    have e3 : (Int32.ofNat c = 3) = False := eq_false (fun q => c3 (Or.inl ((i_inj (b := 3) (by omega) (by decide)).mp q)))
    have km' : f_X4_kindOf (Int32.ofNat k) (sN (sX w 2) 28 0) = some (Int32.ofNat c) := kind_M (by omega) (by rw [exc_I hz (by decide), exc_I hz (by decide)]; exact g8)
    refine ⟨sN (sX w 2) 28 0, ⟨0, 0, -12, sN (sX w 2) 28 0, ⟨?_, ?_⟩, ?_⟩, exc_inv h (by decide) (by decide) (by decide)⟩
    · unfold f_X0_mend
      rw [ga]
      simp only [inX, inM, f_X0_isTown, f_X4_isTown, f_X0_isDay, f_X4_isDay, f_X0_isBook, f_X4_isBook, f_X0_isEdition, f_X4_isEdition, f_X0_isCard, f_X4_isCard, f_X0_isPerson, f_X4_isPerson, f_X0_isCopy, f_X0_isTape, f_X4_isTape, f_X0_isBy, f_X4_isTime, f_X0_isDecree, f_X4_isSlip, hx, c1, c2, hin, co, cc, z3, ↓reduceIte, if_true, if_false, eq_self, ite_true, ite_false, Option.bind_some, not_true_eq_false, not_false_eq_true, Bool.false_eq_true]
    · show wZ w + 2 + 1 ≤ _
      omega
    · unfold f_X4_mend
      rw [km', Option.bind_some]
      simp only [inX, inM, f_X0_isTown, f_X4_isTown, f_X0_isDay, f_X4_isDay, f_X0_isBook, f_X4_isBook, f_X0_isEdition, f_X4_isEdition, f_X0_isCard, f_X4_isCard, f_X0_isPerson, f_X4_isPerson, f_X0_isCopy, f_X0_isTape, f_X4_isTape, f_X0_isBy, f_X4_isTime, f_X0_isDecree, f_X4_isSlip, exc_I hz (show 58 < 108 by decide), hm, c1, c2, e3, ↓reduceIte, if_true, if_false, eq_self, ite_true, ite_false, Option.bind_some, not_true_eq_false, not_false_eq_true, Bool.false_eq_true]
  have cc : (castOk w (some a) [12, 15] = false) = False := by
    show ([12, 15].contains (wT w a).1 = false) = False
    rw [ta]
    rcases c3 with rfl | rfl <;> exact eq_false (by decide)
  by_cases c4 : c = 4
  · subst c4
    have e3 : (Int32.ofNat 4 = 3) = False := eq_false (by decide)
    have t15 : decide ((wT w a).1 = 15) = true := decide_eq_true ta
    refine ⟨w, ⟨0, 0, -12, w, ⟨?_, Nat.le_add_right _ _⟩, ?_⟩, h.same⟩
    · unfold f_X0_mend
      rw [ga, Option.bind_some, ta]
      simp only [inX, inM, f_X0_isTown, f_X4_isTown, f_X0_isDay, f_X4_isDay, f_X0_isBook, f_X4_isBook, f_X0_isEdition, f_X4_isEdition, f_X0_isCard, f_X4_isCard, f_X0_isPerson, f_X4_isPerson, f_X0_isCopy, f_X0_isTape, f_X4_isTape, f_X0_isBy, f_X4_isTime, f_X0_isDecree, f_X4_isSlip, hx, c1, c2, hin, co, cc, tg1, show (ctag 4 = 15) = True from eq_true rfl, decide_true, ↓reduceIte, if_true, if_false, eq_self, ite_true, ite_false, Option.bind_some, not_true_eq_false, not_false_eq_true, Bool.false_eq_true]
    · unfold f_X4_mend
      rw [km, Option.bind_some]
      simp only [inX, inM, f_X0_isTown, f_X4_isTown, f_X0_isDay, f_X4_isDay, f_X0_isBook, f_X4_isBook, f_X0_isEdition, f_X4_isEdition, f_X0_isCard, f_X4_isCard, f_X0_isPerson, f_X4_isPerson, f_X0_isCopy, f_X0_isTape, f_X4_isTape, f_X0_isBy, f_X4_isTime, f_X0_isDecree, f_X4_isSlip, hm, c1, c2, e3, ↓reduceIte, if_true, if_false, eq_self, ite_true, ite_false, Option.bind_some, not_true_eq_false, not_false_eq_true, Bool.false_eq_true]
  have c3 : c = 3 := by omega
  subst c3
  have g9 := g9 rfl
  have e3 : (Int32.ofNat 3 = 3) = True := eq_true rfl
  have t12 : (wT w a).1 = 12 := ta
  have i77 : wI w 77 k = 0 := by rcases g8 with q | q; exact q.2.1; exact absurd q.1 (by decide)
  have i72 : wI w 72 k = Int32.ofNat 3 := by rcases g8 with q | q; exact q.2.2; exact absurd q.1 (by decide)
  have ele : (Int32.ofNat (u + m) ≤ Int32.ofNat v) = (u + m ≤ v) := propext (i_le (by omega) (by omega))
  have eeq : (Int32.ofNat (u + m) = Int32.ofNat v) = (u + m = v) := propext (i_inj (by omega) (by omega))
  by_cases c5 : u + m ≤ v
  rotate_left
  · refine ⟨w, ⟨0, 0, -3, w, ⟨?_, Nat.le_add_right _ _⟩, ?_⟩, h.same⟩
    · unfold f_X0_mend
      rw [ga, Option.bind_some, t12]
      simp only [inX, inM, f_X0_isTown, f_X4_isTown, f_X0_isDay, f_X4_isDay, f_X0_isBook, f_X4_isBook, f_X0_isEdition, f_X4_isEdition, f_X0_isCard, f_X4_isCard, f_X0_isPerson, f_X4_isPerson, f_X0_isCopy, f_X0_isTape, f_X4_isTape, f_X0_isBy, f_X4_isTime, f_X0_isDecree, f_X4_isSlip, hx, c1, c2, hin, co, cc, show (9 ≤ 12 ∧ 12 ≤ 15) = True from eq_true (by decide), show decide (12 = 15) = false from rfl, g9, g11, g7, g10, i_add, ele, eq_false c5, ↓reduceIte, if_true, if_false, eq_self, ite_true, ite_false, Option.bind_some, not_true_eq_false, not_false_eq_true, Bool.false_eq_true]
    · unfold f_X4_mend
      rw [km, Option.bind_some]
      simp (disch := omega) only [inX, inM, f_X0_isTown, f_X4_isTown, f_X0_isDay, f_X4_isDay, f_X0_isBook, f_X4_isBook, f_X0_isEdition, f_X4_isEdition, f_X0_isCard, f_X4_isCard, f_X0_isPerson, f_X4_isPerson, f_X0_isCopy, f_X0_isTape, f_X4_isTape, f_X0_isBy, f_X4_isTime, f_X0_isDecree, f_X4_isSlip, hm, c1, c2, e3, hin, tn_i, g11, g10, i_add, ele, eq_false c5, ↓reduceIte, if_true, if_false, eq_self, ite_true, ite_false, Option.bind_some, not_true_eq_false, not_false_eq_true, Bool.false_eq_true]
  -- other cards are other objects
  have oth : ∀ i, i ≠ k → i < n → ∀ a', wI w a' 1 = Int32.ofNat i → a' ≠ a := by
    intro i q1 q2 a' q3 e
    subst e
    rw [g5] at q3
    exact q1 ((i_inj (by omega) (by omega)).mp q3).symm
  by_cases c6 : u + m = v
  · obtain ⟨w1, hw1⟩ : ∃ w1, w1 = sR (sI (sI (sI (sR (sN (sI w a 4 (Int32.ofNat (u + m))) 15 0) (wZ w) 0 (some 14)) (wZ w) 1 (Int32.ofNat k)) (wZ w) 2 (wI w 73 k)) (wZ w) 3 (Int32.ofNat v)) 13 k (some (wZ w)) := ⟨_, rfl⟩
    obtain ⟨w2, hw2⟩ : ∃ w2, w2 = sI (sI w1 75 k (Int32.ofNat (u + m))) 77 k 1 := ⟨_, rfl⟩
    have z1 : (wZ w + 1 ≤ wZ w + 1200) = True := eq_true (by omega)
    have z2 : (wZ w + 1 ≤ wZ w + 1 ∧ wZ w + 1 ≤ wZ w + 1200) = True := eq_true (by omega)
    have hz8 : (108 ≤ wZ w) = True := eq_true hz
    have fi : f_X14_init (wZ (sI w a 4 (Int32.ofNat (u + m)))) (some a) (sN (sI w a 4 (Int32.ofNat (u + m))) 15 0) = some (sI (sI (sI (sR (sN (sI w a 4 (Int32.ofNat (u + m))) 15 0) (wZ w) 0 (some 14)) (wZ w) 1 (Int32.ofNat k)) (wZ w) 2 (wI w 73 k)) (wZ w) 3 (Int32.ofNat v)) := by
      unfold f_X14_init f_X11_init f_X9_init f_X8_init
      rw [Option.bind_some]
      simp (disch := first | omega | (simp only [wZ_sI, wZ_sR, wZ_sL, wZ_sN, wZ_sX]; done) | (simp only [wZ_sI, wZ_sR, wZ_sL, wZ_sN, wZ_sX]; omega)) only [wI_ne, wI_nf, wI_eq, wI_sR, wI_sL, wI_N, wI_Ne, wR_ne, wR_nf, wR_eq, wR_sI, wR_sL, wR_N, wR_Ne, wL_ne, wL_nf, wL_eq, wL_sI, wL_sR, wL_N, wL_Ne, wT_sI, wT_sR, wT_sL, wT_N, wT_Ne, wZ_sI, wZ_sR, wZ_sL, wZ_sN, wI_sX, wL_sX, wR_sX, wZ_sX, t12, g4, g5, g6, g7, g10, hz8, show (9 ≤ 12 ∧ 12 ≤ 15) = True from eq_true (by decide), ↓reduceIte, if_true, if_false, eq_self, ite_true, ite_false, Option.bind_some, not_true_eq_false, not_false_eq_true, Bool.false_eq_true]
    refine ⟨w2, ⟨0, 0, Int32.ofNat (u + m), w1, ⟨?_, ?_⟩, ?_⟩, ?_⟩
    · rw [hw1]
      unfold f_X0_mend
      rw [ga, Option.bind_some, g9, g11, i_add, fi, Option.bind_some, t12]
      simp (disch := first | omega | (simp only [wZ_sI, wZ_sR, wZ_sL, wZ_sN, wZ_sX]; done) | (simp only [wZ_sI, wZ_sR, wZ_sL, wZ_sN, wZ_sX]; omega)) only [inX, inM, f_X0_isTown, f_X4_isTown, f_X0_isDay, f_X4_isDay, f_X0_isBook, f_X4_isBook, f_X0_isEdition, f_X4_isEdition, f_X0_isCard, f_X4_isCard, f_X0_isPerson, f_X4_isPerson, f_X0_isCopy, f_X0_isTape, f_X4_isTape, f_X0_isBy, f_X4_isTime, f_X0_isDecree, f_X4_isSlip, wI_ne, wI_nf, wI_eq, wI_sR, wI_sL, wI_N, wI_Ne, wR_ne, wR_nf, wR_eq, wR_sI, wR_sL, wR_N, wR_Ne, wL_ne, wL_nf, wL_eq, wL_sI, wL_sR, wL_N, wL_Ne, wT_sI, wT_sR, wT_sL, wT_N, wT_Ne, wZ_sI, wZ_sR, wZ_sL, wZ_sN, wI_sX, wL_sX, wR_sX, wZ_sX, hx, c1, c2, hin, co, cc, show (9 ≤ 12 ∧ 12 ≤ 15) = True from eq_true (by decide), show decide (12 = 15) = false from rfl, show (9 ≤ 15 ∧ 15 ≤ 15) = True from eq_true (by decide), g7, g10, ele, eeq, eq_true c5, eq_true c6, t12, z1, z2, tn_i, ↓reduceIte, if_true, if_false, eq_self, ite_true, ite_false, Option.bind_some, not_true_eq_false, not_false_eq_true, Bool.false_eq_true]
      rw [if_pos ⟨Nat.le_refl _, trivial⟩, show wT (sN (sI w a 4 (Int32.ofNat (u + m))) 15 0) (wZ w) = (15, 0) from wT_Ne _ rfl, if_pos (by decide)]
    · rw [hw1]
      show wZ w + 1 ≤ _
      omega
    · have em : wI w1 58 17 = Int32.ofNat n := by rw [hw1]; simp (disch := first | omega | (simp only [wZ_sI, wZ_sR, wZ_sL, wZ_sN, wZ_sX]; done) | (simp only [wZ_sI, wZ_sR, wZ_sL, wZ_sN, wZ_sX]; omega)) only [wI_ne, wI_nf, wI_eq, wI_sR, wI_sL, wI_N, wI_Ne, wR_ne, wR_nf, wR_eq, wR_sI, wR_sL, wR_N, wR_Ne, wL_ne, wL_nf, wL_eq, wL_sI, wL_sR, wL_N, wL_Ne, wT_sI, wT_sR, wT_sL, wT_N, wT_Ne, wZ_sI, wZ_sR, wZ_sL, wZ_sN, wI_sX, wL_sX, wR_sX, wZ_sX]; exact hm
      have e75 : wI w1 75 k = Int32.ofNat u := by rw [hw1]; simp (disch := first | omega | (simp only [wZ_sI, wZ_sR, wZ_sL, wZ_sN, wZ_sX]; done) | (simp only [wZ_sI, wZ_sR, wZ_sL, wZ_sN, wZ_sX]; omega)) only [wI_ne, wI_nf, wI_eq, wI_sR, wI_sL, wI_N, wI_Ne, wR_ne, wR_nf, wR_eq, wR_sI, wR_sL, wR_N, wR_Ne, wL_ne, wL_nf, wL_eq, wL_sI, wL_sR, wL_N, wL_Ne, wT_sI, wT_sR, wT_sL, wT_N, wT_Ne, wZ_sI, wZ_sR, wZ_sL, wZ_sN, wI_sX, wL_sX, wR_sX, wZ_sX]; exact g11
      have e74 : wI w1 74 k = Int32.ofNat v := by rw [hw1]; simp (disch := first | omega | (simp only [wZ_sI, wZ_sR, wZ_sL, wZ_sN, wZ_sX]; done) | (simp only [wZ_sI, wZ_sR, wZ_sL, wZ_sN, wZ_sX]; omega)) only [wI_ne, wI_nf, wI_eq, wI_sR, wI_sL, wI_N, wI_Ne, wR_ne, wR_nf, wR_eq, wR_sI, wR_sL, wR_N, wR_Ne, wL_ne, wL_nf, wL_eq, wL_sI, wL_sR, wL_N, wL_Ne, wT_sI, wT_sR, wT_sL, wT_N, wT_Ne, wZ_sI, wZ_sR, wZ_sL, wZ_sN, wI_sX, wL_sX, wR_sX, wZ_sX]; exact g10
      have km' : f_X4_kindOf (Int32.ofNat k) w1 = some (Int32.ofNat 3) := kind_M (by omega) (Or.inl ⟨by decide, by rw [hw1]; simp (disch := first | omega | (simp only [wZ_sI, wZ_sR, wZ_sL, wZ_sN, wZ_sX]; done) | (simp only [wZ_sI, wZ_sR, wZ_sL, wZ_sN, wZ_sX]; omega)) only [wI_ne, wI_nf, wI_eq, wI_sR, wI_sL, wI_N, wI_Ne, wR_ne, wR_nf, wR_eq, wR_sI, wR_sL, wR_N, wR_Ne, wL_ne, wL_nf, wL_eq, wL_sI, wL_sR, wL_N, wL_Ne, wT_sI, wT_sR, wT_sL, wT_N, wT_Ne, wZ_sI, wZ_sR, wZ_sL, wZ_sN, wI_sX, wL_sX, wR_sX, wZ_sX]; exact i77, by rw [hw1]; simp (disch := first | omega | (simp only [wZ_sI, wZ_sR, wZ_sL, wZ_sN, wZ_sX]; done) | (simp only [wZ_sI, wZ_sR, wZ_sL, wZ_sN, wZ_sX]; omega)) only [wI_ne, wI_nf, wI_eq, wI_sR, wI_sL, wI_N, wI_Ne, wR_ne, wR_nf, wR_eq, wR_sI, wR_sL, wR_N, wR_Ne, wL_ne, wL_nf, wL_eq, wL_sI, wL_sR, wL_N, wL_Ne, wT_sI, wT_sR, wT_sL, wT_N, wT_Ne, wZ_sI, wZ_sR, wZ_sL, wZ_sN, wI_sX, wL_sX, wR_sX, wZ_sX]; exact i72⟩)
      rw [hw2]
      unfold f_X4_mend
      rw [km', Option.bind_some]
      simp (disch := omega) only [inX, inM, f_X0_isTown, f_X4_isTown, f_X0_isDay, f_X4_isDay, f_X0_isBook, f_X4_isBook, f_X0_isEdition, f_X4_isEdition, f_X0_isCard, f_X4_isCard, f_X0_isPerson, f_X4_isPerson, f_X0_isCopy, f_X0_isTape, f_X4_isTape, f_X0_isBy, f_X4_isTime, f_X0_isDecree, f_X4_isSlip, em, c1, c2, e3, hin, tn_i, e75, e74, i_add, ele, eeq, eq_true c5, eq_true c6, show (1 : Int32) &&& 1 = 1 from rfl, ↓reduceIte, if_true, if_false, eq_self, ite_true, ite_false, Option.bind_some, not_true_eq_false, not_false_eq_true, Bool.false_eq_true]
    · have nz : ∀ {f : Nat} {P : Nat → Nat → Prop}, wZ w < wZ w → ¬ P (wZ w) f := fun h9 => absurd h9 (Nat.lt_irrefl _)
      have k2 : Kept (But 6 w) w w2 := by
        rw [hw2, hw1]
        exact ((((((((Kept.rfl'.sI (fun _ hb => hb.1 (by rw [g3.ow]; rfl))).sN 15 0).sR nz).sI nz).sI nz).sI nz).sR (fun _ hb => hb.1 rfl)).sI (fun _ hb => hb.1 rfl)).sI (fun _ hb => hb.1 rfl)
      have hz2 : wZ w2 = wZ w + 1 := by rw [hw2, hw1]; rfl
      have hT : wT w2 (wZ w) = (15, 0) := by rw [hw2, hw1]; simp (disch := first | omega | (simp only [wZ_sI, wZ_sR, wZ_sL, wZ_sN, wZ_sX]; done) | (simp only [wZ_sI, wZ_sR, wZ_sL, wZ_sN, wZ_sX]; omega)) only [wI_ne, wI_nf, wI_eq, wI_sR, wI_sL, wI_N, wI_Ne, wR_ne, wR_nf, wR_eq, wR_sI, wR_sL, wR_N, wR_Ne, wL_ne, wL_nf, wL_eq, wL_sI, wL_sR, wL_N, wL_Ne, wT_sI, wT_sR, wT_sL, wT_N, wT_Ne, wZ_sI, wZ_sR, wZ_sL, wZ_sN, wI_sX, wL_sX, wR_sX, wZ_sX]; exact wT_Ne _ rfl
      refine Inv.m6 (h.rest' k2 (fun _ => newOne hz2 (congrArg Prod.fst hT) 7 (by decide)) (fun _ => newOne hz2 (congrArg Prod.fst hT) 8 (by decide)) (by decide)) ⟨n, hn, ?_, ?_, fun i hi => ?_, fun i q1 q2 => ?_⟩ (by have := h.2.1; omega)
      · rw [hw2, hw1]; simp (disch := first | omega | (simp only [wZ_sI, wZ_sR, wZ_sL, wZ_sN, wZ_sX]; done) | (simp only [wZ_sI, wZ_sR, wZ_sL, wZ_sN, wZ_sX]; omega)) only [wI_ne, wI_nf, wI_eq, wI_sR, wI_sL, wI_N, wI_Ne, wR_ne, wR_nf, wR_eq, wR_sI, wR_sL, wR_N, wR_Ne, wL_ne, wL_nf, wL_eq, wL_sI, wL_sR, wL_N, wL_Ne, wT_sI, wT_sR, wT_sL, wT_N, wT_Ne, wZ_sI, wZ_sR, wZ_sL, wZ_sN, wI_sX, wL_sX, wR_sX, wZ_sX]; exact hx
      · rw [hw2, hw1]; simp (disch := first | omega | (simp only [wZ_sI, wZ_sR, wZ_sL, wZ_sN, wZ_sX]; done) | (simp only [wZ_sI, wZ_sR, wZ_sL, wZ_sN, wZ_sX]; omega)) only [wI_ne, wI_nf, wI_eq, wI_sR, wI_sL, wI_N, wI_Ne, wR_ne, wR_nf, wR_eq, wR_sI, wR_sL, wR_N, wR_Ne, wL_ne, wL_nf, wL_eq, wL_sI, wL_sR, wL_N, wL_Ne, wT_sI, wT_sR, wT_sL, wT_N, wT_Ne, wZ_sI, wZ_sR, wZ_sL, wZ_sN, wI_sX, wL_sX, wR_sX, wZ_sX]; exact hm
      · by_cases q : i = k
        · subst q
          refine ⟨wZ w, 4, ?_, by decide, ⟨hz, by omega, congrArg Prod.fst hT⟩, ?_, ?_, ?_, ?_, Or.inr ⟨rfl, ?_⟩, fun q => absurd q (by decide), v, u + m, c5, hv, ?_, ?_⟩
          · rw [hw2, hw1]; simp (disch := first | omega | (simp only [wZ_sI, wZ_sR, wZ_sL, wZ_sN, wZ_sX]; done) | (simp only [wZ_sI, wZ_sR, wZ_sL, wZ_sN, wZ_sX]; omega)) only [wI_ne, wI_nf, wI_eq, wI_sR, wI_sL, wI_N, wI_Ne, wR_ne, wR_nf, wR_eq, wR_sI, wR_sL, wR_N, wR_Ne, wL_ne, wL_nf, wL_eq, wL_sI, wL_sR, wL_N, wL_Ne, wT_sI, wT_sR, wT_sL, wT_N, wT_Ne, wZ_sI, wZ_sR, wZ_sL, wZ_sN, wI_sX, wL_sX, wR_sX, wZ_sX]
          · rw [hw2, hw1]; simp (disch := first | omega | (simp only [wZ_sI, wZ_sR, wZ_sL, wZ_sN, wZ_sX]; done) | (simp only [wZ_sI, wZ_sR, wZ_sL, wZ_sN, wZ_sX]; omega)) only [wI_ne, wI_nf, wI_eq, wI_sR, wI_sL, wI_N, wI_Ne, wR_ne, wR_nf, wR_eq, wR_sI, wR_sL, wR_N, wR_Ne, wL_ne, wL_nf, wL_eq, wL_sI, wL_sR, wL_N, wL_Ne, wT_sI, wT_sR, wT_sL, wT_N, wT_Ne, wZ_sI, wZ_sR, wZ_sL, wZ_sN, wI_sX, wL_sX, wR_sX, wZ_sX]
          · rw [hw2, hw1]; simp (disch := first | omega | (simp only [wZ_sI, wZ_sR, wZ_sL, wZ_sN, wZ_sX]; done) | (simp only [wZ_sI, wZ_sR, wZ_sL, wZ_sN, wZ_sX]; omega)) only [wI_ne, wI_nf, wI_eq, wI_sR, wI_sL, wI_N, wI_Ne, wR_ne, wR_nf, wR_eq, wR_sI, wR_sL, wR_N, wR_Ne, wL_ne, wL_nf, wL_eq, wL_sI, wL_sR, wL_N, wL_Ne, wT_sI, wT_sR, wT_sL, wT_N, wT_Ne, wZ_sI, wZ_sR, wZ_sL, wZ_sN, wI_sX, wL_sX, wR_sX, wZ_sX]
          · rw [hw2, hw1]; simp (disch := first | omega | (simp only [wZ_sI, wZ_sR, wZ_sL, wZ_sN, wZ_sX]; done) | (simp only [wZ_sI, wZ_sR, wZ_sL, wZ_sN, wZ_sX]; omega)) only [wI_ne, wI_nf, wI_eq, wI_sR, wI_sL, wI_N, wI_Ne, wR_ne, wR_nf, wR_eq, wR_sI, wR_sL, wR_N, wR_Ne, wL_ne, wL_nf, wL_eq, wL_sI, wL_sR, wL_N, wL_Ne, wT_sI, wT_sR, wT_sL, wT_N, wT_Ne, wZ_sI, wZ_sR, wZ_sL, wZ_sN, wI_sX, wL_sX, wR_sX, wZ_sX]
          · rw [hw2, hw1]; simp (disch := first | omega | (simp only [wZ_sI, wZ_sR, wZ_sL, wZ_sN, wZ_sX]; done) | (simp only [wZ_sI, wZ_sR, wZ_sL, wZ_sN, wZ_sX]; omega)) only [wI_ne, wI_nf, wI_eq, wI_sR, wI_sL, wI_N, wI_Ne, wR_ne, wR_nf, wR_eq, wR_sI, wR_sL, wR_N, wR_Ne, wL_ne, wL_nf, wL_eq, wL_sI, wL_sR, wL_N, wL_Ne, wT_sI, wT_sR, wT_sL, wT_N, wT_Ne, wZ_sI, wZ_sR, wZ_sL, wZ_sN, wI_sX, wL_sX, wR_sX, wZ_sX]; exact g10.symm
          · rw [hw2, hw1]; simp (disch := first | omega | (simp only [wZ_sI, wZ_sR, wZ_sL, wZ_sN, wZ_sX]; done) | (simp only [wZ_sI, wZ_sR, wZ_sL, wZ_sN, wZ_sX]; omega)) only [wI_ne, wI_nf, wI_eq, wI_sR, wI_sL, wI_N, wI_Ne, wR_ne, wR_nf, wR_eq, wR_sI, wR_sL, wR_N, wR_Ne, wL_ne, wL_nf, wL_eq, wL_sI, wL_sR, wL_N, wL_Ne, wT_sI, wT_sR, wT_sL, wT_N, wT_Ne, wZ_sI, wZ_sR, wZ_sL, wZ_sN, wI_sX, wL_sX, wR_sX, wZ_sX]
          · rw [hw2, hw1]; simp (disch := first | omega | (simp only [wZ_sI, wZ_sR, wZ_sL, wZ_sN, wZ_sX]; done) | (simp only [wZ_sI, wZ_sR, wZ_sL, wZ_sN, wZ_sX]; omega)) only [wI_ne, wI_nf, wI_eq, wI_sR, wI_sL, wI_N, wI_Ne, wR_ne, wR_nf, wR_eq, wR_sI, wR_sL, wR_N, wR_Ne, wL_ne, wL_nf, wL_eq, wL_sI, wL_sR, wL_N, wL_Ne, wT_sI, wT_sR, wT_sL, wT_N, wT_Ne, wZ_sI, wZ_sR, wZ_sL, wZ_sN, wI_sX, wL_sX, wR_sX, wZ_sX]; exact g10
          · rw [hw2, hw1]; simp (disch := first | omega | (simp only [wZ_sI, wZ_sR, wZ_sL, wZ_sN, wZ_sX]; done) | (simp only [wZ_sI, wZ_sR, wZ_sL, wZ_sN, wZ_sX]; omega)) only [wI_ne, wI_nf, wI_eq, wI_sR, wI_sL, wI_N, wI_Ne, wR_ne, wR_nf, wR_eq, wR_sI, wR_sL, wR_N, wR_Ne, wL_ne, wL_nf, wL_eq, wL_sI, wL_sR, wL_N, wL_Ne, wT_sI, wT_sR, wT_sL, wT_N, wT_Ne, wZ_sI, wZ_sR, wZ_sL, wZ_sN, wI_sX, wL_sX, wR_sX, wZ_sX]
        · obtain ⟨a', c', f1, f2, f3, f4, f5, f6⟩ := hk i hi
          have q1 := f3.1
          have q2 := f3.2.1
          have q3 := oth i q hi a' f5
          refine ⟨a', c', by rw [hw2, hw1]; simp (disch := first | omega | (simp only [wZ_sI, wZ_sR, wZ_sL, wZ_sN, wZ_sX]; done) | (simp only [wZ_sI, wZ_sR, wZ_sL, wZ_sN, wZ_sX]; omega)) only [wI_ne, wI_nf, wI_eq, wI_sR, wI_sL, wI_N, wI_Ne, wR_ne, wR_nf, wR_eq, wR_sI, wR_sL, wR_N, wR_Ne, wL_ne, wL_nf, wL_eq, wL_sI, wL_sR, wL_N, wL_Ne, wT_sI, wT_sR, wT_sL, wT_N, wT_Ne, wZ_sI, wZ_sR, wZ_sL, wZ_sN, wI_sX, wL_sX, wR_sX, wZ_sX]; exact f1, f2, f3.kept k2, ?_⟩
          rw [show wI w2 77 i = wI w 77 i by rw [hw2, hw1]; simp (disch := first | omega | (simp only [wZ_sI, wZ_sR, wZ_sL, wZ_sN, wZ_sX]; done) | (simp only [wZ_sI, wZ_sR, wZ_sL, wZ_sN, wZ_sX]; omega)) only [wI_ne, wI_nf, wI_eq, wI_sR, wI_sL, wI_N, wI_Ne, wR_ne, wR_nf, wR_eq, wR_sI, wR_sL, wR_N, wR_Ne, wL_ne, wL_nf, wL_eq, wL_sI, wL_sR, wL_N, wL_Ne, wT_sI, wT_sR, wT_sL, wT_N, wT_Ne, wZ_sI, wZ_sR, wZ_sL, wZ_sN, wI_sX, wL_sX, wR_sX, wZ_sX], show wR w2 a' 0 = wR w a' 0 by rw [hw2, hw1]; simp (disch := first | omega | (simp only [wZ_sI, wZ_sR, wZ_sL, wZ_sN, wZ_sX]; done) | (simp only [wZ_sI, wZ_sR, wZ_sL, wZ_sN, wZ_sX]; omega)) only [wI_ne, wI_nf, wI_eq, wI_sR, wI_sL, wI_N, wI_Ne, wR_ne, wR_nf, wR_eq, wR_sI, wR_sL, wR_N, wR_Ne, wL_ne, wL_nf, wL_eq, wL_sI, wL_sR, wL_N, wL_Ne, wT_sI, wT_sR, wT_sL, wT_N, wT_Ne, wZ_sI, wZ_sR, wZ_sL, wZ_sN, wI_sX, wL_sX, wR_sX, wZ_sX], show wI w2 a' 1 = wI w a' 1 by rw [hw2, hw1]; simp (disch := first | omega | (simp only [wZ_sI, wZ_sR, wZ_sL, wZ_sN, wZ_sX]; done) | (simp only [wZ_sI, wZ_sR, wZ_sL, wZ_sN, wZ_sX]; omega)) only [wI_ne, wI_nf, wI_eq, wI_sR, wI_sL, wI_N, wI_Ne, wR_ne, wR_nf, wR_eq, wR_sI, wR_sL, wR_N, wR_Ne, wL_ne, wL_nf, wL_eq, wL_sI, wL_sR, wL_N, wL_Ne, wT_sI, wT_sR, wT_sL, wT_N, wT_Ne, wZ_sI, wZ_sR, wZ_sL, wZ_sN, wI_sX, wL_sX, wR_sX, wZ_sX], show wI w2 a' 2 = wI w a' 2 by rw [hw2, hw1]; simp (disch := first | omega | (simp only [wZ_sI, wZ_sR, wZ_sL, wZ_sN, wZ_sX]; done) | (simp only [wZ_sI, wZ_sR, wZ_sL, wZ_sN, wZ_sX]; omega)) only [wI_ne, wI_nf, wI_eq, wI_sR, wI_sL, wI_N, wI_Ne, wR_ne, wR_nf, wR_eq, wR_sI, wR_sL, wR_N, wR_Ne, wL_ne, wL_nf, wL_eq, wL_sI, wL_sR, wL_N, wL_Ne, wT_sI, wT_sR, wT_sL, wT_N, wT_Ne, wZ_sI, wZ_sR, wZ_sL, wZ_sN, wI_sX, wL_sX, wR_sX, wZ_sX], show wI w2 a' 3 = wI w a' 3 by rw [hw2, hw1]; simp (disch := first | omega | (simp only [wZ_sI, wZ_sR, wZ_sL, wZ_sN, wZ_sX]; done) | (simp only [wZ_sI, wZ_sR, wZ_sL, wZ_sN, wZ_sX]; omega)) only [wI_ne, wI_nf, wI_eq, wI_sR, wI_sL, wI_N, wI_Ne, wR_ne, wR_nf, wR_eq, wR_sI, wR_sL, wR_N, wR_Ne, wL_ne, wL_nf, wL_eq, wL_sI, wL_sR, wL_N, wL_Ne, wT_sI, wT_sR, wT_sL, wT_N, wT_Ne, wZ_sI, wZ_sR, wZ_sL, wZ_sN, wI_sX, wL_sX, wR_sX, wZ_sX], show wI w2 a' 4 = wI w a' 4 by rw [hw2, hw1]; simp (disch := first | omega | (simp only [wZ_sI, wZ_sR, wZ_sL, wZ_sN, wZ_sX]; done) | (simp only [wZ_sI, wZ_sR, wZ_sL, wZ_sN, wZ_sX]; omega)) only [wI_ne, wI_nf, wI_eq, wI_sR, wI_sL, wI_N, wI_Ne, wR_ne, wR_nf, wR_eq, wR_sI, wR_sL, wR_N, wR_Ne, wL_ne, wL_nf, wL_eq, wL_sI, wL_sR, wL_N, wL_Ne, wT_sI, wT_sR, wT_sL, wT_N, wT_Ne, wZ_sI, wZ_sR, wZ_sL, wZ_sN, wI_sX, wL_sX, wR_sX, wZ_sX], show wI w2 72 i = wI w 72 i by rw [hw2, hw1]; simp (disch := first | omega | (simp only [wZ_sI, wZ_sR, wZ_sL, wZ_sN, wZ_sX]; done) | (simp only [wZ_sI, wZ_sR, wZ_sL, wZ_sN, wZ_sX]; omega)) only [wI_ne, wI_nf, wI_eq, wI_sR, wI_sL, wI_N, wI_Ne, wR_ne, wR_nf, wR_eq, wR_sI, wR_sL, wR_N, wR_Ne, wL_ne, wL_nf, wL_eq, wL_sI, wL_sR, wL_N, wL_Ne, wT_sI, wT_sR, wT_sL, wT_N, wT_Ne, wZ_sI, wZ_sR, wZ_sL, wZ_sN, wI_sX, wL_sX, wR_sX, wZ_sX], show wI w2 73 i = wI w 73 i by rw [hw2, hw1]; simp (disch := first | omega | (simp only [wZ_sI, wZ_sR, wZ_sL, wZ_sN, wZ_sX]; done) | (simp only [wZ_sI, wZ_sR, wZ_sL, wZ_sN, wZ_sX]; omega)) only [wI_ne, wI_nf, wI_eq, wI_sR, wI_sL, wI_N, wI_Ne, wR_ne, wR_nf, wR_eq, wR_sI, wR_sL, wR_N, wR_Ne, wL_ne, wL_nf, wL_eq, wL_sI, wL_sR, wL_N, wL_Ne, wT_sI, wT_sR, wT_sL, wT_N, wT_Ne, wZ_sI, wZ_sR, wZ_sL, wZ_sN, wI_sX, wL_sX, wR_sX, wZ_sX], show wI w2 74 i = wI w 74 i by rw [hw2, hw1]; simp (disch := first | omega | (simp only [wZ_sI, wZ_sR, wZ_sL, wZ_sN, wZ_sX]; done) | (simp only [wZ_sI, wZ_sR, wZ_sL, wZ_sN, wZ_sX]; omega)) only [wI_ne, wI_nf, wI_eq, wI_sR, wI_sL, wI_N, wI_Ne, wR_ne, wR_nf, wR_eq, wR_sI, wR_sL, wR_N, wR_Ne, wL_ne, wL_nf, wL_eq, wL_sI, wL_sR, wL_N, wL_Ne, wT_sI, wT_sR, wT_sL, wT_N, wT_Ne, wZ_sI, wZ_sR, wZ_sL, wZ_sN, wI_sX, wL_sX, wR_sX, wZ_sX], show wI w2 75 i = wI w 75 i by rw [hw2, hw1]; simp (disch := first | omega | (simp only [wZ_sI, wZ_sR, wZ_sL, wZ_sN, wZ_sX]; done) | (simp only [wZ_sI, wZ_sR, wZ_sL, wZ_sN, wZ_sX]; omega)) only [wI_ne, wI_nf, wI_eq, wI_sR, wI_sL, wI_N, wI_Ne, wR_ne, wR_nf, wR_eq, wR_sI, wR_sL, wR_N, wR_Ne, wL_ne, wL_nf, wL_eq, wL_sI, wL_sR, wL_N, wL_Ne, wT_sI, wT_sR, wT_sL, wT_N, wT_Ne, wZ_sI, wZ_sR, wZ_sL, wZ_sN, wI_sX, wL_sX, wR_sX, wZ_sX]]
          exact ⟨f4, f5, f6⟩
      · rw [show wI w2 77 i = wI w 77 i by rw [hw2, hw1]; simp (disch := first | omega | (simp only [wZ_sI, wZ_sR, wZ_sL, wZ_sN, wZ_sX]; done) | (simp only [wZ_sI, wZ_sR, wZ_sL, wZ_sN, wZ_sX]; omega)) only [wI_ne, wI_nf, wI_eq, wI_sR, wI_sL, wI_N, wI_Ne, wR_ne, wR_nf, wR_eq, wR_sI, wR_sL, wR_N, wR_Ne, wL_ne, wL_nf, wL_eq, wL_sI, wL_sR, wL_N, wL_Ne, wT_sI, wT_sR, wT_sL, wT_N, wT_Ne, wZ_sI, wZ_sR, wZ_sL, wZ_sN, wI_sX, wL_sX, wR_sX, wZ_sX]]
        exact h0 i q1 q2
  · obtain ⟨w1, hw1⟩ : ∃ w1, w1 = sI w a 4 (Int32.ofNat (u + m)) := ⟨_, rfl⟩
    obtain ⟨w2, hw2⟩ : ∃ w2, w2 = sI (sI w1 75 k (Int32.ofNat (u + m))) 77 k 0 := ⟨_, rfl⟩
    refine ⟨w2, ⟨0, 0, Int32.ofNat (u + m), w1, ⟨?_, by rw [hw1]; exact Nat.le_add_right _ _⟩, ?_⟩, ?_⟩
    · rw [hw1]
      unfold f_X0_mend
      rw [ga, Option.bind_some, g9, g11, i_add, t12]
      simp only [inX, inM, f_X0_isTown, f_X4_isTown, f_X0_isDay, f_X4_isDay, f_X0_isBook, f_X4_isBook, f_X0_isEdition, f_X4_isEdition, f_X0_isCard, f_X4_isCard, f_X0_isPerson, f_X4_isPerson, f_X0_isCopy, f_X0_isTape, f_X4_isTape, f_X0_isBy, f_X4_isTime, f_X0_isDecree, f_X4_isSlip, hx, c1, c2, hin, co, cc, show (9 ≤ 12 ∧ 12 ≤ 15) = True from eq_true (by decide), show decide (12 = 15) = false from rfl, g7, g10, ele, eeq, eq_true c5, eq_false c6, ↓reduceIte, if_true, if_false, eq_self, ite_true, ite_false, Option.bind_some, not_true_eq_false, not_false_eq_true, Bool.false_eq_true]
    · have em : wI w1 58 17 = Int32.ofNat n := by rw [hw1]; simp (disch := first | omega | (simp only [wZ_sI, wZ_sR, wZ_sL, wZ_sN, wZ_sX]; done) | (simp only [wZ_sI, wZ_sR, wZ_sL, wZ_sN, wZ_sX]; omega)) only [wI_ne, wI_nf, wI_eq, wI_sR, wI_sL, wI_N, wI_Ne, wR_ne, wR_nf, wR_eq, wR_sI, wR_sL, wR_N, wR_Ne, wL_ne, wL_nf, wL_eq, wL_sI, wL_sR, wL_N, wL_Ne, wT_sI, wT_sR, wT_sL, wT_N, wT_Ne, wZ_sI, wZ_sR, wZ_sL, wZ_sN, wI_sX, wL_sX, wR_sX, wZ_sX]; exact hm
      have e75 : wI w1 75 k = Int32.ofNat u := by rw [hw1]; simp (disch := first | omega | (simp only [wZ_sI, wZ_sR, wZ_sL, wZ_sN, wZ_sX]; done) | (simp only [wZ_sI, wZ_sR, wZ_sL, wZ_sN, wZ_sX]; omega)) only [wI_ne, wI_nf, wI_eq, wI_sR, wI_sL, wI_N, wI_Ne, wR_ne, wR_nf, wR_eq, wR_sI, wR_sL, wR_N, wR_Ne, wL_ne, wL_nf, wL_eq, wL_sI, wL_sR, wL_N, wL_Ne, wT_sI, wT_sR, wT_sL, wT_N, wT_Ne, wZ_sI, wZ_sR, wZ_sL, wZ_sN, wI_sX, wL_sX, wR_sX, wZ_sX]; exact g11
      have e74 : wI w1 74 k = Int32.ofNat v := by rw [hw1]; simp (disch := first | omega | (simp only [wZ_sI, wZ_sR, wZ_sL, wZ_sN, wZ_sX]; done) | (simp only [wZ_sI, wZ_sR, wZ_sL, wZ_sN, wZ_sX]; omega)) only [wI_ne, wI_nf, wI_eq, wI_sR, wI_sL, wI_N, wI_Ne, wR_ne, wR_nf, wR_eq, wR_sI, wR_sL, wR_N, wR_Ne, wL_ne, wL_nf, wL_eq, wL_sI, wL_sR, wL_N, wL_Ne, wT_sI, wT_sR, wT_sL, wT_N, wT_Ne, wZ_sI, wZ_sR, wZ_sL, wZ_sN, wI_sX, wL_sX, wR_sX, wZ_sX]; exact g10
      have km' : f_X4_kindOf (Int32.ofNat k) w1 = some (Int32.ofNat 3) := kind_M (by omega) (Or.inl ⟨by decide, by rw [hw1]; simp (disch := first | omega | (simp only [wZ_sI, wZ_sR, wZ_sL, wZ_sN, wZ_sX]; done) | (simp only [wZ_sI, wZ_sR, wZ_sL, wZ_sN, wZ_sX]; omega)) only [wI_ne, wI_nf, wI_eq, wI_sR, wI_sL, wI_N, wI_Ne, wR_ne, wR_nf, wR_eq, wR_sI, wR_sL, wR_N, wR_Ne, wL_ne, wL_nf, wL_eq, wL_sI, wL_sR, wL_N, wL_Ne, wT_sI, wT_sR, wT_sL, wT_N, wT_Ne, wZ_sI, wZ_sR, wZ_sL, wZ_sN, wI_sX, wL_sX, wR_sX, wZ_sX]; exact i77, by rw [hw1]; simp (disch := first | omega | (simp only [wZ_sI, wZ_sR, wZ_sL, wZ_sN, wZ_sX]; done) | (simp only [wZ_sI, wZ_sR, wZ_sL, wZ_sN, wZ_sX]; omega)) only [wI_ne, wI_nf, wI_eq, wI_sR, wI_sL, wI_N, wI_Ne, wR_ne, wR_nf, wR_eq, wR_sI, wR_sL, wR_N, wR_Ne, wL_ne, wL_nf, wL_eq, wL_sI, wL_sR, wL_N, wL_Ne, wT_sI, wT_sR, wT_sL, wT_N, wT_Ne, wZ_sI, wZ_sR, wZ_sL, wZ_sN, wI_sX, wL_sX, wR_sX, wZ_sX]; exact i72⟩)
      rw [hw2]
      unfold f_X4_mend
      rw [km', Option.bind_some]
      simp (disch := omega) only [inX, inM, f_X0_isTown, f_X4_isTown, f_X0_isDay, f_X4_isDay, f_X0_isBook, f_X4_isBook, f_X0_isEdition, f_X4_isEdition, f_X0_isCard, f_X4_isCard, f_X0_isPerson, f_X4_isPerson, f_X0_isCopy, f_X0_isTape, f_X4_isTape, f_X0_isBy, f_X4_isTime, f_X0_isDecree, f_X4_isSlip, em, c1, c2, e3, hin, tn_i, e75, e74, i_add, ele, eeq, eq_true c5, eq_false c6, show (0 : Int32) &&& 1 = 0 from rfl, ↓reduceIte, if_true, if_false, eq_self, ite_true, ite_false, Option.bind_some, not_true_eq_false, not_false_eq_true, Bool.false_eq_true]
    · have k2 : Kept (But 6 w) w w2 := by
        rw [hw2, hw1]
        exact ((Kept.rfl'.sI (fun _ hb => hb.1 (by rw [g3.ow]; rfl))).sI (fun _ hb => hb.1 rfl)).sI (fun _ hb => hb.1 rfl)
      have hz2 : wZ w2 = wZ w := by rw [hw2, hw1]; rfl
      refine Inv.m6 (h.rest' k2 (fun _ => noNew_of hz2 7) (fun _ => noNew_of hz2 8) (by decide)) ⟨n, hn, ?_, ?_, fun i hi => ?_, fun i q1 q2 => ?_⟩ (by have := h.2.1; omega)
      · rw [hw2, hw1]; simp (disch := first | omega | (simp only [wZ_sI, wZ_sR, wZ_sL, wZ_sN, wZ_sX]; done) | (simp only [wZ_sI, wZ_sR, wZ_sL, wZ_sN, wZ_sX]; omega)) only [wI_ne, wI_nf, wI_eq, wI_sR, wI_sL, wI_N, wI_Ne, wR_ne, wR_nf, wR_eq, wR_sI, wR_sL, wR_N, wR_Ne, wL_ne, wL_nf, wL_eq, wL_sI, wL_sR, wL_N, wL_Ne, wT_sI, wT_sR, wT_sL, wT_N, wT_Ne, wZ_sI, wZ_sR, wZ_sL, wZ_sN, wI_sX, wL_sX, wR_sX, wZ_sX]; exact hx
      · rw [hw2, hw1]; simp (disch := first | omega | (simp only [wZ_sI, wZ_sR, wZ_sL, wZ_sN, wZ_sX]; done) | (simp only [wZ_sI, wZ_sR, wZ_sL, wZ_sN, wZ_sX]; omega)) only [wI_ne, wI_nf, wI_eq, wI_sR, wI_sL, wI_N, wI_Ne, wR_ne, wR_nf, wR_eq, wR_sI, wR_sL, wR_N, wR_Ne, wL_ne, wL_nf, wL_eq, wL_sI, wL_sR, wL_N, wL_Ne, wT_sI, wT_sR, wT_sL, wT_N, wT_Ne, wZ_sI, wZ_sR, wZ_sL, wZ_sN, wI_sX, wL_sX, wR_sX, wZ_sX]; exact hm
      · by_cases q : i = k
        · subst q
          refine ⟨a, 3, by rw [hw2, hw1]; simp (disch := first | omega | (simp only [wZ_sI, wZ_sR, wZ_sL, wZ_sN, wZ_sX]; done) | (simp only [wZ_sI, wZ_sR, wZ_sL, wZ_sN, wZ_sX]; omega)) only [wI_ne, wI_nf, wI_eq, wI_sR, wI_sL, wI_N, wI_Ne, wR_ne, wR_nf, wR_eq, wR_sI, wR_sL, wR_N, wR_Ne, wL_ne, wL_nf, wL_eq, wL_sI, wL_sR, wL_N, wL_Ne, wT_sI, wT_sR, wT_sL, wT_N, wT_Ne, wZ_sI, wZ_sR, wZ_sL, wZ_sN, wI_sX, wL_sX, wR_sX, wZ_sX]; exact g1, by decide, g3.kept k2, ?_, ?_, ?_, ?_, Or.inl ⟨by decide, ?_, ?_⟩, fun _ => ?_, v, u + m, c5, hv, ?_, ?_⟩
          · rw [hw2, hw1]; simp (disch := first | omega | (simp only [wZ_sI, wZ_sR, wZ_sL, wZ_sN, wZ_sX]; done) | (simp only [wZ_sI, wZ_sR, wZ_sL, wZ_sN, wZ_sX]; omega)) only [wI_ne, wI_nf, wI_eq, wI_sR, wI_sL, wI_N, wI_Ne, wR_ne, wR_nf, wR_eq, wR_sI, wR_sL, wR_N, wR_Ne, wL_ne, wL_nf, wL_eq, wL_sI, wL_sR, wL_N, wL_Ne, wT_sI, wT_sR, wT_sL, wT_N, wT_Ne, wZ_sI, wZ_sR, wZ_sL, wZ_sN, wI_sX, wL_sX, wR_sX, wZ_sX]; exact g4
          · rw [hw2, hw1]; simp (disch := first | omega | (simp only [wZ_sI, wZ_sR, wZ_sL, wZ_sN, wZ_sX]; done) | (simp only [wZ_sI, wZ_sR, wZ_sL, wZ_sN, wZ_sX]; omega)) only [wI_ne, wI_nf, wI_eq, wI_sR, wI_sL, wI_N, wI_Ne, wR_ne, wR_nf, wR_eq, wR_sI, wR_sL, wR_N, wR_Ne, wL_ne, wL_nf, wL_eq, wL_sI, wL_sR, wL_N, wL_Ne, wT_sI, wT_sR, wT_sL, wT_N, wT_Ne, wZ_sI, wZ_sR, wZ_sL, wZ_sN, wI_sX, wL_sX, wR_sX, wZ_sX]; exact g5
          · rw [hw2, hw1]; simp (disch := first | omega | (simp only [wZ_sI, wZ_sR, wZ_sL, wZ_sN, wZ_sX]; done) | (simp only [wZ_sI, wZ_sR, wZ_sL, wZ_sN, wZ_sX]; omega)) only [wI_ne, wI_nf, wI_eq, wI_sR, wI_sL, wI_N, wI_Ne, wR_ne, wR_nf, wR_eq, wR_sI, wR_sL, wR_N, wR_Ne, wL_ne, wL_nf, wL_eq, wL_sI, wL_sR, wL_N, wL_Ne, wT_sI, wT_sR, wT_sL, wT_N, wT_Ne, wZ_sI, wZ_sR, wZ_sL, wZ_sN, wI_sX, wL_sX, wR_sX, wZ_sX]; exact g6
          · rw [hw2, hw1]; simp (disch := first | omega | (simp only [wZ_sI, wZ_sR, wZ_sL, wZ_sN, wZ_sX]; done) | (simp only [wZ_sI, wZ_sR, wZ_sL, wZ_sN, wZ_sX]; omega)) only [wI_ne, wI_nf, wI_eq, wI_sR, wI_sL, wI_N, wI_Ne, wR_ne, wR_nf, wR_eq, wR_sI, wR_sL, wR_N, wR_Ne, wL_ne, wL_nf, wL_eq, wL_sI, wL_sR, wL_N, wL_Ne, wT_sI, wT_sR, wT_sL, wT_N, wT_Ne, wZ_sI, wZ_sR, wZ_sL, wZ_sN, wI_sX, wL_sX, wR_sX, wZ_sX]; exact g7
          · rw [hw2, hw1]; simp (disch := first | omega | (simp only [wZ_sI, wZ_sR, wZ_sL, wZ_sN, wZ_sX]; done) | (simp only [wZ_sI, wZ_sR, wZ_sL, wZ_sN, wZ_sX]; omega)) only [wI_ne, wI_nf, wI_eq, wI_sR, wI_sL, wI_N, wI_Ne, wR_ne, wR_nf, wR_eq, wR_sI, wR_sL, wR_N, wR_Ne, wL_ne, wL_nf, wL_eq, wL_sI, wL_sR, wL_N, wL_Ne, wT_sI, wT_sR, wT_sL, wT_N, wT_Ne, wZ_sI, wZ_sR, wZ_sL, wZ_sN, wI_sX, wL_sX, wR_sX, wZ_sX]
          · rw [hw2, hw1]; simp (disch := first | omega | (simp only [wZ_sI, wZ_sR, wZ_sL, wZ_sN, wZ_sX]; done) | (simp only [wZ_sI, wZ_sR, wZ_sL, wZ_sN, wZ_sX]; omega)) only [wI_ne, wI_nf, wI_eq, wI_sR, wI_sL, wI_N, wI_Ne, wR_ne, wR_nf, wR_eq, wR_sI, wR_sL, wR_N, wR_Ne, wL_ne, wL_nf, wL_eq, wL_sI, wL_sR, wL_N, wL_Ne, wT_sI, wT_sR, wT_sL, wT_N, wT_Ne, wZ_sI, wZ_sR, wZ_sL, wZ_sN, wI_sX, wL_sX, wR_sX, wZ_sX]; exact i72
          · rw [hw2, hw1]; simp (disch := first | omega | (simp only [wZ_sI, wZ_sR, wZ_sL, wZ_sN, wZ_sX]; done) | (simp only [wZ_sI, wZ_sR, wZ_sL, wZ_sN, wZ_sX]; omega)) only [wI_ne, wI_nf, wI_eq, wI_sR, wI_sL, wI_N, wI_Ne, wR_ne, wR_nf, wR_eq, wR_sI, wR_sL, wR_N, wR_Ne, wL_ne, wL_nf, wL_eq, wL_sI, wL_sR, wL_N, wL_Ne, wT_sI, wT_sR, wT_sL, wT_N, wT_Ne, wZ_sI, wZ_sR, wZ_sL, wZ_sN, wI_sX, wL_sX, wR_sX, wZ_sX]
          · rw [hw2, hw1]; simp (disch := first | omega | (simp only [wZ_sI, wZ_sR, wZ_sL, wZ_sN, wZ_sX]; done) | (simp only [wZ_sI, wZ_sR, wZ_sL, wZ_sN, wZ_sX]; omega)) only [wI_ne, wI_nf, wI_eq, wI_sR, wI_sL, wI_N, wI_Ne, wR_ne, wR_nf, wR_eq, wR_sI, wR_sL, wR_N, wR_Ne, wL_ne, wL_nf, wL_eq, wL_sI, wL_sR, wL_N, wL_Ne, wT_sI, wT_sR, wT_sL, wT_N, wT_Ne, wZ_sI, wZ_sR, wZ_sL, wZ_sN, wI_sX, wL_sX, wR_sX, wZ_sX]; exact g10
          · rw [hw2, hw1]; simp (disch := first | omega | (simp only [wZ_sI, wZ_sR, wZ_sL, wZ_sN, wZ_sX]; done) | (simp only [wZ_sI, wZ_sR, wZ_sL, wZ_sN, wZ_sX]; omega)) only [wI_ne, wI_nf, wI_eq, wI_sR, wI_sL, wI_N, wI_Ne, wR_ne, wR_nf, wR_eq, wR_sI, wR_sL, wR_N, wR_Ne, wL_ne, wL_nf, wL_eq, wL_sI, wL_sR, wL_N, wL_Ne, wT_sI, wT_sR, wT_sL, wT_N, wT_Ne, wZ_sI, wZ_sR, wZ_sL, wZ_sN, wI_sX, wL_sX, wR_sX, wZ_sX]
        · obtain ⟨a', c', f1, f2, f3, f4, f5, f6⟩ := hk i hi
          have q1 := f3.1
          have q2 := f3.2.1
          have q3 := oth i q hi a' f5
          refine ⟨a', c', by rw [hw2, hw1]; simp (disch := first | omega | (simp only [wZ_sI, wZ_sR, wZ_sL, wZ_sN, wZ_sX]; done) | (simp only [wZ_sI, wZ_sR, wZ_sL, wZ_sN, wZ_sX]; omega)) only [wI_ne, wI_nf, wI_eq, wI_sR, wI_sL, wI_N, wI_Ne, wR_ne, wR_nf, wR_eq, wR_sI, wR_sL, wR_N, wR_Ne, wL_ne, wL_nf, wL_eq, wL_sI, wL_sR, wL_N, wL_Ne, wT_sI, wT_sR, wT_sL, wT_N, wT_Ne, wZ_sI, wZ_sR, wZ_sL, wZ_sN, wI_sX, wL_sX, wR_sX, wZ_sX]; exact f1, f2, f3.kept k2, ?_⟩
          rw [show wI w2 77 i = wI w 77 i by rw [hw2, hw1]; simp (disch := first | omega | (simp only [wZ_sI, wZ_sR, wZ_sL, wZ_sN, wZ_sX]; done) | (simp only [wZ_sI, wZ_sR, wZ_sL, wZ_sN, wZ_sX]; omega)) only [wI_ne, wI_nf, wI_eq, wI_sR, wI_sL, wI_N, wI_Ne, wR_ne, wR_nf, wR_eq, wR_sI, wR_sL, wR_N, wR_Ne, wL_ne, wL_nf, wL_eq, wL_sI, wL_sR, wL_N, wL_Ne, wT_sI, wT_sR, wT_sL, wT_N, wT_Ne, wZ_sI, wZ_sR, wZ_sL, wZ_sN, wI_sX, wL_sX, wR_sX, wZ_sX], show wR w2 a' 0 = wR w a' 0 by rw [hw2, hw1]; simp (disch := first | omega | (simp only [wZ_sI, wZ_sR, wZ_sL, wZ_sN, wZ_sX]; done) | (simp only [wZ_sI, wZ_sR, wZ_sL, wZ_sN, wZ_sX]; omega)) only [wI_ne, wI_nf, wI_eq, wI_sR, wI_sL, wI_N, wI_Ne, wR_ne, wR_nf, wR_eq, wR_sI, wR_sL, wR_N, wR_Ne, wL_ne, wL_nf, wL_eq, wL_sI, wL_sR, wL_N, wL_Ne, wT_sI, wT_sR, wT_sL, wT_N, wT_Ne, wZ_sI, wZ_sR, wZ_sL, wZ_sN, wI_sX, wL_sX, wR_sX, wZ_sX], show wI w2 a' 1 = wI w a' 1 by rw [hw2, hw1]; simp (disch := first | omega | (simp only [wZ_sI, wZ_sR, wZ_sL, wZ_sN, wZ_sX]; done) | (simp only [wZ_sI, wZ_sR, wZ_sL, wZ_sN, wZ_sX]; omega)) only [wI_ne, wI_nf, wI_eq, wI_sR, wI_sL, wI_N, wI_Ne, wR_ne, wR_nf, wR_eq, wR_sI, wR_sL, wR_N, wR_Ne, wL_ne, wL_nf, wL_eq, wL_sI, wL_sR, wL_N, wL_Ne, wT_sI, wT_sR, wT_sL, wT_N, wT_Ne, wZ_sI, wZ_sR, wZ_sL, wZ_sN, wI_sX, wL_sX, wR_sX, wZ_sX], show wI w2 a' 2 = wI w a' 2 by rw [hw2, hw1]; simp (disch := first | omega | (simp only [wZ_sI, wZ_sR, wZ_sL, wZ_sN, wZ_sX]; done) | (simp only [wZ_sI, wZ_sR, wZ_sL, wZ_sN, wZ_sX]; omega)) only [wI_ne, wI_nf, wI_eq, wI_sR, wI_sL, wI_N, wI_Ne, wR_ne, wR_nf, wR_eq, wR_sI, wR_sL, wR_N, wR_Ne, wL_ne, wL_nf, wL_eq, wL_sI, wL_sR, wL_N, wL_Ne, wT_sI, wT_sR, wT_sL, wT_N, wT_Ne, wZ_sI, wZ_sR, wZ_sL, wZ_sN, wI_sX, wL_sX, wR_sX, wZ_sX], show wI w2 a' 3 = wI w a' 3 by rw [hw2, hw1]; simp (disch := first | omega | (simp only [wZ_sI, wZ_sR, wZ_sL, wZ_sN, wZ_sX]; done) | (simp only [wZ_sI, wZ_sR, wZ_sL, wZ_sN, wZ_sX]; omega)) only [wI_ne, wI_nf, wI_eq, wI_sR, wI_sL, wI_N, wI_Ne, wR_ne, wR_nf, wR_eq, wR_sI, wR_sL, wR_N, wR_Ne, wL_ne, wL_nf, wL_eq, wL_sI, wL_sR, wL_N, wL_Ne, wT_sI, wT_sR, wT_sL, wT_N, wT_Ne, wZ_sI, wZ_sR, wZ_sL, wZ_sN, wI_sX, wL_sX, wR_sX, wZ_sX], show wI w2 a' 4 = wI w a' 4 by rw [hw2, hw1]; simp (disch := first | omega | (simp only [wZ_sI, wZ_sR, wZ_sL, wZ_sN, wZ_sX]; done) | (simp only [wZ_sI, wZ_sR, wZ_sL, wZ_sN, wZ_sX]; omega)) only [wI_ne, wI_nf, wI_eq, wI_sR, wI_sL, wI_N, wI_Ne, wR_ne, wR_nf, wR_eq, wR_sI, wR_sL, wR_N, wR_Ne, wL_ne, wL_nf, wL_eq, wL_sI, wL_sR, wL_N, wL_Ne, wT_sI, wT_sR, wT_sL, wT_N, wT_Ne, wZ_sI, wZ_sR, wZ_sL, wZ_sN, wI_sX, wL_sX, wR_sX, wZ_sX], show wI w2 72 i = wI w 72 i by rw [hw2, hw1]; simp (disch := first | omega | (simp only [wZ_sI, wZ_sR, wZ_sL, wZ_sN, wZ_sX]; done) | (simp only [wZ_sI, wZ_sR, wZ_sL, wZ_sN, wZ_sX]; omega)) only [wI_ne, wI_nf, wI_eq, wI_sR, wI_sL, wI_N, wI_Ne, wR_ne, wR_nf, wR_eq, wR_sI, wR_sL, wR_N, wR_Ne, wL_ne, wL_nf, wL_eq, wL_sI, wL_sR, wL_N, wL_Ne, wT_sI, wT_sR, wT_sL, wT_N, wT_Ne, wZ_sI, wZ_sR, wZ_sL, wZ_sN, wI_sX, wL_sX, wR_sX, wZ_sX], show wI w2 73 i = wI w 73 i by rw [hw2, hw1]; simp (disch := first | omega | (simp only [wZ_sI, wZ_sR, wZ_sL, wZ_sN, wZ_sX]; done) | (simp only [wZ_sI, wZ_sR, wZ_sL, wZ_sN, wZ_sX]; omega)) only [wI_ne, wI_nf, wI_eq, wI_sR, wI_sL, wI_N, wI_Ne, wR_ne, wR_nf, wR_eq, wR_sI, wR_sL, wR_N, wR_Ne, wL_ne, wL_nf, wL_eq, wL_sI, wL_sR, wL_N, wL_Ne, wT_sI, wT_sR, wT_sL, wT_N, wT_Ne, wZ_sI, wZ_sR, wZ_sL, wZ_sN, wI_sX, wL_sX, wR_sX, wZ_sX], show wI w2 74 i = wI w 74 i by rw [hw2, hw1]; simp (disch := first | omega | (simp only [wZ_sI, wZ_sR, wZ_sL, wZ_sN, wZ_sX]; done) | (simp only [wZ_sI, wZ_sR, wZ_sL, wZ_sN, wZ_sX]; omega)) only [wI_ne, wI_nf, wI_eq, wI_sR, wI_sL, wI_N, wI_Ne, wR_ne, wR_nf, wR_eq, wR_sI, wR_sL, wR_N, wR_Ne, wL_ne, wL_nf, wL_eq, wL_sI, wL_sR, wL_N, wL_Ne, wT_sI, wT_sR, wT_sL, wT_N, wT_Ne, wZ_sI, wZ_sR, wZ_sL, wZ_sN, wI_sX, wL_sX, wR_sX, wZ_sX], show wI w2 75 i = wI w 75 i by rw [hw2, hw1]; simp (disch := first | omega | (simp only [wZ_sI, wZ_sR, wZ_sL, wZ_sN, wZ_sX]; done) | (simp only [wZ_sI, wZ_sR, wZ_sL, wZ_sN, wZ_sX]; omega)) only [wI_ne, wI_nf, wI_eq, wI_sR, wI_sL, wI_N, wI_Ne, wR_ne, wR_nf, wR_eq, wR_sI, wR_sL, wR_N, wR_Ne, wL_ne, wL_nf, wL_eq, wL_sI, wL_sR, wL_N, wL_Ne, wT_sI, wT_sR, wT_sL, wT_N, wT_Ne, wZ_sI, wZ_sR, wZ_sL, wZ_sN, wI_sX, wL_sX, wR_sX, wZ_sX]]
          exact ⟨f4, f5, f6⟩
      · rw [show wI w2 77 i = wI w 77 i by rw [hw2, hw1]; simp (disch := first | omega | (simp only [wZ_sI, wZ_sR, wZ_sL, wZ_sN, wZ_sX]; done) | (simp only [wZ_sI, wZ_sR, wZ_sL, wZ_sN, wZ_sX]; omega)) only [wI_ne, wI_nf, wI_eq, wI_sR, wI_sL, wI_N, wI_Ne, wR_ne, wR_nf, wR_eq, wR_sI, wR_sL, wR_N, wR_Ne, wL_ne, wL_nf, wL_eq, wL_sI, wL_sR, wL_N, wL_Ne, wT_sI, wT_sR, wT_sL, wT_N, wT_Ne, wZ_sI, wZ_sR, wZ_sL, wZ_sN, wI_sX, wL_sX, wR_sX, wZ_sX]]
        exact h0 i q1 q2
def tkB (k c : Nat) : Bool := decide (k = 0 ∨ c = k ∨ (k = 1 ∧ 2 ≤ c ∧ c ≤ 4) ∨ (k = 3 ∧ c = 4))
theorem tk_X {w : Wd} {a c k : Nat} (hc : c ≤ 6) (hk : k ≤ 6) (h : Dy w a (ctag c)) : f_X0_takenFor (wZ w + 1200) 0 (some a) (Int32.ofNat k) w = if tkB k c = true then some (.inl (some a), w) else some (.inr (wZ w + 2), sN (sX w 2) 28 0) := by
  have ta := h.2.2
  have tg := ctag_bd hc
  have co : (cardOk w (some a) = true) = True := by show (decide (9 ≤ (wT w a).1 ∧ (wT w a).1 ≤ 15) = true) = True; rw [ta]; exact eq_true (decide_eq_true tg)
  have z3 : (wZ w + 3 ≤ wZ w + 1200) = True := eq_true (by omega)
  have cc : ∀ l, castOk w (some a) l = l.contains (ctag c) := fun l => by show l.contains (wT w a).1 = _; rw [ta]
  unfold f_X0_takenFor
  rcases (show k = 0 ∨ k = 1 ∨ k = 2 ∨ k = 3 ∨ k = 4 ∨ k = 5 ∨ k = 6 by omega) with rfl | rfl | rfl | rfl | rfl | rfl | rfl <;>
  rcases (show c = 0 ∨ c = 1 ∨ c = 2 ∨ c = 3 ∨ c = 4 ∨ c = 5 ∨ c = 6 by omega) with rfl | rfl | rfl | rfl | rfl | rfl | rfl <;>
  · simp only [co, cc, z3, ↓reduceIte, if_true, if_false, eq_self, ite_true, ite_false, Option.bind_some, not_true_eq_false, not_false_eq_true, Bool.false_eq_true]
    rfl
theorem tk_M {w : Wd} {k c q : Nat} (hc : c ≤ 6) (hq : q ≤ 6) (hkd : f_X4_kindOf (Int32.ofNat k) w = some (Int32.ofNat c)) (hcd : f_X4_isCard (Int32.ofNat k) w = true) : f_X4_taken (Int32.ofNat k) (Int32.ofNat q) w = some (if tkB q c = true then Int32.ofNat c else -12) := by
  unfold f_X4_taken f_X4_taken_J55
  rw [hkd, Option.bind_some, if_pos (show f_X4_in (Int32.ofNat q) 0 6 w = true from (inIff _ _ _ _).mpr ⟨i_ge0 (by omega), (i_le (b := 6) (by omega) (by decide)).mpr hq⟩), if_pos hcd]
  rcases (show q = 0 ∨ q = 1 ∨ q = 2 ∨ q = 3 ∨ q = 4 ∨ q = 5 ∨ q = 6 by omega) with rfl | rfl | rfl | rfl | rfl | rfl | rfl <;>
  rcases (show c = 0 ∨ c = 1 ∨ c = 2 ∨ c = 3 ∨ c = 4 ∨ c = 5 ∨ c = 6 by omega) with rfl | rfl | rfl | rfl | rfl | rfl | rfl <;>
  rfl
theorem st_13 {j : Nat} {w : Wd} {a1 a2 a3 a4 a5 : Int32} (h : Inv j w) : ∃ w2, okc_13 a1 a2 a3 a4 a5 w w2 ∧ Inv (j + 1) w2 := by
  obtain ⟨n, hn, hx, hm, hk, h0⟩ := id h.car
  have hz := h.z8
  by_cases c1 : inB a2 0 6 = true
  rotate_left
  · have c1 := ne_of_tf c1
    refine ⟨w, ⟨0, 0, -2, w, ⟨?_, Nat.le_add_right _ _⟩, ?_, rfl⟩, h.same⟩
    · simp only [f_X0_taken, inX, inM, f_X0_isTown, f_X4_isTown, f_X0_isDay, f_X4_isDay, f_X0_isBook, f_X4_isBook, f_X0_isEdition, f_X4_isEdition, f_X0_isCard, f_X4_isCard, f_X0_isPerson, f_X4_isPerson, f_X0_isCopy, f_X0_isTape, f_X4_isTape, f_X0_isBy, f_X4_isTime, f_X0_isDecree, f_X4_isSlip, hx, hm, c1, ↓reduceIte, if_true, if_false, eq_self, ite_true, ite_false, Option.bind_some, not_true_eq_false, not_false_eq_true, Bool.false_eq_true]
    · simp only [f_X4_taken, inX, inM, f_X0_isTown, f_X4_isTown, f_X0_isDay, f_X4_isDay, f_X0_isBook, f_X4_isBook, f_X0_isEdition, f_X4_isEdition, f_X0_isCard, f_X4_isCard, f_X0_isPerson, f_X4_isPerson, f_X0_isCopy, f_X0_isTape, f_X4_isTape, f_X0_isBy, f_X4_isTime, f_X0_isDecree, f_X4_isSlip, hx, hm, c1, ↓reduceIte, if_true, if_false, eq_self, ite_true, ite_false, Option.bind_some, not_true_eq_false, not_false_eq_true, Bool.false_eq_true]
  obtain ⟨q, -, hq, rfl⟩ := inB_bd (lo := 0) (hi := 6) (by decide) (by decide) c1
  by_cases c2 : inB a1 0 (Int32.ofNat n - 1) = true
  rotate_left
  · have c2 := ne_of_tf c2
    have tk : f_X0_takenFor (wZ w + 1200) 0 none (Int32.ofNat q) w = some (.inl none, w) := by
      unfold f_X0_takenFor
      rcases (show q = 0 ∨ q = 1 ∨ q = 2 ∨ q = 3 ∨ q = 4 ∨ q = 5 ∨ q = 6 by omega) with rfl | rfl | rfl | rfl | rfl | rfl | rfl <;> rfl
    refine ⟨sN (sX w 0) 29 0, ⟨0, 0, -11, sN (sX w 0) 29 0, ⟨?_, ?_⟩, ?_, rfl⟩, exc_inv h (by decide) (by decide) (by decide)⟩
    · unfold f_X0_taken
      rw [tk, Option.bind_some]
      simp only [inX, inM, f_X0_isTown, f_X4_isTown, f_X0_isDay, f_X4_isDay, f_X0_isBook, f_X4_isBook, f_X0_isEdition, f_X4_isEdition, f_X0_isCard, f_X4_isCard, f_X0_isPerson, f_X4_isPerson, f_X0_isCopy, f_X0_isTape, f_X4_isTape, f_X0_isBy, f_X4_isTime, f_X0_isDecree, f_X4_isSlip, hx, c1, c2, show (wZ w ≤ wZ w ∧ wZ w ≤ wZ w + 1200) = True from eq_true (by omega), show (wZ w + 1 ≤ wZ w + 1200) = True from eq_true (by omega), ↓reduceIte, if_true, if_false, eq_self, ite_true, ite_false, Option.bind_some, not_true_eq_false, not_false_eq_true, Bool.false_eq_true]
    · show wZ w + 0 + 1 ≤ _
      omega
    · simp only [f_X4_taken, inX, inM, f_X0_isTown, f_X4_isTown, f_X0_isDay, f_X4_isDay, f_X0_isBook, f_X4_isBook, f_X0_isEdition, f_X4_isEdition, f_X0_isCard, f_X4_isCard, f_X0_isPerson, f_X4_isPerson, f_X0_isCopy, f_X0_isTape, f_X4_isTape, f_X0_isBy, f_X4_isTime, f_X0_isDecree, f_X4_isSlip, exc_I hz (show 58 < 108 by decide), hm, c1, c2, ↓reduceIte, if_true, if_false, eq_self, ite_true, ite_false, Option.bind_some, not_true_eq_false, not_false_eq_true, Bool.false_eq_true]
  obtain ⟨k, hk1, rfl⟩ := inB_lt (by omega) c2
  obtain ⟨a, c, g1, g2, g3, g4, g5, g6, g7, g8, g9⟩ := hk k hk1
  have hin : inb (Int32.ofNat k) 50 = True := inb_t (by omega) (by decide)
  have ga : wR w 13 (Int32.ofNat k).toNatClampNeg = some a := by rw [tn_i (by omega)]; exact g1
  have tx := tk_X g2 hq g3
  by_cases c3 : tkB q c = true
  · rw [if_pos c3] at tx
    have tm := tk_M (w := w) (k := k) g2 hq (kind_M (by omega) g8) (by simp only [inX, inM, f_X0_isTown, f_X4_isTown, f_X0_isDay, f_X4_isDay, f_X0_isBook, f_X4_isBook, f_X0_isEdition, f_X4_isEdition, f_X0_isCard, f_X4_isCard, f_X0_isPerson, f_X4_isPerson, f_X0_isCopy, f_X0_isTape, f_X4_isTape, f_X0_isBy, f_X4_isTime, f_X0_isDecree, f_X4_isSlip, hm, c2])
    rw [if_pos c3] at tm
    refine ⟨w, ⟨0, 0, Int32.ofNat c, w, ⟨?_, Nat.le_add_right _ _⟩, tm, rfl⟩, h.same⟩
    unfold f_X0_taken
    rw [ga, tx, Option.bind_some]
    simp only [inX, inM, f_X0_isTown, f_X4_isTown, f_X0_isDay, f_X4_isDay, f_X0_isBook, f_X4_isBook, f_X0_isEdition, f_X4_isEdition, f_X0_isCard, f_X4_isCard, f_X0_isPerson, f_X4_isPerson, f_X0_isCopy, f_X0_isTape, f_X4_isTape, f_X0_isBy, f_X4_isTime, f_X0_isDecree, f_X4_isSlip, hx, c1, c2, hin, show (wZ w ≤ wZ w ∧ wZ w ≤ wZ w + 1200) = True from eq_true (by omega), reduceCtorEq, kind_X g2 g3, ↓reduceIte, if_true, if_false, eq_self, ite_true, ite_false, Option.bind_some, not_true_eq_false, not_false_eq_true, Bool.false_eq_true]
  · rw [if_neg c3] at tx
    have tm := tk_M (w := sN (sX w 2) 28 0) (k := k) g2 hq (kind_M (by omega) (by rw [exc_I hz (by decide), exc_I hz (by decide)]; exact g8)) (by simp only [inX, inM, f_X0_isTown, f_X4_isTown, f_X0_isDay, f_X4_isDay, f_X0_isBook, f_X4_isBook, f_X0_isEdition, f_X4_isEdition, f_X0_isCard, f_X4_isCard, f_X0_isPerson, f_X4_isPerson, f_X0_isCopy, f_X0_isTape, f_X4_isTape, f_X0_isBy, f_X4_isTime, f_X0_isDecree, f_X4_isSlip, exc_I hz (show 58 < 108 by decide), hm, c2])
    rw [if_neg c3] at tm
    refine ⟨sN (sX w 2) 28 0, ⟨0, 0, -12, sN (sX w 2) 28 0, ⟨?_, ?_⟩, tm, rfl⟩, exc_inv h (by decide) (by decide) (by decide)⟩
    · unfold f_X0_taken
      rw [ga, tx, Option.bind_some]
      have e1 : (wZ w ≤ wZ (sN (sX w 2) 28 0) ∧ wZ (sN (sX w 2) 28 0) ≤ wZ w + 1200) = True := eq_true (by show wZ w ≤ wZ w + 2 + 1 ∧ wZ w + 2 + 1 ≤ wZ w + 1200; omega)
      have e2 : ((wT (sN (sX w 2) 28 0) (wZ w + 2)).1 = 28) = True := eq_true (by rw [exc_T, if_pos rfl])
      simp only [inX, inM, f_X0_isTown, f_X4_isTown, f_X0_isDay, f_X4_isDay, f_X0_isBook, f_X4_isBook, f_X0_isEdition, f_X4_isEdition, f_X0_isCard, f_X4_isCard, f_X0_isPerson, f_X4_isPerson, f_X0_isCopy, f_X0_isTape, f_X4_isTape, f_X0_isBy, f_X4_isTime, f_X0_isDecree, f_X4_isSlip, hx, c1, c2, hin, e1, e2, ↓reduceIte, if_true, if_false, eq_self, ite_true, ite_false, Option.bind_some, not_true_eq_false, not_false_eq_true, Bool.false_eq_true]
    · show wZ w + 2 + 1 ≤ _
      omega
