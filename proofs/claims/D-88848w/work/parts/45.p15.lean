/-! PURE PART: slips -/
theorem sg_in {a : Int32} {hi : Nat} (hh : hi ≤ 9999) (h : inB a (-1) (Int32.ofNat hi) = true) : Sg a := by
  obtain ⟨h1, h2⟩ := (inIff _ _ _ _).mp h
  by_cases c : a < 0
  · left
    rw [Int32.le_iff_toInt_le] at h1
    rw [Int32.lt_iff_toInt_lt] at c
    apply Int32.toInt_inj.mp
    rw [show (-1 : Int32).toInt = -1 from rfl] at *
    rw [show (0 : Int32).toInt = 0 from rfl] at c
    omega
  · right
    refine ⟨a.toNatClampNeg, ?_, i_of c⟩
    rw [i_of c, i_le (i_bd a) (by omega)] at h2
    omega
theorem st_22 {j : Nat} {w : Wd} {a1 a2 a3 a4 a5 : Int32} (h : Inv j w) : ∃ w2, okc_22 a1 a2 a3 a4 a5 w w2 ∧ Inv (j + 1) w2 := by
  obtain ⟨n, hn, hx, hm, hk⟩ := id h.sli
  have hz := h.z8
  by_cases c1 : inB a4 (-1) (Int32.ofNat n - 1) = true
  rotate_left
  · have c1b : (a4 = -1) = False := by
      apply eq_false
      rintro rfl
      apply c1
      refine (inIff _ _ _ _).mpr ⟨Int32.le_refl _, ?_⟩
      rw [Int32.le_iff_toInt_le, Int32.toInt_sub, ti_i (by omega), show (1 : Int32).toInt = 1 from rfl, show (-1 : Int32).toInt = -1 from rfl, Int.bmod_eq_of_le (by omega) (by omega)]
      omega
    have c1c : inB a4 0 (Int32.ofNat n - 1) = false := by
      apply ne_of_tf
      intro q
      apply c1
      obtain ⟨q1, q2⟩ := (inIff _ _ _ _).mp q
      exact (inIff _ _ _ _).mpr ⟨Int32.le_trans (by decide) q1, q2⟩
    have c1 := ne_of_tf c1
    refine ⟨w, ⟨0, 0, -1, w, ?_, ?_⟩, h.same⟩
    · simp only [f_X0_slip, inX, inM, f_X0_isTown, f_X4_isTown, f_X0_isDay, f_X4_isDay, f_X0_isBook, f_X4_isBook, f_X0_isEdition, f_X4_isEdition, f_X0_isCard, f_X4_isCard, f_X0_isPerson, f_X4_isPerson, f_X0_isCopy, f_X0_isTape, f_X4_isTape, f_X0_isBy, f_X4_isTime, f_X0_isDecree, f_X4_isSlip, hx, c1, ↓reduceIte, if_true, if_false, eq_self, ite_true, ite_false, Option.bind_some, not_true_eq_false, not_false_eq_true, Bool.false_eq_true]
    · simp only [f_X4_slip, inX, inM, f_X0_isTown, f_X4_isTown, f_X0_isDay, f_X4_isDay, f_X0_isBook, f_X4_isBook, f_X0_isEdition, f_X4_isEdition, f_X0_isCard, f_X4_isCard, f_X0_isPerson, f_X4_isPerson, f_X0_isCopy, f_X0_isTape, f_X4_isTape, f_X0_isBy, f_X4_isTime, f_X0_isDecree, f_X4_isSlip, hm, c1b, c1c, ↓reduceIte, if_true, if_false, eq_self, ite_true, ite_false, Option.bind_some, not_true_eq_false, not_false_eq_true, Bool.false_eq_true]
  have sg : a4 = -1 ∨ ∃ e, e < n ∧ a4 = Int32.ofNat e := by
    by_cases q : a4 = -1
    · exact Or.inl q
    · right
      apply inB_lt (by omega)
      obtain ⟨q1, q2⟩ := (inIff _ _ _ _).mp c1
      refine (inIff _ _ _ _).mpr ⟨?_, q2⟩
      rw [Int32.le_iff_toInt_le] at q1 ⊢
      rw [show (-1 : Int32).toInt = -1 from rfl] at q1
      rw [show (0 : Int32).toInt = 0 from rfl]
      have : a4.toInt ≠ -1 := fun e => q (Int32.toInt_inj.mp e)
      omega
  -- the test of the one copied from, by the model
  have tM : ∀ w', wI w' 58 55 = Int32.ofNat n → f_X4_slip a1 a2 a3 a4 w' = f_X4_slip_J17 a1 a2 a3 a4 w' := by
    intro w' e
    unfold f_X4_slip
    rcases sg with rfl | ⟨e4, q1, rfl⟩
    · rw [if_pos rfl]
    · have q2 : ¬ Int32.ofNat e4 = -1 := fun q => by have := i_nn (a := e4) (by omega); rw [q] at this; exact this (by decide)
      rw [if_neg q2, if_pos (by simp only [inX, inM, f_X0_isTown, f_X4_isTown, f_X0_isDay, f_X4_isDay, f_X0_isBook, f_X4_isBook, f_X0_isEdition, f_X4_isEdition, f_X0_isCard, f_X4_isCard, f_X0_isPerson, f_X4_isPerson, f_X0_isCopy, f_X0_isTape, f_X4_isTape, f_X0_isBy, f_X4_isTime, f_X0_isDecree, f_X4_isSlip, e]; exact in_yes (by omega) q1)]
  by_cases c2 : inB a1 (-1) 99 = true
  rotate_left
  · have c2 := ne_of_tf c2
    refine ⟨w, ⟨0, 0, -2, w, ?_, ?_⟩, h.same⟩
    · simp only [f_X0_slip, inX, inM, f_X0_isTown, f_X4_isTown, f_X0_isDay, f_X4_isDay, f_X0_isBook, f_X4_isBook, f_X0_isEdition, f_X4_isEdition, f_X0_isCard, f_X4_isCard, f_X0_isPerson, f_X4_isPerson, f_X0_isCopy, f_X0_isTape, f_X4_isTape, f_X0_isBy, f_X4_isTime, f_X0_isDecree, f_X4_isSlip, hx, c1, c2, ↓reduceIte, if_true, if_false, eq_self, ite_true, ite_false, Option.bind_some, not_true_eq_false, not_false_eq_true, Bool.false_eq_true]
    · rw [tM w hm]; simp only [f_X4_slip_J17, inX, inM, f_X0_isTown, f_X4_isTown, f_X0_isDay, f_X4_isDay, f_X0_isBook, f_X4_isBook, f_X0_isEdition, f_X4_isEdition, f_X0_isCard, f_X4_isCard, f_X0_isPerson, f_X4_isPerson, f_X0_isCopy, f_X0_isTape, f_X4_isTape, f_X0_isBy, f_X4_isTime, f_X0_isDecree, f_X4_isSlip, hm, c2, ↓reduceIte, if_true, if_false, eq_self, ite_true, ite_false, Option.bind_some, not_true_eq_false, not_false_eq_true, Bool.false_eq_true]
  by_cases c3 : inB a2 (-1) 19 = true
  rotate_left
  · have c3 := ne_of_tf c3
    refine ⟨w, ⟨0, 0, -2, w, ?_, ?_⟩, h.same⟩
    · simp only [f_X0_slip, inX, inM, f_X0_isTown, f_X4_isTown, f_X0_isDay, f_X4_isDay, f_X0_isBook, f_X4_isBook, f_X0_isEdition, f_X4_isEdition, f_X0_isCard, f_X4_isCard, f_X0_isPerson, f_X4_isPerson, f_X0_isCopy, f_X0_isTape, f_X4_isTape, f_X0_isBy, f_X4_isTime, f_X0_isDecree, f_X4_isSlip, hx, c1, c2, c3, ↓reduceIte, if_true, if_false, eq_self, ite_true, ite_false, Option.bind_some, not_true_eq_false, not_false_eq_true, Bool.false_eq_true]
    · rw [tM w hm]; simp only [f_X4_slip_J17, inX, inM, f_X0_isTown, f_X4_isTown, f_X0_isDay, f_X4_isDay, f_X0_isBook, f_X4_isBook, f_X0_isEdition, f_X4_isEdition, f_X0_isCard, f_X4_isCard, f_X0_isPerson, f_X4_isPerson, f_X0_isCopy, f_X0_isTape, f_X4_isTape, f_X0_isBy, f_X4_isTime, f_X0_isDecree, f_X4_isSlip, hm, c2, c3, ↓reduceIte, if_true, if_false, eq_self, ite_true, ite_false, Option.bind_some, not_true_eq_false, not_false_eq_true, Bool.false_eq_true]
  by_cases c4 : inB a3 (-1) 2000 = true
  rotate_left
  · have c4 := ne_of_tf c4
    refine ⟨w, ⟨0, 0, -2, w, ?_, ?_⟩, h.same⟩
    · simp only [f_X0_slip, inX, inM, f_X0_isTown, f_X4_isTown, f_X0_isDay, f_X4_isDay, f_X0_isBook, f_X4_isBook, f_X0_isEdition, f_X4_isEdition, f_X0_isCard, f_X4_isCard, f_X0_isPerson, f_X4_isPerson, f_X0_isCopy, f_X0_isTape, f_X4_isTape, f_X0_isBy, f_X4_isTime, f_X0_isDecree, f_X4_isSlip, hx, c1, c2, c3, c4, ↓reduceIte, if_true, if_false, eq_self, ite_true, ite_false, Option.bind_some, not_true_eq_false, not_false_eq_true, Bool.false_eq_true]
    · rw [tM w hm]; simp only [f_X4_slip_J17, inX, inM, f_X0_isTown, f_X4_isTown, f_X0_isDay, f_X4_isDay, f_X0_isBook, f_X4_isBook, f_X0_isEdition, f_X4_isEdition, f_X0_isCard, f_X4_isCard, f_X0_isPerson, f_X4_isPerson, f_X0_isCopy, f_X0_isTape, f_X4_isTape, f_X0_isBy, f_X4_isTime, f_X0_isDecree, f_X4_isSlip, hm, c2, c3, c4, ↓reduceIte, if_true, if_false, eq_self, ite_true, ite_false, Option.bind_some, not_true_eq_false, not_false_eq_true, Bool.false_eq_true]
  by_cases c5 : n = 40
  · subst c5
    have e9 : (Int32.ofNat 40 = 40) = True := eq_true rfl
    refine ⟨w, ⟨0, 0, -4, w, ?_, ?_⟩, h.same⟩
    · simp only [f_X0_slip, inX, inM, f_X0_isTown, f_X4_isTown, f_X0_isDay, f_X4_isDay, f_X0_isBook, f_X4_isBook, f_X0_isEdition, f_X4_isEdition, f_X0_isCard, f_X4_isCard, f_X0_isPerson, f_X4_isPerson, f_X0_isCopy, f_X0_isTape, f_X4_isTape, f_X0_isBy, f_X4_isTime, f_X0_isDecree, f_X4_isSlip, hx, c1, c2, c3, c4, e9, ↓reduceIte, if_true, if_false, eq_self, ite_true, ite_false, Option.bind_some, not_true_eq_false, not_false_eq_true, Bool.false_eq_true]
    · rw [tM w hm]; simp only [f_X4_slip_J17, inX, inM, f_X0_isTown, f_X4_isTown, f_X0_isDay, f_X4_isDay, f_X0_isBook, f_X4_isBook, f_X0_isEdition, f_X4_isEdition, f_X0_isCard, f_X4_isCard, f_X0_isPerson, f_X4_isPerson, f_X0_isCopy, f_X0_isTape, f_X4_isTape, f_X0_isBy, f_X4_isTime, f_X0_isDecree, f_X4_isSlip, hm, c2, c3, c4, e9, ↓reduceIte, if_true, if_false, eq_self, ite_true, ite_false, Option.bind_some, not_true_eq_false, not_false_eq_true, Bool.false_eq_true]
  have hne : (Int32.ofNat n = 40) = False := eq_false (fun q => c5 ((i_inj (b := 40) (by omega) (by decide)).mp q))
  have hin : inb (Int32.ofNat n) 40 = True := inb_t (by omega) (by decide)
  have hs1 : Int32.ofNat n + 1 = Int32.ofNat (n + 1) := i_add n 1
  have hs2 : Int32.ofNat (n + 1) - 1 = Int32.ofNat n := i_sub (b := 1) (by omega)
  have hz8 : (108 ≤ wZ w) = True := eq_true hz
  obtain ⟨fr, hfr⟩ : ∃ fr, fr = (if a4 = -1 then none else wR w 24 a4.toNatClampNeg) := ⟨_, rfl⟩
  obtain ⟨w1, hw1⟩ : ∃ w1, w1 = sI (sR (sR (sI (sI (sI (sI (sN w 26 0) (wZ w) 0 (Int32.ofNat n)) (wZ w) 1 a1) (wZ w) 2 a2) (wZ w) 3 a3) (wZ w) 4 fr) 24 n (some (wZ w))) 0 23 (Int32.ofNat (n + 1)) := ⟨_, rfl⟩
  obtain ⟨w2, hw2⟩ : ∃ w2, w2 = sI (sI (sI (sI (sI w1 88 n a1) 89 n a2) 90 n a3) 91 n a4) 58 55 (Int32.ofNat (n + 1)) := ⟨_, rfl⟩
  refine ⟨w2, ⟨0, 0, Int32.ofNat n, w1, ?_, ?_⟩, ?_⟩
  · rw [hw1, hfr]
    rcases sg with rfl | ⟨e4, q1, rfl⟩
    · simp (disch := omega) only [f_X0_slip, f_X27_init, inX, inM, f_X0_isTown, f_X4_isTown, f_X0_isDay, f_X4_isDay, f_X0_isBook, f_X4_isBook, f_X0_isEdition, f_X4_isEdition, f_X0_isCard, f_X4_isCard, f_X0_isPerson, f_X4_isPerson, f_X0_isCopy, f_X0_isTape, f_X4_isTape, f_X0_isBy, f_X4_isTime, f_X0_isDecree, f_X4_isSlip, wI_ne, wI_nf, wI_eq, wI_sR, wI_sL, wI_N, wI_Nz, wR_ne, wR_nf, wR_eq, wR_sI, wR_sL, wR_N, wR_Nz, wL_ne, wL_nf, wL_eq, wL_sI, wL_sR, wL_N, wL_Nz, wT_sI, wT_sR, wT_sL, wT_N, wT_Nz, wZ_sI, wZ_sR, wZ_sL, wZ_sN, wI_sX, wL_sX, wR_sX, wZ_sX, hx, c1, c2, c3, c4, hne, hin, hz8, tn_i, hs1, ↓reduceIte, if_true, if_false, eq_self, ite_true, ite_false, Option.bind_some, not_true_eq_false, not_false_eq_true, Bool.false_eq_true]
    · have q2 : (Int32.ofNat e4 = -1) = False := eq_false (fun q => by have := i_nn (a := e4) (by omega); rw [q] at this; exact this (by decide))
      have hin4 : inb (Int32.ofNat e4) 40 = True := inb_t (by omega) (by decide)
      simp (disch := omega) only [f_X0_slip, f_X27_init, inX, inM, f_X0_isTown, f_X4_isTown, f_X0_isDay, f_X4_isDay, f_X0_isBook, f_X4_isBook, f_X0_isEdition, f_X4_isEdition, f_X0_isCard, f_X4_isCard, f_X0_isPerson, f_X4_isPerson, f_X0_isCopy, f_X0_isTape, f_X4_isTape, f_X0_isBy, f_X4_isTime, f_X0_isDecree, f_X4_isSlip, wI_ne, wI_nf, wI_eq, wI_sR, wI_sL, wI_N, wI_Nz, wR_ne, wR_nf, wR_eq, wR_sI, wR_sL, wR_N, wR_Nz, wL_ne, wL_nf, wL_eq, wL_sI, wL_sR, wL_N, wL_Nz, wT_sI, wT_sR, wT_sL, wT_N, wT_Nz, wZ_sI, wZ_sR, wZ_sL, wZ_sN, wI_sX, wL_sX, wR_sX, wZ_sX, hx, c1, c2, c3, c4, hne, hin, hin4, q2, hz8, tn_i, hs1, ↓reduceIte, if_true, if_false, eq_self, ite_true, ite_false, Option.bind_some, not_true_eq_false, not_false_eq_true, Bool.false_eq_true]
  · have em : wI w1 58 55 = Int32.ofNat n := by rw [hw1]; simp (disch := omega) only [wI_ne, wI_nf, wI_eq, wI_sR, wI_sL, wI_N, wI_Nz, wR_ne, wR_nf, wR_eq, wR_sI, wR_sL, wR_N, wR_Nz, wL_ne, wL_nf, wL_eq, wL_sI, wL_sR, wL_N, wL_Nz, wT_sI, wT_sR, wT_sL, wT_N, wT_Nz, wZ_sI, wZ_sR, wZ_sL, wZ_sN, wI_sX, wL_sX, wR_sX, wZ_sX]; exact hm
    rw [tM w1 em, hw2]
    simp (disch := omega) only [f_X4_slip_J17, inX, inM, f_X0_isTown, f_X4_isTown, f_X0_isDay, f_X4_isDay, f_X0_isBook, f_X4_isBook, f_X0_isEdition, f_X4_isEdition, f_X0_isCard, f_X4_isCard, f_X0_isPerson, f_X4_isPerson, f_X0_isCopy, f_X0_isTape, f_X4_isTape, f_X0_isBy, f_X4_isTime, f_X0_isDecree, f_X4_isSlip, em, c2, c3, c4, hne, hin, tn_i, hs1, hs2, ↓reduceIte, if_true, if_false, eq_self, ite_true, ite_false, Option.bind_some, not_true_eq_false, not_false_eq_true, Bool.false_eq_true]
  · have nz : ∀ {f : Nat} {P : Nat → Nat → Prop}, wZ w < wZ w → ¬ P (wZ w) f := fun h9 => absurd h9 (Nat.lt_irrefl _)
    have k2 : Kept (But 11 w) w w2 := by
      rw [hw2, hw1]
      exact ((((((((((((Kept.rfl'.sN 26 0).sI nz).sI nz).sI nz).sI nz).sR nz).sR (fun _ hb => hb.1 rfl)).sI (fun _ hb => hb.1 rfl)).sI (fun _ hb => hb.1 rfl)).sI (fun _ hb => hb.1 rfl)).sI (fun _ hb => hb.1 rfl)).sI (fun _ hb => hb.1 rfl)).sI (fun _ hb => hb.1 rfl)
    have hz2 : wZ w2 = wZ w + 1 := by rw [hw2, hw1]; rfl
    have hT : wT w2 (wZ w) = (26, 0) := by rw [hw2, hw1]; simp (disch := omega) only [wI_ne, wI_nf, wI_eq, wI_sR, wI_sL, wI_N, wI_Nz, wR_ne, wR_nf, wR_eq, wR_sI, wR_sL, wR_N, wR_Nz, wL_ne, wL_nf, wL_eq, wL_sI, wL_sR, wL_N, wL_Nz, wT_sI, wT_sR, wT_sL, wT_N, wT_Nz, wZ_sI, wZ_sR, wZ_sL, wZ_sN, wI_sX, wL_sX, wR_sX, wZ_sX]
    have e24 : ∀ f, f ≠ n → wR w2 24 f = wR w 24 f := by intro f hf; rw [hw2, hw1]; simp (disch := omega) only [wI_ne, wI_nf, wI_eq, wI_sR, wI_sL, wI_N, wI_Nz, wR_ne, wR_nf, wR_eq, wR_sI, wR_sL, wR_N, wR_Nz, wL_ne, wL_nf, wL_eq, wL_sI, wL_sR, wL_N, wL_Nz, wT_sI, wT_sR, wT_sL, wT_N, wT_Nz, wZ_sI, wZ_sR, wZ_sL, wZ_sN, wI_sX, wL_sX, wR_sX, wZ_sX]
    refine Inv.m11 (h.rest' k2 (fun _ => newOne hz2 (congrArg Prod.fst hT) 7 (by decide)) (fun _ => newOne hz2 (congrArg Prod.fst hT) 8 (by decide)) (by decide)) ⟨n + 1, by omega, ?_, ?_, fun i hi => ?_⟩ (by have := h.2.1; omega)
    · rw [hw2, hw1]; simp (disch := omega) only [wI_ne, wI_nf, wI_eq, wI_sR, wI_sL, wI_N, wI_Nz, wR_ne, wR_nf, wR_eq, wR_sI, wR_sL, wR_N, wR_Nz, wL_ne, wL_nf, wL_eq, wL_sI, wL_sR, wL_N, wL_Nz, wT_sI, wT_sR, wT_sL, wT_N, wT_Nz, wZ_sI, wZ_sR, wZ_sL, wZ_sN, wI_sX, wL_sX, wR_sX, wZ_sX]
    · rw [hw2]; simp (disch := omega) only [wI_ne, wI_nf, wI_eq, wI_sR, wI_sL, wI_N, wI_Nz, wR_ne, wR_nf, wR_eq, wR_sI, wR_sL, wR_N, wR_Nz, wL_ne, wL_nf, wL_eq, wL_sI, wL_sR, wL_N, wL_Nz, wT_sI, wT_sR, wT_sL, wT_N, wT_Nz, wZ_sI, wZ_sR, wZ_sL, wZ_sN, wI_sX, wL_sX, wR_sX, wZ_sX]
    · by_cases q : i = n
      · subst q
        have e88 : wI w2 88 i = a1 := by rw [hw2, hw1]; simp (disch := omega) only [wI_ne, wI_nf, wI_eq, wI_sR, wI_sL, wI_N, wI_Nz, wR_ne, wR_nf, wR_eq, wR_sI, wR_sL, wR_N, wR_Nz, wL_ne, wL_nf, wL_eq, wL_sI, wL_sR, wL_N, wL_Nz, wT_sI, wT_sR, wT_sL, wT_N, wT_Nz, wZ_sI, wZ_sR, wZ_sL, wZ_sN, wI_sX, wL_sX, wR_sX, wZ_sX]
        have e89 : wI w2 89 i = a2 := by rw [hw2, hw1]; simp (disch := omega) only [wI_ne, wI_nf, wI_eq, wI_sR, wI_sL, wI_N, wI_Nz, wR_ne, wR_nf, wR_eq, wR_sI, wR_sL, wR_N, wR_Nz, wL_ne, wL_nf, wL_eq, wL_sI, wL_sR, wL_N, wL_Nz, wT_sI, wT_sR, wT_sL, wT_N, wT_Nz, wZ_sI, wZ_sR, wZ_sL, wZ_sN, wI_sX, wL_sX, wR_sX, wZ_sX]
        have e90 : wI w2 90 i = a3 := by rw [hw2, hw1]; simp (disch := omega) only [wI_ne, wI_nf, wI_eq, wI_sR, wI_sL, wI_N, wI_Nz, wR_ne, wR_nf, wR_eq, wR_sI, wR_sL, wR_N, wR_Nz, wL_ne, wL_nf, wL_eq, wL_sI, wL_sR, wL_N, wL_Nz, wT_sI, wT_sR, wT_sL, wT_N, wT_Nz, wZ_sI, wZ_sR, wZ_sL, wZ_sN, wI_sX, wL_sX, wR_sX, wZ_sX]
        have e91 : wI w2 91 i = a4 := by rw [hw2, hw1]; simp (disch := omega) only [wI_ne, wI_nf, wI_eq, wI_sR, wI_sL, wI_N, wI_Nz, wR_ne, wR_nf, wR_eq, wR_sI, wR_sL, wR_N, wR_Nz, wL_ne, wL_nf, wL_eq, wL_sI, wL_sR, wL_N, wL_Nz, wT_sI, wT_sR, wT_sL, wT_N, wT_Nz, wZ_sI, wZ_sR, wZ_sL, wZ_sN, wI_sX, wL_sX, wR_sX, wZ_sX]
        have r4 : wR w2 (wZ w) 4 = fr := by rw [hw2, hw1]; simp (disch := omega) only [wI_ne, wI_nf, wI_eq, wI_sR, wI_sL, wI_N, wI_Nz, wR_ne, wR_nf, wR_eq, wR_sI, wR_sL, wR_N, wR_Nz, wL_ne, wL_nf, wL_eq, wL_sI, wL_sR, wL_N, wL_Nz, wT_sI, wT_sR, wT_sL, wT_N, wT_Nz, wZ_sI, wZ_sR, wZ_sL, wZ_sN, wI_sX, wL_sX, wR_sX, wZ_sX]
        refine ⟨wZ w, ?_, ⟨hz, by omega, congrArg Prod.fst hT⟩, ?_, ?_, ?_, ?_, ?_, ?_, ?_, ?_⟩
        · rw [hw2, hw1]; simp (disch := omega) only [wI_ne, wI_nf, wI_eq, wI_sR, wI_sL, wI_N, wI_Nz, wR_ne, wR_nf, wR_eq, wR_sI, wR_sL, wR_N, wR_Nz, wL_ne, wL_nf, wL_eq, wL_sI, wL_sR, wL_N, wL_Nz, wT_sI, wT_sR, wT_sL, wT_N, wT_Nz, wZ_sI, wZ_sR, wZ_sL, wZ_sN, wI_sX, wL_sX, wR_sX, wZ_sX]
        · rw [hw2, hw1]; simp (disch := omega) only [wI_ne, wI_nf, wI_eq, wI_sR, wI_sL, wI_N, wI_Nz, wR_ne, wR_nf, wR_eq, wR_sI, wR_sL, wR_N, wR_Nz, wL_ne, wL_nf, wL_eq, wL_sI, wL_sR, wL_N, wL_Nz, wT_sI, wT_sR, wT_sL, wT_N, wT_Nz, wZ_sI, wZ_sR, wZ_sL, wZ_sN, wI_sX, wL_sX, wR_sX, wZ_sX]
        · rw [e88, hw2, hw1]; simp (disch := omega) only [wI_ne, wI_nf, wI_eq, wI_sR, wI_sL, wI_N, wI_Nz, wR_ne, wR_nf, wR_eq, wR_sI, wR_sL, wR_N, wR_Nz, wL_ne, wL_nf, wL_eq, wL_sI, wL_sR, wL_N, wL_Nz, wT_sI, wT_sR, wT_sL, wT_N, wT_Nz, wZ_sI, wZ_sR, wZ_sL, wZ_sN, wI_sX, wL_sX, wR_sX, wZ_sX]
        · rw [e89, hw2, hw1]; simp (disch := omega) only [wI_ne, wI_nf, wI_eq, wI_sR, wI_sL, wI_N, wI_Nz, wR_ne, wR_nf, wR_eq, wR_sI, wR_sL, wR_N, wR_Nz, wL_ne, wL_nf, wL_eq, wL_sI, wL_sR, wL_N, wL_Nz, wT_sI, wT_sR, wT_sL, wT_N, wT_Nz, wZ_sI, wZ_sR, wZ_sL, wZ_sN, wI_sX, wL_sX, wR_sX, wZ_sX]
        · rw [e90, hw2, hw1]; simp (disch := omega) only [wI_ne, wI_nf, wI_eq, wI_sR, wI_sL, wI_N, wI_Nz, wR_ne, wR_nf, wR_eq, wR_sI, wR_sL, wR_N, wR_Nz, wL_ne, wL_nf, wL_eq, wL_sI, wL_sR, wL_N, wL_Nz, wT_sI, wT_sR, wT_sL, wT_N, wT_Nz, wZ_sI, wZ_sR, wZ_sL, wZ_sN, wI_sX, wL_sX, wR_sX, wZ_sX]
        · rw [e88]; exact sg_in (hi := 99) (by decide) c2
        · rw [e89]; exact sg_in (hi := 19) (by decide) c3
        · rw [e90]; exact sg_in (hi := 2000) (by decide) c4
        · rw [e91, r4, hfr]
          rcases sg with rfl | ⟨e4, q1, rfl⟩
          · exact Or.inl ⟨rfl, if_pos rfl⟩
          · have q2 : ¬ Int32.ofNat e4 = -1 := fun q => by have := i_nn (a := e4) (by omega); rw [q] at this; exact this (by decide)
            refine Or.inr ⟨e4, q1, rfl, ?_⟩
            rw [if_neg q2, tn_i (by omega), e24 e4 (by omega)]
      · obtain ⟨a, f1, f2, f3⟩ := hk i (by omega)
        have q1 := f2.1
        have q2 := f2.2.1
        refine ⟨a, by rw [e24 i q]; exact f1, f2.kept k2, ?_⟩
        rw [show wI w2 a 0 = wI w a 0 by rw [hw2, hw1]; simp (disch := omega) only [wI_ne, wI_nf, wI_eq, wI_sR, wI_sL, wI_N, wI_Nz, wR_ne, wR_nf, wR_eq, wR_sI, wR_sL, wR_N, wR_Nz, wL_ne, wL_nf, wL_eq, wL_sI, wL_sR, wL_N, wL_Nz, wT_sI, wT_sR, wT_sL, wT_N, wT_Nz, wZ_sI, wZ_sR, wZ_sL, wZ_sN, wI_sX, wL_sX, wR_sX, wZ_sX], show wI w2 a 1 = wI w a 1 by rw [hw2, hw1]; simp (disch := omega) only [wI_ne, wI_nf, wI_eq, wI_sR, wI_sL, wI_N, wI_Nz, wR_ne, wR_nf, wR_eq, wR_sI, wR_sL, wR_N, wR_Nz, wL_ne, wL_nf, wL_eq, wL_sI, wL_sR, wL_N, wL_Nz, wT_sI, wT_sR, wT_sL, wT_N, wT_Nz, wZ_sI, wZ_sR, wZ_sL, wZ_sN, wI_sX, wL_sX, wR_sX, wZ_sX], show wI w2 a 2 = wI w a 2 by rw [hw2, hw1]; simp (disch := omega) only [wI_ne, wI_nf, wI_eq, wI_sR, wI_sL, wI_N, wI_Nz, wR_ne, wR_nf, wR_eq, wR_sI, wR_sL, wR_N, wR_Nz, wL_ne, wL_nf, wL_eq, wL_sI, wL_sR, wL_N, wL_Nz, wT_sI, wT_sR, wT_sL, wT_N, wT_Nz, wZ_sI, wZ_sR, wZ_sL, wZ_sN, wI_sX, wL_sX, wR_sX, wZ_sX], show wI w2 a 3 = wI w a 3 by rw [hw2, hw1]; simp (disch := omega) only [wI_ne, wI_nf, wI_eq, wI_sR, wI_sL, wI_N, wI_Nz, wR_ne, wR_nf, wR_eq, wR_sI, wR_sL, wR_N, wR_Nz, wL_ne, wL_nf, wL_eq, wL_sI, wL_sR, wL_N, wL_Nz, wT_sI, wT_sR, wT_sL, wT_N, wT_Nz, wZ_sI, wZ_sR, wZ_sL, wZ_sN, wI_sX, wL_sX, wR_sX, wZ_sX], show wR w2 a 4 = wR w a 4 by rw [hw2, hw1]; simp (disch := omega) only [wI_ne, wI_nf, wI_eq, wI_sR, wI_sL, wI_N, wI_Nz, wR_ne, wR_nf, wR_eq, wR_sI, wR_sL, wR_N, wR_Nz, wL_ne, wL_nf, wL_eq, wL_sI, wL_sR, wL_N, wL_Nz, wT_sI, wT_sR, wT_sL, wT_N, wT_Nz, wZ_sI, wZ_sR, wZ_sL, wZ_sN, wI_sX, wL_sX, wR_sX, wZ_sX], show wI w2 88 i = wI w 88 i by rw [hw2, hw1]; simp (disch := omega) only [wI_ne, wI_nf, wI_eq, wI_sR, wI_sL, wI_N, wI_Nz, wR_ne, wR_nf, wR_eq, wR_sI, wR_sL, wR_N, wR_Nz, wL_ne, wL_nf, wL_eq, wL_sI, wL_sR, wL_N, wL_Nz, wT_sI, wT_sR, wT_sL, wT_N, wT_Nz, wZ_sI, wZ_sR, wZ_sL, wZ_sN, wI_sX, wL_sX, wR_sX, wZ_sX], show wI w2 89 i = wI w 89 i by rw [hw2, hw1]; simp (disch := omega) only [wI_ne, wI_nf, wI_eq, wI_sR, wI_sL, wI_N, wI_Nz, wR_ne, wR_nf, wR_eq, wR_sI, wR_sL, wR_N, wR_Nz, wL_ne, wL_nf, wL_eq, wL_sI, wL_sR, wL_N, wL_Nz, wT_sI, wT_sR, wT_sL, wT_N, wT_Nz, wZ_sI, wZ_sR, wZ_sL, wZ_sN, wI_sX, wL_sX, wR_sX, wZ_sX], show wI w2 90 i = wI w 90 i by rw [hw2, hw1]; simp (disch := omega) only [wI_ne, wI_nf, wI_eq, wI_sR, wI_sL, wI_N, wI_Nz, wR_ne, wR_nf, wR_eq, wR_sI, wR_sL, wR_N, wR_Nz, wL_ne, wL_nf, wL_eq, wL_sI, wL_sR, wL_N, wL_Nz, wT_sI, wT_sR, wT_sL, wT_N, wT_Nz, wZ_sI, wZ_sR, wZ_sL, wZ_sN, wI_sX, wL_sX, wR_sX, wZ_sX], show wI w2 91 i = wI w 91 i by rw [hw2, hw1]; simp (disch := omega) only [wI_ne, wI_nf, wI_eq, wI_sR, wI_sL, wI_N, wI_Nz, wR_ne, wR_nf, wR_eq, wR_sI, wR_sL, wR_N, wR_Nz, wL_ne, wL_nf, wL_eq, wL_sI, wL_sR, wL_N, wL_Nz, wT_sI, wT_sR, wT_sL, wT_N, wT_Nz, wZ_sI, wZ_sR, wZ_sL, wZ_sN, wI_sX, wL_sX, wR_sX, wZ_sX]]
        obtain ⟨p1, p2, p3, p4, p5, p6, p7, p8⟩ := f3
        refine ⟨p1, p2, p3, p4, p5, p6, p7, ?_⟩
        rcases p8 with p8 | ⟨j', j1, j2, j3⟩
        · exact Or.inl p8
        · exact Or.inr ⟨j', j1, j2, by rw [e24 j' (by omega)]; exact j3⟩
