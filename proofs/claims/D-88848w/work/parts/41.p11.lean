/-! PURE PART: edition, decrees known, cards made -/
theorem p2m : ∀ L, L < 17 → (1 : Int32) <<< (Int32.ofNat L &&& 31) - 1 = Int32.ofNat (2 ^ L - 1) := by decide +kernel
theorem st_6 {j : Nat} {w : Wd} {a1 a2 a3 a4 a5 : Int32} (h : Inv j w) : ∃ w2, okc_6 a1 a2 a3 a4 a5 w w2 ∧ Inv (j + 1) w2 := by
  obtain ⟨n, hn, hx, hm, hk, hr⟩ := id h.edi
  obtain ⟨nb, hnb, hxb, hmb, hkb, -, -, -, hrb⟩ := id h.boo
  have hz := h.z8
  by_cases c1 : inB a1 0 (Int32.ofNat nb - 1) = true
  rotate_left
  · have c1 := ne_of_tf c1
    refine ⟨w, ⟨0, 0, -1, w, ?_, ?_⟩, h.same⟩
    · simp only [f_X0_edition, inX, inM, f_X0_isTown, f_X4_isTown, f_X0_isDay, f_X4_isDay, f_X0_isBook, f_X4_isBook, f_X0_isEdition, f_X4_isEdition, f_X0_isCard, f_X4_isCard, f_X0_isPerson, f_X4_isPerson, f_X0_isCopy, f_X0_isTape, f_X4_isTape, f_X0_isBy, f_X4_isTime, f_X0_isDecree, f_X4_isSlip, hx, hm, hxb, hmb, c1, ↓reduceIte, if_true, if_false, eq_self, ite_true, ite_false, Option.bind_some, not_true_eq_false, not_false_eq_true, Bool.false_eq_true]
    · simp only [f_X4_edition, inX, inM, f_X0_isTown, f_X4_isTown, f_X0_isDay, f_X4_isDay, f_X0_isBook, f_X4_isBook, f_X0_isEdition, f_X4_isEdition, f_X0_isCard, f_X4_isCard, f_X0_isPerson, f_X4_isPerson, f_X0_isCopy, f_X0_isTape, f_X4_isTape, f_X0_isBy, f_X4_isTime, f_X0_isDecree, f_X4_isSlip, hx, hm, hxb, hmb, c1, ↓reduceIte, if_true, if_false, eq_self, ite_true, ite_false, Option.bind_some, not_true_eq_false, not_false_eq_true, Bool.false_eq_true]
  by_cases c2 : inB a3 0 7 = true
  rotate_left
  · have c2 := ne_of_tf c2
    refine ⟨w, ⟨0, 0, -1, w, ?_, ?_⟩, h.same⟩
    · simp only [f_X0_edition, inX, inM, f_X0_isTown, f_X4_isTown, f_X0_isDay, f_X4_isDay, f_X0_isBook, f_X4_isBook, f_X0_isEdition, f_X4_isEdition, f_X0_isCard, f_X4_isCard, f_X0_isPerson, f_X4_isPerson, f_X0_isCopy, f_X0_isTape, f_X4_isTape, f_X0_isBy, f_X4_isTime, f_X0_isDecree, f_X4_isSlip, hx, hm, hxb, hmb, c1, c2, ↓reduceIte, if_true, if_false, eq_self, ite_true, ite_false, Option.bind_some, not_true_eq_false, not_false_eq_true, Bool.false_eq_true]
    · simp only [f_X4_edition, inX, inM, f_X0_isTown, f_X4_isTown, f_X0_isDay, f_X4_isDay, f_X0_isBook, f_X4_isBook, f_X0_isEdition, f_X4_isEdition, f_X0_isCard, f_X4_isCard, f_X0_isPerson, f_X4_isPerson, f_X0_isCopy, f_X0_isTape, f_X4_isTape, f_X0_isBy, f_X4_isTime, f_X0_isDecree, f_X4_isSlip, hx, hm, hxb, hmb, c1, c2, ↓reduceIte, if_true, if_false, eq_self, ite_true, ite_false, Option.bind_some, not_true_eq_false, not_false_eq_true, Bool.false_eq_true]
  obtain ⟨k, hk1, rfl⟩ := inB_lt (by omega) c1
  obtain ⟨t, ht, rfl⟩ := inB_7 c2
  obtain ⟨b, g1, g2, g3, g4, g5, g6, g7, g8, ⟨L, hL, g9⟩, -⟩ := hkb k hk1
  have tb := g2.1.2.2
  have hb8 := g2.1.1
  have hbz := g2.1.2.1
  have hin : inb (Int32.ofNat k) 16 = True := inb_t (by omega) (by decide)
  have gk : wR w 11 (Int32.ofNat k).toNatClampNeg = some b := by rw [tn_i (by omega)]; exact g1
  have eL := p2m L (by omega)
  have pL : 2 ^ L ≤ 65536 := Nat.pow_le_pow_right (n := 2) (by omega) (show L ≤ 16 by omega)
  -- where the copied one is wrong
  by_cases c3 : a4 = -1 ∨ inB a4 0 (Int32.ofNat n - 1) = true
  rotate_left
  · have c3a : (a4 = -1) = False := eq_false (fun q => c3 (Or.inl q))
    have c3b : inB a4 0 (Int32.ofNat n - 1) = false := ne_of_tf (fun q => c3 (Or.inr q))
    refine ⟨w, ⟨0, 0, -1, w, ?_, ?_⟩, h.same⟩
    · simp only [f_X0_edition, inX, inM, f_X0_isTown, f_X4_isTown, f_X0_isDay, f_X4_isDay, f_X0_isBook, f_X4_isBook, f_X0_isEdition, f_X4_isEdition, f_X0_isCard, f_X4_isCard, f_X0_isPerson, f_X4_isPerson, f_X0_isCopy, f_X0_isTape, f_X4_isTape, f_X0_isBy, f_X4_isTime, f_X0_isDecree, f_X4_isSlip, hx, hxb, c1, c2, c3a, c3b, ↓reduceIte, if_true, if_false, eq_self, ite_true, ite_false, Option.bind_some, not_true_eq_false, not_false_eq_true, Bool.false_eq_true]
    · simp only [f_X4_edition, inX, inM, f_X0_isTown, f_X4_isTown, f_X0_isDay, f_X4_isDay, f_X0_isBook, f_X4_isBook, f_X0_isEdition, f_X4_isEdition, f_X0_isCard, f_X4_isCard, f_X0_isPerson, f_X4_isPerson, f_X0_isCopy, f_X0_isTape, f_X4_isTape, f_X0_isBy, f_X4_isTime, f_X0_isDecree, f_X4_isSlip, hm, hmb, c1, c2, c3a, c3b, ↓reduceIte, if_true, if_false, eq_self, ite_true, ite_false, Option.bind_some, not_true_eq_false, not_false_eq_true, Bool.false_eq_true]
  -- the last step of both
  have fin : ∀ v, 1 ≤ v → v ≤ 65535 → a2 = Int32.ofNat v → ∃ r w1 w2, f_X0_edition_J84 (Int32.ofNat k) a2 (Int32.ofNat t) a4 (some b) w = some (r, w1) ∧ f_X4_edition_J74 (Int32.ofNat k) a2 (Int32.ofNat t) a4 w1 = some (r, w2) ∧ Inv (j + 1) w2 ∧ wI w1 58 2 = wI w 58 2 ∧ wI w1 58 3 = wI w 58 3 ∧ (∀ f, wI w1 65 f = wI w 65 f) ∧ ∀ f, wI w1 67 f = wI w 67 f := by
    intro v hv1 hv2 ev
    by_cases c4 : n = 24
    · subst c4
      have e9 : (Int32.ofNat 24 = 24) = True := eq_true rfl
      refine ⟨-4, w, w, ?_, ?_, h.same, rfl, rfl, fun _ => rfl, fun _ => rfl⟩
      · simp only [f_X0_edition_J84, hx, e9, ↓reduceIte, if_true, if_false, eq_self, ite_true, ite_false, Option.bind_some, not_true_eq_false, not_false_eq_true, Bool.false_eq_true]
      · simp only [f_X4_edition_J74, hm, e9, ↓reduceIte, if_true, if_false, eq_self, ite_true, ite_false, Option.bind_some, not_true_eq_false, not_false_eq_true, Bool.false_eq_true]
    have hne : (Int32.ofNat n = 24) = False := eq_false (fun q => c4 ((i_inj (b := 24) (by omega) (by decide)).mp q))
    have hin2 : inb (Int32.ofNat n) 24 = True := inb_t (by omega) (by decide)
    have hs1 : Int32.ofNat n + 1 = Int32.ofNat (n + 1) := i_add n 1
    have hs2 : Int32.ofNat (n + 1) - 1 = Int32.ofNat n := i_sub (b := 1) (by omega)
    have hz8 : (108 ≤ wZ w) = True := eq_true hz
    obtain ⟨w1, hw1⟩ : ∃ w1, w1 = sI (sR (sI (sI (sI (sR (sI (sN w 8 0) (wZ w) 0 (Int32.ofNat n)) (wZ w) 3 (some b)) (wZ w) 1 a2) (wZ w) 2 (Int32.ofNat t)) (wZ w) 4 a4) 12 n (some (wZ w))) 0 7 (Int32.ofNat (n + 1)) := ⟨_, rfl⟩
    obtain ⟨w2, hw2⟩ : ∃ w2, w2 = sI (sI (sI (sI (sI w1 67 n (Int32.ofNat k)) 68 n a2) 69 n (Int32.ofNat t)) 70 n a4) 58 3 (Int32.ofNat (n + 1)) := ⟨_, rfl⟩
    refine ⟨Int32.ofNat n, w1, w2, ?_, ?_, ?_, ?_, ?_, ?_, ?_⟩
    · rw [hw1]
      simp (disch := omega) only [f_X0_edition_J84, f_X7_init, wI_ne, wI_nf, wI_eq, wI_sR, wI_sL, wI_N, wI_Nz, wR_ne, wR_nf, wR_eq, wR_sI, wR_sL, wR_N, wR_Nz, wL_ne, wL_nf, wL_eq, wL_sI, wL_sR, wL_N, wL_Nz, wT_sI, wT_sR, wT_sL, wT_N, wT_Nz, wZ_sI, wZ_sR, wZ_sL, wZ_sN, wI_sX, wL_sX, wR_sX, wZ_sX, hx, hz8, hne, hin2, tn_i, hs1, ↓reduceIte, if_true, if_false, eq_self, ite_true, ite_false, Option.bind_some, not_true_eq_false, not_false_eq_true, Bool.false_eq_true]
    · rw [hw2]
      have em : wI w1 58 3 = Int32.ofNat n := by rw [hw1]; simp (disch := omega) only [wI_ne, wI_nf, wI_eq, wI_sR, wI_sL, wI_N, wI_Nz, wR_ne, wR_nf, wR_eq, wR_sI, wR_sL, wR_N, wR_Nz, wL_ne, wL_nf, wL_eq, wL_sI, wL_sR, wL_N, wL_Nz, wT_sI, wT_sR, wT_sL, wT_N, wT_Nz, wZ_sI, wZ_sR, wZ_sL, wZ_sN, wI_sX, wL_sX, wR_sX, wZ_sX]; exact hm
      simp (disch := omega) only [f_X4_edition_J74, em, hne, hin2, tn_i, hs1, hs2, ↓reduceIte, if_true, if_false, eq_self, ite_true, ite_false, Option.bind_some, not_true_eq_false, not_false_eq_true, Bool.false_eq_true]
    · have nz : ∀ {f : Nat} {P : Nat → Nat → Prop}, wZ w < wZ w → ¬ P (wZ w) f := fun h9 => absurd h9 (Nat.lt_irrefl _)
      have k2 : Kept (But 5 w) w w2 := by
        rw [hw2, hw1]
        exact ((((((((((((Kept.rfl'.sN 8 0).sI nz).sR nz).sI nz).sI nz).sI nz).sR (fun _ hb => hb.1 rfl)).sI (fun _ hb => hb.1 rfl)).sI (fun _ hb => hb.1 rfl)).sI (fun _ hb => hb.1 rfl)).sI (fun _ hb => hb.1 rfl)).sI (fun _ hb => hb.1 rfl)).sI (fun _ hb => hb.1 rfl)
      have hz2 : wZ w2 = wZ w + 1 := by rw [hw2, hw1]; rfl
      have hT : wT w2 (wZ w) = (8, 0) := by rw [hw2, hw1]; simp (disch := omega) only [wI_ne, wI_nf, wI_eq, wI_sR, wI_sL, wI_N, wI_Nz, wR_ne, wR_nf, wR_eq, wR_sI, wR_sL, wR_N, wR_Nz, wL_ne, wL_nf, wL_eq, wL_sI, wL_sR, wL_N, wL_Nz, wT_sI, wT_sR, wT_sL, wT_N, wT_Nz, wZ_sI, wZ_sR, wZ_sL, wZ_sN, wI_sX, wL_sX, wR_sX, wZ_sX]
      have e12 : ∀ f, f ≠ n → wR w2 12 f = wR w 12 f := by intro f hf; rw [hw2, hw1]; simp (disch := omega) only [wI_ne, wI_nf, wI_eq, wI_sR, wI_sL, wI_N, wI_Nz, wR_ne, wR_nf, wR_eq, wR_sI, wR_sL, wR_N, wR_Nz, wL_ne, wL_nf, wL_eq, wL_sI, wL_sR, wL_N, wL_Nz, wT_sI, wT_sR, wT_sL, wT_N, wT_Nz, wZ_sI, wZ_sR, wZ_sL, wZ_sN, wI_sX, wL_sX, wR_sX, wZ_sX]
      have e12n : wR w2 12 n = some (wZ w) := by rw [hw2, hw1]; simp (disch := omega) only [wI_ne, wI_nf, wI_eq, wI_sR, wI_sL, wI_N, wI_Nz, wR_ne, wR_nf, wR_eq, wR_sI, wR_sL, wR_N, wR_Nz, wL_ne, wL_nf, wL_eq, wL_sI, wL_sR, wL_N, wL_Nz, wT_sI, wT_sR, wT_sL, wT_N, wT_Nz, wZ_sI, wZ_sR, wZ_sL, wZ_sN, wI_sX, wL_sX, wR_sX, wZ_sX]
      refine Inv.m5 (h.rest' k2 (fun _ => newOne hz2 (congrArg Prod.fst hT) 7 (by decide)) (fun q => absurd rfl q) (by decide)) ⟨n + 1, by omega, ?_, ?_, fun i hi => ?_, fun a ha => ?_⟩ (by have := h.2.1; omega)
      · rw [hw2, hw1]; simp (disch := omega) only [wI_ne, wI_nf, wI_eq, wI_sR, wI_sL, wI_N, wI_Nz, wR_ne, wR_nf, wR_eq, wR_sI, wR_sL, wR_N, wR_Nz, wL_ne, wL_nf, wL_eq, wL_sI, wL_sR, wL_N, wL_Nz, wT_sI, wT_sR, wT_sL, wT_N, wT_Nz, wZ_sI, wZ_sR, wZ_sL, wZ_sN, wI_sX, wL_sX, wR_sX, wZ_sX]
      · rw [hw2]; simp (disch := omega) only [wI_ne, wI_nf, wI_eq, wI_sR, wI_sL, wI_N, wI_Nz, wR_ne, wR_nf, wR_eq, wR_sI, wR_sL, wR_N, wR_Nz, wL_ne, wL_nf, wL_eq, wL_sI, wL_sR, wL_N, wL_Nz, wT_sI, wT_sR, wT_sL, wT_N, wT_Nz, wZ_sI, wZ_sR, wZ_sL, wZ_sN, wI_sX, wL_sX, wR_sX, wZ_sX]
      · by_cases q : i = n
        · subst q
          refine ⟨wZ w, b, e12n, ⟨hz, by omega, congrArg Prod.fst hT⟩, ?_, ?_, ?_, ?_, ?_, g2.1.kept k2, ?_, ⟨k, by omega, ?_⟩, ⟨v, hv1, hv2, ?_⟩, t, ht, ?_⟩
          · rw [hw2, hw1]; simp (disch := omega) only [wI_ne, wI_nf, wI_eq, wI_sR, wI_sL, wI_N, wI_Nz, wR_ne, wR_nf, wR_eq, wR_sI, wR_sL, wR_N, wR_Nz, wL_ne, wL_nf, wL_eq, wL_sI, wL_sR, wL_N, wL_Nz, wT_sI, wT_sR, wT_sL, wT_N, wT_Nz, wZ_sI, wZ_sR, wZ_sL, wZ_sN, wI_sX, wL_sX, wR_sX, wZ_sX]
          · rw [hw2, hw1]; simp (disch := omega) only [wI_ne, wI_nf, wI_eq, wI_sR, wI_sL, wI_N, wI_Nz, wR_ne, wR_nf, wR_eq, wR_sI, wR_sL, wR_N, wR_Nz, wL_ne, wL_nf, wL_eq, wL_sI, wL_sR, wL_N, wL_Nz, wT_sI, wT_sR, wT_sL, wT_N, wT_Nz, wZ_sI, wZ_sR, wZ_sL, wZ_sN, wI_sX, wL_sX, wR_sX, wZ_sX]
          · rw [hw2, hw1]; simp (disch := omega) only [wI_ne, wI_nf, wI_eq, wI_sR, wI_sL, wI_N, wI_Nz, wR_ne, wR_nf, wR_eq, wR_sI, wR_sL, wR_N, wR_Nz, wL_ne, wL_nf, wL_eq, wL_sI, wL_sR, wL_N, wL_Nz, wT_sI, wT_sR, wT_sL, wT_N, wT_Nz, wZ_sI, wZ_sR, wZ_sL, wZ_sN, wI_sX, wL_sX, wR_sX, wZ_sX]
          · rw [hw2, hw1]; simp (disch := omega) only [wI_ne, wI_nf, wI_eq, wI_sR, wI_sL, wI_N, wI_Nz, wR_ne, wR_nf, wR_eq, wR_sI, wR_sL, wR_N, wR_Nz, wL_ne, wL_nf, wL_eq, wL_sI, wL_sR, wL_N, wL_Nz, wT_sI, wT_sR, wT_sL, wT_N, wT_Nz, wZ_sI, wZ_sR, wZ_sL, wZ_sN, wI_sX, wL_sX, wR_sX, wZ_sX]
          · rw [hw2, hw1]; simp (disch := omega) only [wI_ne, wI_nf, wI_eq, wI_sR, wI_sL, wI_N, wI_Nz, wR_ne, wR_nf, wR_eq, wR_sI, wR_sL, wR_N, wR_Nz, wL_ne, wL_nf, wL_eq, wL_sI, wL_sR, wL_N, wL_Nz, wT_sI, wT_sR, wT_sL, wT_N, wT_Nz, wZ_sI, wZ_sR, wZ_sL, wZ_sN, wI_sX, wL_sX, wR_sX, wZ_sX]
          · rw [hw2, hw1]; simp (disch := omega) only [wI_ne, wI_nf, wI_eq, wI_sR, wI_sL, wI_N, wI_Nz, wR_ne, wR_nf, wR_eq, wR_sI, wR_sL, wR_N, wR_Nz, wL_ne, wL_nf, wL_eq, wL_sI, wL_sR, wL_N, wL_Nz, wT_sI, wT_sR, wT_sL, wT_N, wT_Nz, wZ_sI, wZ_sR, wZ_sL, wZ_sN, wI_sX, wL_sX, wR_sX, wZ_sX]; exact g3
          · rw [hw2, hw1]; simp (disch := omega) only [wI_ne, wI_nf, wI_eq, wI_sR, wI_sL, wI_N, wI_Nz, wR_ne, wR_nf, wR_eq, wR_sI, wR_sL, wR_N, wR_Nz, wL_ne, wL_nf, wL_eq, wL_sI, wL_sR, wL_N, wL_Nz, wT_sI, wT_sR, wT_sL, wT_N, wT_Nz, wZ_sI, wZ_sR, wZ_sL, wZ_sN, wI_sX, wL_sX, wR_sX, wZ_sX]
          · rw [hw2, hw1, ← ev]; simp (disch := omega) only [wI_ne, wI_nf, wI_eq, wI_sR, wI_sL, wI_N, wI_Nz, wR_ne, wR_nf, wR_eq, wR_sI, wR_sL, wR_N, wR_Nz, wL_ne, wL_nf, wL_eq, wL_sI, wL_sR, wL_N, wL_Nz, wT_sI, wT_sR, wT_sL, wT_N, wT_Nz, wZ_sI, wZ_sR, wZ_sL, wZ_sN, wI_sX, wL_sX, wR_sX, wZ_sX]
          · rw [hw2, hw1]; simp (disch := omega) only [wI_ne, wI_nf, wI_eq, wI_sR, wI_sL, wI_N, wI_Nz, wR_ne, wR_nf, wR_eq, wR_sI, wR_sL, wR_N, wR_Nz, wL_ne, wL_nf, wL_eq, wL_sI, wL_sR, wL_N, wL_Nz, wT_sI, wT_sR, wT_sL, wT_N, wT_Nz, wZ_sI, wZ_sR, wZ_sL, wZ_sN, wI_sX, wL_sX, wR_sX, wZ_sX]
        · obtain ⟨a, b', f1, f2, f3⟩ := hk i (by omega)
          have q1 := f2.1
          have q2 := f2.2.1
          have q3 := f3.2.2.2.2.2.1.1
          have q4 := f3.2.2.2.2.2.1.2.1
          refine ⟨a, b', by rw [e12 i q]; exact f1, f2.kept k2, ?_⟩
          have d7 := f3.2.2.2.2.2.1.kept k2
          rw [show wI w2 a 0 = wI w a 0 by rw [hw2, hw1]; simp (disch := omega) only [wI_ne, wI_nf, wI_eq, wI_sR, wI_sL, wI_N, wI_Nz, wR_ne, wR_nf, wR_eq, wR_sI, wR_sL, wR_N, wR_Nz, wL_ne, wL_nf, wL_eq, wL_sI, wL_sR, wL_N, wL_Nz, wT_sI, wT_sR, wT_sL, wT_N, wT_Nz, wZ_sI, wZ_sR, wZ_sL, wZ_sN, wI_sX, wL_sX, wR_sX, wZ_sX], show wI w2 a 1 = wI w a 1 by rw [hw2, hw1]; simp (disch := omega) only [wI_ne, wI_nf, wI_eq, wI_sR, wI_sL, wI_N, wI_Nz, wR_ne, wR_nf, wR_eq, wR_sI, wR_sL, wR_N, wR_Nz, wL_ne, wL_nf, wL_eq, wL_sI, wL_sR, wL_N, wL_Nz, wT_sI, wT_sR, wT_sL, wT_N, wT_Nz, wZ_sI, wZ_sR, wZ_sL, wZ_sN, wI_sX, wL_sX, wR_sX, wZ_sX], show wI w2 a 2 = wI w a 2 by rw [hw2, hw1]; simp (disch := omega) only [wI_ne, wI_nf, wI_eq, wI_sR, wI_sL, wI_N, wI_Nz, wR_ne, wR_nf, wR_eq, wR_sI, wR_sL, wR_N, wR_Nz, wL_ne, wL_nf, wL_eq, wL_sI, wL_sR, wL_N, wL_Nz, wT_sI, wT_sR, wT_sL, wT_N, wT_Nz, wZ_sI, wZ_sR, wZ_sL, wZ_sN, wI_sX, wL_sX, wR_sX, wZ_sX], show wI w2 a 4 = wI w a 4 by rw [hw2, hw1]; simp (disch := omega) only [wI_ne, wI_nf, wI_eq, wI_sR, wI_sL, wI_N, wI_Nz, wR_ne, wR_nf, wR_eq, wR_sI, wR_sL, wR_N, wR_Nz, wL_ne, wL_nf, wL_eq, wL_sI, wL_sR, wL_N, wL_Nz, wT_sI, wT_sR, wT_sL, wT_N, wT_Nz, wZ_sI, wZ_sR, wZ_sL, wZ_sN, wI_sX, wL_sX, wR_sX, wZ_sX], show wR w2 a 3 = wR w a 3 by rw [hw2, hw1]; simp (disch := omega) only [wI_ne, wI_nf, wI_eq, wI_sR, wI_sL, wI_N, wI_Nz, wR_ne, wR_nf, wR_eq, wR_sI, wR_sL, wR_N, wR_Nz, wL_ne, wL_nf, wL_eq, wL_sI, wL_sR, wL_N, wL_Nz, wT_sI, wT_sR, wT_sL, wT_N, wT_Nz, wZ_sI, wZ_sR, wZ_sL, wZ_sN, wI_sX, wL_sX, wR_sX, wZ_sX], show wI w2 b' 0 = wI w b' 0 by rw [hw2, hw1]; simp (disch := omega) only [wI_ne, wI_nf, wI_eq, wI_sR, wI_sL, wI_N, wI_Nz, wR_ne, wR_nf, wR_eq, wR_sI, wR_sL, wR_N, wR_Nz, wL_ne, wL_nf, wL_eq, wL_sI, wL_sR, wL_N, wL_Nz, wT_sI, wT_sR, wT_sL, wT_N, wT_Nz, wZ_sI, wZ_sR, wZ_sL, wZ_sN, wI_sX, wL_sX, wR_sX, wZ_sX], show wI w2 67 i = wI w 67 i by rw [hw2, hw1]; simp (disch := omega) only [wI_ne, wI_nf, wI_eq, wI_sR, wI_sL, wI_N, wI_Nz, wR_ne, wR_nf, wR_eq, wR_sI, wR_sL, wR_N, wR_Nz, wL_ne, wL_nf, wL_eq, wL_sI, wL_sR, wL_N, wL_Nz, wT_sI, wT_sR, wT_sL, wT_N, wT_Nz, wZ_sI, wZ_sR, wZ_sL, wZ_sN, wI_sX, wL_sX, wR_sX, wZ_sX], show wI w2 68 i = wI w 68 i by rw [hw2, hw1]; simp (disch := omega) only [wI_ne, wI_nf, wI_eq, wI_sR, wI_sL, wI_N, wI_Nz, wR_ne, wR_nf, wR_eq, wR_sI, wR_sL, wR_N, wR_Nz, wL_ne, wL_nf, wL_eq, wL_sI, wL_sR, wL_N, wL_Nz, wT_sI, wT_sR, wT_sL, wT_N, wT_Nz, wZ_sI, wZ_sR, wZ_sL, wZ_sN, wI_sX, wL_sX, wR_sX, wZ_sX], show wI w2 69 i = wI w 69 i by rw [hw2, hw1]; simp (disch := omega) only [wI_ne, wI_nf, wI_eq, wI_sR, wI_sL, wI_N, wI_Nz, wR_ne, wR_nf, wR_eq, wR_sI, wR_sL, wR_N, wR_Nz, wL_ne, wL_nf, wL_eq, wL_sI, wL_sR, wL_N, wL_Nz, wT_sI, wT_sR, wT_sL, wT_N, wT_Nz, wZ_sI, wZ_sR, wZ_sL, wZ_sN, wI_sX, wL_sX, wR_sX, wZ_sX], show wI w2 70 i = wI w 70 i by rw [hw2, hw1]; simp (disch := omega) only [wI_ne, wI_nf, wI_eq, wI_sR, wI_sL, wI_N, wI_Nz, wR_ne, wR_nf, wR_eq, wR_sI, wR_sL, wR_N, wR_Nz, wL_ne, wL_nf, wL_eq, wL_sI, wL_sR, wL_N, wL_Nz, wT_sI, wT_sR, wT_sL, wT_N, wT_Nz, wZ_sI, wZ_sR, wZ_sL, wZ_sN, wI_sX, wL_sX, wR_sX, wZ_sX]]
          exact ⟨f3.1, f3.2.1, f3.2.2.1, f3.2.2.2.1, f3.2.2.2.2.1, d7, f3.2.2.2.2.2.2⟩
      · rcases Nat.lt_or_ge a (wZ w) with q | q
        · obtain ⟨i, q1, q2⟩ := hr a ⟨ha.1, q, by rw [← k2.T q]; exact ha.2.2⟩
          exact ⟨i, by omega, by rw [e12 i (by omega)]; exact q2⟩
        · have := ha.2.1
          have e : a = wZ w := by omega
          subst e
          exact ⟨n, by omega, e12n⟩
    · rw [hw1]; simp (disch := omega) only [wI_ne, wI_nf, wI_eq, wI_sR, wI_sL, wI_N, wI_Nz, wR_ne, wR_nf, wR_eq, wR_sI, wR_sL, wR_N, wR_Nz, wL_ne, wL_nf, wL_eq, wL_sI, wL_sR, wL_N, wL_Nz, wT_sI, wT_sR, wT_sL, wT_N, wT_Nz, wZ_sI, wZ_sR, wZ_sL, wZ_sN, wI_sX, wL_sX, wR_sX, wZ_sX]
    · rw [hw1]; simp (disch := omega) only [wI_ne, wI_nf, wI_eq, wI_sR, wI_sL, wI_N, wI_Nz, wR_ne, wR_nf, wR_eq, wR_sI, wR_sL, wR_N, wR_Nz, wL_ne, wL_nf, wL_eq, wL_sI, wL_sR, wL_N, wL_Nz, wT_sI, wT_sR, wT_sL, wT_N, wT_Nz, wZ_sI, wZ_sR, wZ_sL, wZ_sN, wI_sX, wL_sX, wR_sX, wZ_sX]
    · intro f; rw [hw1]; simp (disch := omega) only [wI_ne, wI_nf, wI_eq, wI_sR, wI_sL, wI_N, wI_Nz, wR_ne, wR_nf, wR_eq, wR_sI, wR_sL, wR_N, wR_Nz, wL_ne, wL_nf, wL_eq, wL_sI, wL_sR, wL_N, wL_Nz, wT_sI, wT_sR, wT_sL, wT_N, wT_Nz, wZ_sI, wZ_sR, wZ_sL, wZ_sN, wI_sX, wL_sX, wR_sX, wZ_sX]
    · intro f; rw [hw1]; simp (disch := omega) only [wI_ne, wI_nf, wI_eq, wI_sR, wI_sL, wI_N, wI_Nz, wR_ne, wR_nf, wR_eq, wR_sI, wR_sL, wR_N, wR_Nz, wL_ne, wL_nf, wL_eq, wL_sI, wL_sR, wL_N, wL_Nz, wT_sI, wT_sR, wT_sL, wT_N, wT_Nz, wZ_sI, wZ_sR, wZ_sL, wZ_sN, wI_sX, wL_sX, wR_sX, wZ_sX]
  by_cases c5 : inB a2 1 (Int32.ofNat (2 ^ L - 1)) = true
  rotate_left
  · have c5 := ne_of_tf c5
    refine ⟨w, ⟨0, 0, -2, w, ?_, ?_⟩, h.same⟩
    · unfold f_X0_edition f_X0_edition_J32
      rw [gk, Option.bind_some]
      rcases c3 with c3 | c3
      · subst c3
        simp (disch := omega) only [inX, inM, f_X0_isTown, f_X4_isTown, f_X0_isDay, f_X4_isDay, f_X0_isBook, f_X4_isBook, f_X0_isEdition, f_X4_isEdition, f_X0_isCard, f_X4_isCard, f_X0_isPerson, f_X4_isPerson, f_X0_isCopy, f_X0_isTape, f_X4_isTape, f_X0_isBy, f_X4_isTime, f_X0_isDecree, f_X4_isSlip, hxb, c1, c2, hin, tb, g7, g9, eL, c5, ↓reduceIte, if_true, if_false, eq_self, ite_true, ite_false, Option.bind_some, not_true_eq_false, not_false_eq_true, Bool.false_eq_true]
      · by_cases q : a4 = -1
        · subst q
          simp (disch := omega) only [inX, inM, f_X0_isTown, f_X4_isTown, f_X0_isDay, f_X4_isDay, f_X0_isBook, f_X4_isBook, f_X0_isEdition, f_X4_isEdition, f_X0_isCard, f_X4_isCard, f_X0_isPerson, f_X4_isPerson, f_X0_isCopy, f_X0_isTape, f_X4_isTape, f_X0_isBy, f_X4_isTime, f_X0_isDecree, f_X4_isSlip, hxb, c1, c2, hin, tb, g7, g9, eL, c5, ↓reduceIte, if_true, if_false, eq_self, ite_true, ite_false, Option.bind_some, not_true_eq_false, not_false_eq_true, Bool.false_eq_true]
        · simp (disch := omega) only [inX, inM, f_X0_isTown, f_X4_isTown, f_X0_isDay, f_X4_isDay, f_X0_isBook, f_X4_isBook, f_X0_isEdition, f_X4_isEdition, f_X0_isCard, f_X4_isCard, f_X0_isPerson, f_X4_isPerson, f_X0_isCopy, f_X0_isTape, f_X4_isTape, f_X0_isBy, f_X4_isTime, f_X0_isDecree, f_X4_isSlip, hx, hxb, c1, c2, c3, eq_false q, hin, tb, g7, g9, eL, c5, ↓reduceIte, if_true, if_false, eq_self, ite_true, ite_false, Option.bind_some, not_true_eq_false, not_false_eq_true, Bool.false_eq_true]
    · unfold f_X4_edition f_X4_edition_J33
      rcases c3 with c3 | c3
      · subst c3
        simp (disch := omega) only [inX, inM, f_X0_isTown, f_X4_isTown, f_X0_isDay, f_X4_isDay, f_X0_isBook, f_X4_isBook, f_X0_isEdition, f_X4_isEdition, f_X0_isCard, f_X4_isCard, f_X0_isPerson, f_X4_isPerson, f_X0_isCopy, f_X0_isTape, f_X4_isTape, f_X0_isBy, f_X4_isTime, f_X0_isDecree, f_X4_isSlip, hmb, c1, c2, hin, tn_i, g9, eL, c5, ↓reduceIte, if_true, if_false, eq_self, ite_true, ite_false, Option.bind_some, not_true_eq_false, not_false_eq_true, Bool.false_eq_true]
      · by_cases q : a4 = -1
        · subst q
          simp (disch := omega) only [inX, inM, f_X0_isTown, f_X4_isTown, f_X0_isDay, f_X4_isDay, f_X0_isBook, f_X4_isBook, f_X0_isEdition, f_X4_isEdition, f_X0_isCard, f_X4_isCard, f_X0_isPerson, f_X4_isPerson, f_X0_isCopy, f_X0_isTape, f_X4_isTape, f_X0_isBy, f_X4_isTime, f_X0_isDecree, f_X4_isSlip, hmb, c1, c2, hin, tn_i, g9, eL, c5, ↓reduceIte, if_true, if_false, eq_self, ite_true, ite_false, Option.bind_some, not_true_eq_false, not_false_eq_true, Bool.false_eq_true]
        · simp (disch := omega) only [inX, inM, f_X0_isTown, f_X4_isTown, f_X0_isDay, f_X4_isDay, f_X0_isBook, f_X4_isBook, f_X0_isEdition, f_X4_isEdition, f_X0_isCard, f_X4_isCard, f_X0_isPerson, f_X4_isPerson, f_X0_isCopy, f_X0_isTape, f_X4_isTape, f_X0_isBy, f_X4_isTime, f_X0_isDecree, f_X4_isSlip, hm, hmb, c1, c2, c3, eq_false q, hin, tn_i, g9, eL, c5, ↓reduceIte, if_true, if_false, eq_self, ite_true, ite_false, Option.bind_some, not_true_eq_false, not_false_eq_true, Bool.false_eq_true]
  obtain ⟨v, hv1, hv2, ev⟩ := inB_bd (lo := 1) (hi := 2 ^ L - 1) (by decide) (by omega) c5
  obtain ⟨r, w1, w2, x1, x2, x3, x4, x5, x6, x7⟩ := fin v hv1 (by omega) ev
  by_cases c6 : a4 = -1
  · subst c6
    have m1 : ((-1 : Int32) < 0) = True := eq_true (by decide)
    refine ⟨w2, ⟨0, 0, r, w1, ?_, ?_⟩, x3⟩
    · unfold f_X0_edition f_X0_edition_J32
      rw [gk, Option.bind_some]
      simp (disch := omega) only [inX, inM, f_X0_isTown, f_X4_isTown, f_X0_isDay, f_X4_isDay, f_X0_isBook, f_X4_isBook, f_X0_isEdition, f_X4_isEdition, f_X0_isCard, f_X4_isCard, f_X0_isPerson, f_X4_isPerson, f_X0_isCopy, f_X0_isTape, f_X4_isTape, f_X0_isBy, f_X4_isTime, f_X0_isDecree, f_X4_isSlip, hxb, c1, c2, hin, tb, g7, g9, eL, c5, x1, ↓reduceIte, if_true, if_false, eq_self, ite_true, ite_false, Option.bind_some, not_true_eq_false, not_false_eq_true, Bool.false_eq_true]
    · unfold f_X4_edition f_X4_edition_J33
      simp (disch := omega) only [inX, inM, f_X0_isTown, f_X4_isTown, f_X0_isDay, f_X4_isDay, f_X0_isBook, f_X4_isBook, f_X0_isEdition, f_X4_isEdition, f_X0_isCard, f_X4_isCard, f_X0_isPerson, f_X4_isPerson, f_X0_isCopy, f_X0_isTape, f_X4_isTape, f_X0_isBy, f_X4_isTime, f_X0_isDecree, f_X4_isSlip, x4, hmb, c1, c2, hin, tn_i, x6, g9, eL, c5, m1, x2, ↓reduceIte, if_true, if_false, eq_self, ite_true, ite_false, Option.bind_some, not_true_eq_false, not_false_eq_true, Bool.false_eq_true]
  have c7 : inB a4 0 (Int32.ofNat n - 1) = true := by rcases c3 with q | q; exact absurd q c6; exact q
  obtain ⟨e, he, rfl⟩ := inB_lt (by omega) c7
  obtain ⟨a, b', i', hE⟩ := edb h.boo (hk e he)
  obtain ⟨f1, f2, f3, f4, f5, f6, f7, f8, f9, f10, f11, f12, -⟩ := hE
  have ta := f2.2.2
  have ge : wR w 12 (Int32.ofNat e).toNatClampNeg = some a := by rw [tn_i (by omega)]; exact f1
  have m1 : (Int32.ofNat e < 0) = False := eq_false (i_nn (by omega))
  have hin4 : inb (Int32.ofNat e) 24 = True := inb_t (by omega) (by decide)
  have c6' : (Int32.ofNat e = -1) = False := eq_false c6
  have same : (some b' = some b) = (Int32.ofNat i' = Int32.ofNat k) := by
    apply propext
    constructor
    · intro q
      cases q
      rw [← f12, ← g3]
    · intro q
      have := (i_inj (by omega) (by omega)).mp q
      subst this
      rw [← f10, ← g1]
  by_cases c8 : Int32.ofNat i' = Int32.ofNat k
  · refine ⟨w2, ⟨0, 0, r, w1, ?_, ?_⟩, x3⟩
    · unfold f_X0_edition f_X0_edition_J32
      rw [gk, Option.bind_some, ge, Option.bind_some]
      simp (disch := omega) only [inX, inM, f_X0_isTown, f_X4_isTown, f_X0_isDay, f_X4_isDay, f_X0_isBook, f_X4_isBook, f_X0_isEdition, f_X4_isEdition, f_X0_isCard, f_X4_isCard, f_X0_isPerson, f_X4_isPerson, f_X0_isCopy, f_X0_isTape, f_X4_isTape, f_X0_isBy, f_X4_isTime, f_X0_isDecree, f_X4_isSlip, hx, hxb, c1, c2, c7, c6', hin, hin4, tb, ta, f7, same, eq_true c8, g7, g9, eL, c5, x1, ↓reduceIte, if_true, if_false, eq_self, ite_true, ite_false, Option.bind_some, not_true_eq_false, not_false_eq_true, Bool.false_eq_true]
    · unfold f_X4_edition f_X4_edition_J33
      simp (disch := omega) only [inX, inM, f_X0_isTown, f_X4_isTown, f_X0_isDay, f_X4_isDay, f_X0_isBook, f_X4_isBook, f_X0_isEdition, f_X4_isEdition, f_X0_isCard, f_X4_isCard, f_X0_isPerson, f_X4_isPerson, f_X0_isCopy, f_X0_isTape, f_X4_isTape, f_X0_isBy, f_X4_isTime, f_X0_isDecree, f_X4_isSlip, x4, x5, hm, hmb, c1, c2, c7, c6', hin, hin4, tn_i, x6, x7, g9, eL, c5, m1, f9, eq_true c8, x2, ↓reduceIte, if_true, if_false, eq_self, ite_true, ite_false, Option.bind_some, not_true_eq_false, not_false_eq_true, Bool.false_eq_true]
  · refine ⟨w, ⟨0, 0, -3, w, ?_, ?_⟩, h.same⟩
    · unfold f_X0_edition f_X0_edition_J32
      rw [gk, Option.bind_some, ge, Option.bind_some]
      simp (disch := omega) only [inX, inM, f_X0_isTown, f_X4_isTown, f_X0_isDay, f_X4_isDay, f_X0_isBook, f_X4_isBook, f_X0_isEdition, f_X4_isEdition, f_X0_isCard, f_X4_isCard, f_X0_isPerson, f_X4_isPerson, f_X0_isCopy, f_X0_isTape, f_X4_isTape, f_X0_isBy, f_X4_isTime, f_X0_isDecree, f_X4_isSlip, hx, hxb, c1, c2, c7, c6', hin, hin4, tb, ta, f7, same, eq_false c8, g7, g9, eL, c5, ↓reduceIte, if_true, if_false, eq_self, ite_true, ite_false, Option.bind_some, not_true_eq_false, not_false_eq_true, Bool.false_eq_true]
    · unfold f_X4_edition f_X4_edition_J33
      simp (disch := omega) only [inX, inM, f_X0_isTown, f_X4_isTown, f_X0_isDay, f_X4_isDay, f_X0_isBook, f_X4_isBook, f_X0_isEdition, f_X4_isEdition, f_X0_isCard, f_X4_isCard, f_X0_isPerson, f_X4_isPerson, f_X0_isCopy, f_X0_isTape, f_X4_isTape, f_X0_isBy, f_X4_isTime, f_X0_isDecree, f_X4_isSlip, hm, hmb, c1, c2, c7, c6', hin, hin4, tn_i, g9, eL, c5, m1, f9, eq_false c8, ↓reduceIte, if_true, if_false, eq_self, ite_true, ite_false, Option.bind_some, not_true_eq_false, not_false_eq_true, Bool.false_eq_true]
theorem Sg.lt {x : Int32} (h : Sg x) : (x < 0) = (x = -1) := by
  apply propext
  rcases h with rfl | ⟨v, hv, rfl⟩
  · exact ⟨fun _ => rfl, fun _ => by decide⟩
  · constructor
    · intro q
      exact absurd q (i_nn (by omega))
    · intro q
      exact absurd (show (-1 : Int32) < 0 by decide) (by rw [← q]; exact i_nn (by omega))
theorem Sg.ge {x : Int32} (h : Sg x) : (0 ≤ x) = ¬ (x = -1) := by
  apply propext
  rcases h with rfl | ⟨v, hv, rfl⟩
  · exact ⟨fun q => absurd q (by decide), fun q => absurd rfl q⟩
  · constructor
    · intro _ q
      exact absurd (show (-1 : Int32) < 0 by decide) (by rw [← q]; exact i_nn (by omega))
    · intro _
      exact i_ge0 (by omega)
theorem st_16 {j : Nat} {w : Wd} {a1 a2 a3 a4 a5 : Int32} (h : Inv j w) : ∃ w2, okc_16 a1 a2 a3 a4 a5 w w2 ∧ Inv (j + 1) w2 := by
  obtain ⟨n, hn, hx, hm, hk, hd⟩ := id h.dec
  obtain ⟨t, ht, hx0, hm0⟩ := h.tod
  have hz := h.z8
  by_cases c1 : inB a1 0 (Int32.ofNat n - 1) = true
  rotate_left
  · have c1 := ne_of_tf c1
    refine ⟨w, ⟨0, 0, -1, w, ?_, ?_⟩, h.same⟩
    · simp only [f_X0_revoke, inX, inM, f_X0_isTown, f_X4_isTown, f_X0_isDay, f_X4_isDay, f_X0_isBook, f_X4_isBook, f_X0_isEdition, f_X4_isEdition, f_X0_isCard, f_X4_isCard, f_X0_isPerson, f_X4_isPerson, f_X0_isCopy, f_X0_isTape, f_X4_isTape, f_X0_isBy, f_X4_isTime, f_X0_isDecree, f_X4_isSlip, hx, hm, c1, ↓reduceIte, if_true, if_false, eq_self, ite_true, ite_false, Option.bind_some, not_true_eq_false, not_false_eq_true, Bool.false_eq_true]
    · simp only [f_X4_revoke, inX, inM, f_X0_isTown, f_X4_isTown, f_X0_isDay, f_X4_isDay, f_X0_isBook, f_X4_isBook, f_X0_isEdition, f_X4_isEdition, f_X0_isCard, f_X4_isCard, f_X0_isPerson, f_X4_isPerson, f_X0_isCopy, f_X0_isTape, f_X4_isTape, f_X0_isBy, f_X4_isTime, f_X0_isDecree, f_X4_isSlip, hx, hm, c1, ↓reduceIte, if_true, if_false, eq_self, ite_true, ite_false, Option.bind_some, not_true_eq_false, not_false_eq_true, Bool.false_eq_true]
  obtain ⟨d, hd1, rfl⟩ := inB_lt (by omega) c1
  obtain ⟨a, cs, g1, g2, g3, g4, g5, g6, g7⟩ := hk d hd1
  have ta := g2.1.2.2
  have qa := g2.1.1
  have gd9 : wR w 17 (Int32.ofNat d).toNatClampNeg = some a := by rw [tn_i (by omega)]; exact g1
  have hin : inb (Int32.ofNat d) 16 = True := inb_t (by omega) (by decide)
  by_cases c2 : wI w 79 d = -1
  rotate_left
  · refine ⟨w, ⟨0, 0, -3, w, ?_, ?_⟩, h.same⟩
    · unfold f_X0_revoke
      rw [gd9, Option.bind_some]
      simp (disch := omega) only [inX, inM, f_X0_isTown, f_X4_isTown, f_X0_isDay, f_X4_isDay, f_X0_isBook, f_X4_isBook, f_X0_isEdition, f_X4_isEdition, f_X0_isCard, f_X4_isCard, f_X0_isPerson, f_X4_isPerson, f_X0_isCopy, f_X0_isTape, f_X4_isTape, f_X0_isBy, f_X4_isTime, f_X0_isDecree, f_X4_isSlip, hx, c1, hin, ta, g5, eq_false c2, ↓reduceIte, if_true, if_false, eq_self, ite_true, ite_false, Option.bind_some, not_true_eq_false, not_false_eq_true, Bool.false_eq_true]
    · simp (disch := omega) only [f_X4_revoke, inX, inM, f_X0_isTown, f_X4_isTown, f_X0_isDay, f_X4_isDay, f_X0_isBook, f_X4_isBook, f_X0_isEdition, f_X4_isEdition, f_X0_isCard, f_X4_isCard, f_X0_isPerson, f_X4_isPerson, f_X0_isCopy, f_X0_isTape, f_X4_isTape, f_X0_isBy, f_X4_isTime, f_X0_isDecree, f_X4_isSlip, hm, c1, hin, tn_i, g7.lt, eq_false c2, ↓reduceIte, if_true, if_false, eq_self, ite_true, ite_false, Option.bind_some, not_true_eq_false, not_false_eq_true, Bool.false_eq_true]
  obtain ⟨w1, hw1⟩ : ∃ w1, w1 = sI w a 1 (Int32.ofNat t) := ⟨_, rfl⟩
  obtain ⟨w2, hw2⟩ : ∃ w2, w2 = sI w1 79 d (Int32.ofNat t) := ⟨_, rfl⟩
  refine ⟨w2, ⟨0, 0, 1, w1, ?_, ?_⟩, ?_⟩
  · rw [hw1]
    unfold f_X0_revoke
    rw [gd9, Option.bind_some]
    simp (disch := omega) only [inX, inM, f_X0_isTown, f_X4_isTown, f_X0_isDay, f_X4_isDay, f_X0_isBook, f_X4_isBook, f_X0_isEdition, f_X4_isEdition, f_X0_isCard, f_X4_isCard, f_X0_isPerson, f_X4_isPerson, f_X0_isCopy, f_X0_isTape, f_X4_isTape, f_X0_isBy, f_X4_isTime, f_X0_isDecree, f_X4_isSlip, hx, hx0, c1, hin, ta, g5, eq_true c2, ↓reduceIte, if_true, if_false, eq_self, ite_true, ite_false, Option.bind_some, not_true_eq_false, not_false_eq_true, Bool.false_eq_true]
  · have em : wI w1 58 25 = Int32.ofNat n := by rw [hw1]; simp (disch := omega) only [wI_ne, wI_nf, wI_eq, wI_sR, wI_sL, wI_N, wI_Nz, wR_ne, wR_nf, wR_eq, wR_sI, wR_sL, wR_N, wR_Nz, wL_ne, wL_nf, wL_eq, wL_sI, wL_sR, wL_N, wL_Nz, wT_sI, wT_sR, wT_sL, wT_N, wT_Nz, wZ_sI, wZ_sR, wZ_sL, wZ_sN, wI_sX, wL_sX, wR_sX, wZ_sX]; exact hm
    have em0 : wI w1 58 0 = Int32.ofNat t := by rw [hw1]; simp (disch := omega) only [wI_ne, wI_nf, wI_eq, wI_sR, wI_sL, wI_N, wI_Nz, wR_ne, wR_nf, wR_eq, wR_sI, wR_sL, wR_N, wR_Nz, wL_ne, wL_nf, wL_eq, wL_sI, wL_sR, wL_N, wL_Nz, wT_sI, wT_sR, wT_sL, wT_N, wT_Nz, wZ_sI, wZ_sR, wZ_sL, wZ_sN, wI_sX, wL_sX, wR_sX, wZ_sX]; exact hm0
    have e79 : wI w1 79 d = wI w 79 d := by rw [hw1]; simp (disch := omega) only [wI_ne, wI_nf, wI_eq, wI_sR, wI_sL, wI_N, wI_Nz, wR_ne, wR_nf, wR_eq, wR_sI, wR_sL, wR_N, wR_Nz, wL_ne, wL_nf, wL_eq, wL_sI, wL_sR, wL_N, wL_Nz, wT_sI, wT_sR, wT_sL, wT_N, wT_Nz, wZ_sI, wZ_sR, wZ_sL, wZ_sN, wI_sX, wL_sX, wR_sX, wZ_sX]
    rw [hw2]
    simp (disch := omega) only [f_X4_revoke, inX, inM, f_X0_isTown, f_X4_isTown, f_X0_isDay, f_X4_isDay, f_X0_isBook, f_X4_isBook, f_X0_isEdition, f_X4_isEdition, f_X0_isCard, f_X4_isCard, f_X0_isPerson, f_X4_isPerson, f_X0_isCopy, f_X0_isTape, f_X4_isTape, f_X0_isBy, f_X4_isTime, f_X0_isDecree, f_X4_isSlip, em, em0, e79, c1, hin, tn_i, g7.lt, eq_true c2, ↓reduceIte, if_true, if_false, eq_self, ite_true, ite_false, Option.bind_some, not_true_eq_false, not_false_eq_true, Bool.false_eq_true]
  · have k2 : Kept (But 9 w) w w2 := by
      rw [hw2, hw1]
      exact (Kept.rfl'.sI (fun _ hb => hb.1 (by rw [g2.1.ow]; rfl))).sI (fun _ hb => hb.1 rfl)
    have hz2 : wZ w2 = wZ w := by rw [hw2, hw1]; rfl
    have oR : ∀ a f, wR w2 a f = wR w a f := by intro a f; rw [hw2, hw1]; rfl
    refine Inv.m9 (h.rest' k2 (fun _ => noNew_of hz2 7) (fun _ => noNew_of hz2 8) (by decide)) ⟨n, hn, ?_, ?_, fun i hi => ?_, fun i i' q1 q2 => by rw [oR, oR]; exact hd i i' q1 q2⟩ (by have := h.2.1; omega)
    · rw [hw2, hw1]; simp (disch := omega) only [wI_ne, wI_nf, wI_eq, wI_sR, wI_sL, wI_N, wI_Nz, wR_ne, wR_nf, wR_eq, wR_sI, wR_sL, wR_N, wR_Nz, wL_ne, wL_nf, wL_eq, wL_sI, wL_sR, wL_N, wL_Nz, wT_sI, wT_sR, wT_sL, wT_N, wT_Nz, wZ_sI, wZ_sR, wZ_sL, wZ_sN, wI_sX, wL_sX, wR_sX, wZ_sX]; exact hx
    · rw [hw2, hw1]; simp (disch := omega) only [wI_ne, wI_nf, wI_eq, wI_sR, wI_sL, wI_N, wI_Nz, wR_ne, wR_nf, wR_eq, wR_sI, wR_sL, wR_N, wR_Nz, wL_ne, wL_nf, wL_eq, wL_sI, wL_sR, wL_N, wL_Nz, wT_sI, wT_sR, wT_sL, wT_N, wT_Nz, wZ_sI, wZ_sR, wZ_sL, wZ_sN, wI_sX, wL_sX, wR_sX, wZ_sX]; exact hm
    · obtain ⟨a', cs', f1, f2, f3, f4, f5, f6, f7⟩ := hk i hi
      have hT80 : ∀ f, wI w2 80 f = wI w 80 f := by intro f; rw [hw2, hw1]; simp (disch := omega) only [wI_ne, wI_nf, wI_eq, wI_sR, wI_sL, wI_N, wI_Nz, wR_ne, wR_nf, wR_eq, wR_sI, wR_sL, wR_N, wR_Nz, wL_ne, wL_nf, wL_eq, wL_sI, wL_sR, wL_N, wL_Nz, wT_sI, wT_sR, wT_sL, wT_N, wT_Nz, wZ_sI, wZ_sR, wZ_sL, wZ_sN, wI_sX, wL_sX, wR_sX, wZ_sX]
      have hT81 : ∀ f, wI w2 81 f = wI w 81 f := by intro f; rw [hw2, hw1]; simp (disch := omega) only [wI_ne, wI_nf, wI_eq, wI_sR, wI_sL, wI_N, wI_Nz, wR_ne, wR_nf, wR_eq, wR_sI, wR_sL, wR_N, wR_Nz, wL_ne, wL_nf, wL_eq, wL_sI, wL_sR, wL_N, wL_Nz, wT_sI, wT_sR, wT_sL, wT_N, wT_Nz, wZ_sI, wZ_sR, wZ_sL, wZ_sN, wI_sX, wL_sX, wR_sX, wZ_sX]
      have hT78 : ∀ f, wI w2 78 f = wI w 78 f := by intro f; rw [hw2, hw1]; simp (disch := omega) only [wI_ne, wI_nf, wI_eq, wI_sR, wI_sL, wI_N, wI_Nz, wR_ne, wR_nf, wR_eq, wR_sI, wR_sL, wR_N, wR_Nz, wL_ne, wL_nf, wL_eq, wL_sI, wL_sR, wL_N, wL_Nz, wT_sI, wT_sR, wT_sL, wT_N, wT_Nz, wZ_sI, wZ_sR, wZ_sL, wZ_sN, wI_sX, wL_sX, wR_sX, wZ_sX]
      have tx : Tx w2 i cs' := by
        obtain ⟨s, s1, s2, s3⟩ := f3
        refine ⟨s, s1, by rw [hT81]; exact s2, ?_⟩
        rw [show txw w2 i = txw w i from funext fun k => hT80 _]
        exact s3
      have dc : DcO w2 a' cs' := f2.kept k2 (fun b f e => ⟨by rw [e]; decide, by rw [e]; decide⟩)
      refine ⟨a', cs', by rw [oR]; exact f1, dc, tx, ?_⟩
      rw [hT78]
      by_cases q : i = d
      · subst q
        rw [g1] at f1
        cases f1
        refine ⟨?_, ?_, f6, Or.inr ⟨t, ht, ?_⟩⟩
        · rw [← f4, hw2, hw1]; simp (disch := omega) only [wI_ne, wI_nf, wI_eq, wI_sR, wI_sL, wI_N, wI_Nz, wR_ne, wR_nf, wR_eq, wR_sI, wR_sL, wR_N, wR_Nz, wL_ne, wL_nf, wL_eq, wL_sI, wL_sR, wL_N, wL_Nz, wT_sI, wT_sR, wT_sL, wT_N, wT_Nz, wZ_sI, wZ_sR, wZ_sL, wZ_sN, wI_sX, wL_sX, wR_sX, wZ_sX]
        · rw [hw2, hw1]; simp (disch := omega) only [wI_ne, wI_nf, wI_eq, wI_sR, wI_sL, wI_N, wI_Nz, wR_ne, wR_nf, wR_eq, wR_sI, wR_sL, wR_N, wR_Nz, wL_ne, wL_nf, wL_eq, wL_sI, wL_sR, wL_N, wL_Nz, wT_sI, wT_sR, wT_sL, wT_N, wT_Nz, wZ_sI, wZ_sR, wZ_sL, wZ_sN, wI_sX, wL_sX, wR_sX, wZ_sX]
        · rw [hw2, hw1]; simp (disch := omega) only [wI_ne, wI_nf, wI_eq, wI_sR, wI_sL, wI_N, wI_Nz, wR_ne, wR_nf, wR_eq, wR_sI, wR_sL, wR_N, wR_Nz, wL_ne, wL_nf, wL_eq, wL_sI, wL_sR, wL_N, wL_Nz, wT_sI, wT_sR, wT_sL, wT_N, wT_Nz, wZ_sI, wZ_sR, wZ_sL, wZ_sN, wI_sX, wL_sX, wR_sX, wZ_sX]
      · have hne : a' ≠ a := by
          intro e
          subst e
          rcases Nat.lt_or_gt_of_ne q with q' | q'
          · exact hd i d q' hd1 (by rw [f1, g1])
          · exact hd d i q' hi (by rw [f1, g1])
        have := f2.1.1
        refine ⟨?_, ?_, f6, ?_⟩
        · rw [← f4, hw2, hw1]; simp (disch := omega) only [wI_ne, wI_nf, wI_eq, wI_sR, wI_sL, wI_N, wI_Nz, wR_ne, wR_nf, wR_eq, wR_sI, wR_sL, wR_N, wR_Nz, wL_ne, wL_nf, wL_eq, wL_sI, wL_sR, wL_N, wL_Nz, wT_sI, wT_sR, wT_sL, wT_N, wT_Nz, wZ_sI, wZ_sR, wZ_sL, wZ_sN, wI_sX, wL_sX, wR_sX, wZ_sX]
        · rw [hw2, hw1]; simp (disch := omega) only [wI_ne, wI_nf, wI_eq, wI_sR, wI_sL, wI_N, wI_Nz, wR_ne, wR_nf, wR_eq, wR_sI, wR_sL, wR_N, wR_Nz, wL_ne, wL_nf, wL_eq, wL_sI, wL_sR, wL_N, wL_Nz, wT_sI, wT_sR, wT_sL, wT_N, wT_Nz, wZ_sI, wZ_sR, wZ_sL, wZ_sN, wI_sX, wL_sX, wR_sX, wZ_sX]; exact f5
        · rw [hw2, hw1]; simp (disch := omega) only [wI_ne, wI_nf, wI_eq, wI_sR, wI_sL, wI_N, wI_Nz, wR_ne, wR_nf, wR_eq, wR_sI, wR_sL, wR_N, wR_Nz, wL_ne, wL_nf, wL_eq, wL_sI, wL_sR, wL_N, wL_Nz, wT_sI, wT_sR, wT_sL, wT_N, wT_Nz, wZ_sI, wZ_sR, wZ_sL, wZ_sN, wI_sX, wL_sX, wR_sX, wZ_sX]; exact f7
/-- whether a decree is known in a town on a day -/
def knw (w : Wd) (d t : Nat) (day : Int32) : Bool :=
  if 9999 ≤ wI w 2 t then false else if day < wI w 78 d + wI w 2 t then false else if wI w 79 d = -1 then true else if wI w 79 d + wI w 2 t ≤ day then false else true
theorem knX {j : Nat} {w : Wd} (hF : Fix w) {d t : Nat} (ht : t < 8) (hd : Dec1 w d) (day : Int32) : f_X0_isKnown (wR w 17 d) (Int32.ofNat t) day w = some (knw w d t day) := by
  obtain ⟨a, cs, g1, g2, g3, g4, g5, g6, g7⟩ := hd
  have ta := g2.1.2.2
  have hR : wR w 1 ((0 : Int32).toNatClampNeg) = some 2 := hF.1 1 0 2 rfl
  have hT : wT w 2 = (200, 8) := hF.2.1 2 (200, 8) rfl
  have h0 : inb (0 : Int32) 8 = True := eq_true (by decide)
  have hin : inb (Int32.ofNat t) 8 = True := inb_t ht (by decide)
  unfold f_X0_isKnown
  rw [hR, Option.bind_some, g1, Option.bind_some]
  simp (disch := omega) only [h0, hT, hin, tn_i, ta, g4, g5, ↓reduceIte, if_true, if_false, eq_self, ite_true, ite_false, Option.bind_some, not_true_eq_false, not_false_eq_true, Bool.false_eq_true]
  unfold knw
  iterate 4 refine if_some ?_
  rfl
theorem knM {w : Wd} (hz : 108 ≤ wZ w) (hW : Way w) {d t : Nat} (hd16 : d < 16) (ht : t < 8) (hs : Sg (wI w 79 d)) (day : Int32) {n : Nat} (hn : 100 ≤ n) : ∃ w', f_X4_isKnown n (Int32.ofNat d) (Int32.ofNat t) day w = some (knw w d t day, w') ∧ Ask w w' := by
  obtain ⟨w', e, ha⟩ := farOf_ok hz hW ht hn
  refine ⟨w', ?_, ha⟩
  have hin : inb (Int32.ofNat d) 16 = True := inb_t hd16 (by decide)
  unfold f_X4_isKnown
  rw [e, Option.bind_some]
  simp (disch := omega) only [hin, tn_i, ha.I (a := 78) hz (by decide) rfl, ha.I (a := 79) hz (by decide) rfl, hs.lt, ↓reduceIte, if_true, if_false, eq_self, ite_true, ite_false, Option.bind_some, not_true_eq_false, not_false_eq_true, Bool.false_eq_true]
  unfold knw
  by_cases q1 : 9999 ≤ wI w 2 t
  · rw [if_pos q1, if_pos q1]
  rw [if_neg q1, if_neg q1]
  by_cases q2 : day < wI w 78 d + wI w 2 t
  · rw [if_pos q2, if_pos q2]
  rw [if_neg q2, if_neg q2]
  by_cases q3 : wI w 79 d = -1
  · rw [if_pos q3, if_pos q3]
  rw [if_neg q3, if_neg q3]
  by_cases q4 : wI w 79 d + wI w 2 t ≤ day
  · rw [if_pos q4, if_pos q4]
  · rw [if_neg q4, if_neg q4]
theorem st_17 {j : Nat} {w : Wd} {a1 a2 a3 a4 a5 : Int32} (h : Inv j w) : ∃ w2, okc_17 a1 a2 a3 a4 a5 w w2 ∧ Inv (j + 1) w2 := by
  obtain ⟨n, hn, hx, hm, hk, hd⟩ := id h.dec
  have hz := h.z8
  by_cases c1 : inB a1 0 (Int32.ofNat n - 1) = true
  rotate_left
  · have c1 := ne_of_tf c1
    refine ⟨w, ⟨0, 0, -1, ?_, ?_⟩, h.same⟩
    · simp only [f_X0_known, inX, inM, f_X0_isTown, f_X4_isTown, f_X0_isDay, f_X4_isDay, f_X0_isBook, f_X4_isBook, f_X0_isEdition, f_X4_isEdition, f_X0_isCard, f_X4_isCard, f_X0_isPerson, f_X4_isPerson, f_X0_isCopy, f_X0_isTape, f_X4_isTape, f_X0_isBy, f_X4_isTime, f_X0_isDecree, f_X4_isSlip, hx, c1, ↓reduceIte, if_true, if_false, eq_self, ite_true, ite_false, Option.bind_some, not_true_eq_false, not_false_eq_true, Bool.false_eq_true]
    · simp only [f_X4_known, inX, inM, f_X0_isTown, f_X4_isTown, f_X0_isDay, f_X4_isDay, f_X0_isBook, f_X4_isBook, f_X0_isEdition, f_X4_isEdition, f_X0_isCard, f_X4_isCard, f_X0_isPerson, f_X4_isPerson, f_X0_isCopy, f_X0_isTape, f_X4_isTape, f_X0_isBy, f_X4_isTime, f_X0_isDecree, f_X4_isSlip, hm, c1, ↓reduceIte, if_true, if_false, eq_self, ite_true, ite_false, Option.bind_some, not_true_eq_false, not_false_eq_true, Bool.false_eq_true]
  by_cases c2 : inB a2 0 7 = true
  rotate_left
  · have c2 := ne_of_tf c2
    refine ⟨w, ⟨0, 0, -1, ?_, ?_⟩, h.same⟩
    · simp only [f_X0_known, inX, inM, f_X0_isTown, f_X4_isTown, f_X0_isDay, f_X4_isDay, f_X0_isBook, f_X4_isBook, f_X0_isEdition, f_X4_isEdition, f_X0_isCard, f_X4_isCard, f_X0_isPerson, f_X4_isPerson, f_X0_isCopy, f_X0_isTape, f_X4_isTape, f_X0_isBy, f_X4_isTime, f_X0_isDecree, f_X4_isSlip, hx, hm, c1, c2, ↓reduceIte, if_true, if_false, eq_self, ite_true, ite_false, Option.bind_some, not_true_eq_false, not_false_eq_true, Bool.false_eq_true]
    · simp only [f_X4_known, inX, inM, f_X0_isTown, f_X4_isTown, f_X0_isDay, f_X4_isDay, f_X0_isBook, f_X4_isBook, f_X0_isEdition, f_X4_isEdition, f_X0_isCard, f_X4_isCard, f_X0_isPerson, f_X4_isPerson, f_X0_isCopy, f_X0_isTape, f_X4_isTape, f_X0_isBy, f_X4_isTime, f_X0_isDecree, f_X4_isSlip, hx, hm, c1, c2, ↓reduceIte, if_true, if_false, eq_self, ite_true, ite_false, Option.bind_some, not_true_eq_false, not_false_eq_true, Bool.false_eq_true]
  by_cases c3 : inB a3 0 9999 = true
  rotate_left
  · have c3 := ne_of_tf c3
    refine ⟨w, ⟨0, 0, -2, ?_, ?_⟩, h.same⟩
    · simp only [f_X0_known, inX, inM, f_X0_isTown, f_X4_isTown, f_X0_isDay, f_X4_isDay, f_X0_isBook, f_X4_isBook, f_X0_isEdition, f_X4_isEdition, f_X0_isCard, f_X4_isCard, f_X0_isPerson, f_X4_isPerson, f_X0_isCopy, f_X0_isTape, f_X4_isTape, f_X0_isBy, f_X4_isTime, f_X0_isDecree, f_X4_isSlip, hx, hm, c1, c2, c3, ↓reduceIte, if_true, if_false, eq_self, ite_true, ite_false, Option.bind_some, not_true_eq_false, not_false_eq_true, Bool.false_eq_true]
    · simp only [f_X4_known, inX, inM, f_X0_isTown, f_X4_isTown, f_X0_isDay, f_X4_isDay, f_X0_isBook, f_X4_isBook, f_X0_isEdition, f_X4_isEdition, f_X0_isCard, f_X4_isCard, f_X0_isPerson, f_X4_isPerson, f_X0_isCopy, f_X0_isTape, f_X4_isTape, f_X0_isBy, f_X4_isTime, f_X0_isDecree, f_X4_isSlip, hx, hm, c1, c2, c3, ↓reduceIte, if_true, if_false, eq_self, ite_true, ite_false, Option.bind_some, not_true_eq_false, not_false_eq_true, Bool.false_eq_true]
  obtain ⟨d, hd1, rfl⟩ := inB_lt (by omega) c1
  obtain ⟨t, ht, rfl⟩ := inB_7 c2
  obtain ⟨w', e, ha⟩ := knM hz h.way (d := d) (by omega) ht (hk d hd1).choose_spec.choose_spec.2.2.2.2.2.2 a3 (n := 100) (by decide)
  have hin : inb (Int32.ofNat d) 16 = True := inb_t (by omega) (by decide)
  have ex := knX (j := j) h.1 ht (hk d hd1) a3
  refine ⟨w', ⟨0, 100, if knw w d t a3 = true then 1 else 0, ?_, ?_⟩, h.ask ha.1 ha.2⟩
  · unfold f_X0_known
    rw [show f_X0_isKnown (wR w 17 (Int32.ofNat d).toNatClampNeg) (Int32.ofNat t) a3 w = some (knw w d t a3) by rw [tn_i (by omega)]; exact ex, Option.bind_some]
    simp only [inX, inM, f_X0_isTown, f_X4_isTown, f_X0_isDay, f_X4_isDay, f_X0_isBook, f_X4_isBook, f_X0_isEdition, f_X4_isEdition, f_X0_isCard, f_X4_isCard, f_X0_isPerson, f_X4_isPerson, f_X0_isCopy, f_X0_isTape, f_X4_isTape, f_X0_isBy, f_X4_isTime, f_X0_isDecree, f_X4_isSlip, hx, c1, c2, c3, hin, ↓reduceIte, if_true, if_false, eq_self, ite_true, ite_false, Option.bind_some, not_true_eq_false, not_false_eq_true, Bool.false_eq_true]
    exact if_some rfl
  · unfold f_X4_known
    rw [e, Option.bind_some]
    simp only [inX, inM, f_X0_isTown, f_X4_isTown, f_X0_isDay, f_X4_isDay, f_X0_isBook, f_X4_isBook, f_X0_isEdition, f_X4_isEdition, f_X0_isCard, f_X4_isCard, f_X0_isPerson, f_X4_isPerson, f_X0_isCopy, f_X0_isTape, f_X4_isTape, f_X0_isBy, f_X4_isTime, f_X0_isDecree, f_X4_isSlip, hm, c1, c2, c3, ↓reduceIte, if_true, if_false, eq_self, ite_true, ite_false, Option.bind_some, not_true_eq_false, not_false_eq_true, Bool.false_eq_true]
    cases knw w d t a3 <;> rfl
