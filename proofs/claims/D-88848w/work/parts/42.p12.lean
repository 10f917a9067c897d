/-! PURE PART: cards -/
theorem made_ok {w : Wd} {c n : Nat} (hc : c ≤ 6) (hc4 : c ≠ 4) (hz : 108 ≤ wZ w) (hx : wI w 0 9 = Int32.ofNat n) (a2 a3 : Int32) :
    f_X0_made (Int32.ofNat c) a2 a3 w = some (some (wZ w), sI (sI (sI (sR (sN w (ctag c) 0) (wZ w) 0 (some 14)) (wZ w) 1 (Int32.ofNat n)) (wZ w) 2 a2) (wZ w) 3 a3) := by
  have hz8 : (108 ≤ wZ w) = True := eq_true hz
  have e0 : ∀ t, wI (sN w t 0) 0 9 = Int32.ofNat n := fun t => by rw [wI_N _ (by omega), hx]
  rcases (show c = 0 ∨ c = 1 ∨ c = 2 ∨ c = 3 ∨ c = 5 ∨ c = 6 by omega) with rfl | rfl | rfl | rfl | rfl | rfl
  · unfold f_X0_made f_X8_init
    rw [if_pos (show Int32.ofNat 0 = 0 from rfl), if_pos hz, Option.bind_some, e0]
    rfl
  · unfold f_X0_made f_X9_init f_X8_init
    rw [if_neg (by decide), if_pos (show Int32.ofNat 1 = 1 from rfl), if_pos hz, Option.bind_some, Option.bind_some, e0]
    rfl
  · unfold f_X0_made f_X10_init f_X9_init f_X8_init
    rw [if_neg (by decide), if_neg (by decide), if_pos (show Int32.ofNat 2 = 2 from rfl), if_pos hz, Option.bind_some, Option.bind_some, Option.bind_some, e0]
    rfl
  · unfold f_X0_made f_X11_init f_X9_init f_X8_init
    rw [if_neg (by decide), if_neg (by decide), if_neg (by decide), if_pos (show Int32.ofNat 3 = 3 from rfl), if_pos hz, Option.bind_some, Option.bind_some, Option.bind_some, e0]
    rfl
  · unfold f_X0_made f_X12_init f_X8_init
    rw [if_neg (by decide), if_neg (by decide), if_neg (by decide), if_neg (by decide), if_neg (by decide), if_pos (show Int32.ofNat 5 = 5 from rfl), if_pos hz, Option.bind_some, Option.bind_some, e0]
    rfl
  · unfold f_X0_made f_X13_init f_X8_init
    rw [if_neg (by decide), if_neg (by decide), if_neg (by decide), if_neg (by decide), if_neg (by decide), if_neg (by decide), if_pos hz, Option.bind_some, Option.bind_some, e0]
    rfl
theorem ctag_bd {c : Nat} (hc : c ≤ 6) : 9 ≤ ctag c ∧ ctag c ≤ 15 := by
  rcases (show c = 0 ∨ c = 1 ∨ c = 2 ∨ c = 3 ∨ c = 4 ∨ c = 5 ∨ c = 6 by omega) with rfl | rfl | rfl | rfl | rfl | rfl | rfl <;> decide
theorem st_8 {j : Nat} {w : Wd} {a1 a2 a3 a4 a5 : Int32} (h : Inv j w) : ∃ w2, okc_8 a1 a2 a3 a4 a5 w w2 ∧ Inv (j + 1) w2 := by
  obtain ⟨n, hn, hx, hm, hk, h0⟩ := id h.car
  obtain ⟨ne, hne, hxe, hme, -⟩ := id h.edi
  have hz := h.z8
  by_cases c1 : inB a1 0 6 = true
  rotate_left
  · have c1 := ne_of_tf c1
    refine ⟨w, ⟨0, 0, -1, w, ?_, ?_⟩, h.same⟩
    · simp only [f_X0_card, inX, inM, f_X0_isTown, f_X4_isTown, f_X0_isDay, f_X4_isDay, f_X0_isBook, f_X4_isBook, f_X0_isEdition, f_X4_isEdition, f_X0_isCard, f_X4_isCard, f_X0_isPerson, f_X4_isPerson, f_X0_isCopy, f_X0_isTape, f_X4_isTape, f_X0_isBy, f_X4_isTime, f_X0_isDecree, f_X4_isSlip, hx, hm, hxe, hme, c1, ↓reduceIte, if_true, if_false, eq_self, ite_true, ite_false, Option.bind_some, not_true_eq_false, not_false_eq_true, Bool.false_eq_true]
    · simp only [f_X4_card, inX, inM, f_X0_isTown, f_X4_isTown, f_X0_isDay, f_X4_isDay, f_X0_isBook, f_X4_isBook, f_X0_isEdition, f_X4_isEdition, f_X0_isCard, f_X4_isCard, f_X0_isPerson, f_X4_isPerson, f_X0_isCopy, f_X0_isTape, f_X4_isTape, f_X0_isBy, f_X4_isTime, f_X0_isDecree, f_X4_isSlip, hx, hm, hxe, hme, c1, ↓reduceIte, if_true, if_false, eq_self, ite_true, ite_false, Option.bind_some, not_true_eq_false, not_false_eq_true, Bool.false_eq_true]
  obtain ⟨c, -, hc, rfl⟩ := inB_bd (lo := 0) (hi := 6) (by decide) (by decide) c1
  by_cases c4 : c = 4
  · subst c4
    have e4 : (Int32.ofNat 4 = 4) = True := eq_true rfl
    refine ⟨w, ⟨0, 0, -1, w, ?_, ?_⟩, h.same⟩
    · simp only [f_X0_card, inX, inM, f_X0_isTown, f_X4_isTown, f_X0_isDay, f_X4_isDay, f_X0_isBook, f_X4_isBook, f_X0_isEdition, f_X4_isEdition, f_X0_isCard, f_X4_isCard, f_X0_isPerson, f_X4_isPerson, f_X0_isCopy, f_X0_isTape, f_X4_isTape, f_X0_isBy, f_X4_isTime, f_X0_isDecree, f_X4_isSlip, hx, hm, hxe, hme, c1, e4, ↓reduceIte, if_true, if_false, eq_self, ite_true, ite_false, Option.bind_some, not_true_eq_false, not_false_eq_true, Bool.false_eq_true]
    · simp only [f_X4_card, inX, inM, f_X0_isTown, f_X4_isTown, f_X0_isDay, f_X4_isDay, f_X0_isBook, f_X4_isBook, f_X0_isEdition, f_X4_isEdition, f_X0_isCard, f_X4_isCard, f_X0_isPerson, f_X4_isPerson, f_X0_isCopy, f_X0_isTape, f_X4_isTape, f_X0_isBy, f_X4_isTime, f_X0_isDecree, f_X4_isSlip, hx, hm, hxe, hme, c1, e4, ↓reduceIte, if_true, if_false, eq_self, ite_true, ite_false, Option.bind_some, not_true_eq_false, not_false_eq_true, Bool.false_eq_true]
  have e4 : (Int32.ofNat c = 4) = False := eq_false (fun q => c4 ((i_inj (b := 4) (by omega) (by decide)).mp q))
  by_cases c2 : inB a2 0 (Int32.ofNat ne - 1) = true
  rotate_left
  · have c2 := ne_of_tf c2
    refine ⟨w, ⟨0, 0, -1, w, ?_, ?_⟩, h.same⟩
    · simp only [f_X0_card, inX, inM, f_X0_isTown, f_X4_isTown, f_X0_isDay, f_X4_isDay, f_X0_isBook, f_X4_isBook, f_X0_isEdition, f_X4_isEdition, f_X0_isCard, f_X4_isCard, f_X0_isPerson, f_X4_isPerson, f_X0_isCopy, f_X0_isTape, f_X4_isTape, f_X0_isBy, f_X4_isTime, f_X0_isDecree, f_X4_isSlip, hx, hxe, c1, e4, c2, ↓reduceIte, if_true, if_false, eq_self, ite_true, ite_false, Option.bind_some, not_true_eq_false, not_false_eq_true, Bool.false_eq_true]
    · simp only [f_X4_card, inX, inM, f_X0_isTown, f_X4_isTown, f_X0_isDay, f_X4_isDay, f_X0_isBook, f_X4_isBook, f_X0_isEdition, f_X4_isEdition, f_X0_isCard, f_X4_isCard, f_X0_isPerson, f_X4_isPerson, f_X0_isCopy, f_X0_isTape, f_X4_isTape, f_X0_isBy, f_X4_isTime, f_X0_isDecree, f_X4_isSlip, hm, hme, c1, e4, c2, ↓reduceIte, if_true, if_false, eq_self, ite_true, ite_false, Option.bind_some, not_true_eq_false, not_false_eq_true, Bool.false_eq_true]
  by_cases c3 : inB a3 0 999 = true
  rotate_left
  · have c3 := ne_of_tf c3
    refine ⟨w, ⟨0, 0, -2, w, ?_, ?_⟩, h.same⟩
    · simp only [f_X0_card, inX, inM, f_X0_isTown, f_X4_isTown, f_X0_isDay, f_X4_isDay, f_X0_isBook, f_X4_isBook, f_X0_isEdition, f_X4_isEdition, f_X0_isCard, f_X4_isCard, f_X0_isPerson, f_X4_isPerson, f_X0_isCopy, f_X0_isTape, f_X4_isTape, f_X0_isBy, f_X4_isTime, f_X0_isDecree, f_X4_isSlip, hx, hxe, c1, e4, c2, c3, ↓reduceIte, if_true, if_false, eq_self, ite_true, ite_false, Option.bind_some, not_true_eq_false, not_false_eq_true, Bool.false_eq_true]
    · simp only [f_X4_card, inX, inM, f_X0_isTown, f_X4_isTown, f_X0_isDay, f_X4_isDay, f_X0_isBook, f_X4_isBook, f_X0_isEdition, f_X4_isEdition, f_X0_isCard, f_X4_isCard, f_X0_isPerson, f_X4_isPerson, f_X0_isCopy, f_X0_isTape, f_X4_isTape, f_X0_isBy, f_X4_isTime, f_X0_isDecree, f_X4_isSlip, hm, hme, c1, e4, c2, c3, ↓reduceIte, if_true, if_false, eq_self, ite_true, ite_false, Option.bind_some, not_true_eq_false, not_false_eq_true, Bool.false_eq_true]
  obtain ⟨v, -, hv, rfl⟩ := inB_bd (lo := 0) (hi := 999) (by decide) (by decide) c3
  by_cases c5 : n = 50
  · subst c5
    have e9 : (Int32.ofNat 50 = 50) = True := eq_true rfl
    refine ⟨w, ⟨0, 0, -4, w, ?_, ?_⟩, h.same⟩
    · simp only [f_X0_card, inX, inM, f_X0_isTown, f_X4_isTown, f_X0_isDay, f_X4_isDay, f_X0_isBook, f_X4_isBook, f_X0_isEdition, f_X4_isEdition, f_X0_isCard, f_X4_isCard, f_X0_isPerson, f_X4_isPerson, f_X0_isCopy, f_X0_isTape, f_X4_isTape, f_X0_isBy, f_X4_isTime, f_X0_isDecree, f_X4_isSlip, hx, hxe, c1, e4, c2, c3, e9, ↓reduceIte, if_true, if_false, eq_self, ite_true, ite_false, Option.bind_some, not_true_eq_false, not_false_eq_true, Bool.false_eq_true]
    · simp only [f_X4_card, inX, inM, f_X0_isTown, f_X4_isTown, f_X0_isDay, f_X4_isDay, f_X0_isBook, f_X4_isBook, f_X0_isEdition, f_X4_isEdition, f_X0_isCard, f_X4_isCard, f_X0_isPerson, f_X4_isPerson, f_X0_isCopy, f_X0_isTape, f_X4_isTape, f_X0_isBy, f_X4_isTime, f_X0_isDecree, f_X4_isSlip, hm, hme, c1, e4, c2, c3, e9, ↓reduceIte, if_true, if_false, eq_self, ite_true, ite_false, Option.bind_some, not_true_eq_false, not_false_eq_true, Bool.false_eq_true]
  have hne5 : (Int32.ofNat n = 50) = False := eq_false (fun q => c5 ((i_inj (b := 50) (by omega) (by decide)).mp q))
  have hin : inb (Int32.ofNat n) 50 = True := inb_t (by omega) (by decide)
  have hs1 : Int32.ofNat n + 1 = Int32.ofNat (n + 1) := i_add n 1
  have hs2 : Int32.ofNat (n + 1) - 1 = Int32.ofNat n := i_sub (b := 1) (by omega)
  have tg := ctag_bd hc
  have tg1 : (9 ≤ ctag c ∧ ctag c ≤ 15) = True := eq_true tg
  have mk := made_ok hc c4 hz hx a2 (Int32.ofNat v)
  obtain ⟨w1, hw1⟩ : ∃ w1, w1 = sI (sR (sI (sI (sI (sR (sN w (ctag c) 0) (wZ w) 0 (some 14)) (wZ w) 1 (Int32.ofNat n)) (wZ w) 2 a2) (wZ w) 3 (Int32.ofNat v)) 13 n (some (wZ w))) 0 9 (Int32.ofNat (n + 1)) := ⟨_, rfl⟩
  obtain ⟨w2, hw2⟩ : ∃ w2, w2 = sI (sI (sI (sI (sI w1 72 n (Int32.ofNat c)) 73 n a2) 74 n (Int32.ofNat v)) 75 n 0) 58 17 (Int32.ofNat (n + 1)) := ⟨_, rfl⟩
  refine ⟨w2, ⟨0, 0, Int32.ofNat n, w1, ?_, ?_⟩, ?_⟩
  · rw [hw1]
    unfold f_X0_card
    rw [mk, Option.bind_some, Option.bind_some]
    simp (disch := omega) only [inX, inM, f_X0_isTown, f_X4_isTown, f_X0_isDay, f_X4_isDay, f_X0_isBook, f_X4_isBook, f_X0_isEdition, f_X4_isEdition, f_X0_isCard, f_X4_isCard, f_X0_isPerson, f_X4_isPerson, f_X0_isCopy, f_X0_isTape, f_X4_isTape, f_X0_isBy, f_X4_isTime, f_X0_isDecree, f_X4_isSlip, wI_ne, wI_nf, wI_eq, wI_sR, wI_sL, wI_N, wI_Nz, wR_ne, wR_nf, wR_eq, wR_sI, wR_sL, wR_N, wR_Nz, wL_ne, wL_nf, wL_eq, wL_sI, wL_sR, wL_N, wL_Nz, wT_sI, wT_sR, wT_sL, wT_N, wT_Nz, wZ_sI, wZ_sR, wZ_sL, wZ_sN, wI_sX, wL_sX, wR_sX, wZ_sX, hx, hxe, c1, e4, c2, c3, hne5, hin, tn_i, hs1, tg1, ↓reduceIte, if_true, if_false, eq_self, ite_true, ite_false, Option.bind_some, not_true_eq_false, not_false_eq_true, Bool.false_eq_true]
  · rw [hw2]
    have em : wI w1 58 17 = Int32.ofNat n := by rw [hw1]; simp (disch := omega) only [wI_ne, wI_nf, wI_eq, wI_sR, wI_sL, wI_N, wI_Nz, wR_ne, wR_nf, wR_eq, wR_sI, wR_sL, wR_N, wR_Nz, wL_ne, wL_nf, wL_eq, wL_sI, wL_sR, wL_N, wL_Nz, wT_sI, wT_sR, wT_sL, wT_N, wT_Nz, wZ_sI, wZ_sR, wZ_sL, wZ_sN, wI_sX, wL_sX, wR_sX, wZ_sX]; exact hm
    have eme : wI w1 58 3 = Int32.ofNat ne := by rw [hw1]; simp (disch := omega) only [wI_ne, wI_nf, wI_eq, wI_sR, wI_sL, wI_N, wI_Nz, wR_ne, wR_nf, wR_eq, wR_sI, wR_sL, wR_N, wR_Nz, wL_ne, wL_nf, wL_eq, wL_sI, wL_sR, wL_N, wL_Nz, wT_sI, wT_sR, wT_sL, wT_N, wT_Nz, wZ_sI, wZ_sR, wZ_sL, wZ_sN, wI_sX, wL_sX, wR_sX, wZ_sX]; exact hme
    simp (disch := omega) only [f_X4_card, inX, inM, f_X0_isTown, f_X4_isTown, f_X0_isDay, f_X4_isDay, f_X0_isBook, f_X4_isBook, f_X0_isEdition, f_X4_isEdition, f_X0_isCard, f_X4_isCard, f_X0_isPerson, f_X4_isPerson, f_X0_isCopy, f_X0_isTape, f_X4_isTape, f_X0_isBy, f_X4_isTime, f_X0_isDecree, f_X4_isSlip, em, eme, c1, e4, c2, c3, hne5, hin, tn_i, hs1, hs2, ↓reduceIte, if_true, if_false, eq_self, ite_true, ite_false, Option.bind_some, not_true_eq_false, not_false_eq_true, Bool.false_eq_true]
  · have nz : ∀ {f : Nat} {P : Nat → Nat → Prop}, wZ w < wZ w → ¬ P (wZ w) f := fun h9 => absurd h9 (Nat.lt_irrefl _)
    have k2 : Kept (But 6 w) w w2 := by
      rw [hw2, hw1]
      exact (((((((((((Kept.rfl'.sN (ctag c) 0).sR nz).sI nz).sI nz).sI nz).sR (fun _ hb => hb.1 rfl)).sI (fun _ hb => hb.1 rfl)).sI (fun _ hb => hb.1 rfl)).sI (fun _ hb => hb.1 rfl)).sI (fun _ hb => hb.1 rfl)).sI (fun _ hb => hb.1 rfl)).sI (fun _ hb => hb.1 rfl)
    have hz2 : wZ w2 = wZ w + 1 := by rw [hw2, hw1]; rfl
    have hT : wT w2 (wZ w) = (ctag c, 0) := by rw [hw2, hw1]; simp (disch := omega) only [wI_ne, wI_nf, wI_eq, wI_sR, wI_sL, wI_N, wI_Nz, wR_ne, wR_nf, wR_eq, wR_sI, wR_sL, wR_N, wR_Nz, wL_ne, wL_nf, wL_eq, wL_sI, wL_sR, wL_N, wL_Nz, wT_sI, wT_sR, wT_sL, wT_N, wT_Nz, wZ_sI, wZ_sR, wZ_sL, wZ_sN, wI_sX, wL_sX, wR_sX, wZ_sX]
    have e77 : ∀ f, wI w2 77 f = wI w 77 f := by intro f; rw [hw2, hw1]; simp (disch := omega) only [wI_ne, wI_nf, wI_eq, wI_sR, wI_sL, wI_N, wI_Nz, wR_ne, wR_nf, wR_eq, wR_sI, wR_sL, wR_N, wR_Nz, wL_ne, wL_nf, wL_eq, wL_sI, wL_sR, wL_N, wL_Nz, wT_sI, wT_sR, wT_sL, wT_N, wT_Nz, wZ_sI, wZ_sR, wZ_sL, wZ_sN, wI_sX, wL_sX, wR_sX, wZ_sX]
    refine Inv.m6 (h.rest' k2 (fun _ => newOne hz2 (congrArg Prod.fst hT) 7 (by show 7 ≠ ctag c; omega)) (fun _ => newOne hz2 (congrArg Prod.fst hT) 8 (by show 8 ≠ ctag c; omega)) (by decide)) ⟨n + 1, by omega, ?_, ?_, fun i hi => ?_, fun i q1 q2 => by rw [e77]; exact h0 i (by omega) q2⟩ (by have := h.2.1; omega)
    · rw [hw2, hw1]; simp (disch := omega) only [wI_ne, wI_nf, wI_eq, wI_sR, wI_sL, wI_N, wI_Nz, wR_ne, wR_nf, wR_eq, wR_sI, wR_sL, wR_N, wR_Nz, wL_ne, wL_nf, wL_eq, wL_sI, wL_sR, wL_N, wL_Nz, wT_sI, wT_sR, wT_sL, wT_N, wT_Nz, wZ_sI, wZ_sR, wZ_sL, wZ_sN, wI_sX, wL_sX, wR_sX, wZ_sX]
    · rw [hw2]; simp (disch := omega) only [wI_ne, wI_nf, wI_eq, wI_sR, wI_sL, wI_N, wI_Nz, wR_ne, wR_nf, wR_eq, wR_sI, wR_sL, wR_N, wR_Nz, wL_ne, wL_nf, wL_eq, wL_sI, wL_sR, wL_N, wL_Nz, wT_sI, wT_sR, wT_sL, wT_N, wT_Nz, wZ_sI, wZ_sR, wZ_sL, wZ_sN, wI_sX, wL_sX, wR_sX, wZ_sX]
    · by_cases q : i = n
      · subst q
        refine ⟨wZ w, c, ?_, hc, ⟨hz, by omega, congrArg Prod.fst hT⟩, ?_, ?_, ?_, ?_, Or.inl ⟨c4, by rw [e77]; exact h0 i (Nat.le_refl _) (by omega), ?_⟩, fun _ => ?_, v, 0, by omega, hv, ?_, ?_⟩
        · rw [hw2, hw1]; simp (disch := omega) only [wI_ne, wI_nf, wI_eq, wI_sR, wI_sL, wI_N, wI_Nz, wR_ne, wR_nf, wR_eq, wR_sI, wR_sL, wR_N, wR_Nz, wL_ne, wL_nf, wL_eq, wL_sI, wL_sR, wL_N, wL_Nz, wT_sI, wT_sR, wT_sL, wT_N, wT_Nz, wZ_sI, wZ_sR, wZ_sL, wZ_sN, wI_sX, wL_sX, wR_sX, wZ_sX]
        · rw [hw2, hw1]; simp (disch := omega) only [wI_ne, wI_nf, wI_eq, wI_sR, wI_sL, wI_N, wI_Nz, wR_ne, wR_nf, wR_eq, wR_sI, wR_sL, wR_N, wR_Nz, wL_ne, wL_nf, wL_eq, wL_sI, wL_sR, wL_N, wL_Nz, wT_sI, wT_sR, wT_sL, wT_N, wT_Nz, wZ_sI, wZ_sR, wZ_sL, wZ_sN, wI_sX, wL_sX, wR_sX, wZ_sX]
        · rw [hw2, hw1]; simp (disch := omega) only [wI_ne, wI_nf, wI_eq, wI_sR, wI_sL, wI_N, wI_Nz, wR_ne, wR_nf, wR_eq, wR_sI, wR_sL, wR_N, wR_Nz, wL_ne, wL_nf, wL_eq, wL_sI, wL_sR, wL_N, wL_Nz, wT_sI, wT_sR, wT_sL, wT_N, wT_Nz, wZ_sI, wZ_sR, wZ_sL, wZ_sN, wI_sX, wL_sX, wR_sX, wZ_sX]
        · rw [hw2, hw1]; simp (disch := omega) only [wI_ne, wI_nf, wI_eq, wI_sR, wI_sL, wI_N, wI_Nz, wR_ne, wR_nf, wR_eq, wR_sI, wR_sL, wR_N, wR_Nz, wL_ne, wL_nf, wL_eq, wL_sI, wL_sR, wL_N, wL_Nz, wT_sI, wT_sR, wT_sL, wT_N, wT_Nz, wZ_sI, wZ_sR, wZ_sL, wZ_sN, wI_sX, wL_sX, wR_sX, wZ_sX]
        · rw [hw2, hw1]; simp (disch := omega) only [wI_ne, wI_nf, wI_eq, wI_sR, wI_sL, wI_N, wI_Nz, wR_ne, wR_nf, wR_eq, wR_sI, wR_sL, wR_N, wR_Nz, wL_ne, wL_nf, wL_eq, wL_sI, wL_sR, wL_N, wL_Nz, wT_sI, wT_sR, wT_sL, wT_N, wT_Nz, wZ_sI, wZ_sR, wZ_sL, wZ_sN, wI_sX, wL_sX, wR_sX, wZ_sX]
        · rw [hw2, hw1]; simp (disch := omega) only [wI_ne, wI_nf, wI_eq, wI_sR, wI_sL, wI_N, wI_Nz, wR_ne, wR_nf, wR_eq, wR_sI, wR_sL, wR_N, wR_Nz, wL_ne, wL_nf, wL_eq, wL_sI, wL_sR, wL_N, wL_Nz, wT_sI, wT_sR, wT_sL, wT_N, wT_Nz, wZ_sI, wZ_sR, wZ_sL, wZ_sN, wI_sX, wL_sX, wR_sX, wZ_sX]
        · rw [hw2, hw1]; simp (disch := omega) only [wI_ne, wI_nf, wI_eq, wI_sR, wI_sL, wI_N, wI_Nz, wR_ne, wR_nf, wR_eq, wR_sI, wR_sL, wR_N, wR_Nz, wL_ne, wL_nf, wL_eq, wL_sI, wL_sR, wL_N, wL_Nz, wT_sI, wT_sR, wT_sL, wT_N, wT_Nz, wZ_sI, wZ_sR, wZ_sL, wZ_sN, wI_sX, wL_sX, wR_sX, wZ_sX]
        · rw [hw2, hw1]; simp (disch := omega) only [wI_ne, wI_nf, wI_eq, wI_sR, wI_sL, wI_N, wI_Nz, wR_ne, wR_nf, wR_eq, wR_sI, wR_sL, wR_N, wR_Nz, wL_ne, wL_nf, wL_eq, wL_sI, wL_sR, wL_N, wL_Nz, wT_sI, wT_sR, wT_sL, wT_N, wT_Nz, wZ_sI, wZ_sR, wZ_sL, wZ_sN, wI_sX, wL_sX, wR_sX, wZ_sX]
        · rw [hw2, hw1]; simp (disch := omega) only [wI_ne, wI_nf, wI_eq, wI_sR, wI_sL, wI_N, wI_Nz, wR_ne, wR_nf, wR_eq, wR_sI, wR_sL, wR_N, wR_Nz, wL_ne, wL_nf, wL_eq, wL_sI, wL_sR, wL_N, wL_Nz, wT_sI, wT_sR, wT_sL, wT_N, wT_Nz, wZ_sI, wZ_sR, wZ_sL, wZ_sN, wI_sX, wL_sX, wR_sX, wZ_sX]; rfl
      · obtain ⟨a, c', f1, f2, f3, f4⟩ := hk i (by omega)
        have q1 := f3.1
        have q2 := f3.2.1
        refine ⟨a, c', by rw [hw2, hw1]; simp (disch := omega) only [wI_ne, wI_nf, wI_eq, wI_sR, wI_sL, wI_N, wI_Nz, wR_ne, wR_nf, wR_eq, wR_sI, wR_sL, wR_N, wR_Nz, wL_ne, wL_nf, wL_eq, wL_sI, wL_sR, wL_N, wL_Nz, wT_sI, wT_sR, wT_sL, wT_N, wT_Nz, wZ_sI, wZ_sR, wZ_sL, wZ_sN, wI_sX, wL_sX, wR_sX, wZ_sX]; exact f1, f2, f3.kept k2, ?_⟩
        rw [e77, show wR w2 a 0 = wR w a 0 by rw [hw2, hw1]; simp (disch := omega) only [wI_ne, wI_nf, wI_eq, wI_sR, wI_sL, wI_N, wI_Nz, wR_ne, wR_nf, wR_eq, wR_sI, wR_sL, wR_N, wR_Nz, wL_ne, wL_nf, wL_eq, wL_sI, wL_sR, wL_N, wL_Nz, wT_sI, wT_sR, wT_sL, wT_N, wT_Nz, wZ_sI, wZ_sR, wZ_sL, wZ_sN, wI_sX, wL_sX, wR_sX, wZ_sX], show wI w2 a 1 = wI w a 1 by rw [hw2, hw1]; simp (disch := omega) only [wI_ne, wI_nf, wI_eq, wI_sR, wI_sL, wI_N, wI_Nz, wR_ne, wR_nf, wR_eq, wR_sI, wR_sL, wR_N, wR_Nz, wL_ne, wL_nf, wL_eq, wL_sI, wL_sR, wL_N, wL_Nz, wT_sI, wT_sR, wT_sL, wT_N, wT_Nz, wZ_sI, wZ_sR, wZ_sL, wZ_sN, wI_sX, wL_sX, wR_sX, wZ_sX], show wI w2 a 2 = wI w a 2 by rw [hw2, hw1]; simp (disch := omega) only [wI_ne, wI_nf, wI_eq, wI_sR, wI_sL, wI_N, wI_Nz, wR_ne, wR_nf, wR_eq, wR_sI, wR_sL, wR_N, wR_Nz, wL_ne, wL_nf, wL_eq, wL_sI, wL_sR, wL_N, wL_Nz, wT_sI, wT_sR, wT_sL, wT_N, wT_Nz, wZ_sI, wZ_sR, wZ_sL, wZ_sN, wI_sX, wL_sX, wR_sX, wZ_sX], show wI w2 a 3 = wI w a 3 by rw [hw2, hw1]; simp (disch := omega) only [wI_ne, wI_nf, wI_eq, wI_sR, wI_sL, wI_N, wI_Nz, wR_ne, wR_nf, wR_eq, wR_sI, wR_sL, wR_N, wR_Nz, wL_ne, wL_nf, wL_eq, wL_sI, wL_sR, wL_N, wL_Nz, wT_sI, wT_sR, wT_sL, wT_N, wT_Nz, wZ_sI, wZ_sR, wZ_sL, wZ_sN, wI_sX, wL_sX, wR_sX, wZ_sX], show wI w2 a 4 = wI w a 4 by rw [hw2, hw1]; simp (disch := omega) only [wI_ne, wI_nf, wI_eq, wI_sR, wI_sL, wI_N, wI_Nz, wR_ne, wR_nf, wR_eq, wR_sI, wR_sL, wR_N, wR_Nz, wL_ne, wL_nf, wL_eq, wL_sI, wL_sR, wL_N, wL_Nz, wT_sI, wT_sR, wT_sL, wT_N, wT_Nz, wZ_sI, wZ_sR, wZ_sL, wZ_sN, wI_sX, wL_sX, wR_sX, wZ_sX], show wI w2 72 i = wI w 72 i by rw [hw2, hw1]; simp (disch := omega) only [wI_ne, wI_nf, wI_eq, wI_sR, wI_sL, wI_N, wI_Nz, wR_ne, wR_nf, wR_eq, wR_sI, wR_sL, wR_N, wR_Nz, wL_ne, wL_nf, wL_eq, wL_sI, wL_sR, wL_N, wL_Nz, wT_sI, wT_sR, wT_sL, wT_N, wT_Nz, wZ_sI, wZ_sR, wZ_sL, wZ_sN, wI_sX, wL_sX, wR_sX, wZ_sX], show wI w2 73 i = wI w 73 i by rw [hw2, hw1]; simp (disch := omega) only [wI_ne, wI_nf, wI_eq, wI_sR, wI_sL, wI_N, wI_Nz, wR_ne, wR_nf, wR_eq, wR_sI, wR_sL, wR_N, wR_Nz, wL_ne, wL_nf, wL_eq, wL_sI, wL_sR, wL_N, wL_Nz, wT_sI, wT_sR, wT_sL, wT_N, wT_Nz, wZ_sI, wZ_sR, wZ_sL, wZ_sN, wI_sX, wL_sX, wR_sX, wZ_sX], show wI w2 74 i = wI w 74 i by rw [hw2, hw1]; simp (disch := omega) only [wI_ne, wI_nf, wI_eq, wI_sR, wI_sL, wI_N, wI_Nz, wR_ne, wR_nf, wR_eq, wR_sI, wR_sL, wR_N, wR_Nz, wL_ne, wL_nf, wL_eq, wL_sI, wL_sR, wL_N, wL_Nz, wT_sI, wT_sR, wT_sL, wT_N, wT_Nz, wZ_sI, wZ_sR, wZ_sL, wZ_sN, wI_sX, wL_sX, wR_sX, wZ_sX], show wI w2 75 i = wI w 75 i by rw [hw2, hw1]; simp (disch := omega) only [wI_ne, wI_nf, wI_eq, wI_sR, wI_sL, wI_N, wI_Nz, wR_ne, wR_nf, wR_eq, wR_sI, wR_sL, wR_N, wR_Nz, wL_ne, wL_nf, wL_eq, wL_sI, wL_sR, wL_N, wL_Nz, wT_sI, wT_sR, wT_sL, wT_N, wT_Nz, wZ_sI, wZ_sR, wZ_sL, wZ_sN, wI_sX, wL_sX, wR_sX, wZ_sX]]
        exact f4
/-- a card's kind, by both -/
theorem kind_X {w : Wd} {a c : Nat} (hc : c ≤ 6) (h : Dy w a (ctag c)) : v_X8_kind a w = some (Int32.ofNat c) := by
  have t := h.2.2
  unfold v_X8_kind
  rw [t]
  rcases (show c = 0 ∨ c = 1 ∨ c = 2 ∨ c = 3 ∨ c = 4 ∨ c = 5 ∨ c = 6 by omega) with rfl | rfl | rfl | rfl | rfl | rfl | rfl <;> rfl
theorem kind_M {w : Wd} {k c : Nat} (hk : k < 50) (h : (c ≠ 4 ∧ wI w 77 k = 0 ∧ wI w 72 k = Int32.ofNat c) ∨ (c = 4 ∧ wI w 77 k = 1)) : f_X4_kindOf (Int32.ofNat k) w = some (Int32.ofNat c) := by
  have hin : inb (Int32.ofNat k) 50 = True := inb_t hk (by decide)
  unfold f_X4_kindOf
  rcases h with ⟨h1, h2, h3⟩ | ⟨rfl, h2⟩
  · simp (disch := omega) only [hin, tn_i, h2, h3, ↓reduceIte, if_true, if_false, eq_self, ite_true, ite_false, Option.bind_some, not_true_eq_false, not_false_eq_true, Bool.false_eq_true]
  · simp (disch := omega) only [hin, tn_i, h2, ↓reduceIte, if_true, if_false, eq_self, ite_true, ite_false, Option.bind_some, not_true_eq_false, not_false_eq_true, Bool.false_eq_true]
    rfl
theorem st_10 {j : Nat} {w : Wd} {a1 a2 a3 a4 a5 : Int32} (h : Inv j w) : ∃ w2, okc_10 a1 a2 a3 a4 a5 w w2 ∧ Inv (j + 1) w2 := by
  obtain ⟨n, hn, hx, hm, hk, h0⟩ := id h.car
  by_cases c1 : inB a1 0 (Int32.ofNat n - 1) = true
  rotate_left
  · have c1 := ne_of_tf c1
    refine ⟨w, ⟨0, 0, -1, ?_, ?_, rfl⟩, h.same⟩
    · simp only [f_X0_kind, inX, inM, f_X0_isTown, f_X4_isTown, f_X0_isDay, f_X4_isDay, f_X0_isBook, f_X4_isBook, f_X0_isEdition, f_X4_isEdition, f_X0_isCard, f_X4_isCard, f_X0_isPerson, f_X4_isPerson, f_X0_isCopy, f_X0_isTape, f_X4_isTape, f_X0_isBy, f_X4_isTime, f_X0_isDecree, f_X4_isSlip, hx, hm, c1, ↓reduceIte, if_true, if_false, eq_self, ite_true, ite_false, Option.bind_some, not_true_eq_false, not_false_eq_true, Bool.false_eq_true]
    · simp only [f_X4_kind, inX, inM, f_X0_isTown, f_X4_isTown, f_X0_isDay, f_X4_isDay, f_X0_isBook, f_X4_isBook, f_X0_isEdition, f_X4_isEdition, f_X0_isCard, f_X4_isCard, f_X0_isPerson, f_X4_isPerson, f_X0_isCopy, f_X0_isTape, f_X4_isTape, f_X0_isBy, f_X4_isTime, f_X0_isDecree, f_X4_isSlip, hx, hm, c1, ↓reduceIte, if_true, if_false, eq_self, ite_true, ite_false, Option.bind_some, not_true_eq_false, not_false_eq_true, Bool.false_eq_true]
  obtain ⟨k, hk1, rfl⟩ := inB_lt (by omega) c1
  obtain ⟨a, c, g1, g2, g3, g4, g5, g6, g7, g8, g9⟩ := hk k hk1
  have hin : inb (Int32.ofNat k) 50 = True := inb_t (by omega) (by decide)
  refine ⟨w, ⟨0, 0, Int32.ofNat c, ?_, ?_, rfl⟩, h.same⟩
  · unfold f_X0_kind
    rw [show wR w 13 (Int32.ofNat k).toNatClampNeg = some a by rw [tn_i (by omega)]; exact g1, Option.bind_some, kind_X g2 g3]
    simp only [inX, inM, f_X0_isTown, f_X4_isTown, f_X0_isDay, f_X4_isDay, f_X0_isBook, f_X4_isBook, f_X0_isEdition, f_X4_isEdition, f_X0_isCard, f_X4_isCard, f_X0_isPerson, f_X4_isPerson, f_X0_isCopy, f_X0_isTape, f_X4_isTape, f_X0_isBy, f_X4_isTime, f_X0_isDecree, f_X4_isSlip, hx, c1, hin, ↓reduceIte, if_true, if_false, eq_self, ite_true, ite_false, Option.bind_some, not_true_eq_false, not_false_eq_true, Bool.false_eq_true]
  · unfold f_X4_kind
    rw [kind_M (by omega) g8]
    simp only [inX, inM, f_X0_isTown, f_X4_isTown, f_X0_isDay, f_X4_isDay, f_X0_isBook, f_X4_isBook, f_X0_isEdition, f_X4_isEdition, f_X0_isCard, f_X4_isCard, f_X0_isPerson, f_X4_isPerson, f_X0_isCopy, f_X0_isTape, f_X4_isTape, f_X0_isBy, f_X4_isTime, f_X0_isDecree, f_X4_isSlip, hm, c1, ↓reduceIte, if_true, if_false, eq_self, ite_true, ite_false, Option.bind_some, not_true_eq_false, not_false_eq_true, Bool.false_eq_true]
theorem st_12 {j : Nat} {w : Wd} {a1 a2 a3 a4 a5 : Int32} (h : Inv j w) : ∃ w2, okc_12 a1 a2 a3 a4 a5 w w2 ∧ Inv (j + 1) w2 := by
  obtain ⟨n, hn, hx, hm, hk⟩ := id h.tra
  have e20 : (20 : Int32) = Int32.ofNat 20 := rfl
  have emin : (if (20 : Int32) < Int32.ofNat n then (20 : Int32) else Int32.ofNat n) = Int32.ofNat (min n 20) := by
    rw [e20]
    by_cases q : 20 < n
    · rw [if_pos ((i_lt (by omega) (by omega)).mpr q), Nat.min_eq_right (by omega)]
    · rw [if_neg (fun r => q ((i_lt (by omega) (by omega)).mp r)), Nat.min_eq_left (by omega)]
  by_cases c1 : inB a1 0 (Int32.ofNat (min n 20) - 1) = true
  · obtain ⟨k, hk1, rfl⟩ := inB_lt (by omega) c1
    have hin : inb (Int32.ofNat k) 20 = True := inb_t (by omega) (by decide)
    have c2 : inB (Int32.ofNat k) 0 19 = true := (inIff _ _ _ _).mpr ⟨i_ge0 (by omega), (i_le (b := 19) (by omega) (by decide)).mpr (by omega)⟩
    have c3 : (Int32.ofNat n ≤ Int32.ofNat k) = False := eq_false (fun q => by rw [i_le (by omega) (by omega)] at q; omega)
    refine ⟨w, ⟨0, 0, wI w 76 k, ?_, ?_, rfl⟩, h.same⟩
    · simp (disch := omega) only [f_X0_trace, inX, inM, f_X0_isTown, f_X4_isTown, f_X0_isDay, f_X4_isDay, f_X0_isBook, f_X4_isBook, f_X0_isEdition, f_X4_isEdition, f_X0_isCard, f_X4_isCard, f_X0_isPerson, f_X4_isPerson, f_X0_isCopy, f_X0_isTape, f_X4_isTape, f_X0_isBy, f_X4_isTime, f_X0_isDecree, f_X4_isSlip, hx, emin, c1, hin, tn_i, hk k (by omega), ↓reduceIte, if_true, if_false, eq_self, ite_true, ite_false, Option.bind_some, not_true_eq_false, not_false_eq_true, Bool.false_eq_true]
    · simp (disch := omega) only [f_X4_trace, inX, inM, f_X0_isTown, f_X4_isTown, f_X0_isDay, f_X4_isDay, f_X0_isBook, f_X4_isBook, f_X0_isEdition, f_X4_isEdition, f_X0_isCard, f_X4_isCard, f_X0_isPerson, f_X4_isPerson, f_X0_isCopy, f_X0_isTape, f_X4_isTape, f_X0_isBy, f_X4_isTime, f_X0_isDecree, f_X4_isSlip, hm, c2, c3, hin, tn_i, ↓reduceIte, if_true, if_false, eq_self, ite_true, ite_false, Option.bind_some, not_true_eq_false, not_false_eq_true, Bool.false_eq_true]
  · have c1f := ne_of_tf c1
    refine ⟨w, ⟨0, 0, -1, ?_, ?_, rfl⟩, h.same⟩
    · simp (disch := omega) only [f_X0_trace, inX, inM, f_X0_isTown, f_X4_isTown, f_X0_isDay, f_X4_isDay, f_X0_isBook, f_X4_isBook, f_X0_isEdition, f_X4_isEdition, f_X0_isCard, f_X4_isCard, f_X0_isPerson, f_X4_isPerson, f_X0_isCopy, f_X0_isTape, f_X4_isTape, f_X0_isBy, f_X4_isTime, f_X0_isDecree, f_X4_isSlip, hx, emin, c1f, ↓reduceIte, if_true, if_false, eq_self, ite_true, ite_false, Option.bind_some, not_true_eq_false, not_false_eq_true, Bool.false_eq_true]
    · by_cases c2 : inB a1 0 19 = true
      · obtain ⟨k, -, hk1, rfl⟩ := inB_bd (lo := 0) (hi := 19) (by decide) (by decide) c2
        have c3 : (Int32.ofNat n ≤ Int32.ofNat k) = True := by
          apply eq_true
          rw [i_le (by omega) (by omega)]
          rcases Nat.lt_or_ge k n with q | q
          · exact absurd (in_yes (w := e0) (n := min n 20) (by omega) (show k < min n 20 by omega)) c1
          · exact q
        simp only [f_X4_trace, inX, inM, f_X0_isTown, f_X4_isTown, f_X0_isDay, f_X4_isDay, f_X0_isBook, f_X4_isBook, f_X0_isEdition, f_X4_isEdition, f_X0_isCard, f_X4_isCard, f_X0_isPerson, f_X4_isPerson, f_X0_isCopy, f_X0_isTape, f_X4_isTape, f_X0_isBy, f_X4_isTime, f_X0_isDecree, f_X4_isSlip, hm, c2, c3, ↓reduceIte, if_true, if_false, eq_self, ite_true, ite_false, Option.bind_some, not_true_eq_false, not_false_eq_true, Bool.false_eq_true]
      · have c2 := ne_of_tf c2
        simp only [f_X4_trace, inX, inM, f_X0_isTown, f_X4_isTown, f_X0_isDay, f_X4_isDay, f_X0_isBook, f_X4_isBook, f_X0_isEdition, f_X4_isEdition, f_X0_isCard, f_X4_isCard, f_X0_isPerson, f_X4_isPerson, f_X0_isCopy, f_X0_isTape, f_X4_isTape, f_X0_isBy, f_X4_isTime, f_X0_isDecree, f_X4_isSlip, hm, c2, ↓reduceIte, if_true, if_false, eq_self, ite_true, ite_false, Option.bind_some, not_true_eq_false, not_false_eq_true, Bool.false_eq_true]
