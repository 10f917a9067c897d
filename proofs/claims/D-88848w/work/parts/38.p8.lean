/-! PURE PART: the simple calls -/
theorem Inv.tod {j : Nat} {w : Wd} (h : Inv j w) : Tod w := h.2.2.1
theorem Inv.way {j : Nat} {w : Wd} (h : Inv j w) : Way w := h.2.2.2.1
theorem Inv.per {j : Nat} {w : Wd} (h : Inv j w) : Per w := h.2.2.2.2.1
theorem Inv.boo {j : Nat} {w : Wd} (h : Inv j w) : Boo w := h.2.2.2.2.2.1
theorem Inv.edi {j : Nat} {w : Wd} (h : Inv j w) : Edi w := h.2.2.2.2.2.2.1
theorem Inv.car {j : Nat} {w : Wd} (h : Inv j w) : Car w := h.2.2.2.2.2.2.2.1
theorem Inv.tra {j : Nat} {w : Wd} (h : Inv j w) : Tra w := h.2.2.2.2.2.2.2.2.1
theorem Inv.txt {j : Nat} {w : Wd} (h : Inv j w) : Txt w := h.2.2.2.2.2.2.2.2.2.1
theorem Inv.dec {j : Nat} {w : Wd} (h : Inv j w) : Dec w := h.2.2.2.2.2.2.2.2.2.2.1
theorem Inv.lea {j : Nat} {w : Wd} (h : Inv j w) : Lea w := h.2.2.2.2.2.2.2.2.2.2.2.1
theorem Inv.sli {j : Nat} {w : Wd} (h : Inv j w) : Sli w := h.2.2.2.2.2.2.2.2.2.2.2.2.1
theorem Inv.por {j : Nat} {w : Wd} (h : Inv j w) : Por w := h.2.2.2.2.2.2.2.2.2.2.2.2.2.1
theorem Inv.cho {j : Nat} {w : Wd} (h : Inv j w) : Cho w := h.2.2.2.2.2.2.2.2.2.2.2.2.2.2.1
theorem Inv.aim {j : Nat} {w : Wd} (h : Inv j w) : Aim w := h.2.2.2.2.2.2.2.2.2.2.2.2.2.2.2.1
theorem Inv.cop {j : Nat} {w : Wd} (h : Inv j w) : Cop w := h.2.2.2.2.2.2.2.2.2.2.2.2.2.2.2.2.1
theorem Inv.tap {j : Nat} {w : Wd} (h : Inv j w) : Tap w := h.2.2.2.2.2.2.2.2.2.2.2.2.2.2.2.2.2
theorem Inv.z8 {j : Nat} {w : Wd} (h : Inv j w) : 108 ≤ wZ w := h.1.2.2
theorem in_bd {a : Int32} {lo hi : Nat} {w : Wd} (hl : lo < 2147483648) (hh : hi < 2147483648) (h : f_X4_in a (Int32.ofNat lo) (Int32.ofNat hi) w = true) : ∃ n, lo ≤ n ∧ n ≤ hi ∧ a = Int32.ofNat n := by
  obtain ⟨h1, h2⟩ := (inIff _ _ _ _).mp h
  have h0 : ¬ a < 0 := by
    rw [Int32.lt_iff_toInt_lt, show (0 : Int32).toInt = 0 from rfl]
    have := Int32.le_iff_toInt_le.mp h1
    rw [ti_i hl] at this
    omega
  have e := i_of h0
  have b := i_bd a
  rw [e, i_le hl b] at h1
  rw [e, i_le b hh] at h2
  exact ⟨_, h1, h2, e⟩
theorem town_of {a : Int32} {w : Wd} (h : f_X4_isTown a w = true) : ∃ t, t < 8 ∧ a = Int32.ofNat t := by
  obtain ⟨t, -, h2, e⟩ := in_bd (lo := 0) (hi := 7) (by decide) (by decide) h
  exact ⟨t, by omega, e⟩
theorem ne_of_tf {b : Bool} (h : ¬ b = true) : b = false := by cases b <;> simp_all
/-- a test that looks at no world -/
def inB (a b c : Int32) : Bool := f_X4_in a b c e0
theorem inX (a b c : Int32) (w : Wd) : f_X0_in a b c w = inB a b c := rfl
theorem inM (a b c : Int32) (w : Wd) : f_X4_in a b c w = inB a b c := rfl
theorem inB_bd {a : Int32} {lo hi : Nat} (hl : lo < 2147483648) (hh : hi < 2147483648) (h : inB a (Int32.ofNat lo) (Int32.ofNat hi) = true) : ∃ n, lo ≤ n ∧ n ≤ hi ∧ a = Int32.ofNat n := in_bd hl hh h
theorem inB_lt {a : Int32} {n : Nat} (hn : n < 2147483648) (h : inB a 0 (Int32.ofNat n - 1) = true) : ∃ k, k < n ∧ a = Int32.ofNat k := in_lt hn h
theorem inB_7 {a : Int32} (h : inB a 0 7 = true) : ∃ t, t < 8 ∧ a = Int32.ofNat t := town_of (w := e0) h
theorem i_is {n m : Nat} (hn : n < 2147483648) (hm : m < 2147483648) : (Int32.ofNat n = Int32.ofNat m) = (n = m) := propext (i_inj hn hm)
theorem inb_t {k n : Nat} (h : k < n) (hn : n < 2147483648) : inb (Int32.ofNat k) n = True := eq_true ((inb_i (by omega)).mpr h)
/-- one new cell, of a tag -/
theorem newOne {w w2 : Wd} {t0 : Nat} (hz2 : wZ w2 = wZ w + 1) (hT : (wT w2 (wZ w)).1 = t0) (t : Nat) (ht : t ≠ t0) : NoNew w w2 t := by
  intro a ha hd
  have h1 := hd.2.1
  have h2 := hd.2.2
  rw [show a = wZ w by omega, hT] at h2
  exact ht h2.symm
theorem st_0 {j : Nat} {w : Wd} {a1 a2 a3 a4 a5 : Int32} (h : Inv j w) : ∃ w2, okc_0 a1 a2 a3 a4 a5 w w2 ∧ Inv (j + 1) w2 := by
  obtain ⟨t, ht, hx, hm⟩ := h.tod
  by_cases c1 : inB a1 1 400 = true
  rotate_left
  · have c1 := ne_of_tf c1
    refine ⟨w, ⟨0, 0, -2, w, ?_, ?_⟩, h.same⟩
    · simp only [f_X0_pass, inX, inM, f_X0_isTown, f_X4_isTown, f_X0_isDay, f_X4_isDay, f_X0_isBook, f_X4_isBook, f_X0_isEdition, f_X4_isEdition, f_X0_isCard, f_X4_isCard, f_X0_isPerson, f_X4_isPerson, f_X0_isCopy, f_X0_isTape, f_X4_isTape, f_X0_isBy, f_X4_isTime, f_X0_isDecree, f_X4_isSlip, hx, hm, c1, ↓reduceIte, if_true, if_false, eq_self, ite_true, ite_false, Option.bind_some, not_true_eq_false, not_false_eq_true, Bool.false_eq_true]
    · simp only [f_X4_pass, inX, inM, f_X0_isTown, f_X4_isTown, f_X0_isDay, f_X4_isDay, f_X0_isBook, f_X4_isBook, f_X0_isEdition, f_X4_isEdition, f_X0_isCard, f_X4_isCard, f_X0_isPerson, f_X4_isPerson, f_X0_isCopy, f_X0_isTape, f_X4_isTape, f_X0_isBy, f_X4_isTime, f_X0_isDecree, f_X4_isSlip, hx, hm, c1, ↓reduceIte, if_true, if_false, eq_self, ite_true, ite_false, Option.bind_some, not_true_eq_false, not_false_eq_true, Bool.false_eq_true]
  obtain ⟨n, n1, n2, rfl⟩ := inB_bd (lo := 1) (hi := 400) (by decide) (by decide) c1
  by_cases c2 : t + n ≤ 9999
  rotate_left
  · have e9 : (Int32.ofNat (t + n) ≤ 9999) = False := eq_false (fun q => c2 ((i_le (b := 9999) (by omega) (by decide)).mp q))
    refine ⟨w, ⟨0, 0, -2, w, ?_, ?_⟩, h.same⟩
    · simp only [f_X0_pass, inX, inM, f_X0_isTown, f_X4_isTown, f_X0_isDay, f_X4_isDay, f_X0_isBook, f_X4_isBook, f_X0_isEdition, f_X4_isEdition, f_X0_isCard, f_X4_isCard, f_X0_isPerson, f_X4_isPerson, f_X0_isCopy, f_X0_isTape, f_X4_isTape, f_X0_isBy, f_X4_isTime, f_X0_isDecree, f_X4_isSlip, hx, hm, c1, i_add, e9, ↓reduceIte, if_true, if_false, eq_self, ite_true, ite_false, Option.bind_some, not_true_eq_false, not_false_eq_true, Bool.false_eq_true]
    · simp only [f_X4_pass, inX, inM, f_X0_isTown, f_X4_isTown, f_X0_isDay, f_X4_isDay, f_X0_isBook, f_X4_isBook, f_X0_isEdition, f_X4_isEdition, f_X0_isCard, f_X4_isCard, f_X0_isPerson, f_X4_isPerson, f_X0_isCopy, f_X0_isTape, f_X4_isTape, f_X0_isBy, f_X4_isTime, f_X0_isDecree, f_X4_isSlip, hx, hm, c1, i_add, e9, ↓reduceIte, if_true, if_false, eq_self, ite_true, ite_false, Option.bind_some, not_true_eq_false, not_false_eq_true, Bool.false_eq_true]
  have e9 : (Int32.ofNat (t + n) ≤ 9999) = True := eq_true ((i_le (b := 9999) (by omega) (by decide)).mpr c2)
  refine ⟨sI (sI w 0 0 (Int32.ofNat (t + n))) 58 0 (Int32.ofNat (t + n)), ⟨0, 0, Int32.ofNat (t + n), sI w 0 0 (Int32.ofNat (t + n)), ?_, ?_⟩, ?_⟩
  · simp only [f_X0_pass, inX, inM, f_X0_isTown, f_X4_isTown, f_X0_isDay, f_X4_isDay, f_X0_isBook, f_X4_isBook, f_X0_isEdition, f_X4_isEdition, f_X0_isCard, f_X4_isCard, f_X0_isPerson, f_X4_isPerson, f_X0_isCopy, f_X0_isTape, f_X4_isTape, f_X0_isBy, f_X4_isTime, f_X0_isDecree, f_X4_isSlip, hx, c1, i_add, e9, ↓reduceIte, if_true, if_false, eq_self, ite_true, ite_false, Option.bind_some, not_true_eq_false, not_false_eq_true, Bool.false_eq_true]
  · simp (disch := omega) only [f_X4_pass, inX, inM, f_X0_isTown, f_X4_isTown, f_X0_isDay, f_X4_isDay, f_X0_isBook, f_X4_isBook, f_X0_isEdition, f_X4_isEdition, f_X0_isCard, f_X4_isCard, f_X0_isPerson, f_X4_isPerson, f_X0_isCopy, f_X0_isTape, f_X4_isTape, f_X0_isBy, f_X4_isTime, f_X0_isDecree, f_X4_isSlip, wI_ne, wI_nf, wI_eq, wI_sR, wI_sL, wI_N, wI_Nz, wR_ne, wR_nf, wR_eq, wR_sI, wR_sL, wR_N, wR_Nz, wL_ne, wL_nf, wL_eq, wL_sI, wL_sR, wL_N, wL_Nz, wT_sI, wT_sR, wT_sL, wT_N, wT_Nz, wZ_sI, wZ_sR, wZ_sL, wZ_sN, wI_sX, wL_sX, wR_sX, wZ_sX, hm, c1, i_add, e9, ↓reduceIte, if_true, if_false, eq_self, ite_true, ite_false, Option.bind_some, not_true_eq_false, not_false_eq_true, Bool.false_eq_true]
  · exact Inv.m1 (h.rest' ((Kept.rfl'.sI (fun _ hb => hb.1 rfl)).sI (fun _ hb => hb.1 rfl)) (fun _ => noNew_of rfl 7) (fun _ => noNew_of rfl 8) (by decide)) ⟨t + n, c2, rfl, rfl⟩ (by have := h.2.1; show wZ w ≤ _; omega)
theorem st_2 {j : Nat} {w : Wd} {a1 a2 a3 a4 a5 : Int32} (h : Inv j w) : ∃ w2, okc_2 a1 a2 a3 a4 a5 w w2 ∧ Inv (j + 1) w2 := by
  by_cases c1 : f_X4_isTown a1 w = true
  · obtain ⟨t, ht, rfl⟩ := town_of c1
    obtain ⟨w2, e, ha⟩ := farOf_ok h.z8 h.way ht (n := 100) (by decide)
    refine ⟨w2, ⟨0, 100, wI w 2 t, ?_, ?_⟩, h.ask ha.1 ha.2⟩
    · unfold f_X0_far
      rw [if_pos (show f_X0_isTown (Int32.ofNat t) w = true from c1), if_pos (by decide), show wR w 1 ((0 : Int32).toNatClampNeg) = some 2 from h.1.1 1 0 2 rfl]
      show (if (wT w 2).1 = 200 then _ else none) = _
      rw [h.1.2.1 2 (200, 8) rfl, if_pos rfl, if_pos (by rw [inb_i (by omega)]; exact ht), tn_i (by omega)]
    · unfold f_X4_far
      rw [if_pos c1, e]
      rfl
  · refine ⟨w, ⟨0, 0, -1, ?_, ?_⟩, h.same⟩
    · unfold f_X0_far
      rw [if_neg (show ¬ f_X0_isTown a1 w = true from c1)]
    · unfold f_X4_far
      rw [if_neg c1]
theorem st_3 {j : Nat} {w : Wd} {a1 a2 a3 a4 a5 : Int32} (h : Inv j w) : ∃ w2, okc_3 a1 a2 a3 a4 a5 w w2 ∧ Inv (j + 1) w2 := by
  obtain ⟨n, hn, hx, hm, hk⟩ := h.per
  have hz := h.z8
  by_cases c1 : inB a1 0 7 = true
  rotate_left
  · have c1 := ne_of_tf c1
    refine ⟨w, ⟨0, 0, -1, w, ?_, ?_⟩, h.same⟩
    · simp only [f_X0_person, inX, inM, f_X0_isTown, f_X4_isTown, f_X0_isDay, f_X4_isDay, f_X0_isBook, f_X4_isBook, f_X0_isEdition, f_X4_isEdition, f_X0_isCard, f_X4_isCard, f_X0_isPerson, f_X4_isPerson, f_X0_isCopy, f_X0_isTape, f_X4_isTape, f_X0_isBy, f_X4_isTime, f_X0_isDecree, f_X4_isSlip, hx, hm, c1, ↓reduceIte, if_true, if_false, eq_self, ite_true, ite_false, Option.bind_some, not_true_eq_false, not_false_eq_true, Bool.false_eq_true]
    · simp only [f_X4_person, inX, inM, f_X0_isTown, f_X4_isTown, f_X0_isDay, f_X4_isDay, f_X0_isBook, f_X4_isBook, f_X0_isEdition, f_X4_isEdition, f_X0_isCard, f_X4_isCard, f_X0_isPerson, f_X4_isPerson, f_X0_isCopy, f_X0_isTape, f_X4_isTape, f_X0_isBy, f_X4_isTime, f_X0_isDecree, f_X4_isSlip, hx, hm, c1, ↓reduceIte, if_true, if_false, eq_self, ite_true, ite_false, Option.bind_some, not_true_eq_false, not_false_eq_true, Bool.false_eq_true]
  by_cases c2 : inB a2 0 5 = true
  rotate_left
  · have c2 := ne_of_tf c2
    refine ⟨w, ⟨0, 0, -2, w, ?_, ?_⟩, h.same⟩
    · simp only [f_X0_person, inX, inM, f_X0_isTown, f_X4_isTown, f_X0_isDay, f_X4_isDay, f_X0_isBook, f_X4_isBook, f_X0_isEdition, f_X4_isEdition, f_X0_isCard, f_X4_isCard, f_X0_isPerson, f_X4_isPerson, f_X0_isCopy, f_X0_isTape, f_X4_isTape, f_X0_isBy, f_X4_isTime, f_X0_isDecree, f_X4_isSlip, hx, hm, c1, c2, ↓reduceIte, if_true, if_false, eq_self, ite_true, ite_false, Option.bind_some, not_true_eq_false, not_false_eq_true, Bool.false_eq_true]
    · simp only [f_X4_person, inX, inM, f_X0_isTown, f_X4_isTown, f_X0_isDay, f_X4_isDay, f_X0_isBook, f_X4_isBook, f_X0_isEdition, f_X4_isEdition, f_X0_isCard, f_X4_isCard, f_X0_isPerson, f_X4_isPerson, f_X0_isCopy, f_X0_isTape, f_X4_isTape, f_X0_isBy, f_X4_isTime, f_X0_isDecree, f_X4_isSlip, hx, hm, c1, c2, ↓reduceIte, if_true, if_false, eq_self, ite_true, ite_false, Option.bind_some, not_true_eq_false, not_false_eq_true, Bool.false_eq_true]
  by_cases c3 : n = 16
  · subst c3
    have e9 : (Int32.ofNat 16 = 16) = True := eq_true rfl
    refine ⟨w, ⟨0, 0, -4, w, ?_, ?_⟩, h.same⟩
    · simp only [f_X0_person, inX, inM, f_X0_isTown, f_X4_isTown, f_X0_isDay, f_X4_isDay, f_X0_isBook, f_X4_isBook, f_X0_isEdition, f_X4_isEdition, f_X0_isCard, f_X4_isCard, f_X0_isPerson, f_X4_isPerson, f_X0_isCopy, f_X0_isTape, f_X4_isTape, f_X0_isBy, f_X4_isTime, f_X0_isDecree, f_X4_isSlip, hx, hm, c1, c2, e9, ↓reduceIte, if_true, if_false, eq_self, ite_true, ite_false, Option.bind_some, not_true_eq_false, not_false_eq_true, Bool.false_eq_true]
    · simp only [f_X4_person, inX, inM, f_X0_isTown, f_X4_isTown, f_X0_isDay, f_X4_isDay, f_X0_isBook, f_X4_isBook, f_X0_isEdition, f_X4_isEdition, f_X0_isCard, f_X4_isCard, f_X0_isPerson, f_X4_isPerson, f_X0_isCopy, f_X0_isTape, f_X4_isTape, f_X0_isBy, f_X4_isTime, f_X0_isDecree, f_X4_isSlip, hx, hm, c1, c2, e9, ↓reduceIte, if_true, if_false, eq_self, ite_true, ite_false, Option.bind_some, not_true_eq_false, not_false_eq_true, Bool.false_eq_true]
  have hne : (Int32.ofNat n = 16) = False := eq_false (fun q => c3 ((i_inj (b := 16) (by omega) (by decide)).mp q))
  have hin : inb (Int32.ofNat n) 16 = True := inb_t (by omega) (by decide)
  have hs1 : Int32.ofNat n + 1 = Int32.ofNat (n + 1) := i_add n 1
  have hs2 : Int32.ofNat (n + 1) - 1 = Int32.ofNat n := i_sub (b := 1) (by omega)
  obtain ⟨w1, hw1⟩ : ∃ w1, w1 = sI (sR (sI (sI (sN w 6 0) (wZ w) 0 a1) (wZ w) 1 a2) 10 n (some (wZ w))) 0 3 (Int32.ofNat (n + 1)) := ⟨_, rfl⟩
  obtain ⟨w2, hw2⟩ : ∃ w2, w2 = sI (sI (sI w1 60 n a1) 61 n a2) 58 1 (Int32.ofNat (n + 1)) := ⟨_, rfl⟩
  have k2 : Kept (But 3 w) w w2 := by
    rw [hw2, hw1]
    exact (((((((Kept.rfl'.sN 6 0).sI (fun h9 => absurd h9 (Nat.lt_irrefl _))).sI (fun h9 => absurd h9 (Nat.lt_irrefl _))).sR (fun _ hb => hb.1 rfl)).sI (fun _ hb => hb.1 rfl)).sI (fun _ hb => hb.1 rfl)).sI (fun _ hb => hb.1 rfl)).sI (fun _ hb => hb.1 rfl)
  have hz2 : wZ w2 = wZ w + 1 := by rw [hw2, hw1]; rfl
  have hT : wT w2 (wZ w) = (6, 0) := by rw [hw2, hw1]; simp (disch := omega) only [wI_ne, wI_nf, wI_eq, wI_sR, wI_sL, wI_N, wI_Nz, wR_ne, wR_nf, wR_eq, wR_sI, wR_sL, wR_N, wR_Nz, wL_ne, wL_nf, wL_eq, wL_sI, wL_sR, wL_N, wL_Nz, wT_sI, wT_sR, wT_sL, wT_N, wT_Nz, wZ_sI, wZ_sR, wZ_sL, wZ_sN, wI_sX, wL_sX, wR_sX, wZ_sX]
  refine ⟨w2, ⟨0, 0, Int32.ofNat n, w1, ?_, ?_⟩, ?_⟩
  · rw [hw1]
    simp (disch := omega) only [f_X0_person, f_X5_init, inX, inM, f_X0_isTown, f_X4_isTown, f_X0_isDay, f_X4_isDay, f_X0_isBook, f_X4_isBook, f_X0_isEdition, f_X4_isEdition, f_X0_isCard, f_X4_isCard, f_X0_isPerson, f_X4_isPerson, f_X0_isCopy, f_X0_isTape, f_X4_isTape, f_X0_isBy, f_X4_isTime, f_X0_isDecree, f_X4_isSlip, wI_ne, wI_nf, wI_eq, wI_sR, wI_sL, wI_N, wI_Nz, wR_ne, wR_nf, wR_eq, wR_sI, wR_sL, wR_N, wR_Nz, wL_ne, wL_nf, wL_eq, wL_sI, wL_sR, wL_N, wL_Nz, wT_sI, wT_sR, wT_sL, wT_N, wT_Nz, wZ_sI, wZ_sR, wZ_sL, wZ_sN, wI_sX, wL_sX, wR_sX, wZ_sX, hx, c1, c2, hne, hin, tn_i, hs1, ↓reduceIte, if_true, if_false, eq_self, ite_true, ite_false, Option.bind_some, not_true_eq_false, not_false_eq_true, Bool.false_eq_true]
  · rw [hw2]
    have em : wI w1 58 1 = Int32.ofNat n := by rw [hw1]; simp (disch := omega) only [wI_ne, wI_nf, wI_eq, wI_sR, wI_sL, wI_N, wI_Nz, wR_ne, wR_nf, wR_eq, wR_sI, wR_sL, wR_N, wR_Nz, wL_ne, wL_nf, wL_eq, wL_sI, wL_sR, wL_N, wL_Nz, wT_sI, wT_sR, wT_sL, wT_N, wT_Nz, wZ_sI, wZ_sR, wZ_sL, wZ_sN, wI_sX, wL_sX, wR_sX, wZ_sX]; exact hm
    simp (disch := omega) only [f_X4_person, inX, inM, f_X0_isTown, f_X4_isTown, f_X0_isDay, f_X4_isDay, f_X0_isBook, f_X4_isBook, f_X0_isEdition, f_X4_isEdition, f_X0_isCard, f_X4_isCard, f_X0_isPerson, f_X4_isPerson, f_X0_isCopy, f_X0_isTape, f_X4_isTape, f_X0_isBy, f_X4_isTime, f_X0_isDecree, f_X4_isSlip, em, c1, c2, hne, hin, tn_i, hs1, hs2, ↓reduceIte, if_true, if_false, eq_self, ite_true, ite_false, Option.bind_some, not_true_eq_false, not_false_eq_true, Bool.false_eq_true]
  · refine Inv.m3 (h.rest' k2 (fun _ => newOne hz2 (congrArg Prod.fst hT) 7 (by decide)) (fun _ => newOne hz2 (congrArg Prod.fst hT) 8 (by decide)) (by decide)) ⟨n + 1, by omega, ?_, ?_, fun k hk9 => ?_⟩ (by have := h.2.1; omega)
    · rw [hw2, hw1]
      simp (disch := omega) only [wI_ne, wI_nf, wI_eq, wI_sR, wI_sL, wI_N, wI_Nz, wR_ne, wR_nf, wR_eq, wR_sI, wR_sL, wR_N, wR_Nz, wL_ne, wL_nf, wL_eq, wL_sI, wL_sR, wL_N, wL_Nz, wT_sI, wT_sR, wT_sL, wT_N, wT_Nz, wZ_sI, wZ_sR, wZ_sL, wZ_sN, wI_sX, wL_sX, wR_sX, wZ_sX]
    · rw [hw2]
      simp (disch := omega) only [wI_ne, wI_nf, wI_eq, wI_sR, wI_sL, wI_N, wI_Nz, wR_ne, wR_nf, wR_eq, wR_sI, wR_sL, wR_N, wR_Nz, wL_ne, wL_nf, wL_eq, wL_sI, wL_sR, wL_N, wL_Nz, wT_sI, wT_sR, wT_sL, wT_N, wT_Nz, wZ_sI, wZ_sR, wZ_sL, wZ_sN, wI_sX, wL_sX, wR_sX, wZ_sX]
    · obtain ⟨t, ht, et⟩ := inB_7 c1
      obtain ⟨r, -, hr, er⟩ := inB_bd (lo := 0) (hi := 5) (by decide) (by decide) c2
      by_cases q : k = n
      · subst q
        refine ⟨wZ w, ?_, ⟨hz, by omega, congrArg Prod.fst hT⟩, ?_⟩
        · rw [hw2, hw1]
          simp (disch := omega) only [wI_ne, wI_nf, wI_eq, wI_sR, wI_sL, wI_N, wI_Nz, wR_ne, wR_nf, wR_eq, wR_sI, wR_sL, wR_N, wR_Nz, wL_ne, wL_nf, wL_eq, wL_sI, wL_sR, wL_N, wL_Nz, wT_sI, wT_sR, wT_sL, wT_N, wT_Nz, wZ_sI, wZ_sR, wZ_sL, wZ_sN, wI_sX, wL_sX, wR_sX, wZ_sX]
        · rw [hw2, hw1]
          simp (disch := omega) only [wI_ne, wI_nf, wI_eq, wI_sR, wI_sL, wI_N, wI_Nz, wR_ne, wR_nf, wR_eq, wR_sI, wR_sL, wR_N, wR_Nz, wL_ne, wL_nf, wL_eq, wL_sI, wL_sR, wL_N, wL_Nz, wT_sI, wT_sR, wT_sL, wT_N, wT_Nz, wZ_sI, wZ_sR, wZ_sL, wZ_sN, wI_sX, wL_sX, wR_sX, wZ_sX]
          exact ⟨trivial, trivial, ⟨t, ht, et⟩, r, by omega, er⟩
      · obtain ⟨a, g1, g2, g3⟩ := hk k (by omega)
        have := g2.1
        have := g2.2.1
        refine ⟨a, ?_, g2.kept k2, ?_⟩
        · rw [hw2, hw1]
          simp (disch := omega) only [wI_ne, wI_nf, wI_eq, wI_sR, wI_sL, wI_N, wI_Nz, wR_ne, wR_nf, wR_eq, wR_sI, wR_sL, wR_N, wR_Nz, wL_ne, wL_nf, wL_eq, wL_sI, wL_sR, wL_N, wL_Nz, wT_sI, wT_sR, wT_sL, wT_N, wT_Nz, wZ_sI, wZ_sR, wZ_sL, wZ_sN, wI_sX, wL_sX, wR_sX, wZ_sX]
          exact g1
        · rw [hw2, hw1]
          simp (disch := omega) only [wI_ne, wI_nf, wI_eq, wI_sR, wI_sL, wI_N, wI_Nz, wR_ne, wR_nf, wR_eq, wR_sI, wR_sL, wR_N, wR_Nz, wL_ne, wL_nf, wL_eq, wL_sI, wL_sR, wL_N, wL_Nz, wT_sI, wT_sR, wT_sL, wT_N, wT_Nz, wZ_sI, wZ_sR, wZ_sL, wZ_sN, wI_sX, wL_sX, wR_sX, wZ_sX]
          exact g3
