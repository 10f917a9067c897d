/-! THE START of the two objects: worked out by the kernel -/
def e0 : Wd := (fun _ _ => 0, fun _ _ => 0, fun _ _ => none, fun _ => (0, 0), 0)
def w00o : Option Wd := (f_X0_initN 20 0 (sN e0 1 0)).bind fun w => f_X4_initN 200 58 (sN w 5 0)
def w00 : Wd := w00o.getD e0
theorem w00_some : w00o.isSome = true := by decide +kernel
theorem w00_eq : w00o = some w00 := by
  unfold w00
  have h := w00_some
  cases q : w00o with
  | none => rw [q] at h; cases h
  | some x => rfl
theorem wZ_x : ((f_X0_initN 20 0 (sN e0 1 0)).map wZ) = some 58 := by decide +kernel
theorem wZ_00 : wZ w00 = 108 := by decide +kernel
theorem fixR_lt {a f b : Nat} (h : fixR a f = some b) : a < 108 ∧ f < 80 := by
  have ha : a < 108 := by
    rcases Nat.lt_or_ge a 108 with q | q
    · exact q
    · rw [fixR_dyn q] at h
      cases h
  refine ⟨ha, ?_⟩
  rcases Nat.lt_or_ge f 80 with q | q
  · exact q
  · exfalso
    have hx : xref f = none := by
      unfold xref
      split <;> first | omega | rfl
    have hm : mref f = none := by
      unfold mref
      split <;> first | omega | rfl
    unfold fixR at h
    split at h <;> first | (rw [hx] at h; cases h) | (rw [hm] at h; cases h) | (rw [if_neg (by omega)] at h; cases h) | cases h
theorem fixR_00 : ((List.range 108).all fun a => (List.range 80).all fun f => fixR a f == none || wR w00 a f == fixR a f) = true := by decide +kernel
theorem fixT_00 : ((List.range 108).all fun a => fixT a == none || some (wT w00 a) == fixT a) = true := by decide +kernel
theorem Fix00 : Fix w00 := by
  refine ⟨fun a f b h => ?_, fun a t h => ?_, by rw [wZ_00]; decide⟩
  · obtain ⟨h1, h2⟩ := fixR_lt h
    have h3 := List.all_eq_true.mp (List.all_eq_true.mp fixR_00 a (List.mem_range.mpr h1)) f (List.mem_range.mpr h2)
    rw [h] at h3
    simpa using h3
  · have h1 : a < 108 := by
      rcases Nat.lt_or_ge a 108 with q | q
      · exact q
      · rw [fixT_dyn q] at h
        cases h
    have h3 := List.all_eq_true.mp fixT_00 a (List.mem_range.mpr h1)
    rw [h] at h3
    simpa using h3
