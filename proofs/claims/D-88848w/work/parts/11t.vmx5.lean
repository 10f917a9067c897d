/-! CASTS of what may be null; a throw that is caught at home -/
def castOk (w : Wd) (r : Option Nat) (ts : List Nat) : Bool := match r with
  | none => true
  | some a => ts.contains (wT w a).1
def cardOk (w : Wd) (r : Option Nat) : Bool := match r with
  | none => true
  | some a => decide (9 ≤ (wT w a).1 ∧ (wT w a).1 ≤ 15)
theorem cardOk_some {w : Wd} {r : Option Nat} {a : Nat} (h : cardOk w r = true) (hr : r = some a) : 9 ≤ (wT w a).1 ∧ (wT w a).1 ≤ 15 := by
  subst hr
  have h9 : decide (9 ≤ (wT w a).1 ∧ (wT w a).1 ≤ 15) = true := h
  have h8 : 9 ≤ (wT w a).1 ∧ (wT w a).1 ≤ 15 := of_decide_eq_true h9
  exact h8
theorem isRow_some {w : Wd} {r : Option Nat} {a : Nat} (h : isRow w r = true) (hr : r = some a) : 200 ≤ (wT w a).1 ∧ (wT w a).1 ≤ 204 := by
  subst hr
  have h9 : decide (200 ≤ (wT w a).1 ∧ (wT w a).1 ≤ 204) = true := h
  have h8 : 200 ≤ (wT w a).1 ∧ (wT w a).1 ≤ 204 := of_decide_eq_true h9
  exact h8
theorem castOk_some {w : Wd} {r : Option Nat} {a : Nat} {ts : List Nat} (h : ¬ castOk w r ts = false) (hr : r = some a) : (wT w a).1 ∈ ts := by
  subst hr
  have h9 : ts.contains (wT w a).1 = true := by
    cases q : ts.contains (wT w a).1 with
    | true => rfl
    | false => exact absurd q h
  exact List.contains_iff_mem.mp h9
theorem castOk_no {w : Wd} {r : Option Nat} {ts : List Nat} (h : castOk w r ts = false) : ∃ a, r = some a ∧ ¬ (wT w a).1 ∈ ts := by
  cases r with
  | none => cases h
  | some a =>
    refine ⟨a, rfl, fun q => ?_⟩
    have h9 : ts.contains (wT w a).1 = false := h
    rw [List.contains_iff_mem.mpr q] at h9
    cases h9
theorem opt_cases (r : Option Nat) : r = none ∨ ∃ a, r = some a := by
  cases r with
  | none => exact Or.inl rfl
  | some a => exact Or.inr ⟨a, rfl⟩
section VM5
variable {p : Program} {l : Launch} {e : Env} {R : Room} {s : State} {m : MethodId} {args : Array Value} {below : List Frame} {meth : Method} {c : Code} {H : Heap} {locs : List Loc} {cells slots : Nat} {Q : State → Prop}
variable {cc : ByteArray} {pc : Nat} {ls : Array Slot} {rest st : List Value} {G : Gw} {z : Nat} {H0 : Heap} {w : Wd} {a : Nat} {v0 : Value}
theorem x_castNull (hexec : p.tables.exec = Jvm.exec) (hb : c.code = cc) {index : Nat} (h0 : v0 = .null) (hdg : decode cc pc = .ok (.checkcast index, 3)) (kk : W p l e R s m args below meth c H locs cells slots Q (F0 m (pc + 3) ls (v0 :: rest))) : W p l e R s m args below meth c H locs cells slots Q (F0 m pc ls (v0 :: rest)) := by
  subst h0
  intro T hT X
  obtain ⟨t, a1, b1⟩ := kk T hT X
  exact ⟨t, X.checkcastNull hexec (g := F0 m pc ls (.null :: rest)) rfl rfl (by rw [hb]; exact hdg) t a1, b1⟩
/-- athrow, caught or not -/
theorem x_athrow (hexec : p.tables.exec = Jvm.exec) (hb : c.code = cc) {x : Nat} (h0 : v0 = .ref x) (hdg : decode cc pc = .ok (.athrow, 1)) (kk : WT p l e R s m args below meth c H locs cells slots Q (F0 m pc ls rest) x) : W p l e R s m args below meth c H locs cells slots Q (F0 m pc ls (v0 :: rest)) := by
  subst h0
  intro T hT X
  obtain ⟨t, a1, b1⟩ := kk T hT X
  refine ⟨t, ?_, b1⟩
  jvm_step X.here [hexec, hb, hdg, Op.athrow.wp_sem]
  exact a1
end VM5
