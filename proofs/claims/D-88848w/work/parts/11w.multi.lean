/-! AN ARRAY OF ARRAYS -/
/-- the class of int[][] has that of int[] for its components -/
def MA (G : Gw) (U : State) : Prop := ∃ k : Class, U.vm.classes[G.2.2.1 6]? = some k ∧ k.kind = .array (G.2.2.1 0) (.array .int)
theorem MA.moved {G : Gw} {u U : State} (hvm : u.vm.Alike U.vm) (h : MA G u) : MA G U := by
  obtain ⟨k, h1, h2⟩ := h
  obtain ⟨k', hk', he⟩ := hvm.2.2 _ _ h1
  exact ⟨k', hk', by rw [he]; exact h2⟩
def sM1 (n o : Nat) : Nat → Wd → Wd
  | 0, w => w
  | i + 1, w => sR (sN (sM1 n o i w) 200 n) o i (some (wZ (sM1 n o i w)))
def sM (w : Wd) (k n : Nat) : Wd := sM1 n (wZ w) k (sN w 206 k)
section MU
variable {p : Program} {l : Launch} {e : Env} {R : Room} {s : State} {m : MethodId} {args : Array Value} {below : List Frame} {meth : Method} {c : Code} {H : Heap} {locs : List Loc} {cells slots : Nat} {Q : State → Prop}
variable {cc : ByteArray} {pc : Nat} {ls : Array Slot} {rest st : List Value} {G : Gw} {z : Nat} {H0 : Heap} {w : Wd} {a : Nat} {v0 : Value}
theorem mk_row {b : Int32} (hb : ¬ b < 0) {c0 : ClassId} {k0 : Class} {comp : ClassId} {T : State} {f : JFrame} (hk : T.vm.classes[c0]? = some k0) (hkind : k0.kind = .array comp .int) (hlimit : ¬ b.toNatClampNeg > e.platform.arrayLengthLimit) (hheap : ¬ b.toNatClampNeg * componentBytes .int > e.platform.maxHeapBytes)
    (hcells : T.heap.size < e.platform.maxCells) (hslots : T.slotsUsed + b.toNatClampNeg ≤ e.platform.maxSlots) {Qw : Addr → Pre} {E : CtlPost} {d : Bool} {acts : List Action} (hq : ∀ acts', Qw T.heap.size d acts' ((T.pushCell { cls := c0, slots := Array.replicate b.toNatClampNeg (.int 0) }).setTop f)) : wp (Op.multianewarray.make c0 [b]) Qw E e d acts (T.setTop f) := by
  unfold Op.multianewarray.make
  simp only [wp_bind', W.ite, hb, if_false, wp_pure', W.theClass]
  refine ⟨k0, hk, ?_⟩
  rw [hkind]
  refine W.newArray_of (k := k0) (comp := comp) (type := .int) hk hkind hlimit hheap hcells hslots rfl (fun acts' => ?_)
  rw [State.pushCell_setTop]
  exact hq acts'
theorem mk_two {a b : Int32} (ha : ¬ a < 0) (hb : ¬ b < 0) (h0 : (a == 0) = false) {c6 c0 comp : ClassId} {k6 k0 : Class} {T : State} {f : JFrame} (hk : T.vm.classes[c6]? = some k6) (hkind : k6.kind = .array c0 (.array .int)) (hkind0 : k0.kind = .array comp .int) (hlimit : ¬ a.toNatClampNeg > e.platform.arrayLengthLimit) (hheap : ¬ a.toNatClampNeg * componentBytes (.array .int) > e.platform.maxHeapBytes) (hlimit2 : ¬ b.toNatClampNeg > e.platform.arrayLengthLimit) (hheap2 : ¬ b.toNatClampNeg * componentBytes .int > e.platform.maxHeapBytes)
    (hcells : T.heap.size < e.platform.maxCells) (hslots : T.slotsUsed + a.toNatClampNeg ≤ e.platform.maxSlots) (P : Nat → State → Prop) (hP0 : P 0 (T.pushCell { cls := c6, slots := Array.replicate a.toNatClampNeg .null }))
    (hstep : ∀ (i : Nat) (U : State), i < a.toNatClampNeg → P i U → U.vm.classes[c0]? = some k0 ∧ U.heap.size < e.platform.maxCells ∧ U.slotsUsed + b.toNatClampNeg ≤ e.platform.maxSlots ∧ ∃ cell : Cell, (U.pushCell { cls := c0, slots := Array.replicate b.toNatClampNeg (.int 0) }).heap[T.heap.size]? = some cell ∧ cell.vm ≠ .unknown ∧ i < cell.slots.size ∧ (U.pushCell { cls := c0, slots := Array.replicate b.toNatClampNeg (.int 0) }).fitsSlot cell.cls cell.vm i (.ref U.heap.size) = true ∧ P (i + 1) ((U.pushCell { cls := c0, slots := Array.replicate b.toNatClampNeg (.int 0) }).setCell T.heap.size (cell.setSlot i (.ref U.heap.size))))
    {Qw : Addr → Pre} {E : CtlPost} {d : Bool} {acts : List Action} (hq : ∀ (U : State) (d' : Bool) (acts' : List Action), P a.toNatClampNeg U → Qw T.heap.size d' acts' (U.setTop f)) : wp (Op.multianewarray.make c6 [a, b]) Qw E e d acts (T.setTop f) := by
  unfold Op.multianewarray.make
  simp only [wp_bind', W.ite, ha, if_false, wp_pure', W.theClass]
  refine ⟨k6, hk, ?_⟩
  rw [hkind]
  simp only [wp_bind', h0, Bool.false_eq_true, if_false]
  refine W.newArray_of (k := k6) (comp := c0) (type := .array .int) hk hkind hlimit hheap hcells hslots rfl (fun acts' => ?_)
  rw [State.pushCell_setTop]
  rw [Std.Legacy.Range.forIn_eq_forIn_range']
  rw [wp_bind']
  refine wp_forIn_inv (fun rest s' => ∃ (i : Nat) (U : State), rest = List.range' i (a.toNatClampNeg - i) ∧ i ≤ a.toNatClampNeg ∧ s' = U.setTop f ∧ P i U) _ _ ⟨0, _, by simp [Std.Legacy.Range.size], Nat.zero_le _, rfl, hP0⟩ ?_ ?_
  · rintro x rest s' d' acts' Q' ⟨i, U, hr, hi, rfl, hP⟩ hnext
    have hlt : i < a.toNatClampNeg := by
      rcases Nat.lt_or_ge i a.toNatClampNeg with q | q
      · exact q
      · rw [show a.toNatClampNeg - i = 0 by omega] at hr
        cases hr
    obtain ⟨m', hm'⟩ : ∃ m', a.toNatClampNeg - i = m' + 1 := ⟨a.toNatClampNeg - i - 1, by omega⟩
    rw [hm', List.range'_succ] at hr
    have hx : x = i := (List.cons.inj hr).1
    have hrest : rest = List.range' (i + 1) m' := (List.cons.inj hr).2
    subst hx
    obtain ⟨g1, g2, g3, cell, g4, g5, g6, g7, g8⟩ := hstep x U hlt hP
    simp only [wp_bind']
    refine mk_row hb g1 hkind0 hlimit2 hheap2 g2 g3 (fun acts2 => ?_)
    refine ⟨cell, g4, g5, g6, g7, ?_⟩
    refine hnext _ _ _ ⟨x + 1, _, by rw [hrest, show a.toNatClampNeg - (x + 1) = m' by omega], by omega, ?_, g8⟩
    rfl
  · rintro s' d' acts' ⟨i, U, hr, hi, rfl, hP⟩
    have hia : i = a.toNatClampNeg := by
      rcases Nat.lt_or_ge i a.toNatClampNeg with q | q
      · obtain ⟨m', hm'⟩ : ∃ m', a.toNatClampNeg - i = m' + 1 := ⟨a.toNatClampNeg - i - 1, by omega⟩
        rw [hm', List.range'_succ] at hr
        cases hr
      · omega
    subst hia
    simp only [wp_pure']
    exact hq U _ _ hP
end MU
