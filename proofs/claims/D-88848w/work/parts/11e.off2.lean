/-! OFF in the world: the row of super() in Off's constructor; what the old heap holds -/
/-- the words on Throwable's statics hold in every later state whose old heap is H0 -/
def SW0 (z : Nat) (H0 : Heap) (U : State) : Prop := ∀ (V : State) (A : Array Value), U.WarmedH V.vm → (∀ q : Nat, q < z → V.heap[q]? = H0[q]?) → ∀ w ∈ offHeap, w.before A V = true
/-- a String of the old heap, with its letters -/
def strF (z : Nat) (H0 : Heap) (cs : List Int32) (a : Nat) (U : State) : Prop := ∃ v : Nat, va_O "java/lang/String" a (fun q => z ≤ q) U H0 ∧ va_OF "java/lang/String" "coder" "B" (.int 0) a (fun q => z ≤ q) U H0 ∧ va_OF "java/lang/String" "value" "[B" (.ref v) a (fun q => z ≤ q) U H0 ∧ va_T .byte v cs.length (fun j => .int (cs.getD j 0)) (fun q => z ≤ q) U H0
theorem strF.moved {z : Nat} {H0 : Heap} {cs : List Int32} {a : Nat} {u U : State} (hvm : u.vm.Alike U.vm) (h : strF z H0 cs a u) : strF z H0 cs a U := by
  obtain ⟨v, h1, h2, h3, h4⟩ := h
  exact ⟨v, va_O.moved hvm h1, va_OF.moved hvm h2, va_OF.moved hvm h3, va_T.moved hvm h4⟩
/-- the Reader's words: place in its pool, text, letters -/
def rkl : List (Nat × String × List Int32) := [(95, "ine ", [105, 110, 101, 32]), (104, "eave ", [101, 97, 118, 101, 32]), (109, "ree", [114, 101, 101]), (111, "author ", [97, 117, 116, 104, 111, 114, 32]), (121, "title ", [116, 105, 116, 108, 101, 32])]
/-- what the old heap holds for ArrayList and String -/
def EW (G : Gw) (z : Nat) (H0 : Heap) (U : State) : Prop :=
  va_Z "java/util/ArrayList" "DEFAULTCAPACITY_EMPTY_ELEMENTDATA" "[Ljava/lang/Object;" (.ref G.2.2.2) (fun q => z ≤ q) U H0 ∧ va_T (.object "java/lang/Object") G.2.2.2 0 (fun _ => .null) (fun q => z ≤ q) U H0 ∧ (∃ mi : Nat, va_Mi "[Ljava/lang/Object;" mi U) ∧
  va_Z "java/lang/String" "COMPACT_STRINGS" "Z" (.int 1) (fun q => z ≤ q) U H0 ∧ (∃ fm : Value, (fm = .null ∨ ∃ t, fm = .ref t) ∧ va_Z "jdk/internal/util/Preconditions" "SIOOBE_FORMATTER" "Ljava/util/function/BiFunction;" fm (fun q => z ≤ q) U H0) ∧
  ∀ x ∈ rkl, ∃ a : Nat, vk_R "BarredBooks$Reader" x.1 x.2.1 a U ∧ strF z H0 x.2.2 a U
theorem EW.warm {G : Gw} {z : Nat} {H0 : Heap} {U V : State} (hW : U.WarmedH V.vm) (h : EW G z H0 U) : EW G z H0 V := by
  obtain ⟨h1, h2, ⟨mi, h3⟩, h4, ⟨fm, h50, h5⟩, h6⟩ := h
  refine ⟨va_Z.moved hW.alike h1, va_T.moved hW.alike h2, ⟨mi, va_Mi.moved hW.alike h3⟩, va_Z.moved hW.alike h4, ⟨fm, h50, va_Z.moved hW.alike h5⟩, fun x hx => ?_⟩
  obtain ⟨a, g1, g2⟩ := h6 x hx
  exact ⟨a, vk_R.warm hW g1, g2.moved hW.alike⟩
theorem EW.same {G : Gw} {z : Nat} {H0 : Heap} {U V : State} (hv : V.vm = U.vm) (h : EW G z H0 U) : EW G z H0 V := by
  have ha : U.vm.Alike V.vm := by rw [hv]; exact Vm.Alike.refl _
  obtain ⟨h1, h2, ⟨mi, h3⟩, h4, ⟨fm, h50, h5⟩, h6⟩ := h
  refine ⟨va_Z.moved ha h1, va_T.moved ha h2, ⟨mi, va_Mi.moved ha h3⟩, va_Z.moved ha h4, ⟨fm, h50, va_Z.moved ha h5⟩, fun x hx => ?_⟩
  obtain ⟨a, g1, g2⟩ := h6 x hx
  exact ⟨a, vk_R.same hv g1, g2.moved ha⟩
def SW (G : Gw) (z : Nat) (H0 : Heap) (U : State) : Prop := (SW0 z H0 U ∧ modulesRight_1 U = true) ∧ EW G z H0 U
theorem SW.warm {G : Gw} {z : Nat} {H0 : Heap} {U V : State} (hW : U.WarmedH V.vm) (h : SW G z H0 U) : SW G z H0 V := ⟨⟨fun V' A hW' hh => h.1.1 V' A (State.WarmedH.trans hW hW') hh, by
  have e : V.vm.modules = U.vm.modules := by rw [hW.alike.1]
  have h9 := h.1.2
  unfold modulesRight_1 at h9 ⊢
  rw [e]
  exact h9⟩, h.2.warm hW⟩
theorem SW.call {G : Gw} {z : Nat} {H0 : Heap} {U : State} (g : JFrame) (mk : MethodId) (a : Array Value) (h : SW G z H0 U) : SW G z H0 (U.calling g mk a) := ⟨h.1, h.2.same (U := U) (V := U.calling g mk a) rfl⟩
theorem SW.at {G : Gw} {z : Nat} {H0 : Heap} {s : State} {A : Array Value} (h : SW G z H0 s) (hh : ∀ q : Nat, q < z → s.heap[q]? = H0[q]?) : ∀ w ∈ offHeap, w.before A s = true := h.1.1 s A (State.WarmedH.refl s) hh
section OFF2
variable {p : Program} {l : Launch} {e : Env} {R : Room} {s : State} {m : MethodId} {args : Array Value} {below : List Frame} {meth : Method} {c : Code} {H : Heap} {cells slots : Nat} {Q : State → Prop}
variable {cc : ByteArray} {pc : Nat} {ls : Array Slot} {rest : List Value} {G : Gw} {z : Nat} {H0 : Heap} {w : Wd} {a : Nat}
theorem x_offSuper (hexec : p.tables.exec = Jvm.exec) (hb : c.code = cc) (htr : ∀ e, l.admits e → e.platform.stackTraces = false) (hts : ∀ w ∈ lw_all, w.before args s = true) (hlf : (Cond.laysFinal "BarredBooks$Off" "BarredBooks$Off" "place" "I").before args s = true) (hown : s.vm.findClass "BarredBooks$Off" = some m.cls) (hN : NW s) (hS : SW G z H0 s) (hold : ∀ q : Nat, q < z → s.heap[q]? = H0[q]?)
    (hK : KK G s) (hR : Rp G z H0 w H) (ht : (wT w a).1 = 18) {kX : Class} (hkX : s.vm.classes[m.cls]? = some kX) (hcell : H[z + a]? = some (freshCell m.cls kX)) (hsize : ls.size = c.maxLocals) (hdg : decode cc pc = .ok (.invokespecial 1, 3)) (hRf : 4 < R.frames) (hRl : (rest.map fun v => v.category).sum + 67 ≤ R.locals)
    (kk : ∀ (H1 : Heap) (locs1 : List Loc), Rp G z H0 w H1 → lok z locs1 → W p l e R s m args below meth c H1 locs1 cells slots Q (F0 m (pc + 3) ls rest)) : W p l e R s m args below meth c H [] cells slots Q (F0 m pc ls (.ref (z + a) :: rest)) := by
  intro T hT X
  have hKn := hK.1 17 _ rfl
  have hSl : SlotIs s "BarredBooks$Off" "place" "I" (G.2.1 17 0) := hKn.1 0 (by decide)
  have hG : G.1 17 = m.cls := Option.some.inj (hKn.2.1.symm.trans hown)
  have hrl : 2 * (F0 m pc ls (.ref (z + a) :: rest)).monitorRoom + (rest.map fun v => v.category).sum + 67 ≤ R.locals := by
    have h0 : (F0 m pc ls (.ref (z + a) :: rest)).monitorRoom = 0 := rfl
    rw [h0]
    omega
  obtain ⟨vm', cell', i1, i2, i3, X', q1, q2, q3, hst⟩ := offSuper X hexec (htr e X.admits) hown (off_at hts hN (hS.at hold)) (hS.at hold) (fun _ h => by cases h) hkX (a := z + a) (by rw [hT]; exact hcell) hSl hlf (g := F0 m pc ls (.ref (z + a) :: rest)) rfl hsize rfl (by rw [hb]; exact hdg) hRf hrl
  have hlt : z + a < (T.setVm vm').heap.size := by
    show z + a < T.heap.size
    rw [hT]
    exact (Array.getElem?_eq_some_iff.mp hcell).1
  have e1 : ((T.setVm vm').setCell (z + a) cell').heap[z + a]? = some cell' := heapAt_setCell_self cell' hlt
  have e2 : ((T.setVm vm').setCell (z + a) cell').heap.size = H.size := by
    rw [← hT]
    simp [State.setCell]
  have e3 : ∀ q, q ≠ z + a → ((T.setVm vm').setCell (z + a) cell').heap[q]? = H[q]? := fun q hq => by
    rw [heapAt_setCell_ne cell' (Ne.symm hq)]
    show T.heap[q]? = H[q]?
    rw [hT]
  obtain ⟨cell0, p1, p2, p3, p4⟩ := hR.2.2.2.1 a 17 _ ht rfl
  cases Option.some.inj (p1.symm.trans hcell)
  have hR1 : Rp G z H0 w ((T.setVm vm').setCell (z + a) cell').heap := by
    refine hR.write (fun _ => rfl) rfl e2 e3 (fun _ _ _ _ => rfl) (fun ci r hc hr => ?_) (fun t n h9 _ => ?_) (fun h9 => ?_)
    · have hci : ci = 17 := by omega
      subst hci
      cases Option.some.inj ((show cl[17]? = some _ from rfl).symm.trans hr)
      refine ⟨cell', e1, q1.trans hG.symm, q2, fun k hk => ?_⟩
      have hk0 : k = 0 := by
        have : k < 1 := hk
        omega
      subst hk0
      rw [q3]
      exact p4 0 hk
    · rw [h9] at ht
      have : 200 + t = 18 := ht
      omega
    · omega
  obtain ⟨t, h1, h2⟩ := kk _ _ hR1 (show lok z ([] ++ [⟨z + a, i1⟩, ⟨z + a, i2⟩, ⟨z + a, i3⟩, ⟨z + a, i2⟩]) from fun x hx => by
    simp only [List.nil_append, List.mem_cons, List.not_mem_nil, or_false] at hx
    rcases hx with rfl | rfl | rfl | rfl <;> exact Nat.le_add_right _ _) _ rfl X'
  exact ⟨t, hst t h1, h2⟩
end OFF2
