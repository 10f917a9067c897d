/-! THE VM's OWN EXCEPTIONS: words, and how the object comes to be -/
theorem words_at {ws : List Cond} {pl1 pl2 : List Nat} {mid : List Cond} (heq : ws = pl1.filterMap (fun i => lw_tbl[i]?) ++ (mid ++ pl2.filterMap (fun i => lw_tbl[i]?))) (hg : ws.all (fun w => goodWord w || nwWord w || decide (w ∈ offHeap)) = true) (hmid : mid.all (fun w => decide (w ∈ offHeap)) = true)
    {args : Array Value} {s : State} (hts : ∀ w ∈ lw_all, w.before args s = true) (hN : NW s) (hS : ∀ w ∈ offHeap, w.before args s = true) : ∀ w ∈ ws, w.before args s = true := by
  intro w hw
  have hg := List.all_eq_true.mp hg w hw
  have key : ∀ pl : List Nat, w ∈ pl.filterMap (fun i => lw_tbl[i]?) → w.before args s = true := by
    intro pl hp
    obtain ⟨i, -, hi⟩ := List.mem_filterMap.mp hp
    rcases Bool.or_eq_true_iff.mp hg with h0 | h0
    rcases Bool.or_eq_true_iff.mp h0 with h1 | h1
    · exact hts _ (lw_w i hi h1)
    · have h2 := hN.at (List.mem_of_getElem? hi) h1
      cases w <;> first | (exact absurd (show false = true from h1) (by decide)) | exact va_Nw.use rfl h2
    · exact hS _ (of_decide_eq_true h0)
  rw [heq] at hw
  rcases List.mem_append.mp hw with h | h
  · exact key _ h
  · rcases List.mem_append.mp h with h | h
    · exact hS _ (of_decide_eq_true (List.all_eq_true.mp hmid w h))
    · exact key _ h
theorem ma_cce {args : Array Value} {s : State} (hts : ∀ w ∈ lw_all, w.before args s = true) (hN : NW s) (hS : ∀ w ∈ offHeap, w.before args s = true) : ∀ w ∈ Bundle.messageArmAtoms "java/lang/ClassCastException" ["java/lang/RuntimeException", "java/lang/Exception"], w.before args s = true :=
  words_at (pl1 := [115, 664, 605, 626, 629, 631, 665, 666, 156, 157, 599, 604, 627, 634, 658, 635, 659, 636, 660, 600, 601, 602, 603, 661, 597, 598, 633, 661, 588, 589, 590, 591, 652, 591, 592, 593, 594, 654, 594, 595, 596, 597, 656, 119, 667, 202, 668, 670, 669, 671, 118, 587, 650, 657, 610, 641, 643, 647, 639]) (mid := [.isRef (.static Bundle.tN "UNASSIGNED_STACK" Bundle.steD), .isRef (.static Bundle.tN "SUPPRESSED_SENTINEL" Bundle.listD)]) (pl2 := [632, 662, 637]) (by decide +kernel) (by decide +kernel) (by decide +kernel) hts hN hS
theorem ma_neg {args : Array Value} {s : State} (hts : ∀ w ∈ lw_all, w.before args s = true) (hN : NW s) (hS : ∀ w ∈ offHeap, w.before args s = true) : ∀ w ∈ Bundle.messageArmAtoms "java/lang/NegativeArraySizeException" ["java/lang/RuntimeException", "java/lang/Exception"], w.before args s = true :=
  words_at (pl1 := [115, 664, 605, 626, 629, 631, 665, 666, 156, 157, 599, 604, 627, 634, 658, 635, 659, 636, 660, 600, 601, 602, 603, 661, 597, 598, 633, 661, 1542, 1543, 1544, 591, 652, 591, 592, 593, 594, 654, 594, 595, 596, 597, 656, 119, 667, 202, 668, 670, 669, 671, 146, 1541, 1552, 1553, 611, 1547, 1548, 1550, 1546]) (mid := [.isRef (.static Bundle.tN "UNASSIGNED_STACK" Bundle.steD), .isRef (.static Bundle.tN "SUPPRESSED_SENTINEL" Bundle.listD)]) (pl2 := [632, 662, 1545]) (by decide +kernel) (by decide +kernel) (by decide +kernel) hts hN hS
theorem ma_ase {args : Array Value} {s : State} (hts : ∀ w ∈ lw_all, w.before args s = true) (hN : NW s) (hS : ∀ w ∈ offHeap, w.before args s = true) : ∀ w ∈ Bundle.messageArmAtoms "java/lang/ArrayStoreException" ["java/lang/RuntimeException", "java/lang/Exception"], w.before args s = true :=
  words_at (pl1 := [115, 664, 605, 626, 629, 631, 665, 666, 156, 157, 599, 604, 627, 634, 658, 635, 659, 636, 660, 600, 601, 602, 603, 661, 597, 598, 633, 661, 1595, 1596, 1597, 591, 652, 591, 592, 593, 594, 654, 594, 595, 596, 597, 656, 119, 667, 202, 668, 670, 669, 671, 147, 1594, 1605, 1606, 609, 1600, 1601, 1603, 1599]) (mid := [.isRef (.static Bundle.tN "UNASSIGNED_STACK" Bundle.steD), .isRef (.static Bundle.tN "SUPPRESSED_SENTINEL" Bundle.listD)]) (pl2 := [632, 662, 1598]) (by decide +kernel) (by decide +kernel) (by decide +kernel) hts hN hS
theorem ma_aio {args : Array Value} {s : State} (hts : ∀ w ∈ lw_all, w.before args s = true) (hN : NW s) (hS : ∀ w ∈ offHeap, w.before args s = true) : ∀ w ∈ Bundle.messageArmAtoms "java/lang/ArrayIndexOutOfBoundsException" ["java/lang/IndexOutOfBoundsException", "java/lang/RuntimeException", "java/lang/Exception"], w.before args s = true :=
  words_at (pl1 := [115, 664, 605, 626, 629, 631, 665, 666, 156, 157, 599, 604, 627, 634, 658, 635, 659, 636, 660, 600, 601, 602, 603, 661, 597, 598, 633, 661, 1609, 1610, 1611, 1612, 1624, 1612, 1613, 1614, 591, 652, 591, 592, 593, 594, 654, 594, 595, 596, 597, 656, 119, 667, 202, 668, 670, 669, 671, 149, 1608, 1622, 1625, 608, 1617, 1618, 1620, 1616]) (mid := [.isRef (.static Bundle.tN "UNASSIGNED_STACK" Bundle.steD), .isRef (.static Bundle.tN "SUPPRESSED_SENTINEL" Bundle.listD)]) (pl2 := [632, 662, 1615]) (by decide +kernel) (by decide +kernel) (by decide +kernel) hts hN hS
theorem ma_npe {args : Array Value} {s : State} (hts : ∀ w ∈ lw_all, w.before args s = true) (hN : NW s) (hS : ∀ w ∈ offHeap, w.before args s = true) : ∀ w ∈ Bundle.npeArmAtoms 8, w.before args s = true :=
  words_at (pl1 := [115, 664, 605, 626, 629, 631, 665, 666, 156, 157, 599, 604, 627, 634, 658, 635, 659, 636, 660, 600, 601, 602, 603, 661, 623, 613, 614, 815, 817, 620, 621, 829, 806, 807, 808, 809, 651, 809, 810, 811, 812, 653, 812, 813, 814, 665, 655, 121, 618, 827, 828, 612, 823, 824, 826]) (mid := [.isRef (.static Bundle.tN "UNASSIGNED_STACK" Bundle.steD), .isRef (.static Bundle.tN "SUPPRESSED_SENTINEL" Bundle.listD)]) (pl2 := [632, 662, 821]) (by decide +kernel) (by decide +kernel) (by decide +kernel) hts hN hS
/-- Throwable's statics lie in the old heap -/
theorem SW0.below {z : Nat} {H0 : Heap} {s : State} (h : SW0 z H0 s) {c i a : Nat} {k : Class} {f : Field} (hi : s.fieldFound? Bundle.tN "UNASSIGNED_STACK" Bundle.steD = some (c, k, i, f)) (ha : k.statics = some a) : a < z := by
  have hV := h { s with heap := H0.extract 0 z } #[] (State.WarmedH.refl s) (fun q hq => by
    show (H0.extract 0 z)[q]? = H0[q]?
    rw [Array.getElem?_extract]
    by_cases h9 : q < min z H0.size - 0
    · rw [if_pos h9, Nat.zero_add]
    · rw [if_neg h9]
      have : H0.size ≤ q := by omega
      rw [Array.getElem?_eq_none this]) (.laysStatic Bundle.tN "UNASSIGNED_STACK" Bundle.steD) (by simp [offHeap])
  obtain ⟨c2, k2, i2, f2, a2, cell2, hc2, hi2, hst2, ha2, hcell2, -⟩ := Cond.laysStatic_spec hV
  have hi3 : s.fieldFound? Bundle.tN "UNASSIGNED_STACK" Bundle.steD = some (c2, k2, i2, f2) := hi2
  cases hi.symm.trans hi3
  cases ha.symm.trans ha2
  have hlt := (Array.getElem?_eq_some_iff.mp hcell2).1
  have hsz : (H0.extract 0 z).size ≤ z := by rw [Array.size_extract]; omega
  exact Nat.lt_of_lt_of_le hlt hsz
theorem x_sizeCell (S : State) (a : Addr) (x : Cell) : (S.setCell a x).heap.size = S.heap.size := by simp [State.setCell]
section VMX
variable {p : Program} {l : Launch} {e : Env} {R : Room} {s : State} {m₀ : MethodId} {args : Array Value} {below : List Frame} {meth : Method} {c : Code} {T' : State} {locs : List Loc} {cells slots : Nat}
set_option maxHeartbeats 1000000 in
theorem msgThrow (X : Stand p l e R s m₀ args below meth c T' locs cells slots) (hexec : p.tables.exec = Jvm.exec) (htr : e.platform.stackTraces = false) {cls : String} {names : List String} {text : String}
    (hcls : Bundle.fit cls = true) (hnames : ∀ n ∈ names, Bundle.fit n = true) (hsoe : (cls == "java/lang/StackOverflowError") = false) (hoom : (cls == "java/lang/OutOfMemoryError") = false)
    (h : ∀ a ∈ Bundle.messageArmAtoms cls names, a.before args s = true) {z : Nat} {H0 : Heap} (hSW : SW0 z H0 s)
    (hlocs : ∀ x ∈ locs, z ≤ x.base)
    (htext : (text == notModelled) = false) (hlimit : ¬ (stringBytes (stringToUtf16 text)).size > e.platform.arrayLengthLimit) (hheap : ¬ (stringBytes (stringToUtf16 text)).size * componentBytes .byte > e.platform.maxHeapBytes)
    {g : JFrame} (hg : g.method = m₀) (hsize : g.locals.size = c.maxLocals)
    (hRframes : names.length + 4 < R.frames) (hRlocals : 2 * g.monitorRoom + (g.stack.map fun v => v.category).sum + 10240 ≤ R.locals) (hshort : 13 * names.length + 55 ≤ 10240)
    (hRcells : cells + 3 ≤ R.cells) (hRslots : slots + ((stringBytes (stringToUtf16 text)).size + 4 + 6) ≤ R.slots) :
    ∃ (U : State) (L : List Loc) (n : Nat), Stand p l e R s m₀ args below meth c U (locs ++ L) (cells + 3) n ∧ n ≤ slots + ((stringBytes (stringToUtf16 text)).size + 4 + 6) ∧ (∀ y ∈ L, y.base = T'.heap.size + 2) ∧ U.heap.size = T'.heap.size + 3 ∧ (∀ q, q < T'.heap.size → U.heap[q]? = T'.heap[q]?) ∧
      (∃ cell : Cell, U.heap[T'.heap.size + 2]? = some cell ∧ cell.vm = .none ∧ s.vm.findClass cls = some cell.cls) ∧
      ∀ target, Steps p.tables e below ((U.setTop g).pushFrame (.throwing (T'.heap.size + 2))) target → Steps p.tables e below ((T'.setTop g).pushFrame (.throwNew cls (some text) none)) target := by
  have howns : e.platform.frameOwnsMonitors = true := by rw [X.admits.platform]
  have hfin : e.platform.finalization = false := by rw [X.admits.platform]
  have hpl : e.platform.magicAccessors = ({} : Platform).magicAccessors := by rw [X.admits.platform]
  have a : ∀ x, x ∈ Bundle.messageArmAtoms cls names → x.holds args s none s [] = true := fun x hx => h x hx
  obtain ⟨T, Z0, L, -, Y⟩ := ThrowableC.of_atoms (args := args) howns hfin hpl (fun x hx => h x (by simp [Bundle.messageArmAtoms, hx]))
  obtain ⟨Z, M, LZ, LM, hnZ⟩ := Init0T.ofS_atoms (args := args) hpl L Y (fun x hx => h x (by simp [Bundle.messageArmAtoms, hx]))
  obtain ⟨P1, Ps, hlen, L1, hL, hP1m, hlink1, hlink⟩ := Bundle.chainS (args := args) hpl hnZ names cls hcls hnames (fun x hx => h x (by simp [Bundle.messageArmAtoms, hx]))
  obtain ⟨Zs, LZs, hn4, hfitv, hfitc⟩ := StringT.of_atoms (args := args) (fun x hx => h x (by simp [Bundle.messageArmAtoms, hx]))
  have hfound : s.vm.findClass cls = some P1.m.cls := findClass_of_methodNamed hP1m
  obtain ⟨c1, kX, hc1, hk, hord, -, -, hn6⟩ := Cond.instantiable_spec (a (.instantiable cls 6) (by simp [Bundle.messageArmAtoms]))
  cases Option.some.inj (hc1.symm.trans hfound)
  have hinit := Cond.initialized_spec hfound hk (a (.initialized cls) (by simp [Bundle.messageArmAtoms]))
  have hctor : kX.findMethod "<init>" "(Ljava/lang/String;)V" = some P1.m.idx := findMethod_of_methodNamed hP1m hk
  have hsel0 : selectMethod e.platform s.vm P1.m.cls T.fill0 = .method T.fill0 := by
    obtain ⟨c2, r2, m2, q1, q2, q3, q4, -⟩ := Cond.selects_spec (a (.selects cls Bundle.tFill0 Bundle.tFill0) (by simp [Bundle.messageArmAtoms]))
    cases Option.some.inj (q1.symm.trans hfound)
    cases Option.some.inj (q2.symm.trans (State.methodFound?_of_named Y.fill0 (by decide)))
    cases Option.some.inj (q3.symm.trans Y.fill0)
    rw [Launch.admits_selectMethod X.admits]; exact q4
  have hselF : selectMethod e.platform s.vm P1.m.cls T.fill = .method T.fill := by
    obtain ⟨c2, r2, m2, q1, q2, q3, q4, -⟩ := Cond.selects_spec (a (.selects cls Bundle.tFill Bundle.tFill) (by simp [Bundle.messageArmAtoms]))
    cases Option.some.inj (q1.symm.trans hfound)
    cases Option.some.inj (q2.symm.trans (State.methodFound?_of_named Y.fill (by decide)))
    cases Option.some.inj (q3.symm.trans Y.fill)
    rw [Launch.admits_selectMethod X.admits]; exact q4
  obtain ⟨cellS0, hcS0, hiss⟩ := Y.statics
  obtain ⟨u0, hu0⟩ := Cond.staticRefV Y.unassigned L.unassignedStatic L.statics hcS0 hiss (a (.isRef (.static Bundle.tN "UNASSIGNED_STACK" Bundle.steD)) (by simp [Bundle.messageArmAtoms]))
  obtain ⟨sen, hsen⟩ := Cond.staticRefV Y.sentinel L.sentinelStatic L.statics hcS0 hiss (a (.isRef (.static Bundle.tN "SUPPRESSED_SENTINEL" Bundle.listD)) (by simp [Bundle.messageArmAtoms]))
  obtain ⟨ci198, i198, fB, hk198, hg198, ha198, hsB, -, hnB, htB, hffB⟩ := Cond.ownField (t := .object "java/lang/Object") Y.found L.cls (by decide +kernel) (a (.fieldLink Bundle.tN 198 Bundle.tN "backtrace" "Ljava/lang/Object;") (by simp [Bundle.messageArmAtoms])) (a (.lays Bundle.tN Bundle.tN "backtrace" "Ljava/lang/Object;") (by simp [Bundle.messageArmAtoms])) e.platform hpl
  obtain ⟨cellS, hcS', heS, -, hkeep⟩ := X.same.2.2.2.2.2 T.aS cellS0 hcS0
  have hcellS : T'.heap[T.aS]? = some cellS := hcS'
  have haS : T.aS < z := hSW.below Y.unassigned L.statics
  have hout' : ∀ i, (⟨T.aS, i⟩ : Loc) ∉ locs := fun i hmem => by
    have := hlocs _ hmem
    exact Nat.not_lt.mpr this haS
  have hknownS : cellS.vm ≠ .unknown := by
    rw [heS]; intro hu
    rw [show cellS0.vm = .unknown from hu] at hiss
    cases hiss
  obtain ⟨iM, hffM⟩ := Y.msg
  obtain ⟨tyC, dC, hdC, hdnC⟩ := Cond.laysAt hfound hk Y.cause (a (.lays cls Bundle.tN "cause" "Ljava/lang/Throwable;") (by simp [Bundle.messageArmAtoms]))
  obtain ⟨tyS, dS, hdS, hdnS⟩ := Cond.laysAt hfound hk Y.stack (a (.lays cls Bundle.tN "stackTrace" Bundle.steD) (by simp [Bundle.messageArmAtoms]))
  obtain ⟨tyP, dP, hdP, hdnP⟩ := Cond.laysAt hfound hk Y.supp (a (.lays cls Bundle.tN "suppressedExceptions" Bundle.listD) (by simp [Bundle.messageArmAtoms]))
  obtain ⟨tyM, dM, hdM, hdnM⟩ := Cond.laysAt hfound hk hffM (a (.lays cls Bundle.tN "detailMessage" "Ljava/lang/String;") (by simp [Bundle.messageArmAtoms]))
  obtain ⟨tyB, dB, hdB, hdnB⟩ := Cond.laysAt hfound hk hffB (a (.lays cls Bundle.tN "backtrace" "Ljava/lang/Object;") (by simp [Bundle.messageArmAtoms]))
  have bC := Cond.laysApart hdB hdC hdnB hdnC (by rw [hnB, Y.causeName]; decide)
  have bS := Cond.laysApart hdB hdS hdnB hdnS (by rw [hnB, Y.stackName]; decide)
  have bP := Cond.laysApart hdB hdP hdnB hdnP (by rw [hnB, Y.suppName]; decide)
  have hskip : SkipFacts T e.platform s (fun u => u) u0 ((preparedCellV T.toThrowableT (freshCell P1.m.cls kX) (T'.heap.size + 2) u0 sen).withEntry T'.cur) :=
    ⟨{ ci198 := ci198, i198 := i198, fBack := fB }, ⟨hk198, hg198, ha198, hsB⟩, by
      have := fresh_default (c := P1.m.cls) tyB
      rw [htB] at this
      simpa [preparedCellV, Cell.setSlot, Cell.withEntry, Array.getElem?_setIfInBounds, bC, bS, bP, bC.symm, bS.symm, bP.symm, defaultValue] using this, fun _ _ => rfl⟩
  have hvU : cellS.slots[T.fUnassigned.slot]? = some u0.v := by rw [hkeep _ (hout' _)]; exact hu0
  have hvSen : cellS.slots[T.fSentinel.slot]? = some sen.v := by rw [hkeep _ (hout' _)]; exact hsen
  have htC : Takes s (freshCell P1.m.cls kX) T.fCause (.ref (T'.heap.size + 2)) := Takes.of_laid hk hord tyC (by rw [Y.causeType]; rfl)
  have htS : Takes s (freshCell P1.m.cls kX) T.fStack u0.v := Takes.of_laid hk hord tyS (by rw [Y.stackType]; exact fits_refV_array _ u0)
  have htP : Takes s (freshCell P1.m.cls kX) T.fSupp sen.v := Takes.of_laid hk hord tyP (by rw [Y.suppType]; exact fits_refV_object _ sen)
  have htM : Takes s (freshCell P1.m.cls kX) T.fMsg (.ref (T'.heap.size + 1)) := Takes.of_laid hk hord tyM (by rw [Y.msgType]; rfl)
  have hRslots' : slots + ((stringBytes (stringToUtf16 text)).size + Zs.kS.instanceTypes.size + kX.instanceTypes.size) ≤ R.slots := by rw [hn4, hn6]; exact hRslots
  have hAt : At T' g.method c below := by rw [hg]; exact X.here
  obtain ⟨hbeyond, hfreeW⟩ := X.vmMayThrow hsize (.throwNew cls (some text) none) (fun f hf => by cases hf) rfl hRlocals
  have hRframes' : Ps.length + 4 < R.frames := by rw [hlen]; exact hRframes
  have hfr' : T'.frames.length + Ps.length + 4 < (e.platform.stackLimits T'.me).1 := by have := X.framesAbove hRframes'; omega
  have hwd' : (stackUse (.java g :: T'.frames.tail)).2 + 13 * Ps.length + 55 ≤ (e.platform.stackLimits T'.me).2 := by have := X.stackAbove hsize (K := 13 * Ps.length + 55) (by rw [hlen]; omega); omega
  have hslots : T'.slotsUsed + (stringBytes (stringToUtf16 text)).size + Zs.kS.instanceTypes.size + kX.instanceTypes.size ≤ e.platform.maxSlots := by have := X.slotsAbove hRslots'; omega
  obtain ⟨vm', hW', st⟩ := Steps.vmThrowsMessageColdByV p (s₀ := s) (S := T') (g := g) hAt hexec T L Z LZ M LM X.warmed (t := T'.cur) rfl Zs LZs P1 L1 Ps hL hlink1 hlink hsoe hoom hfound hk hinit hord hctor
    (Launch.admits_hotImplicitExceptions X.admits) hbeyond hfreeW htext hlimit hheap (X.cellsAbove hRcells) hslots (hfitv _) (hfitc _)
    (Nn := fun u => u) heapOnly_id (fun _ _ => rfl) (fun _ => rfl) (fun u x y => setCell_twice _ _ _ _) (fun _ => Nat.le_refl _) (cN := ((preparedCellV T.toThrowableT (freshCell P1.m.cls kX) (T'.heap.size + 2) u0 sen).withEntry T'.cur))
    hsel0 hcellS hknownS hvU htS (fun _ hu => hu) (fun _ hu => hu) rfl rfl rfl (by simp [preparedCellV, Cell.setSlot, Cell.withEntry]) hskip (fun _ _ hA hW _ hroom _ hrest => L.nativeOff p htr hA hW hroom hrest) hselF hvSen htC htP htM Y.objLocals rfl hfr' hwd'
  rw [plainBareV_eq T.toThrowableT (T'.heap.size + 2) u0 sen (.ref (T'.heap.size + 1)) T'.cur rfl rfl] at st
  obtain ⟨-, -, w3, w4, -, -, -⟩ := withThrown_facts e.platform T' Zs text P1.m.cls kX
  have X3 := ((X.pushed (bytesOf Zs.cB (stringToUtf16 text))).pushed (stringAt Zs.cS Zs.kS Zs.fv Zs.fc (stringToUtf16 text) T'.heap.size)).pushed (freshCell P1.m.cls kX)
  have hold : ∀ q, q < T'.heap.size → (withThrown T' Zs text P1.m.cls kX).heap[q]? = T'.heap[q]? := by
    intro q hq
    have e9 : (withThrown T' Zs text P1.m.cls kX).heap = ((T'.heap.push (bytesOf Zs.cB (stringToUtf16 text))).push (stringAt Zs.cS Zs.kS Zs.fv Zs.fc (stringToUtf16 text) T'.heap.size)).push (freshCell P1.m.cls kX) := by
      show (State.pushCell (withString T' Zs.cB Zs.cS Zs.kS Zs.fv Zs.fc (stringToUtf16 text)) (freshCell P1.m.cls kX)).heap = _
      rw [withString_eq]
      rfl
    rw [e9, Array.getElem?_push, if_neg (by simp; omega), Array.getElem?_push, if_neg (by simp; omega), Array.getElem?_push, if_neg (Nat.ne_of_lt hq)]
  rw [← withString_eq] at X3
  have X4 := X3.noted hW'
  have ha : (T'.heap.size + 2) < ((withThrown T' Zs text P1.m.cls kX).setVm vm').heap.size := by show _ < (withThrown T' Zs text P1.m.cls kX).heap.size; rw [w3]; omega
  have hcell : ((withThrown T' Zs text P1.m.cls kX).setVm vm').heap[(T'.heap.size + 2)]? = some (freshCell P1.m.cls kX) := w4
  have X5 := ((((X4.stored hcell T.fCause.slot (.ref (T'.heap.size + 2))).storedAgain ha T.fStack.slot u0.v).storedAgain ha T.fSupp.slot sen.v).storedAgain ha T.fStack.slot u0.v).storedAgain ha T.fMsg.slot (.ref (T'.heap.size + 1))
  have b1 : (bytesOf Zs.cB (stringToUtf16 text)).slots.size = (stringBytes (stringToUtf16 text)).size := by
    rw [(Cell.writeAll_facts _ _).2.2]; simp [bytes0]
  have b2 : (stringAt Zs.cS Zs.kS Zs.fv Zs.fc (stringToUtf16 text) T'.heap.size).slots.size = 4 := by simp [string0, Cell.setSlot, hn4]
  have b3 : (freshCell P1.m.cls kX).slots.size = 6 := by simp [hn6]
  simp only [List.append_assoc, List.cons_append, List.nil_append] at X5
  refine ⟨_, _, _, X5, by rw [b1, b2, b3]; omega, fun y hy => ?_, ?_, fun q hq => ?_, ⟨_, heapAt_setCell_self _ ha, rfl, hfound⟩, fun target hrest => st _ ?_⟩
  · simp only [List.mem_cons, List.not_mem_nil, or_false] at hy
    rcases hy with rfl | rfl | rfl | rfl | rfl <;> rfl
  · refine (x_sizeCell _ _ _).trans ?_
    exact w3
  · rw [heapAt_setCell_ne _ (show T'.heap.size + 2 ≠ q from by omega)]
    exact hold q hq
  · obtain ⟨g₁, hfrM⟩ := X5.frames_eq
    have hU : ((((withThrown T' Zs text P1.m.cls kX).setVm vm').setCell (T'.heap.size + 2) (plainBareV T.toThrowableT (freshCell P1.m.cls kX) (T'.heap.size + 2) u0 sen (.ref (T'.heap.size + 1)))).setTop g).pushFrame (.throwing (T'.heap.size + 2)) = (((withThrown T' Zs text P1.m.cls kX).setVm vm').setCell (T'.heap.size + 2) (plainBareV T.toThrowableT (freshCell P1.m.cls kX) (T'.heap.size + 2) u0 sen (.ref (T'.heap.size + 1)))).setFrames (.throwing (T'.heap.size + 2) :: .java g :: below) := by
      rw [State.pushFrame, State.frames_setTop _ hfrM, State.setTop_of_frames _ hfrM, State.setFrames_setFrames]
    rw [X.tail, ← hU]
    exact hrest
end VMX
