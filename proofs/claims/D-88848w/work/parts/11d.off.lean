/-! OFF: RuntimeException's constructor on a fresh Off -/
def offAtoms : List Cond := Bundle.throwableAtoms ++ (Bundle.chain0Atoms "java/lang/RuntimeException" ["java/lang/Exception"] ++ [.methodLink "BarredBooks$Off" 1 (Bundle.init0 "java/lang/RuntimeException"), .instantiable "BarredBooks$Off" 7, .selects "BarredBooks$Off" Bundle.tFill0 Bundle.tFill0, .selects "BarredBooks$Off" Bundle.tFill Bundle.tFill,
  .lays "BarredBooks$Off" Bundle.tN "cause" "Ljava/lang/Throwable;", .lays "BarredBooks$Off" Bundle.tN "stackTrace" Bundle.steD, .lays "BarredBooks$Off" Bundle.tN "suppressedExceptions" Bundle.listD, .fieldLink Bundle.tN 198 Bundle.tN "backtrace" "Ljava/lang/Object;", .lays Bundle.tN Bundle.tN "backtrace" "Ljava/lang/Object;", .lays "BarredBooks$Off" Bundle.tN "backtrace" "Ljava/lang/Object;"])
theorem off_eq : offAtoms = [115, 664, 605, 626, 629, 631, 665, 666, 156, 157, 599, 604, 627, 634, 658, 635, 659, 636, 660, 600, 601, 602, 603, 661, 809, 810, 811, 812, 653, 812, 813, 814, 665, 655, 995, 984, 986, 607, 987, 988, 989, 632, 662, 991].filterMap (fun i => lw_tbl[i]?) := by decide +kernel
/-- the words that read the old heap (the statics of Throwable) -/
def offHeap : List Cond := [.laysStatic Bundle.tN "UNASSIGNED_STACK" Bundle.steD, .laysStatic Bundle.tN "SUPPRESSED_SENTINEL" Bundle.listD, .isRef (.static Bundle.tN "UNASSIGNED_STACK" Bundle.steD), .isRef (.static Bundle.tN "SUPPRESSED_SENTINEL" Bundle.listD)]
theorem off_good : offAtoms.all (fun w => goodWord w || nwWord w || decide (w ∈ offHeap)) = true := by decide +kernel
theorem off_at {args : Array Value} {s : State} (hts : ∀ w ∈ lw_all, w.before args s = true) (hN : NW s) (hS : ∀ w ∈ offHeap, w.before args s = true) : ∀ w ∈ offAtoms, w.before args s = true := by
  intro w hw
  have hg := List.all_eq_true.mp off_good w hw
  rw [off_eq] at hw
  obtain ⟨i, -, hi⟩ := List.mem_filterMap.mp hw
  rcases Bool.or_eq_true_iff.mp hg with h0 | h0
  rcases Bool.or_eq_true_iff.mp h0 with h1 | h1
  · exact hts _ (lw_w i hi h1)
  · have h2 := hN.at (List.mem_of_getElem? hi) h1
    cases w <;> first | (exact absurd (show false = true from h1) (by decide)) | exact va_Nw.use rfl h2
  · exact hS _ (of_decide_eq_true h0)
section OFF
variable {p : Program} {l : Launch} {e : Env} {R : Room} {s : State} {m₀ : MethodId} {args : Array Value} {below : List Frame} {meth : Method} {c : Code} {W : State} {locs : List Loc} {cells slots : Nat}
set_option maxHeartbeats 1000000 in
theorem offSuper (X : Stand p l e R s m₀ args below meth c W locs cells slots) (hexec : p.tables.exec = Jvm.exec) (htr : e.platform.stackTraces = false)
    (hown : s.vm.findClass "BarredBooks$Off" = some m₀.cls) (h : ∀ a ∈ offAtoms, a.before args s = true)
    (hS : ∀ w ∈ offHeap, w.before args s = true)
    (hlocs : ∀ x ∈ locs, ∀ cell, s.heap[x.base]? = some cell → cell.vm.isStatics = false)
    {a : Addr} {kX : Class} (hkX : s.vm.classes[m₀.cls]? = some kX) (hcell : W.heap[a]? = some (freshCell m₀.cls kX))
    {ip : Nat} (hSl : SlotIs s "BarredBooks$Off" "place" "I" ip) (hlf : (Cond.laysFinal "BarredBooks$Off" "BarredBooks$Off" "place" "I").before args s = true)
    {g : JFrame} (hg : g.method = m₀) (hsize : g.locals.size = c.maxLocals) {rest : List Value} (hstack : g.stack = .ref a :: rest)
    (hd : decode c.code g.pc = .ok (.invokespecial 1, 3)) (hRframes : 4 < R.frames) (hRlocals : 2 * g.monitorRoom + (rest.map fun v => v.category).sum + 67 ≤ R.locals) :
    ∃ (vm' : Vm) (cell' : Cell) (i1 i2 i3 : Nat), Stand p l e R s m₀ args below meth c ((W.setVm vm').setCell a cell') (locs ++ [⟨a, i1⟩, ⟨a, i2⟩, ⟨a, i3⟩, ⟨a, i2⟩]) cells slots ∧ cell'.cls = m₀.cls ∧ cell'.vm = .none ∧
      cell'.slots[ip]? = (freshCell m₀.cls kX).slots[ip]? ∧
      ∀ target, Steps p.tables e below (((W.setVm vm').setCell a cell').setTop { g with pc := g.pc + 3, stack := rest }) target → Steps p.tables e below (W.setTop g) target := by
  have howns : e.platform.frameOwnsMonitors = true := by rw [X.admits.platform]
  have hfin : e.platform.finalization = false := by rw [X.admits.platform]
  have hpl : e.platform.magicAccessors = ({} : Platform).magicAccessors := by rw [X.admits.platform]
  have a' : ∀ x, x ∈ offAtoms → x.holds args s none s [] = true := fun x hx => h x hx
  obtain ⟨T, Z, L, LZ, Y⟩ := ThrowableC.of_atoms (args := args) howns hfin hpl (fun x hx => h x (by simp [offAtoms, hx]))
  obtain ⟨P1, Ps, hlen, L1, hL, hP1m, hlink1, hlink⟩ := Bundle.chain0 (args := args) hpl Y.init0 ["java/lang/Exception"] "java/lang/RuntimeException" (by decide +kernel) (by decide +kernel) (fun x hx => h x (by simp only [offAtoms, List.mem_append]; exact Or.inr (Or.inl hx)))
  obtain ⟨c1, kX', hc1, hk, hord, -, -, hn6⟩ := Cond.instantiable_spec (a' (.instantiable "BarredBooks$Off" 7) (by simp [offAtoms]))
  cases Option.some.inj (hc1.symm.trans hown)
  cases Option.some.inj (hkX.symm.trans hk)
  have hsel0 : selectMethod e.platform s.vm m₀.cls T.fill0 = .method T.fill0 := by
    obtain ⟨c2, r2, m2, q1, q2, q3, q4, -⟩ := Cond.selects_spec (a' (.selects "BarredBooks$Off" Bundle.tFill0 Bundle.tFill0) (by simp [offAtoms]))
    cases Option.some.inj (q1.symm.trans hown)
    cases Option.some.inj (q2.symm.trans (State.methodFound?_of_named Y.fill0 (by decide)))
    cases Option.some.inj (q3.symm.trans Y.fill0)
    rw [Launch.admits_selectMethod X.admits]; exact q4
  have hselF : selectMethod e.platform s.vm m₀.cls T.fill = .method T.fill := by
    obtain ⟨c2, r2, m2, q1, q2, q3, q4, -⟩ := Cond.selects_spec (a' (.selects "BarredBooks$Off" Bundle.tFill Bundle.tFill) (by simp [offAtoms]))
    cases Option.some.inj (q1.symm.trans hown)
    cases Option.some.inj (q2.symm.trans (State.methodFound?_of_named Y.fill (by decide)))
    cases Option.some.inj (q3.symm.trans Y.fill)
    rw [Launch.admits_selectMethod X.admits]; exact q4
  obtain ⟨cellS0, hcS0, hiss⟩ := Y.statics
  obtain ⟨u0, hu0⟩ := Cond.staticRefV Y.unassigned L.unassignedStatic L.statics hcS0 hiss (hS _ (by simp [offHeap]))
  obtain ⟨sen, hsen⟩ := Cond.staticRefV Y.sentinel L.sentinelStatic L.statics hcS0 hiss (hS _ (by simp [offHeap]))
  obtain ⟨ci198, i198, fB, hk198, hg198, ha198, hsB, -, hnB, htB, hffB⟩ := Cond.ownField (t := .object "java/lang/Object") Y.found L.cls (by decide +kernel) (a' (.fieldLink Bundle.tN 198 Bundle.tN "backtrace" "Ljava/lang/Object;") (by simp [offAtoms])) (a' (.lays Bundle.tN Bundle.tN "backtrace" "Ljava/lang/Object;") (by simp [offAtoms])) e.platform hpl
  obtain ⟨cellS, hcS', heS, -, hkeep⟩ := X.same.2.2.2.2.2 T.aS cellS0 hcS0
  have hcellS : W.heap[T.aS]? = some cellS := hcS'
  have hissS : cellS.vm.isStatics = true := by rw [heS]; exact hiss
  have hout' : ∀ i, (⟨T.aS, i⟩ : Loc) ∉ locs := fun i hmem => by
    have := hlocs _ hmem cellS0 hcS0
    rw [hiss] at this; cases this
  have hknownS : cellS.vm ≠ .unknown := by
    intro hu
    rw [hu] at hissS
    cases hissS
  have hneS : T.aS ≠ a := by
    intro he
    rw [he, hcell] at hcellS
    rw [← Option.some.inj hcellS] at hissS
    cases hissS
  obtain ⟨tyC, dC, hdC, hdnC⟩ := Cond.laysAt hown hk Y.cause (a' (.lays "BarredBooks$Off" Bundle.tN "cause" "Ljava/lang/Throwable;") (by simp [offAtoms]))
  obtain ⟨tyS, dS, hdS, hdnS⟩ := Cond.laysAt hown hk Y.stack (a' (.lays "BarredBooks$Off" Bundle.tN "stackTrace" Bundle.steD) (by simp [offAtoms]))
  obtain ⟨tyP, dP, hdP, hdnP⟩ := Cond.laysAt hown hk Y.supp (a' (.lays "BarredBooks$Off" Bundle.tN "suppressedExceptions" Bundle.listD) (by simp [offAtoms]))
  obtain ⟨tyB, dB, hdB, hdnB⟩ := Cond.laysAt hown hk hffB (a' (.lays "BarredBooks$Off" Bundle.tN "backtrace" "Ljava/lang/Object;") (by simp [offAtoms]))
  have bC := Cond.laysApart hdB hdC hdnB hdnC (by rw [hnB, Y.causeName]; decide)
  have bS := Cond.laysApart hdB hdS hdnB hdnS (by rw [hnB, Y.stackName]; decide)
  have bP := Cond.laysApart hdB hdP hdnB hdnP (by rw [hnB, Y.suppName]; decide)
  have hskip : SkipFacts T e.platform s (fun u => u) u0 ((preparedCellV T.toThrowableT (freshCell m₀.cls kX) a u0 sen).withEntry W.cur) :=
    ⟨{ ci198 := ci198, i198 := i198, fBack := fB }, ⟨hk198, hg198, ha198, hsB⟩, by
      have := fresh_default (c := m₀.cls) tyB
      rw [htB] at this
      simpa [preparedCellV, Cell.setSlot, Cell.withEntry, Array.getElem?_setIfInBounds, bC, bS, bP, bC.symm, bS.symm, bP.symm, defaultValue] using this, fun _ _ => rfl⟩
  obtain ⟨tm, methC, cdC, kC, vm₁, hnC, -, -, -, -, -, -, -, hW₁, st1⟩ := Steps.initCold (tb := p.tables) (e := e) (below := below) (s := s) (U := W) X.here hexec X.warmed hpl hown (t := Bundle.init0 "java/lang/RuntimeException") rfl rfl (by decide)
    (a' (.methodLink "BarredBooks$Off" 1 (Bundle.init0 "java/lang/RuntimeException")) (by simp [offAtoms])) (h (.instanceMethod (Bundle.init0 "java/lang/RuntimeException")) (by simp [offAtoms, Bundle.chain0Atoms, Bundle.passAtoms])) (bytes := Bundle.five) (maxL := 1) (h (.code (Bundle.init0 "java/lang/RuntimeException") Bundle.five 1 none) (by simp [offAtoms, Bundle.chain0Atoms, Bundle.passAtoms]))
    (f := g) hg (a := a) (rest := rest) hstack hd
  cases Option.some.inj (hnC.symm.trans hP1m)
  have X₁ := X.noted hW₁
  obtain ⟨vm₂, X₂, st2⟩ := X₁.ctorPlainOffV hexec (g := { g with stack := rest }) hg hsize T L Z LZ (P1 :: Ps)
    (fun P hP => by rcases List.mem_cons.mp hP with rfl | hP; exact L1; exact hL P hP) ⟨hlink1, hlink⟩ (u0 := u0) (sen := sen) (self := a) (cell := freshCell m₀.cls kX) (cellS := cellS)
    hcell (fun _ => by simp) (by simp) rfl rfl hsel0 hselF hcellS hneS hknownS (by rw [hkeep _ (hout' _)]; exact hu0) (by rw [hkeep _ (hout' _)]; exact hsen)
    (Takes.of_laid hk hord tyC (by rw [Y.causeType]; rfl)) (Takes.of_laid hk hord tyS (by rw [Y.stackType]; exact fits_refV_array _ u0)) (Takes.of_laid hk hord tyP (by rw [Y.suppType]; exact fits_refV_object _ sen)) Y.objLocals hskip htr [] hd
    (by simp only [List.length_cons, hlen, List.length_nil]; omega) (by simp only [List.length_cons, hlen, List.length_nil]; exact hRlocals)
  refine ⟨vm₂, _, T.fCause.slot, T.fStack.slot, T.fSupp.slot, X₂, rfl, rfl, ?_, ?_⟩
  · obtain ⟨cf, kf, fi, fd, hfp, rfl⟩ := hSl
    obtain ⟨q1, q2, q3, q4, q5, q6, r1, r2, r3, -, -, -, -, -, dp, hdp, -, hdpn, -⟩ := Cond.laysFinal_spec (show (Cond.laysFinal "BarredBooks$Off" "BarredBooks$Off" "place" "I").holds args s none s [] = true from hlf)
    cases Option.some.inj (r1.symm.trans hown)
    cases Option.some.inj (hfp.symm.trans r3)
    have hnm : fd.name = "place" := (State.fieldFound?_type hfp (t := .int) (by decide +kernel)).1
    have h1 := Cond.laysApart hdp hdC hdpn hdnC (by rw [hnm, Y.causeName]; decide)
    have h2 := Cond.laysApart hdp hdS hdpn hdnS (by rw [hnm, Y.stackName]; decide)
    have h3 := Cond.laysApart hdp hdP hdpn hdnP (by rw [hnm, Y.suppName]; decide)
    simp [preparedCellV, Cell.setSlot, Array.getElem?_setIfInBounds, Ne.symm h1, Ne.symm h2, Ne.symm h3]
  · intro target ht
    exact st1 _ fun acts => by rw [doInvoke_state]; exact st2 _ ht
end OFF
