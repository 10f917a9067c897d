/-! CALLS OF METHODS THAT MAY THROW: static ones, and by a nest mate's link -/
section TH2
variable {p : Program} {l : Launch} {e : Env} {R : Room} {s : State} {m : MethodId} {args : Array Value} {below : List Frame} {meth : Method} {c : Code} {H : Heap} {locs : List Loc} {cells slots : Nat} {Q Q' : State → Prop}
theorem runT_VN {y : MethodName} {bytes cc : ByteArray} {maxL nL mc ms n index : Nat} {ret : Option FieldType} {rm : Room} {Pc : Array Value → State → Prop} {Qc : Array Value → State → Outcome → State → Prop} {free : Addr → Prop} {own C host : String} {b : Addr} {As rest : List Value} {g : JFrame}
    (S : CallFix p m c cc nL s args lw_all own) (hM : MetT l y (ws_ y bytes maxL ret) rm Pc Qc mc ms free)
    (hd : y.cls ≠ "java/lang/invoke/MethodHandle" ∧ y.cls ≠ "java/lang/invoke/VarHandle" ∧ (parseMethodDescriptor y.desc).map (fun d => d.parameters.length) = some n) (h1 : va_Nw (.methodLinkNest own index y host) s) (h2 : Cond.instanceMethod y ∈ lw_all) (h3 : Cond.selects C y y ∈ lw_all) (h4 : Cond.initialized y.cls ∈ lw_all) (h5 : Cond.code y bytes maxL ret ∈ lw_all)
    (hRm : rm.frames + 1 ≤ R.frames ∧ 8 + (maxL + 11) + rm.locals ≤ R.locals) (hp : PreV s H C b Pc As)
    (hg : g.method = m) (hn : As.length = n) (hsize : g.locals.size = nL) (hstack : g.stack = As.reverse ++ .ref b :: rest) (hW : 2 * g.monitorRoom + (rest.map fun v => v.category).sum ≤ 8) (hdg : decode cc g.pc = .ok (.invokevirtual index, 3)) (hf : cells + rm.cells ≤ R.cells ∧ slots + rm.slots ≤ R.slots) :
    RunT p l e R s m args below meth c H locs cells slots mc ms g rest (Qc (Value.ref b :: As).toArray) free := by
  obtain ⟨hx, hb, hml, ho, hts⟩ := S
  obtain ⟨hbl, ⟨cellB, hcB, hoB, hclB⟩, hPc⟩ := hp
  have hlen : ∀ sig, parseMethodDescriptor y.desc = some sig → As.length = sig.parameters.length := fun sig h => by
    have h2 := hd.2.2
    rw [h] at h2
    exact hn.trans (Option.some.inj h2).symm
  intro T hT X
  have hcode := hts _ h5
  obtain ⟨mk, methM, hnamed, hmethM, hstM, habM⟩ := Cond.instanceMethod_spec (hts _ h2)
  obtain ⟨methM', cM, hmethM', -, -, -, -, -, -, hsigM⟩ := Cond.code_spec hnamed hcode
  cases hmethM.symm.trans hmethM'
  obtain ⟨c2, r2, m2, q1, q2, q3, q4, kP, hkP, hkPi⟩ := Cond.selects_spec (hts _ h3)
  cases hclB.symm.trans q1
  cases (State.methodFound?_of_named hnamed ⟨hd.1, hd.2.1⟩).symm.trans q2
  cases hnamed.symm.trans q3
  have hselP : selectMethod e.platform s.vm cellB.cls mk = .method mk := by rw [Launch.admits_selectMethod X.admits]; exact q4
  have hdg' : decode c.code g.pc = .ok (.invokevirtual index, 3) := by rw [hb]; exact hdg
  obtain ⟨vm₁, X₁, hstep₁⟩ := X.invokevirtualNest hx ho (va_Nw.use rfl h1) hnamed hmethM hstM hkP hkPi ⟨hd.1, hd.2.1⟩ (a := b) (cell := cellB) (by rw [hT]; exact hcB)
    (fun z h => by rw [h] at hoB; cases hoB) hselP hmethM habM hkP hkPi (g := g) hg (argsL := As) (rest := rest) (hlen _ hsigM) hstack hdg'
  obtain ⟨t, T', L, X', hL, e1, e2, hor⟩ := backT (ig := .invokevirtual index) (len := 3) (g := { g with stack := rest }) hM hbl hRm.1 hRm.2 (pay_in hts (lw_meth h5)) List.mem_cons_self (fun a' U hW => word_at hW (Or.inl (by first | rfl | simp [Cond.onTables, Cond.keeps, Cond.steady])) (hts _ h4)) X₁ hg (hsize.trans hml.symm) hdg' hW (X₁.named hnamed) hf.1 hf.2 (hPc (T.setVm vm₁) hT X₁.warmed)
  refine ⟨(T.setVm vm₁).calling { g with stack := rest } mk (Value.ref b :: As).toArray, t, T', L, hT, X', hL, e1, e2, ?_⟩
  rcases hor with ⟨v, hq, hst⟩ | ⟨x, hq, hst⟩
  · exact Or.inl ⟨v, hq, fun target h => hstep₁ _ fun acts => by rw [doInvoke_state]; exact hst.trans h⟩
  · exact Or.inr ⟨x, hq, fun target h => hstep₁ _ fun acts => by rw [doInvoke_state]; exact hst.trans h⟩
theorem runT_S {y : MethodName} {bytes cc : ByteArray} {maxL nL mc ms n index : Nat} {ret : Option FieldType} {rm : Room} {Pc : Array Value → State → Prop} {Qc : Array Value → State → Outcome → State → Prop} {free : Addr → Prop} {own : String} {As rest : List Value} {g : JFrame}
    (S : CallFix p m c cc nL s args lw_all own) (hM : MetT l y (ws_ y bytes maxL ret) rm Pc Qc mc ms free)
    (hd : y.cls ≠ "java/lang/invoke/MethodHandle" ∧ y.cls ≠ "java/lang/invoke/VarHandle" ∧ (parseMethodDescriptor y.desc).map (fun d => d.parameters.length) = some n) (h1 : Cond.methodLink own index y ∈ lw_all) (h2 : Cond.static y ∈ lw_all) (h4 : Cond.initialized y.cls ∈ lw_all) (h5 : Cond.code y bytes maxL ret ∈ lw_all)
    (hRm : rm.frames + 1 ≤ R.frames ∧ 8 + (maxL + 11) + rm.locals ≤ R.locals) (hp : PreS s H Pc As)
    (hg : g.method = m) (hn : As.length = n) (hsize : g.locals.size = nL) (hstack : g.stack = As.reverse ++ rest) (hW : 2 * g.monitorRoom + (rest.map fun v => v.category).sum ≤ 8) (hdg : decode cc g.pc = .ok (.invokestatic index, 3)) (hf : cells + rm.cells ≤ R.cells ∧ slots + rm.slots ≤ R.slots) :
    RunT p l e R s m args below meth c H locs cells slots mc ms g rest (Qc As.toArray) free := by
  obtain ⟨hx, hb, hml, ho, hts⟩ := S
  obtain ⟨hbl, hPc⟩ := hp
  have hlen : ∀ sig, parseMethodDescriptor y.desc = some sig → As.length = sig.parameters.length := fun sig h => by
    have h2 := hd.2.2
    rw [h] at h2
    exact hn.trans (Option.some.inj h2).symm
  intro T hT X
  have hcode := hts _ h5
  obtain ⟨mk, hnamed⟩ := Cond.code_named hcode
  obtain ⟨methM, cM, hmethM, -, -, -, -, -, -, hsigM⟩ := Cond.code_spec hnamed hcode
  have hstatic : methM.isStatic = true := Cond.static_spec hnamed hmethM (hts _ h2)
  obtain ⟨kP, hkP, -⟩ := className_of_methodNamed hnamed
  have hinitP : kP.init = .initialized := Cond.initialized_spec (findClass_of_methodNamed hnamed) hkP (hts _ h4)
  have hdg' : decode c.code g.pc = .ok (.invokestatic index, 3) := by rw [hb]; exact hdg
  obtain ⟨vm₁, X₁, hstep₁⟩ := X.invokestatic hx ho (hts _ h1) hnamed hmethM hstatic hkP hinitP ⟨hd.1, hd.2.1⟩ (g := g) hg (argsL := As) (rest := rest) (hlen _ hsigM) hstack hdg'
  obtain ⟨t, T', L, X', hL, e1, e2, hor⟩ := backT (ig := .invokestatic index) (len := 3) (g := { g with stack := rest }) hM hbl hRm.1 hRm.2 (pay_in hts (lw_meth h5)) List.mem_cons_self (fun a' U hW => word_at hW (Or.inl (by first | rfl | simp [Cond.onTables, Cond.keeps, Cond.steady])) (hts _ h4)) X₁ hg (hsize.trans hml.symm) hdg' hW (X₁.named hnamed) hf.1 hf.2 (hPc (T.setVm vm₁) hT X₁.warmed)
  refine ⟨(T.setVm vm₁).calling { g with stack := rest } mk As.toArray, t, T', L, hT, X', hL, e1, e2, ?_⟩
  rcases hor with ⟨v, hq, hst⟩ | ⟨x, hq, hst⟩
  · exact Or.inl ⟨v, hq, fun target h => hstep₁ _ fun acts => by rw [doInvoke_state]; exact hst.trans h⟩
  · exact Or.inr ⟨x, hq, fun target h => hstep₁ _ fun acts => by rw [doInvoke_state]; exact hst.trans h⟩
/-- the contract of a method with handlers -/
theorem MetT.ofWH {y : MethodName} {ws ws' : List Cond} {rm : Room} {Pc : Array Value → State → Prop} {Qc : Array Value → State → Outcome → State → Prop} {mc ms : Nat} {free : Addr → Prop} {cc : ByteArray} {maxL : Nat} {ret : Option FieldType} {tbl : List (Nat × Nat × Nat × Nat)}
    (hy : plainName y.cls = true) (hw : ws = Cond.codeWith y cc maxL ret tbl :: ws')
    (body : ∀ p e s m args below meth c s₁, BodyLoose p l y (headSpec ws rm) cc maxL ret e s m args below meth c s₁ → c.maxLocals = maxL → c.exceptionTable.toList = tableOf tbl → Pc args s →
      W p l e (headSpec ws rm).room s m args below meth c s.heap [] 0 0 (MQT below Qc args s mc ms free) (entryFrame m args maxL)) : MetT l y ws rm Pc Qc mc ms free := by
  have hcw : ∀ (args : Array Value) (s : State), (headSpec ws rm).pre.before args s = true → (Cond.codeWith y cc maxL ret tbl).before args s = true := fun args s h => atoms_spec (ws := ws) h _ (by rw [hw]; exact List.mem_cons_self)
  refine MetFree.of_bodyS (code := cc) (maxLocals := maxL) (ret := ret) hy ?_ ?_
  · intro args s m h hn
    obtain ⟨m', meth, c, h0, h1, h2, h3, h4, -, h5, h6, -⟩ := Cond.codeWith_spec (hcw args s h)
    cases hn.symm.trans h0
    exact ⟨meth, c, h1, h2, h3, h4, h5, h6⟩
  · intro p e s m args below meth c s₁ B hml hP _
    have X0 := Stand.of_body B
    obtain ⟨m', meth', c', h0, h1, h2, -, -, h7, -, -, -⟩ := Cond.codeWith_spec (hcw args s B.pre)
    cases B.named.symm.trans h0
    cases X0.method.symm.trans h1
    cases X0.code.symm.trans h2
    have hh0 : s₁.heap = s.heap := by rw [B.state]; rfl
    obtain ⟨t, a1, o, b1, b2, b3⟩ := body p e s m args below meth c s₁ B hml (by rw [← h7, table_eq]) hP s₁ hh0 X0
    exact ⟨t, o, a1, b1, b2, ⟨b3.1, b3.2⟩⟩
end TH2
