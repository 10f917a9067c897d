/-! super.m(..) where the superclass inherits m from its own superclass -/
section SU2
variable {p : Program} {l : Launch} {e : Env} {R : Room} {s : State} {m : MethodId} {args : Array Value} {below : List Frame} {meth : Method} {c : Code} {H : Heap} {locs : List Loc} {cells slots : Nat}
theorem sub_up {vm : Vm} {c d : ClassId} {k : Class} (hk : vm.classes[c]? = some k) (hs : k.super = some d) : vm.isSubclass c d = true := by
  unfold Vm.isSubclass
  have hlt : c < vm.classes.size := (Array.getElem?_eq_some_iff.mp hk).1
  have h0 : 0 < vm.classes.size := Nat.lt_of_le_of_lt (Nat.zero_le _) hlt
  obtain ⟨n, hn⟩ : ∃ n, vm.classes.size = n + 1 := ⟨vm.classes.size - 1, (Nat.succ_pred_eq_of_pos h0).symm⟩
  simp [Vm.isSubclassAux, hk, hs, hn]
theorem run_SU2 {x y : MethodName} {bytes cc : ByteArray} {maxL nL n index : Nat} {ret : Option FieldType} {rm : Room} {Pc : Array Value → State → Prop} {Qc : Array Value → State → Outcome → State → Prop} {free : Addr → Prop} {own C : String} {cC : ClassId} {b : Addr} {As rest : List Value} {g : JFrame}
    (hat : ClassAt s C cC) (S : CallFix p m c cc nL s args lw_all own) (hM : Met l y (ws_ y bytes maxL ret) rm Pc Qc 0 0 free) (hyx : y = ⟨y.cls, x.name, x.desc⟩)
    (h1 : Cond.methodLink own index x ∈ lw_all) (h2 : Cond.sameMethod x.cls y.cls x.name x.desc ∈ lw_all) (h3 : Cond.superclass own x.cls ∈ lw_all) (h3b : Cond.superclass x.cls y.cls ∈ lw_all) (h4 : Cond.instanceMethod y ∈ lw_all) (h5 : Cond.initialized y.cls ∈ lw_all) (h6 : Cond.code y bytes maxL ret ∈ lw_all)
    (hrc : rm.cells = 0) (hrs : rm.slots = 0) (hd : x.name ≠ "<init>" ∧ (parseMethodDescriptor y.desc).map (fun d => d.parameters.length) = some n) (hRm : rm.frames + 1 ≤ R.frames ∧ 8 + (maxL + 11) + rm.locals ≤ R.locals) (hp : PreV s H C b Pc As)
    (hg : g.method = m) (hn : As.length = n) (hsize : g.locals.size = nL) (hstack : g.stack = As.reverse ++ .ref b :: rest) (hW : 2 * g.monitorRoom + (rest.map fun v => v.category).sum ≤ 8) (hdg : decode cc g.pc = .ok (.invokespecial index, 3)) (hf : cells + 0 ≤ R.cells ∧ slots + 0 ≤ R.slots) :
    va_Run p l e R s m args below meth c H locs cells slots 0 0 g rest (Qc (Value.ref b :: As).toArray) (free) := by
  obtain ⟨hx, hb, hml, ho, hts⟩ := S
  have hK : Back l R p e below s args y 3 8 (PreOf R 0 0 Pc) (PostOf Qc 0 0 free) := back_of (bytes := bytes) (maxL := maxL) (ret := ret) hM hp.1 hrc hrs hRm.1 hRm.2 (pay_in hts (lw_meth h6)) List.mem_cons_self (fun a' U hW => word_at hW (Or.inl (by first | rfl | simp [Cond.onTables, Cond.keeps, Cond.steady])) (hts _ h5))
  obtain ⟨-, ⟨cellB, hcB, hoB, hclB⟩, hPc⟩ := hp
  obtain ⟨hfc, kB, hkB, -⟩ := hat
  cases hfc.symm.trans hclB
  have hinst := hts _ h4
  have hcode := hts _ h6
  obtain ⟨mk, methM, hnamed, hmethM, hstM, habM⟩ := Cond.instanceMethod_spec hinst
  obtain ⟨methM', cM, hmethM', -, -, -, -, -, -, hsigM⟩ := Cond.code_spec hnamed hcode
  cases hmethM.symm.trans hmethM'
  obtain ⟨ps, dk, kp, hps, hdk, hkp, hsuper, -, -, hnid⟩ := Cond.superclass_spec ho (hts _ h3)
  obtain ⟨pt, dk2, kp2, hps2, hdk2, hkp2, hsuper2, -, -, -⟩ := Cond.superclass_spec hps (hts _ h3b)
  have hnm : s.methodNamed? ⟨y.cls, x.name, x.desc⟩ = some mk := by rw [← hyx]; exact hnamed
  have hpm : pt = mk.cls := Option.some.inj (hps2.symm.trans (findClass_of_methodNamed hnamed))
  have hsub : s.vm.isSubclass ps mk.cls = true := by rw [← hpm]; exact sub_up hdk2 hsuper2
  have hlen : As.length = methM.sig.parameters.length := by
    have h2 := hd.2
    rw [hsigM] at h2
    rw [hn]
    exact (Option.some.inj h2).symm
  intro T hT X
  obtain ⟨vm₁, X₁, hstep₁⟩ := X.invokespecialUp hx ho (hts _ h1) (hts _ h2) hnm hmethM hstM habM hd.1 hdk hnid hps hsuper hsub (a := b) (cell := cellB) (by rw [hT]; exact hcB)
    (fun z h => by rw [h] at hoB; cases hoB) hkB (g := g) hg (argsL := As) (rest := rest) hlen hstack (by rw [hb]; exact hdg)
  obtain ⟨v, ⟨U', l2, c2, s2⟩, X', ⟨g', mk', t, L, e1, e2, hq, e3, hL, e4, e5⟩, hsteps⟩ := hK m meth c ⟨T.setVm vm₁, locs, cells, slots⟩ { g with stack := rest } (.invokespecial index) mk (Value.ref b :: As).toArray X₁ hg (hsize.trans hml.symm) (by rw [hb]; exact hdg) hW (X₁.named hnamed) ⟨hf.1, hf.2, hPc (T.setVm vm₁) hT X₁.warmed⟩
  dsimp only [Pt.U, Pt.locs, Pt.cells, Pt.slots] at X' e1 e2 e3 e4 e5 hsteps
  subst e3; subst e4; subst e5
  exact ⟨v, (T.setVm vm₁).calling g' mk' (Value.ref b :: As).toArray, t, U', L, hT, X', hL, e1, e2, hq, fun target h => hstep₁ _ (by rw [doInvoke_state]; exact hsteps.trans h)⟩
end SU2
