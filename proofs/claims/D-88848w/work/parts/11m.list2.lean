/-! LISTS 2: starts with a further fact; calls of constructors that may throw; getClass, copying -/
def Moves (Px : State → Prop) : Prop := ∀ (u U : State), u.vm.Alike U.vm → Px u → Px U
def pcQ (G : Gw) (z : Nat) (H0 : Heap) (w : Wd) (av : List Value) (Px : State → Prop) : Array Value → State → Prop := fun v U => pcT G z H0 w av v U ∧ Px U
theorem pcQ.blind {G : Gw} {z : Nat} {H0 : Heap} {w : Wd} {av : List Value} {Px : State → Prop} (hm : Moves Px) : FrameBlind (pcQ G z H0 w av Px) := fun b U g mk h => ⟨pcT.blind b U g mk h.1, hm U (U.calling g mk b) (Vm.Alike.refl _) h.2⟩
theorem mTQ {l : Launch} {y : MethodName} {cc : ByteArray} {maxL : Nat} {ret : Option FieldType} {rm : Room} {Qc : Array Value → State → Outcome → State → Prop} {mc ms : Nat} {G : Gw} {z : Nat} {H0 : Heap} {w : Wd} {av : List Value} {Px : State → Prop} (hy : plainName y.cls = true) (hn : (lg_sl av).length ≤ maxL)
    (body : ∀ (p : Program) (e : Env) (s : State) (m : MethodId) (below : List Frame) (meth : Method) (c : Code) (ls : Array Slot), Px s → p.tables.exec = Jvm.exec → c.code = cc → meth.sig.returnType = ret → c.maxLocals = maxL → s.vm.findClass y.cls = some m.cls → (∀ w ∈ lw_all, w.before av.toArray s = true) → meth.locks = false → meth.name = y.name → (∀ x ∈ c.exceptionTable.toList, ∀ pc, covers x pc = false) → KK G s → Rp G z H0 w s.heap → Fix w → NW s → SW G z H0 s → lv_has ls maxL (lv_args 0 av) →
      W p l e rm s m av.toArray below meth c s.heap [] 0 0 (MQT below Qc av.toArray s mc ms (fun q => z ≤ q)) (F0 m 0 ls [])) : MetT l y (ws_ y cc maxL ret) rm (pcQ G z H0 w av Px) Qc mc ms (fun q => z ≤ q) := by
  refine MetT.ofW (cc := cc) (maxL := maxL) (ret := ret) hy rfl ?_
  intro p e s m args below meth c s₁ B hml hv
  obtain ⟨⟨⟨rfl, hK, hR, hF, hN⟩, hS⟩, hP⟩ := hv
  have hts := atoms_spec (ws := ws_ y cc maxL ret) B.pre
  have hl := lv_entry av (n := maxL) hn
  have hX := Stand.of_body B
  have hnoh : ∀ x ∈ c.exceptionTable.toList, ∀ pc, covers x pc = false := by
    obtain ⟨meth', c', h1, h2, -, -, -, -, h7, -⟩ := Cond.code_spec B.named (hts _ List.mem_cons_self)
    cases hX.method.symm.trans h1
    cases hX.code.symm.trans h2
    exact fun x hx pc => covers_of_empty h7 pc x hx
  rw [lg_entry_eq]
  exact body p e s m below meth c _ hP B.exec B.bytes B.returns hml (findClass_of_methodNamed B.named) (fun w h => hts w (List.mem_cons_of_mem _ h)) B.notSynchronized (name_of_methodNamed B.named B.method).1 hnoh hK hR hF hN hS hl
section L2
variable {p : Program} {l : Launch} {e : Env} {R : Room} {s : State} {m : MethodId} {args : Array Value} {below : List Frame} {meth : Method} {c : Code} {H : Heap} {locs : List Loc} {cells slots : Nat} {Q : State → Prop}
variable {cc : ByteArray} {pc : Nat} {ls : Array Slot} {rest : List Value} {G : Gw} {z : Nat} {H0 : Heap} {w : Wd} {a : Nat} {v0 : Value}
theorem preSQ {As : List Value} {Px : State → Prop} (hm : Moves Px) (hP : Px s) (hK : KK G s) (hR : Rp G z H0 w H) (hF : Fix w) (hN : NW s) (hS : SW G z H0 s) : PreS s H (pcQ G z H0 w As Px) As := ⟨pcQ.blind hm, fun U hU hW => ⟨⟨⟨rfl, hK.moved hW.alike, by rw [hU]; exact hR, hF, hN.warm hW⟩, hS.warm hW⟩, hm s U hW.alike hP⟩⟩
theorem preVQ {As : List Value} {ci : Nat} {q : vw_C} {Px : State → Prop} (hm : Moves Px) (hP : Px s) (hK : KK G s) (hR : Rp G z H0 w H) (hF : Fix w) (hN : NW s) (hS : SW G z H0 s) (ht : (wT w a).1 = ci + 1) (hc : cl[ci]? = some q) : PreV s H q.1 (z + a) (pcQ G z H0 w (.ref (z + a) :: As) Px) As := ⟨pcQ.blind hm, r_recv hK hR ht hc, fun U hU hW => ⟨⟨⟨rfl, hK.moved hW.alike, by rw [hU]; exact hR, hF, hN.warm hW⟩, hS.warm hW⟩, hm s U hW.alike hP⟩⟩
theorem preVE {As : List Value} (hK : KK G s) (hR : Rp G z H0 w H) (hF : Fix w) (hN : NW s) (hS : SW G z H0 s) (ht : (wT w a).1 = 100) : PreV s H RJ9 (z + a) (pcT G z H0 w (.ref (z + a) :: As)) As := by
  obtain ⟨cell, g1, g2, g3, -⟩ := hR.2.2.2.2.2 a ht
  exact ⟨pcT.blind, ⟨cell, g1, by rw [g3]; rfl, by rw [g2]; exact (hK.1 26 _ rfl).2.1⟩, fun U hU hW => ⟨⟨rfl, hK.moved hW.alike, by rw [hU]; exact hR, hF, hN.warm hW⟩, hS.warm hW⟩⟩
theorem preVL {As : List Value} (hK : KK G s) (hR : Rp G z H0 w H) (hF : Fix w) (hN : NW s) (hS : SW G z H0 s) (ht : (wT w a).1 = 27 ∨ (wT w a).1 = 100) : PreV s H RJ9 (z + a) (pcT G z H0 w (.ref (z + a) :: As)) As := by
  rcases ht with ht | ht
  · exact preVT (q := (RJ9, TJ9, 3)) hK hR hF hN hS ht rfl
  · exact preVE hK hR hF hN hS ht
theorem runT_I {y : MethodName} {bytes : ByteArray} {maxL nL mc ms n index : Nat} {rm : Room} {Pc : Array Value → State → Prop} {Qc : Array Value → State → Outcome → State → Prop} {free : Addr → Prop} {own : String} {b : Addr} {As : List Value} {g : JFrame}
    (S : CallFix p m c cc nL s args lw_all own) (hM : MetT l y (ws_ y bytes maxL none) rm Pc Qc mc ms free)
    (hd : y.cls ≠ "java/lang/invoke/MethodHandle" ∧ y.cls ≠ "java/lang/invoke/VarHandle" ∧ (parseMethodDescriptor y.desc).map (fun d => d.parameters.length) = some n) (h1 : Cond.methodLink own index y ∈ lw_all) (h2 : Cond.instanceMethod y ∈ lw_all) (hy1 : y.name = "<init>") (h4 : Cond.initialized y.cls ∈ lw_all) (h5 : Cond.code y bytes maxL none ∈ lw_all)
    (hRm : rm.frames + 1 ≤ R.frames ∧ 8 + (maxL + 11) + rm.locals ≤ R.locals) (hp : PreS s H Pc (.ref b :: As))
    (hg : g.method = m) (hn : As.length = n) (hsize : g.locals.size = nL) (hstack : g.stack = As.reverse ++ .ref b :: rest) (hW : 2 * g.monitorRoom + (rest.map fun v => v.category).sum ≤ 8) (hdg : decode cc g.pc = .ok (.invokespecial index, 3)) (hf : cells + rm.cells ≤ R.cells ∧ slots + rm.slots ≤ R.slots) :
    RunT p l e R s m args below meth c H locs cells slots mc ms g rest (Qc (Value.ref b :: As).toArray) free := by
  obtain ⟨hx, hb, hml, ho, hts⟩ := S
  obtain ⟨hbl, hPc⟩ := hp
  have hlen : ∀ sig, parseMethodDescriptor y.desc = some sig → As.length = sig.parameters.length := fun sig h => by
    have h2 := hd.2.2
    rw [h] at h2
    exact hn.trans (Option.some.inj h2).symm
  intro T hT X
  have hdg' : decode c.code g.pc = .ok (.invokespecial index, 3) := by rw [hb]; exact hdg
  have hpl : e.platform.magicAccessors = ({} : Platform).magicAccessors := by rw [X.admits.platform]
  subst hg
  obtain ⟨mk, methM, cM, kP, vm₁, hnamed, hmethM, hcodeM, -, hlocalsM, -, hkP, -, hW₁, hstep₁⟩ := Steps.initColdArgs (e := e) X.here hx X.warmed hpl ho hy1 ⟨hd.1, hd.2.1⟩ (hts _ h1) (hts _ h2) (hts _ h5) (f := g) rfl hlen hstack hdg'
  have X₁ := X.noted hW₁
  obtain ⟨t, T', L, X', hL, e1, e2, hor⟩ := backT (ig := .invokespecial index) (len := 3) (g := { g with stack := rest }) hM hbl hRm.1 hRm.2 (pay_in hts (lw_meth h5)) List.mem_cons_self (fun a' U hW => word_at hW (Or.inl (by first | rfl | simp [Cond.onTables, Cond.keeps, Cond.steady])) (hts _ h4)) X₁ rfl (hsize.trans hml.symm) hdg' hW (X₁.named hnamed) hf.1 hf.2 (hPc (T.setVm vm₁) hT X₁.warmed)
  refine ⟨(T.setVm vm₁).calling { g with stack := rest } mk (Value.ref b :: As).toArray, t, T', L, hT, X', hL, e1, e2, ?_⟩
  rcases hor with ⟨v, hq, hst⟩ | ⟨x, hq, hst⟩
  · exact Or.inl ⟨v, hq, fun target h => hstep₁ _ fun acts => by rw [doInvoke_state]; exact hst.trans h⟩
  · exact Or.inr ⟨x, hq, fun target h => hstep₁ _ fun acts => by rw [doInvoke_state]; exact hst.trans h⟩
/-- getClass() of an array of objects -/
theorem x_getC (hexec : p.tables.exec = Jvm.exec) (hb : c.code = cc) (hml : c.maxLocals = ls.size) {own : String} {index mi n : Nat} (hown : s.vm.findClass own = some m.cls) (hts : ∀ w ∈ lw_all, w.before args s = true) (hlink : (Cond.methodLink own index ⟨"java/lang/Object", "getClass", "()Ljava/lang/Class;"⟩).before args s = true) (hN : NW s) (hK : KK G s) (hR : Rp G z H0 w H) (h0 : v0 = .ref (z + a)) (ht : wT w a = (205, n)) (hM : va_Mi "[Ljava/lang/Object;" mi s) (hframes : 1 ≤ R.frames) (hlocals : (rest.map fun v => v.category).sum + 14 ≤ R.locals) (hdg : decode cc pc = .ok (.invokevirtual index, 3))
    (k : W p l e R s m args below meth c H locs cells slots Q (F0 m (pc + 3) ls (.ref mi :: rest))) : W p l e R s m args below meth c H locs cells slots Q (F0 m pc ls (v0 :: rest)) := by
  subst h0
  have hr := r_ald (t := 5) hR ht (by decide)
  exact va_getC (C := "[Ljava/lang/Object;") hexec hb hml hown hlink (va_Nw.use rfl (hN.at q2359 rfl)) (hts _ q2358) (hts _ q1131) (hts _ q1165) hM ⟨_, hr, rfl, va_nmO (hK.2 5 (by decide)).2 rfl⟩ hframes hlocals hdg k
/-- what may lie in a list: clauses and tests -/
def lsEl (t : Nat) : Prop := 19 ≤ t ∧ t ≤ 25
theorem el_obj {t : Nat} (h : lsEl t) (hN : NW s) : ∃ (ci : Nat) (r : vw_C), t = ci + 1 ∧ cl[ci]? = some r ∧ va_Nw (.castable r.1 "java/lang/Object") s := by
  have h7 : t = 19 ∨ t = 20 ∨ t = 21 ∨ t = 22 ∨ t = 23 ∨ t = 24 ∨ t = 25 := by unfold lsEl at h; omega
  rcases h7 with rfl | rfl | rfl | rfl | rfl | rfl | rfl
  · exact ⟨18, _, rfl, rfl, hN.at q2345 rfl⟩
  · exact ⟨19, _, rfl, rfl, hN.at q2346 rfl⟩
  · exact ⟨20, _, rfl, rfl, hN.at q2347 rfl⟩
  · exact ⟨21, _, rfl, rfl, hN.at q2351 rfl⟩
  · exact ⟨22, _, rfl, rfl, hN.at q2348 rfl⟩
  · exact ⟨23, _, rfl, rfl, hN.at q2349 rfl⟩
  · exact ⟨24, _, rfl, rfl, hN.at q2350 rfl⟩
theorem x_lsSt (hexec : p.tables.exec = Jvm.exec) (hb : c.code = cc) (hN : NW s) (hK : KK G s) (hR : Rp G z H0 w H) (hL : lok z locs) (h0 : v0 = .ref (z + a)) {n : Nat} (ht : wT w a = (205, n)) {v1 : Value} {v : Nat} (h1 : v1 = .ref (z + v)) (hv : lsEl (wT w v).1) {i : Int32} (hin : inb i n) (hdg : decode cc pc = .ok (.aastore, 1))
    (kk : ∀ (H1 : Heap) (locs1 : List Loc), Rp G z H0 (sR w a i.toNatClampNeg (some v)) H1 → lok z locs1 → W p l e R s m args below meth c H1 locs1 cells slots Q (F0 m (pc + 1) ls rest)) : W p l e R s m args below meth c H locs cells slots Q (F0 m pc ls (v1 :: .int i :: v0 :: rest)) := by
  obtain ⟨ci, r, e1, e2, e3⟩ := el_obj hv hN
  exact x_aast (t := 5) (E := "java/lang/Object") (ci := ci) (r := r) hexec hb hK hR hL h0 ht (by decide) rfl h1 e1 e2 (Or.inr e3) hin hdg kk
/-- System.arraycopy from the start of one list's array to the start of another -/
theorem x_copyL (hexec : p.tables.exec = Jvm.exec) (hb : c.code = cc) (hml : c.maxLocals = ls.size) {own : String} {index : Nat} (hown : s.vm.findClass own = some m.cls) (hts : ∀ w ∈ lw_all, w.before args s = true) (hlink : (Cond.methodLink own index arraycopyName).before args s = true) (hN : NW s) (hK : KK G s) (hR : Rp G z H0 w H) (hL : lok z locs) {a0 n0 n1 : Nat} {v1 : Value} (e0 : v1 = .ref (z + a0)) (e1 : v0 = .ref (z + a)) (ht0 : wT w a0 = (205, n0)) (ht1 : wT w a = (205, n1))
    {n : Int32} (h3 : ¬ n < 0) (h4 : n.toNatClampNeg ≤ n0) (h5 : n.toNatClampNeg ≤ n1) (hel : ∀ i : Nat, i < n.toNatClampNeg → ∀ y : Nat, wR w a0 i = some y → lsEl (wT w y).1)
    (hframes : 1 ≤ R.frames) (hlocals : (rest.map fun v => v.category).sum + (nativeFrameWords "java/lang/System" "arraycopy" 5 + 11) ≤ R.locals) (hdg : decode cc pc = .ok (.invokestatic index, 3))
    (kk : ∀ (H1 : Heap) (locs1 : List Loc), Rp G z H0 (sC w a (va_cpy (wR w a0) (wR w a) 0 0 n.toNatClampNeg)) H1 → lok z locs1 → W p l e R s m args below meth c H1 locs1 cells slots Q (F0 m (pc + 3) ls rest)) : W p l e R s m args below meth c H locs cells slots Q (F0 m pc ls (.int n :: .int 0 :: v0 :: .int 0 :: v1 :: rest)) := by
  subst e0 e1
  have hz0 : ¬ (0 : Int32) < 0 := by decide
  have hzc : (0 : Int32).toNatClampNeg = 0 := by decide
  have nn : ∀ z : Int32, ¬ z < 0 → z.toInt = (z.toNatClampNeg : Int) := by
    intro z hz
    have hz0 : (0 : Int) ≤ z.toInt := by
      have := Int32.not_lt.mp hz
      simpa using Int32.le_iff_toInt_le.mp this
    show z.toInt = ((z.toInt.toNat : Nat) : Int)
    omega
  have hc0 := r_ald (t := 5) hR ht0 (by decide)
  have hc1 := r_ald (t := 5) hR ht1 (by decide)
  obtain ⟨-, k0, hk0, cm0, hkk0⟩ := (hK.2 5 (by decide)).1 n0 (fun j => fv z w a0 (ftS (aty 5)) j)
  obtain ⟨-, k1, hk1, cm1, hkk1⟩ := (hK.2 5 (by decide)).1 n1 (fun j => fv z w a (ftS (aty 5)) j)
  intro T hT X
  obtain ⟨vm', X', step⟩ := X.arraycopy hexec hown hlink (hts _ q1175) (hts _ q1174) (hts _ q141) (src := z + a0) (dst := z + a) (cs := arrV (G.2.2.1 5) n0 (fun j => fv z w a0 (ftS (aty 5)) j)) (cd := arrV (G.2.2.1 5) n1 (fun j => fv z w a (ftS (aty 5)) j)) (srcPos := 0) (destPos := 0) (n := n) (by rw [hT]; exact hc0) (by rw [hT]; exact hc1)
    (fun _ h => by cases h) (fun _ h => by cases h) (fun h => by cases h) (fun h => by cases h) hk0 hk1 hkk0 hkk1 rfl hz0 hz0 h3
    (by rw [nn n h3]; show ¬ _ > ((arrV _ n0 _).slots.size : Int); rw [arrV_size, show ((0 : Int32).toInt : Int) = 0 by decide]; omega)
    (by rw [nn n h3]; show ¬ _ > ((arrV _ n1 _).slots.size : Int); rw [arrV_size, show ((0 : Int32).toInt : Int) = 0 by decide]; omega)
    (fun vm₁ hal i hi => by
      have e : (arrV (G.2.2.1 5) n0 (fun j => fv z w a0 (ftS (aty 5)) j)).slots.getD ((0 : Int32).toNatClampNeg + i) .null = rfv z (wR w a0 i) := by
        rw [hzc, Nat.zero_add, Array.getD_eq_getD_getElem?, arrV_read _ _ (by omega)]
        rfl
      rw [e]
      cases hy : wR w a0 i with
      | none => exact ⟨rfl, trivial⟩
      | some y =>
        obtain ⟨ci, r, f1, f2, f3⟩ := el_obj (hel i hi y hy) hN
        obtain ⟨cellV, g1, g2, g3⟩ := r_recv hK hR f1 f2
        obtain ⟨c0, t1, p1, p2, p3⟩ := Cond.castable_spec (va_Nw.use (A := args) rfl f3)
        obtain ⟨kA, comp, r1, r2, r3, -⟩ := (hK.2 5 (by decide)).2
        cases hk1.symm.trans r1
        cases hkk1.symm.trans r2
        obtain ⟨kC, hkC, -⟩ := Vm.findClass_spec g3
        obtain ⟨kE, hkE, -⟩ := Vm.findClass_spec r3
        obtain ⟨kC', hkC', -⟩ := hal.2.2 _ _ hkC
        obtain ⟨kE', hkE', -⟩ := hal.2.2 _ _ hkE
        refine ⟨rfl, cellV, (show T.heap[z + y]? = some cellV by rw [hT]; exact g1), (fun q h => by rw [h] at g2; cases g2), ⟨kC', hkC'⟩, ⟨kE', hkE'⟩, ?_⟩
        show vm₁.assignable _ _ = true
        rw [hal.assignable]
        cases p1.symm.trans g3
        cases p2.symm.trans r3
        exact p3)
    (g := F0 m pc ls (.int n :: .int 0 :: .ref (z + a) :: .int 0 :: .ref (z + a0) :: rest)) rfl (by rw [hml]) (rest := rest) rfl (by rw [hb]; exact hdg) hframes (by show 2 * 0 + _ + _ ≤ _; omega)
  have e1 : copied (arrV (G.2.2.1 5) n0 (fun j => fv z w a0 (ftS (aty 5)) j)) (arrV (G.2.2.1 5) n1 (fun j => fv z w a (ftS (aty 5)) j)) 0 0 n = arrV (G.2.2.1 5) n1 (fun j => rfv z (va_cpy (wR w a0) (wR w a) 0 0 n.toNatClampNeg j)) := by
    have h9 := va_copied (rfv z) (G.2.2.1 5) (G.2.2.1 5) (n0 := n0) (n1 := n1) (sp := 0) (dp := 0) (n := n.toNatClampNeg) (wR w a0) (wR w a) (by omega)
    exact h9
  rw [e1] at X' step
  have hl : z + a < H.size := (Array.getElem?_eq_some_iff.mp hc1).1
  have hheap : ((T.setVm vm').setCell (z + a) (arrV (G.2.2.1 5) n1 (fun j => rfv z (va_cpy (wR w a0) (wR w a) 0 0 n.toNatClampNeg j)))).heap = H.setIfInBounds (z + a) (arrV (G.2.2.1 5) n1 (fun j => rfv z (va_cpy (wR w a0) (wR w a) 0 0 n.toNatClampNeg j))) := by rw [← hT]; rfl
  have oq : ∀ q : Nat, q ≠ z + a → (H.setIfInBounds (z + a) (arrV (G.2.2.1 5) n1 (fun j => rfv z (va_cpy (wR w a0) (wR w a) 0 0 n.toNatClampNeg j))))[q]? = H[q]? := fun q hq => by simp [Array.getElem?_setIfInBounds, Ne.symm hq]
  obtain ⟨t, a1, b1⟩ := kk _ _ (hR.write (w1 := sC w a (va_cpy (wR w a0) (wR w a) 0 0 n.toNatClampNeg)) (fun _ => rfl) rfl (by simp) oq (fun b s k h => fv_sC h) (fun ci r hc hr => by
      rw [ht1] at hc
      have hlt := (List.getElem?_eq_some_iff.mp hr).1
      have h27 : cl.length = 32 := rfl
      have : 205 = ci + 1 := hc
      omega) (fun t n' h9 h8 => by
      rw [ht1] at h9
      have h7 : 205 = 200 + t := congrArg Prod.fst h9
      have h6 : n1 = n' := congrArg Prod.snd h9
      have ht5 : t = 5 := by omega
      subst ht5 h6
      rw [Array.getElem?_setIfInBounds, if_pos rfl, if_pos hl]
      congr 2
      funext j
      show rfv z _ = rfv z (wR (sC w a _) a j)
      rw [wR_sC, if_pos rfl]) (fun h9 => by
      rw [ht1] at h9
      exact absurd (show 205 = 100 from h9) (by decide))) (fun q hq => by
      rcases List.mem_append.mp hq with h | h
      · exact hL q h
      · obtain ⟨x, -, hx⟩ := List.mem_map.mp h
        rw [← hx]
        exact Nat.le_add_right _ _) _ hheap X'
  exact ⟨t, step t a1, b1⟩
end L2
def elOk (w : Wd) (r : Option Nat) : Bool := match r with
  | none => true
  | some y => decide (19 ≤ (wT w y).1 ∧ (wT w y).1 ≤ 25)
theorem elOk_el {w : Wd} {r : Option Nat} {y : Nat} (h : elOk w r = true) (hr : r = some y) : lsEl (wT w y).1 := by
  subst hr
  have h9 : decide (19 ≤ (wT w y).1 ∧ (wT w y).1 ≤ 25) = true := h
  have h8 : 19 ≤ (wT w y).1 ∧ (wT w y).1 ≤ 25 := of_decide_eq_true h9
  exact h8
