/-! THE VM's OWN EXCEPTIONS 4: from the step that throws to the object in the world -/
theorem fv_sX {z : Nat} {w : Wd} {k b s j : Nat} : fv z (sX w k) b s j = fv z w b s j := by
  match s with
  | 0 => rfl
  | 1 => rfl
  | s + 2 => rfl
theorem Fix.sX {w : Wd} (h : Fix w) (k : Nat) : Fix (sX w k) := by
  refine ⟨h.1, fun a q hq => ?_, by rw [wZ_sX]; exact Nat.le_add_right_of_le h.2.2⟩
  rw [wT_sX, if_neg]
  · exact h.2.1 a q hq
  · intro e
    rw [fixT_dyn (Nat.le_trans h.2.2 e)] at hq
    cases hq
/-- k cells that nobody looks at, and an object of class ci -/
theorem Rp.exc {G : Gw} {z : Nat} {H0 H H1 : Heap} {w : Wd} {k ci : Nat} {C : String} {T : u_T} (h : Rp G z H0 w H) (hc : cl[ci]? = some (C, T, 0)) (z1 : H1.size = H.size + k + 1) (o1 : ∀ q, q < H.size → H1[q]? = H[q]?) {cell : Cell} (e1 : H1[H.size + k]? = some cell) (e2 : cell.vm = .none) (e3 : cell.cls = G.1 ci) : Rp G z H0 (sN (sX w k) (ci + 1) 0) H1 := by
  have hh := h
  have hlt := (List.getElem?_eq_some_iff.mp hc).1
  have h32 : cl.length = 32 := rfl
  obtain ⟨h1, h2, h3, h4, h5, h6⟩ := h
  have hT : ∀ b, wT (sN (sX w k) (ci + 1) 0) b = if b = wZ w + k then (ci + 1, 0) else if wZ w ≤ b then (0, 0) else wT w b := fun b => rfl
  refine ⟨by rw [z1, h1, wZ_sN, wZ_sX]; omega, fun q hq => (o1 q (by omega)).trans (h2 q hq), fun b hb => ?_, fun a cj r ha hr => ?_, fun a j n ha hj => ?_, fun a ha => ?_⟩
  · rw [wZ_sN, wZ_sX] at hb
    rw [hT, if_neg (by omega), if_pos (by omega)]
  · rw [hT] at ha
    by_cases q : a = wZ w + k
    · rw [if_pos q] at ha
      have hcj : cj = ci := by have : ci + 1 = cj + 1 := ha; omega
      subst hcj
      cases Option.some.inj (hc.symm.trans hr)
      refine ⟨cell, by rw [q, ← Nat.add_assoc, ← h1]; exact e1, e3, e2, fun j hj => absurd hj (Nat.not_lt_zero j)⟩
    · rw [if_neg q] at ha
      by_cases q2 : wZ w ≤ a
      · rw [if_pos q2] at ha
        exact absurd (show 0 = cj + 1 from ha) (by omega)
      · rw [if_neg q2] at ha
        exact ((h4 a cj r ha hr).kept (o1 _ (by omega))).to fun j _ => by rw [fv_sN (by rw [wZ_sX]; exact q), fv_sX]
  · rw [hT] at ha
    by_cases q : a = wZ w + k
    · rw [if_pos q] at ha
      have : ci + 1 = 200 + j := congrArg Prod.fst ha
      omega
    · rw [if_neg q] at ha
      by_cases q2 : wZ w ≤ a
      · rw [if_pos q2] at ha
        have : 0 = 200 + j := congrArg Prod.fst ha
        omega
      · rw [if_neg q2] at ha
        rw [o1 _ (by omega), h5 a j n ha hj]
        congr 2
        funext i
        rw [fv_sN (by rw [wZ_sX]; exact q), fv_sX]
  · rw [hT] at ha
    by_cases q : a = wZ w + k
    · rw [if_pos q] at ha
      have : ci + 1 = 100 := ha
      omega
    · rw [if_neg q] at ha
      by_cases q2 : wZ w ≤ a
      · rw [if_pos q2] at ha
        exact absurd (show 0 = 100 from ha) (by decide)
      · rw [if_neg q2] at ha
        refine ((h6 a ha).kept (o1 _ (by omega))).to fun j _ => ?_
        by_cases hk : j = 1
        · simp [hk]
        · simp only [if_neg hk]
          rw [fv_sN (by rw [wZ_sX]; exact q), fv_sX]
/-- the VM is about to make an exception -/
def WN (p : Program) (l : Launch) (e : Env) (R : Room) (s : State) (m : MethodId) (args : Array Value) (below : List Frame) (meth : Method) (c : Code) (H : Heap) (locs : List Loc) (cells slots : Nat) (Q : State → Prop) (g : JFrame) (cls : String) (msg : Option String) : Prop :=
  ∀ T : State, T.heap = H → Stand p l e R s m args below meth c T locs cells slots → ∃ t, Steps p.tables e below ((T.setTop g).pushFrame (.throwNew cls msg none)) t ∧ Q t
section VM4
variable {p : Program} {l : Launch} {e : Env} {R : Room} {s : State} {m : MethodId} {args : Array Value} {below : List Frame} {meth : Method} {c : Code} {H : Heap} {locs : List Loc} {cells slots : Nat} {Q : State → Prop}
variable {cc : ByteArray} {pc : Nat} {ls : Array Slot} {rest st : List Value} {G : Gw} {z : Nat} {H0 : Heap} {w : Wd} {a : Nat} {v0 : Value}
theorem wn_msg (hexec : p.tables.exec = Jvm.exec) (htr : ∀ e, l.admits e → e.platform.stackTraces = false) {cls : String} {names : List String} {text : String} {ci : Nat} {T0 : u_T} (h1 : Bundle.fit cls = true) (h2 : ∀ n ∈ names, Bundle.fit n = true) (h3 : (cls == "java/lang/StackOverflowError") = false) (h4 : (cls == "java/lang/OutOfMemoryError") = false)
    (hat : ∀ x ∈ Bundle.messageArmAtoms cls names, x.before args s = true) (hS : SW G z H0 s) (hK : KK G s) (hR : Rp G z H0 w H) (hL : lok z locs) (hc : cl[ci]? = some (cls, T0, 0)) (ht : (text == notModelled) = false ∧ (stringBytes (stringToUtf16 text)).size ≤ 230) (hsize : ls.size = c.maxLocals)
    (hf1 : names.length + 4 < R.frames) (hf2 : (st.map fun v => v.category).sum + 10240 ≤ R.locals) (hf3 : 13 * names.length + 55 ≤ 10240) (hcells : cells + 3 ≤ R.cells) (hslots : slots + 240 ≤ R.slots)
    (kk : ∀ (H1 : Heap) (locs1 : List Loc), Rp G z H0 (sN (sX w 2) (ci + 1) 0) H1 → lok z locs1 → WT p l e R s m args below meth c H1 locs1 (cells + 3) (slots + 240) Q (F0 m pc ls st) (z + (wZ w + 2))) : WN p l e R s m args below meth c H locs cells slots Q (F0 m pc ls st) cls (some text) := by
  intro T hT X
  have hsz : T.heap.size = z + wZ w := by rw [hT]; exact hR.1
  obtain ⟨U, L, n, X', hn, hbase, u1, u2, ⟨cell, u3, u4, u5⟩, hst⟩ := msgThrow X hexec (htr e X.admits) h1 h2 h3 h4 hat hS.1.1 hL ht.1 (by rw [Launch.admits_arrayLengthLimit X.admits]; omega) (by
      have hb : e.platform.maxHeapBytes = 536870912 := by rw [X.admits.platform]
      have hcb : componentBytes .byte = 1 := rfl
      rw [hb, hcb]
      omega) (g := F0 m pc ls st) rfl hsize hf1 (by show 2 * 0 + (st.map fun v => v.category).sum + 10240 ≤ R.locals; omega) hf3 hcells (by omega)
  have hcls : cell.cls = G.1 ci := Option.some.inj (u5.symm.trans (hK.1 ci _ hc).2.1)
  have hR1 := hR.exc (k := 2) hc (by rw [← hT]; exact u1) (fun q hq => by rw [← hT] at hq ⊢; exact u2 q hq) (by rw [← hT]; exact u3) u4 hcls
  have hL1 : lok z (locs ++ L) := lok_app hL (fun q hq => by rw [hbase q hq, hsz]; omega)
  obtain ⟨t, a1, b1⟩ := kk U.heap _ hR1 hL1 U rfl (stand_widen X' (Nat.le_refl _) (by omega))
  refine ⟨t, hst t ?_, b1⟩
  have e9 : z + (wZ w + 2) = T.heap.size + 2 := by omega
  rw [e9] at a1
  exact a1
theorem wn_npe (hexec : p.tables.exec = Jvm.exec) (htr : ∀ e, l.admits e → e.platform.stackTraces = false) (hts : ∀ w ∈ lw_all, w.before args s = true) (hN : NW s) (hold : ∀ q : Nat, q < z → s.heap[q]? = H0[q]?) (hS : SW G z H0 s) (hK : KK G s) (hR : Rp G z H0 w H) (hL : lok z locs) (hsize : ls.size = c.maxLocals)
    (hf1 : 7 < R.frames) (hf2 : (st.map fun v => v.category).sum + 10240 ≤ R.locals) (hcells : cells + 1 ≤ R.cells) (hslots : slots + 8 ≤ R.slots)
    (kk : ∀ (H1 : Heap) (locs1 : List Loc), Rp G z H0 (sN (sX w 0) 29 0) H1 → lok z locs1 → WT p l e R s m args below meth c H1 locs1 (cells + 1) (slots + 8) Q (F0 m pc ls st) (z + (wZ w + 0))) : WN p l e R s m args below meth c H locs cells slots Q (F0 m pc ls st) "java/lang/NullPointerException" none := by
  intro T hT X
  have hsz : T.heap.size = z + wZ w := by rw [hT]; exact hR.1
  obtain ⟨U, L, X', hbase, u1, u2, ⟨cell, u3, u4, u5⟩, hst⟩ := npeThrow X hexec (htr e X.admits) (ma_npe hts hN (hS.at hold)) hS.1.1 hL (g := F0 m pc ls st) rfl hsize hf1 (by show 2 * 0 + (st.map fun v => v.category).sum + 10240 ≤ R.locals; omega) hcells hslots
  have hcls : cell.cls = G.1 28 := Option.some.inj (u5.symm.trans (hK.1 28 _ rfl).2.1)
  have hR1 := hR.exc (k := 0) (ci := 28) rfl (by rw [← hT]; exact u1) (fun q hq => by rw [← hT] at hq ⊢; exact u2 q hq) (by rw [← hT]; exact u3) u4 hcls
  have hL1 : lok z (locs ++ L) := lok_app hL (fun q hq => by rw [hbase q hq, hsz]; omega)
  obtain ⟨t, a1, b1⟩ := kk U.heap _ hR1 hL1 U rfl X'
  refine ⟨t, hst t ?_, b1⟩
  have e9 : z + (wZ w + 0) = T.heap.size := by omega
  rw [e9] at a1
  exact a1
theorem wn_cce (hexec : p.tables.exec = Jvm.exec) (htr : ∀ e, l.admits e → e.platform.stackTraces = false) (hts : ∀ w ∈ lw_all, w.before args s = true) (hN : NW s) (hold : ∀ q : Nat, q < z → s.heap[q]? = H0[q]?) (hS : SW G z H0 s) (hK : KK G s) (hR : Rp G z H0 w H) (hL : lok z locs) {text : String} (ht : (text == notModelled) = false ∧ (stringBytes (stringToUtf16 text)).size ≤ 230) (hsize : ls.size = c.maxLocals)
    (hf1 : 6 < R.frames) (hf2 : (st.map fun v => v.category).sum + 10240 ≤ R.locals) (hcells : cells + 3 ≤ R.cells) (hslots : slots + 240 ≤ R.slots)
    (kk : ∀ (H1 : Heap) (locs1 : List Loc), Rp G z H0 (sN (sX w 2) 28 0) H1 → lok z locs1 → WT p l e R s m args below meth c H1 locs1 (cells + 3) (slots + 240) Q (F0 m pc ls st) (z + (wZ w + 2))) : WN p l e R s m args below meth c H locs cells slots Q (F0 m pc ls st) "java/lang/ClassCastException" (some text) :=
  wn_msg (names := ["java/lang/RuntimeException", "java/lang/Exception"]) (ci := 27) hexec htr (by decide +kernel) (by decide +kernel) (by decide +kernel) (by decide +kernel) (ma_cce hts hN (hS.at hold)) hS hK hR hL rfl ht hsize hf1 hf2 (by decide) hcells hslots kk
theorem wn_neg (hexec : p.tables.exec = Jvm.exec) (htr : ∀ e, l.admits e → e.platform.stackTraces = false) (hts : ∀ w ∈ lw_all, w.before args s = true) (hN : NW s) (hold : ∀ q : Nat, q < z → s.heap[q]? = H0[q]?) (hS : SW G z H0 s) (hK : KK G s) (hR : Rp G z H0 w H) (hL : lok z locs) {text : String} (ht : (text == notModelled) = false ∧ (stringBytes (stringToUtf16 text)).size ≤ 230) (hsize : ls.size = c.maxLocals)
    (hf1 : 6 < R.frames) (hf2 : (st.map fun v => v.category).sum + 10240 ≤ R.locals) (hcells : cells + 3 ≤ R.cells) (hslots : slots + 240 ≤ R.slots)
    (kk : ∀ (H1 : Heap) (locs1 : List Loc), Rp G z H0 (sN (sX w 2) 30 0) H1 → lok z locs1 → WT p l e R s m args below meth c H1 locs1 (cells + 3) (slots + 240) Q (F0 m pc ls st) (z + (wZ w + 2))) : WN p l e R s m args below meth c H locs cells slots Q (F0 m pc ls st) "java/lang/NegativeArraySizeException" (some text) :=
  wn_msg (names := ["java/lang/RuntimeException", "java/lang/Exception"]) (ci := 29) hexec htr (by decide +kernel) (by decide +kernel) (by decide +kernel) (by decide +kernel) (ma_neg hts hN (hS.at hold)) hS hK hR hL rfl ht hsize hf1 hf2 (by decide) hcells hslots kk
/-- a cast that fails -/
theorem x_castF (hexec : p.tables.exec = Jvm.exec) (hb : c.code = cc) {own C nm : String} {index : Nat} (hown : s.vm.findClass own = some m.cls) (hlink : (Cond.classLink own index nm).before args s = true) (hS : SW G z H0 s) (hnc : va_Nc C nm s) (hC : nmOk C = true) (hT : nmOk nm = true)
    (hr : ∃ cell : Cell, H[a]? = some cell ∧ cell.vm.isStatics = false ∧ s.vm.findClass C = some cell.cls) (h0 : v0 = .ref a) (hdg : decode cc pc = .ok (.checkcast index, 3))
    (kk : ∀ text : String, (text == notModelled) = false ∧ (stringBytes (stringToUtf16 text)).size ≤ 230 → WN p l e R s m args below meth c H locs cells slots Q (F0 m pc ls (v0 :: rest)) "java/lang/ClassCastException" (some text)) : W p l e R s m args below meth c H locs cells slots Q (F0 m pc ls (v0 :: rest)) := by
  subst h0
  obtain ⟨cell, h1, h2, h3⟩ := hr
  obtain ⟨c0, t0, f1, f2, f3⟩ := hnc
  cases h3.symm.trans f1
  intro T hTh X
  have hpl : e.platform.magicAccessors = ({} : Platform).magicAccessors := by rw [X.admits.platform]
  obtain ⟨c', hc', hcl⟩ := Cond.classLink_spec hown hlink e.platform hpl
  cases f2.symm.trans hc'
  obtain ⟨dk, _, _, kt, hd, _, _, _, _, hkt, _, hopen⟩ := hcl.here
  have hcl₀ := X.warmed.classLinks hcl
  have hW' : s.WarmedH (T.vm.noted m.cls index (.cls t0)) := X.warmed.noted hd hopen (State.rightAt_cls hcl)
  have fcl : ∀ {nme : String} {ci : ClassId}, s.vm.findClass nme = some ci → ∃ k, s.vm.classes[ci]? = some k ∧ k.name = nme ∧ k.hidden = none ∧ k.loader = none := by
    intro nme ci hfc
    unfold Vm.findClass at hfc
    obtain ⟨hlt, hp, -⟩ := Array.findIdx?_eq_some_iff_getElem.mp hfc
    refine ⟨s.vm.classes[ci], by simp [hlt], ?_⟩
    simp only [Bool.and_eq_true, beq_iff_eq, Option.isNone_iff_eq_none] at hp
    exact ⟨hp.1.1.1, hp.1.1.2, hp.2⟩
  obtain ⟨ks, hks, s1, s2, s3⟩ := fcl h3
  obtain ⟨kt0, hkt0, t1, t2, t3⟩ := fcl f2
  obtain ⟨ks', hks', hse⟩ := hW'.alike.2.2 _ _ hks
  obtain ⟨kt', hkt', hte⟩ := hW'.alike.2.2 _ _ hkt0
  have hmod : ((T.vm.noted m.cls index (.cls t0)).modules.all fun m => m.loader.isSome || m.name == "java.base" || !(castPackages_1.any fun p => m.packages.contains p)) = true := by
    have e1 : (T.vm.noted m.cls index (.cls t0)).modules = s.vm.modules := by rw [hW'.alike.1]
    rw [e1]
    exact hS.1.2
  have hok : ∀ {nme : String}, nmOk nme = true → asc (dotted nme).toList = true ∧ (dotted nme).toList.length ≤ 19 ∧ packageOf nme ∈ castPackages_1 := by
    intro nme h
    unfold nmOk at h
    simp only [Bool.and_eq_true, decide_eq_true_eq, List.contains_iff_mem] at h
    exact ⟨h.1.1, h.1.2, h.2⟩
  obtain ⟨b, x, y, hmsg⟩ := msg_is (vm := T.vm.noted m.cls index (.cls t0)) (ks := ks') (kt := kt') hmod (by rw [hse]; exact s3) (by rw [hte]; exact t3) (by rw [hse]; exact s2) (by rw [hte]; exact t2) (by rw [show ks'.name = ks.name by rw [hse], s1]; exact (hok hC).2.2) (by rw [show kt'.name = kt0.name by rw [hte], t1]; exact (hok hT).2.2)
  rw [show ks'.name = ks.name by rw [hse], s1, show kt'.name = kt0.name by rw [hte], t1] at hmsg
  obtain ⟨t, a1, b1⟩ := kk _ (ctx_ok (hok hC).1 (hok hT).1 (hok hC).2.1 (hok hT).2.1 b x y) (T.setVm (T.vm.noted m.cls index (.cls t0))) hTh (X.noted hW')
  refine ⟨t, ?_, b1⟩
  have h4 : (T.vm.noted m.cls index (Resolved.cls t0)).assignable cell.cls t0 = false := by rw [hW'.alike.assignable]; exact f3
  jvm_step X.here [hexec, hb, hdg, Op.checkcast.wp_cold (e := e) (s := T) (f := F0 m pc ls (.ref a :: rest)) X.here.top rfl (resolveClass_links e.toSetting hcl₀) hcl₀.ready,
    Op.checkcast.wp_ready (e := e) (s := T.setVm (T.vm.noted m.cls index (.cls t0))) (f := F0 m pc ls (.ref a :: rest)) X.here.top hcl₀.ready rfl]
  refine ⟨cell, by rw [hTh]; exact h1, VmData.noStatics_of h2, ks', hks', kt', hkt', ?_⟩
  simp only [h4, hmsg]
  exact a1
theorem x_alenNull (hexec : p.tables.exec = Jvm.exec) (hb : c.code = cc) (h0 : v0 = .null) (hdg : decode cc pc = .ok (.arraylength, 1)) (kk : WN p l e R s m args below meth c H locs cells slots Q (F0 m pc ls rest) "java/lang/NullPointerException" none) : W p l e R s m args below meth c H locs cells slots Q (F0 m pc ls (v0 :: rest)) := by
  subst h0
  intro T hT X
  obtain ⟨t, a1, b1⟩ := kk T hT X
  exact ⟨t, X.arraylengthNull hexec (g := F0 m pc ls (.null :: rest)) rfl rfl (by rw [hb]; exact hdg) t a1, b1⟩
theorem x_newaNeg (hexec : p.tables.exec = Jvm.exec) (hb : c.code = cc) {n : Int32} (hn : n < 0) {atype : ArrayType} (hdg : decode cc pc = .ok (.newarray atype, 2)) (kk : WN p l e R s m args below meth c H locs cells slots Q (F0 m pc ls rest) "java/lang/NegativeArraySizeException" (some (toString n))) : W p l e R s m args below meth c H locs cells slots Q (F0 m pc ls (.int n :: rest)) := by
  intro T hT X
  obtain ⟨t, a1, b1⟩ := kk T hT X
  exact ⟨t, X.newarrayNegative hexec (g := F0 m pc ls (.int n :: rest)) rfl hn rfl (by rw [hb]; exact hdg) t a1, b1⟩
theorem neg_ok {n : Int32} (hn : n < 0) : ((toString n) == notModelled) = false ∧ (stringBytes (stringToUtf16 (toString n))).size ≤ 230 := ⟨negative_text_modelled hn, Nat.le_trans (negative_text_bytes n) (by decide)⟩
theorem x_invNull (hexec : p.tables.exec = Jvm.exec) (hb : c.code = cc) {own : String} {index : Nat} {y : MethodName} {bytes : ByteArray} {maxL : Nat} {ret : Option FieldType} (hown : s.vm.findClass own = some m.cls) (hts : ∀ w ∈ lw_all, w.before args s = true) (h1 : Cond.methodLink own index y ∈ lw_all) (h2 : Cond.instanceMethod y ∈ lw_all) (h3 : Cond.selects y.cls y y ∈ lw_all) (h5 : Cond.code y bytes maxL ret ∈ lw_all) (hd : y.cls ≠ "java/lang/invoke/MethodHandle" ∧ y.cls ≠ "java/lang/invoke/VarHandle" ∧ (parseMethodDescriptor y.desc).map (fun d => d.parameters.length) = some 0) (h0 : v0 = .null) (hdg : decode cc pc = .ok (.invokevirtual index, 3))
    (kk : WN p l e R s m args below meth c H locs cells slots Q (F0 m pc ls rest) "java/lang/NullPointerException" none) : W p l e R s m args below meth c H locs cells slots Q (F0 m pc ls (v0 :: rest)) := by
  subst h0
  intro T hT X
  have hcode := hts _ h5
  obtain ⟨mk, methM, hnamed, hmethM, hstM, habM⟩ := Cond.instanceMethod_spec (hts _ h2)
  obtain ⟨methM', cM, hmethM', -, -, -, -, -, -, hsigM⟩ := Cond.code_spec hnamed hcode
  cases hmethM.symm.trans hmethM'
  obtain ⟨c2, r2, m2, q1, q2, q3, q4, kP, hkP, hkPi⟩ := Cond.selects_spec (hts _ h3)
  cases hnamed.symm.trans q3
  obtain ⟨vm', X', st⟩ := X.invokevirtualNull hexec hown (hts _ h1) hnamed hmethM hstM hkP hkPi ⟨hd.1, hd.2.1⟩ (g := F0 m pc ls (.null :: rest)) rfl (argsL := []) (rest := rest) (by
      have h9 := hd.2.2
      rw [hsigM] at h9
      exact (Option.some.inj h9).symm) rfl (by rw [hb]; exact hdg)
  obtain ⟨t, a1, b1⟩ := kk (T.setVm vm') hT X'
  exact ⟨t, st t a1, b1⟩
end VM4
