/-! STARTS AND ENDS of methods that may throw -/
def ocT (z : Nat) (r : Option Value ⊕ Nat) : Outcome := match r with
  | .inl v => .returned v
  | .inr x => .threw (z + x)
def qT (G : Gw) (z : Nat) (H0 : Heap) (w : Wd) (r : Option Value ⊕ Nat) : Array Value → State → Outcome → State → Prop := fun _ _ oc t => oc = ocT z r ∧ Rp G z H0 w t.heap ∧ Fix w
section ST
variable {s : State} {H : Heap} {G : Gw} {z : Nat} {H0 : Heap} {w : Wd} {a : Nat}
theorem preO {As : List Value} (hK : KK G s) (hR : Rp G z H0 w H) (hF : Fix w) (hN : NW s) (hS : SW G z H0 s) (hfr : ∃ kX : Class, s.vm.classes[G.1 17]? = some kX ∧ H[z + a]? = some (freshCell (G.1 17) kX)) : PreS s H (pcO G z H0 w As a) As :=
  ⟨pcO.blind, fun U hU hW => ⟨⟨⟨rfl, hK.moved hW.alike, by rw [hU]; exact hR, hF, hN.warm hW⟩, hS.warm hW⟩, by
    obtain ⟨kX, h1, h2⟩ := hfr
    obtain ⟨kX', h3, h4⟩ := hW.alike.2.2 _ _ h1
    refine ⟨kX', h3, ?_⟩
    have h5 : kX'.instanceTypes = kX.instanceTypes := by rw [h4]
    rw [hU, h2]
    simp only [freshCell, h5]⟩⟩
theorem preST {As : List Value} (hK : KK G s) (hR : Rp G z H0 w H) (hF : Fix w) (hN : NW s) (hS : SW G z H0 s) : PreS s H (pcT G z H0 w As) As := ⟨pcT.blind, fun U hU hW => ⟨⟨rfl, hK.moved hW.alike, by rw [hU]; exact hR, hF, hN.warm hW⟩, hS.warm hW⟩⟩
theorem preVT {As : List Value} {ci : Nat} {q : vw_C} (hK : KK G s) (hR : Rp G z H0 w H) (hF : Fix w) (hN : NW s) (hS : SW G z H0 s) (ht : (wT w a).1 = ci + 1) (hc : cl[ci]? = some q) : PreV s H q.1 (z + a) (pcT G z H0 w (.ref (z + a) :: As)) As := ⟨pcT.blind, r_recv hK hR ht hc, fun U hU hW => ⟨⟨rfl, hK.moved hW.alike, by rw [hU]; exact hR, hF, hN.warm hW⟩, hS.warm hW⟩⟩
end ST
theorem mT {l : Launch} {y : MethodName} {cc : ByteArray} {maxL : Nat} {ret : Option FieldType} {rm : Room} {Qc : Array Value → State → Outcome → State → Prop} {mc ms : Nat} {G : Gw} {z : Nat} {H0 : Heap} {w : Wd} {av : List Value} (hy : plainName y.cls = true) (hn : (lg_sl av).length ≤ maxL)
    (body : ∀ (p : Program) (e : Env) (s : State) (m : MethodId) (below : List Frame) (meth : Method) (c : Code) (ls : Array Slot), p.tables.exec = Jvm.exec → c.code = cc → meth.sig.returnType = ret → c.maxLocals = maxL → s.vm.findClass y.cls = some m.cls → (∀ w ∈ lw_all, w.before av.toArray s = true) → meth.locks = false → meth.name = y.name → (∀ x ∈ c.exceptionTable.toList, ∀ pc, covers x pc = false) → KK G s → Rp G z H0 w s.heap → Fix w → NW s → SW G z H0 s → lv_has ls maxL (lv_args 0 av) →
      W p l e rm s m av.toArray below meth c s.heap [] 0 0 (MQT below Qc av.toArray s mc ms (fun q => z ≤ q)) (F0 m 0 ls [])) : MetT l y (ws_ y cc maxL ret) rm (pcT G z H0 w av) Qc mc ms (fun q => z ≤ q) := by
  refine MetT.ofW (cc := cc) (maxL := maxL) (ret := ret) hy rfl ?_
  intro p e s m args below meth c s₁ B hml hv
  obtain ⟨⟨rfl, hK, hR, hF, hN⟩, hS⟩ := hv
  have hts := atoms_spec (ws := ws_ y cc maxL ret) B.pre
  have hl := lv_entry av (n := maxL) hn
  have hX := Stand.of_body B
  have hnoh : ∀ x ∈ c.exceptionTable.toList, ∀ pc, covers x pc = false := by
    obtain ⟨meth', c', h1, h2, -, -, -, -, h7, -⟩ := Cond.code_spec B.named (hts _ List.mem_cons_self)
    cases hX.method.symm.trans h1
    cases hX.code.symm.trans h2
    exact fun x hx pc => covers_of_empty h7 pc x hx
  rw [lg_entry_eq]
  exact body p e s m below meth c _ B.exec B.bytes B.returns hml (findClass_of_methodNamed B.named) (fun w h => hts w (List.mem_cons_of_mem _ h)) B.notSynchronized (name_of_methodNamed B.named B.method).1 hnoh hK hR hF hN hS hl
