/-! CONSTRUCTORS, before the two objects stand: contracts without Fix -/
def pcIn (G : Gw) (z : Nat) (H0 : Heap) (w : Wd) (av : List Value) : Array Value → State → Prop := fun v U => v = av.toArray ∧ KK G U ∧ Rp G z H0 w U.heap ∧ NW U
theorem pcIn.blind {G : Gw} {z : Nat} {H0 : Heap} {w : Wd} {av : List Value} : FrameBlind (pcIn G z H0 w av) := fun a U g mk h => ⟨h.1, h.2.1.moved (u := U) (U := U.calling g mk a) (Vm.Alike.refl U.vm), h.2.2.1, NW.same (u := U) (U := U.calling g mk a) rfl h.2.2.2⟩
def qIn (G : Gw) (z : Nat) (H0 : Heap) (w : Wd) (r : Option Value) : Array Value → State → Outcome → State → Prop := fun _ _ oc t => oc = .returned r ∧ Rp G z H0 w t.heap
theorem mIn {l : Launch} {y : MethodName} {cc : ByteArray} {maxL : Nat} {ret : Option FieldType} {rm : Room} {Qc : Array Value → State → Outcome → State → Prop} {mc ms : Nat} {G : Gw} {z : Nat} {H0 : Heap} {w : Wd} {av : List Value} (hy : plainName y.cls = true) (hn : (lg_sl av).length ≤ maxL)
    (body : ∀ (p : Program) (e : Env) (s : State) (m : MethodId) (below : List Frame) (meth : Method) (c : Code) (ls : Array Slot), p.tables.exec = Jvm.exec → c.code = cc → meth.sig.returnType = ret → c.maxLocals = maxL → s.vm.findClass y.cls = some m.cls → (∀ w ∈ lw_all, w.before av.toArray s = true) → meth.locks = false → meth.name = y.name → KK G s → Rp G z H0 w s.heap → NW s → lv_has ls maxL (lv_args 0 av) →
      W p l e rm s m av.toArray below meth c s.heap [] 0 0 (MQ below Qc av.toArray s mc ms (fun q => z ≤ q)) (F0 m 0 ls [])) : Met l y (ws_ y cc maxL ret) rm (pcIn G z H0 w av) Qc mc ms (fun q => z ≤ q) := by
  refine Met.ofW (cc := cc) (maxL := maxL) (ret := ret) hy rfl ?_
  intro p e s m args below meth c s₁ B hml hv
  obtain ⟨rfl, hK, hR, hN⟩ := hv
  have hts := atoms_spec (ws := ws_ y cc maxL ret) B.pre
  have hl := lv_entry av (n := maxL) hn
  rw [lg_entry_eq]
  exact body p e s m below meth c _ B.exec B.bytes B.returns hml (findClass_of_methodNamed B.named) (fun w h => hts w (List.mem_cons_of_mem _ h)) B.notSynchronized (name_of_methodNamed B.named B.method).1 hK hR hN hl
section NF
variable {p : Program} {l : Launch} {e : Env} {R : Room} {s : State} {m : MethodId} {args : Array Value} {below : List Frame} {meth : Method} {c : Code} {H : Heap} {locs : List Loc} {cells slots : Nat} {Q : State → Prop}
variable {pc : Nat} {ls : Array Slot} {rest st0 st1 : List Value} {G : Gw} {z : Nat} {H0 : Heap} {w : Wd} {mc ms : Nat} {av : Array Value}
theorem preSN {As : List Value} (hK : KK G s) (hR : Rp G z H0 w H) (hN : NW s) : PreS s H (pcIn G z H0 w As) As := ⟨pcIn.blind, fun U hU hW => ⟨rfl, hK.moved hW.alike, by rw [hU]; exact hR, hN.warm hW⟩⟩
theorem kN_W {rv : Option Value} (hr : va_Run p l e R s m args below meth c H locs cells slots mc ms (F0 m pc ls st0) rest (qIn G z H0 w rv av) (fun q => z ≤ q)) (hL : lok z locs) (hst1 : rv.toList ++ rest = st1)
    (kk : ∀ (H1 : Heap) (locs1 : List Loc), Rp G z H0 w H1 → lok z locs1 → W p l e R s m args below meth c H1 locs1 (cells + mc) (slots + ms) Q (F0 m (pc + 3) ls st1)) : W p l e R s m args below meth c H locs cells slots Q (F0 m pc ls st0) := by
  subst hst1
  intro T hT X
  obtain ⟨v, st, t, T', L, h0, X', hL', e1, e2, hq, hgo⟩ := hr T hT X
  obtain ⟨hq1, hq2⟩ := hq
  cases hq1
  obtain ⟨t2, a1, b1⟩ := kk T'.heap (locs ++ L) (by rw [e1]; exact hq2) (lok_app hL hL') T' rfl X'
  exact ⟨t2, hgo t2 a1, b1⟩
end NF
