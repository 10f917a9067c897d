/-! THE CONSTRUCTOR's START, with the class of int[][] -/
def pcInA (G : Gw) (z : Nat) (H0 : Heap) (w : Wd) (av : List Value) : Array Value → State → Prop := fun v U => pcIn G z H0 w av v U ∧ MA G U
theorem pcInA.blind {G : Gw} {z : Nat} {H0 : Heap} {w : Wd} {av : List Value} : FrameBlind (pcInA G z H0 w av) := fun a U g mk h => ⟨pcIn.blind a U g mk h.1, h.2.moved (u := U) (U := U.calling g mk a) (Vm.Alike.refl U.vm)⟩
theorem preSA {s : State} {H : Heap} {G : Gw} {z : Nat} {H0 : Heap} {w : Wd} {As : List Value} (hK : KK G s) (hR : Rp G z H0 w H) (hN : NW s) (hA : MA G s) : PreS s H (pcInA G z H0 w As) As := ⟨pcInA.blind, fun U hU hW => ⟨⟨rfl, hK.moved hW.alike, by rw [hU]; exact hR, hN.warm hW⟩, hA.moved hW.alike⟩⟩
theorem mInA {l : Launch} {y : MethodName} {cc : ByteArray} {maxL : Nat} {ret : Option FieldType} {rm : Room} {Qc : Array Value → State → Outcome → State → Prop} {mc ms : Nat} {G : Gw} {z : Nat} {H0 : Heap} {w : Wd} {av : List Value} (hy : plainName y.cls = true) (hn : (lg_sl av).length ≤ maxL)
    (body : ∀ (p : Program) (e : Env) (s : State) (m : MethodId) (below : List Frame) (meth : Method) (c : Code) (ls : Array Slot), MA G s → p.tables.exec = Jvm.exec → c.code = cc → meth.sig.returnType = ret → c.maxLocals = maxL → s.vm.findClass y.cls = some m.cls → (∀ w ∈ lw_all, w.before av.toArray s = true) → meth.locks = false → meth.name = y.name → KK G s → Rp G z H0 w s.heap → NW s → lv_has ls maxL (lv_args 0 av) →
      W p l e rm s m av.toArray below meth c s.heap [] 0 0 (MQ below Qc av.toArray s mc ms (fun q => z ≤ q)) (F0 m 0 ls [])) : Met l y (ws_ y cc maxL ret) rm (pcInA G z H0 w av) Qc mc ms (fun q => z ≤ q) := by
  refine Met.ofW (cc := cc) (maxL := maxL) (ret := ret) hy rfl ?_
  intro p e s m args below meth c s₁ B hml hv
  obtain ⟨⟨rfl, hK, hR, hN⟩, hA⟩ := hv
  have hts := atoms_spec (ws := ws_ y cc maxL ret) B.pre
  have hl := lv_entry av (n := maxL) hn
  rw [lg_entry_eq]
  exact body p e s m below meth c _ hA B.exec B.bytes B.returns hml (findClass_of_methodNamed B.named) (fun w h => hts w (List.mem_cons_of_mem _ h)) B.notSynchronized (name_of_methodNamed B.named B.method).1 hK hR hN hl
theorem tag_sM {G : Gw} {z : Nat} {H0 H : Heap} {w : Wd} (h : Rp G z H0 w H) {a k n : Nat} (ht : (wT w a).1 ≠ 0) : wT (sM w k n) a = wT w a := by
  have hl := h.live rfl ht
  unfold sM
  rw [wT_sM1 _ _ _ _ _ (by rw [wZ_sN]; omega), wT_sN, if_neg (by omega)]
theorem tag_sMo (w : Wd) (k n : Nat) : (wT (sM w k n) (wZ w)).1 = 206 := by
  unfold sM
  rw [wT_sM1 _ _ _ _ _ (by rw [wZ_sN]; omega), wT_sN, if_pos rfl]
theorem wZ_sM (w : Wd) (k n : Nat) : wZ (sM w k n) = wZ w + 1 + k := by
  unfold sM
  rw [wZ_sM1, wZ_sN]
