/-! OFF: the row of new, which hands the fresh cell on; the start of a method that may throw -/
section OFF4
variable {p : Program} {l : Launch} {e : Env} {R : Room} {s : State} {m : MethodId} {args : Array Value} {below : List Frame} {meth : Method} {c : Code} {H : Heap} {locs : List Loc} {cells slots : Nat} {Q : State → Prop}
variable {cc : ByteArray} {pc : Nat} {ls : Array Slot} {rest : List Value} {G : Gw} {z : Nat} {H0 : Heap} {w : Wd}
set_option maxRecDepth 100000 in
theorem x_newOff (hexec : p.tables.exec = Jvm.exec) (hb : c.code = cc) {own : String} {index : Nat} (hts : ∀ w ∈ lw_all, w.before args s = true) (hown : s.vm.findClass own = some m.cls) (hcl : (Cond.classLink own index RX17).before args s = true)
    (hK : KK G s) (hR : Rp G z H0 w H) (hcells : cells + 1 ≤ R.cells) (hslots : slots + 7 ≤ R.slots) (hdg : decode cc pc = .ok (.new index, 3))
    (kk : ∀ H1 : Heap, Rp G z H0 (sN w 18 0) H1 → (∃ kX : Class, s.vm.classes[G.1 17]? = some kX ∧ H1[z + wZ w]? = some (freshCell (G.1 17) kX)) → W p l e R s m args below meth c H1 locs (cells + 1) (slots + 7) Q (F0 m (pc + 3) ls (.ref (z + wZ w) :: rest))) : W p l e R s m args below meth c H locs cells slots Q (F0 m pc ls rest) := by
  have hc : cl[17]? = some (RX17, TX17p, 1) := rfl
  have hKn := hK.1 17 _ hc
  refine W.newcK hexec hb hown hcl (hts _ (lw_w (w := .instantiable RX17 7) 984 rfl rfl)) (hts _ (lw_w (w := .initialized RX17) 130 rfl rfl)) rfl hdg hcells hslots hKn.2.1 hR.1 fun H1 kC hkC e1 z1 o1 => ?_
  refine kk H1 (hR.push (by rw [z1, hR.1]) (fun q hq => o1 q (by rw [← hR.1]; exact hq)) (fun ci' r hT hc' => ?_) (fun j hT hj => ?_) (by omega)) ⟨kC, hkC, e1⟩
  · have hci : ci' = 17 := by omega
    subst hci
    cases hc.symm.trans hc'
    exact (u_born (tyc 17) hts (ok17 _ hc).1 hKn hkC e1 (ok17 _ hc).2.1).to fun k _ => (fv_sN0 _ (ty_ok17 k)).symm
  · omega
end OFF4
/-- a start, with the words on Throwable's statics -/
def pcT (G : Gw) (z : Nat) (H0 : Heap) (w : Wd) (av : List Value) : Array Value → State → Prop := fun v U => pcX G z H0 w av v U ∧ SW G z H0 U
theorem pcT.blind {G : Gw} {z : Nat} {H0 : Heap} {w : Wd} {av : List Value} : FrameBlind (pcT G z H0 w av) := fun b U g mk h => ⟨pcX.blind b U g mk h.1, SW.call g mk b h.2⟩
