/-! OFF: the contract of its constructor, on a fresh cell -/
def pcO (G : Gw) (z : Nat) (H0 : Heap) (w : Wd) (av : List Value) (a : Nat) : Array Value → State → Prop := fun v U => (pcX G z H0 w av v U ∧ SW G z H0 U) ∧ ∃ kX : Class, U.vm.classes[G.1 17]? = some kX ∧ U.heap[z + a]? = some (freshCell (G.1 17) kX)
theorem pcO.blind {G : Gw} {z : Nat} {H0 : Heap} {w : Wd} {av : List Value} {a : Nat} : FrameBlind (pcO G z H0 w av a) := fun b U g mk h => ⟨⟨pcX.blind b U g mk h.1.1, SW.call g mk b h.1.2⟩, h.2⟩
set_option maxHeartbeats 4000000 in
set_option maxRecDepth 100000 in
theorem met_X17_init (l : Launch) (htr : ∀ e, l.admits e → e.platform.stackTraces = false) (G : Gw) (z : Nat) (H0 : Heap) (w : Wd) (a0 : Nat) (a1 : Int32) (ht0 : (wT w a0).1 = 18) : Met l yX17_init (ws_ yX17_init cX17_init 2 none) ({ frames := 5, cells := 0, slots := 0, locals := 80 } : Room) (pcO G z H0 w [.ref (z + a0), .int a1] a0) (qW G z H0 (sI w a0 0 a1) none) 0 0 (fun q => z ≤ q) := by
  refine Met.ofW (cc := cX17_init) (maxL := 2) (ret := none) (by decide) rfl ?_
  intro p e s m args below meth c s₁ B hml hv
  obtain ⟨⟨⟨rfl, hK, hR, hF, hN⟩, hS⟩, kX, hkX, hcell⟩ := hv
  have hts0 := atoms_spec (ws := ws_ yX17_init cX17_init 2 none) B.pre
  have hts : ∀ w ∈ lw_all, w.before [.ref (z + a0), .int a1].toArray s = true := fun w h => hts0 w (List.mem_cons_of_mem _ h)
  have hl : lv_has _ 2 [(0, .ref (z + a0)), (1, .int a1)] := lv_entry [.ref (z + a0), .int a1] (n := 2) (Nat.le_of_ble_eq_true rfl)
  rw [lg_entry_eq]
  have hx := B.exec
  have hb := B.bytes
  have hr := B.returns
  have hnm := (name_of_methodNamed B.named B.method).1
  have hown : s.vm.findClass RX17 = some m.cls := findClass_of_methodNamed B.named
  have hG : G.1 17 = m.cls := Option.some.inj ((hK.1 17 _ rfl).2.1.symm.trans hown)
  rw [hG] at hkX hcell
  refine lv_aload_n hx hb dX17_init_0 rfl (lv_at hl 0 rfl) ?_
  refine x_offSuper hx hb htr hts (hts _ (lw_w 998 rfl rfl)) hown hN hS hR.2.1 hK hR ht0 hkX hcell (hl.1.trans hml.symm) dX17_init_1 (Nat.le_of_ble_eq_true rfl) (Nat.le_of_ble_eq_true rfl) (fun H locs hR hL => ?_)
  refine lv_aload_n hx hb dX17_init_4 rfl (lv_at hl 0 rfl) ?_
  refine lv_iload_n hx hb dX17_init_5 rfl (lv_at hl 1 rfl) ?_
  refine x_putI (k := 0) (o := "BarredBooks$Off") (n := "place") (d := "I") (fin := true) (ty := .int) (host := "BarredBooks") hx hb hts hown hK hR hL rfl (Fam.one (r := (RX17, TX17p, 1)) ht0 rfl ok17 (by decide)) (Or.inl (hts _ (lw_w 996 rfl rfl))) (fun _ h9 => h9) (Or.inr ⟨rfl, hnm, rfl⟩) rfl rfl rfl dX17_init_6 (fun H locs hR hL => ?_)
  have hF := hF.sI a0 0 a1
  exact W.vret hx hb hr (fun t ht _ => ⟨rfl, by rw [ht]; exact hR, hF⟩) hL dX17_init_9
