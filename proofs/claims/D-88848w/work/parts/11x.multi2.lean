/-! AN ARRAY OF ARRAYS: the row -/
section MU2
variable {p : Program} {l : Launch} {e : Env} {R : Room} {s : State} {m : MethodId} {args : Array Value} {below : List Frame} {meth : Method} {c : Code} {H : Heap} {locs : List Loc} {cells slots : Nat} {Q : State → Prop}
variable {cc : ByteArray} {pc : Nat} {ls : Array Slot} {rest st : List Value} {G : Gw} {z : Nat} {H0 : Heap} {w : Wd} {v0 : Value}
theorem multi_cold {S : State} {Qw : Unit → Pre} {E : CtlPost} {d : Bool} {acts : List Action} {f : JFrame} {index n cT : Nat} {vm' : Vm} (hs : S.topJava?.isSome) (hg : (Jvm.resolveClass f.method.cls index).Gives e.toSetting S.vm (.ok cT) vm') (hr : vm'.classReady f.method.cls index cT) (hsz : vm'.classes.size ≤ S.vm.classes.size := by no_record) :
    wp (Op.multianewarray.sem index n) Qw E e d acts (S.setTop f) ↔ wp (Op.multianewarray.sem index n) Qw E e d acts ((S.setVm vm').setTop f) := by
  simp only [Op.multianewarray.sem, wp_bind']
  exact W.resolveClassAt_transfer (s := S.setTop f) (State.method?_setTop f hs) hg hr
theorem multi_ready {S : State} {Qw : Unit → Pre} {E : CtlPost} {d : Bool} {acts : List Action} {f : JFrame} {index cT : Nat} {a b : Int32} (hs : S.topJava?.isSome) (hr : S.vm.classReady f.method.cls index cT) (hst : f.stack = .int b :: .int a :: rest)
    (h : ∀ (d0 : Bool) (acts' : List Action), wp (Op.multianewarray.make cT [a, b]) (fun x d' acts2 s' => ∃ g, s'.topJava? = some g ∧ Qw () true acts2 (s'.setTop { g with stack := .ref x :: g.stack })) E e d0 acts' (S.setTop { f with stack := rest })) : wp (Op.multianewarray.sem index 2) Qw E e d acts (S.setTop f) := by
  simp only [Op.multianewarray.sem, wp_bind', W.resolveClassAt_ready (State.method?_setTop f hs) hr]
  refine (Op.popN_top (args := [.int a, .int b]) (rest := rest) hs hst).mpr ?_
  simp only [List.mapM_cons, List.mapM_nil, wp_bind', wp_pure', W.mark, W.pushRef]
  exact h _ _
theorem wZ_sM1 (n o : Nat) : ∀ (i : Nat) (w : Wd), wZ (sM1 n o i w) = wZ w + i
  | 0, w => rfl
  | i + 1, w => by
    show wZ (sM1 n o i w) + 1 = wZ w + (i + 1)
    rw [wZ_sM1 n o i w]
    omega
theorem wT_sM1 (n o : Nat) : ∀ (i : Nat) (w : Wd) (b : Nat), b < wZ w → wT (sM1 n o i w) b = wT w b
  | 0, w, b, _ => rfl
  | i + 1, w, b, h => by
    show wT (sR (sN (sM1 n o i w) 200 n) o i _) b = _
    rw [wT_sR, wT_sN, if_neg (by rw [wZ_sM1]; omega)]
    exact wT_sM1 n o i w b h
def mst (row : Cell) (o : Nat) : Nat → State → State
  | 0, U => U
  | i + 1, U => ((mst row o i U).pushCell row).setCell o (((((mst row o i U).pushCell row).heap[o]?).getD row).setSlot i (.ref (mst row o i U).heap.size))
set_option maxHeartbeats 1000000 in
theorem x_multi (hexec : p.tables.exec = Jvm.exec) (hb : c.code = cc) {own : String} {index : Nat} (hown : s.vm.findClass own = some m.cls) (hlink : (Cond.classLink own index "[[I").before args s = true) (hK : KK G s) (hA : MA G s) (hR : Rp G z H0 w H) (hL : lok z locs) {a b : Int32} {k n : Nat} (ha : ¬ a < 0) (hb2 : ¬ b < 0) (h0 : (a == 0) = false) (ea : a.toNatClampNeg = k) (eb : b.toNatClampNeg = n) (hk : k ≤ 1000) (hn : n ≤ 1000)
    (hcells : cells + (1 + k) ≤ R.cells) (hslots : slots + (k + k * n) ≤ R.slots) (hdg : decode cc pc = .ok (.multianewarray index 2, 4))
    (kk : ∀ (H1 : Heap) (locs1 : List Loc), Rp G z H0 (sM w k n) H1 → lok z locs1 → W p l e R s m args below meth c H1 locs1 (cells + (1 + k)) (slots + (k + k * n)) Q (F0 m (pc + 4) ls (.ref (z + wZ w) :: rest))) : W p l e R s m args below meth c H locs cells slots Q (F0 m pc ls (.int b :: .int a :: rest)) := by
  intro T hT X
  have hpl : e.platform.magicAccessors = ({} : Platform).magicAccessors := by rw [X.admits.platform]
  obtain ⟨c6, hc6, hcl⟩ := Cond.classLink_spec hown hlink e.platform hpl
  have h6 : c6 = G.2.2.1 6 := Option.some.inj (hc6.symm.trans ((hK.2 6 (by decide)).2))
  subst h6
  obtain ⟨dk, _, _, kt, hd, _, _, _, _, hkt, _, hopen⟩ := hcl.here
  have hcl₀ := X.warmed.classLinks hcl
  have hW' : s.WarmedH (T.vm.noted m.cls index (.cls (G.2.2.1 6))) := X.warmed.noted hd hopen (State.rightAt_cls hcl)
  have X1 := X.noted hW'
  obtain ⟨k6, hk6, hkind6⟩ := hA.moved (U := T.setVm (T.vm.noted m.cls index (.cls (G.2.2.1 6)))) hW'.alike
  obtain ⟨-, k0, hk0, comp0, hkind0⟩ := arrOfT_moved (E := T.setVm (T.vm.noted m.cls index (.cls (G.2.2.1 6)))) hW'.alike (hK.2 0 (by decide)).1 0 (fun _ => .int 0)
  have hlim : e.platform.arrayLengthLimit = 2147483645 := Launch.admits_arrayLengthLimit X.admits
  have hhp : e.platform.maxHeapBytes = 536870912 := by rw [X.admits.platform]
  have hsz : T.heap.size = z + wZ w := by rw [hT]; exact hR.1
  generalize hT1 : T.setVm (T.vm.noted m.cls index (.cls (G.2.2.1 6))) = T1 at X1 hk6 hk0
  have hT1h : T1.heap = H := by rw [← hT1]; exact hT
  have hT1s : T1.heap.size = z + wZ w := by rw [hT1h]; exact hR.1
  generalize hrow : ({ cls := G.2.2.1 0, slots := Array.replicate n (.int 0) } : Cell) = row
  have hrowV : row = arrV (G.2.2.1 0) n (fun _ => .int 0) := by rw [← hrow]; exact arrV_new _ _ _
  have hrs : row.slots.size = n := by rw [hrowV, arrV_size]
  generalize hout : ({ cls := G.2.2.1 6, slots := Array.replicate k .null } : Cell) = outer
  have houtV : outer = arrV (G.2.2.1 6) k (fun _ => .null) := by rw [← hout]; exact arrV_new _ _ _
  have hos : outer.slots.size = k := by rw [houtV, arrV_size]
  have F : ∀ i, i ≤ k → (mst row T1.heap.size i (T1.pushCell outer)).vm = T1.vm ∧ Rp G z H0 (sM1 n (wZ w) i (sN w 206 k)) (mst row T1.heap.size i (T1.pushCell outer)).heap ∧ ∃ L, Stand p l e R s m args below meth c (mst row T1.heap.size i (T1.pushCell outer)) (locs ++ L) (cells + (1 + i)) (slots + (k + i * n)) ∧ lok z (locs ++ L) := by
    intro i
    induction i with
    | zero =>
      intro _
      refine ⟨rfl, ?_, [], ?_, by rw [List.append_nil]; exact hL⟩
      · show Rp G z H0 (sN w 206 k) (T1.heap.push outer)
        rw [hT1h]
        refine hR.push (by rw [Array.size_push]) (fun q hq => by rw [Array.getElem?_push, if_neg (Nat.ne_of_lt hq)]) (fun ci r h1 hr => ?_) (fun j h1 hj => ?_) (by decide)
        · have hlt := (List.getElem?_eq_some_iff.mp hr).1
          have h32 : cl.length = 32 := rfl
          omega
        · have hj6 : j = 6 := by omega
          subst hj6
          rw [← hR.1, Array.getElem?_push_size, houtV]
          congr 2
          funext q
          exact (fv_sN0 (aty 6) (by decide)).symm
      · have hp := X1.pushed outer
        rw [hos] at hp
        rw [List.append_nil]
        have e1 : slots + (k + 0 * n) = slots + k := by omega
        rw [e1]
        exact hp
    | succ i ih =>
      intro hi
      obtain ⟨f1, f2, L, f3, f4⟩ := ih (by omega)
      generalize hV : mst row T1.heap.size i (T1.pushCell outer) = V at f1 f2 f3
      have hVs : V.heap.size = z + wZ (sM1 n (wZ w) i (sN w 206 k)) := f2.1
      have f5 : Rp G z H0 (sN (sM1 n (wZ w) i (sN w 206 k)) 200 n) (V.pushCell row).heap := by
        show Rp G z H0 _ (V.heap.push row)
        refine f2.push (by rw [Array.size_push]) (fun q hq => by rw [Array.getElem?_push, if_neg (Nat.ne_of_lt hq)]) (fun ci r h1 hr => ?_) (fun j h1 hj => ?_) (by decide)
        · have hlt := (List.getElem?_eq_some_iff.mp hr).1
          have h32 : cl.length = 32 := rfl
          omega
        · have hj0 : j = 0 := by omega
          subst hj0
          rw [← f2.1, Array.getElem?_push_size, hrowV]
          congr 2
          funext q
          exact (fv_sN0 (aty 0) (by decide)).symm
      have hto : wT (sN (sM1 n (wZ w) i (sN w 206 k)) 200 n) (wZ w) = (200 + 6, k) := by
        rw [wT_sN, if_neg (by rw [wZ_sM1, wZ_sN]; omega), wT_sM1 _ _ _ _ _ (by rw [wZ_sN]; omega), wT_sN, if_pos rfl]
      have hcell := r_ald (t := 6) f5 hto (by decide)
      rw [← hT1s] at hcell
      have hstep : mst row T1.heap.size (i + 1) (T1.pushCell outer) = (V.pushCell row).setCell T1.heap.size ((arrV (G.2.2.1 6) k (fun j => fv z (sN (sM1 n (wZ w) i (sN w 206 k)) 200 n) (wZ w) (ftS (aty 6)) j)).setSlot i (.ref V.heap.size)) := by
        show ((mst row T1.heap.size i (T1.pushCell outer)).pushCell row).setCell _ _ = _
        rw [hV, hcell]
        rfl
      rw [hstep]
      refine ⟨f1, ?_, L ++ [⟨T1.heap.size, i⟩], ?_, ?_⟩
      · have hlt : z + wZ w < (V.pushCell row).heap.size := by
          have h9 := (Array.getElem?_eq_some_iff.mp hcell).1
          omega
        refine r_arrW (t := 6) (a := wZ w) (i := i) (v := .ref V.heap.size) (w1 := sM1 n (wZ w) (i + 1) (sN w 206 k)) f5 hto (fun _ => rfl) rfl (fun b s q h => fv_sR h) (fun j => ?_) ?_ (x_sizeCell _ _ _) (fun q hq => ?_)
        · show rfv z (wR (sR (sN (sM1 n (wZ w) i (sN w 206 k)) 200 n) (wZ w) i (some (wZ (sM1 n (wZ w) i (sN w 206 k))))) (wZ w) j) = _
          rw [wR_sR]
          by_cases q : j = i
          · subst q
            rw [if_pos ⟨rfl, rfl⟩]
            simp [updV]
            rw [hVs]
            rfl
          · rw [if_neg (fun h => q h.2)]
            simp [updV, q]
            rfl
        · rw [← hT1s]
          exact heapAt_setCell_self _ (by rw [hT1s]; exact hlt)
        · exact heapAt_setCell_ne _ (by rw [hT1s]; exact Ne.symm hq)
      · have hp := (f3.pushed row).stored hcell i (.ref V.heap.size)
        rw [hrs, List.append_assoc] at hp
        have e1 : cells + (1 + i) + 1 = cells + (1 + (i + 1)) := by omega
        have e2 : slots + (k + i * n) + n = slots + (k + (i + 1) * n) := by rw [Nat.add_mul]; omega
        rw [e1, e2] at hp
        exact hp
      · rw [← List.append_assoc]
        refine lok_app f4 (fun q hq => ?_)
        rw [List.mem_singleton.mp hq]
        show z ≤ T1.heap.size
        omega
  obtain ⟨g1, g2, L, g3, g4⟩ := F k (Nat.le_refl _)
  obtain ⟨t, a1, b1⟩ := kk _ _ g2 g4 _ rfl g3
  refine ⟨t, ?_, b1⟩
  have C : ∀ i, i < k → ∃ cell : Cell, ((mst row T1.heap.size i (T1.pushCell outer)).pushCell row).heap[T1.heap.size]? = some cell ∧ cell.vm = .none ∧ cell.slots.size = k ∧ cell.cls = G.2.2.1 6 := by
    intro i hi
    obtain ⟨f1, f2, L', f3, f4⟩ := F i (by omega)
    obtain ⟨-, f2', -⟩ := F (i + 1) (by omega)
    have hto : wT (sM1 n (wZ w) (i + 1) (sN w 206 k)) (wZ w) = (200 + 6, k) := by
      rw [wT_sM1 _ _ _ _ _ (by rw [wZ_sN]; omega), wT_sN, if_pos rfl]
    have h9 : T1.heap.size < (mst row T1.heap.size i (T1.pushCell outer)).heap.size := by
      rw [f2.1, wZ_sM1, wZ_sN, hT1s]
      omega
    have hto2 : wT (sM1 n (wZ w) i (sN w 206 k)) (wZ w) = (200 + 6, k) := by
      rw [wT_sM1 _ _ _ _ _ (by rw [wZ_sN]; omega), wT_sN, if_pos rfl]
    have hcell := r_ald (t := 6) f2 hto2 (by decide)
    rw [← hT1s] at hcell
    refine ⟨arrV (G.2.2.1 6) k (fun j => fv z (sM1 n (wZ w) i (sN w 206 k)) (wZ w) (ftS (aty 6)) j), ?_, rfl, arrV_size _ _ _, rfl⟩
    · show ((mst row T1.heap.size i (T1.pushCell outer)).heap.push row)[T1.heap.size]? = _
      rw [Array.getElem?_push, if_neg (Nat.ne_of_lt h9)]
      exact hcell
  jvm_step X.here [hexec, hb, hdg, multi_cold (e := e) (S := T) (f := F0 m pc ls (.int b :: .int a :: rest)) X.here.top (resolveClass_links e.toSetting hcl₀) hcl₀.ready]
  rw [hT1]
  have hs1 : T1.topJava?.isSome := by rw [← hT1]; exact X.here.top
  refine multi_ready (rest := rest) hs1 (by rw [← hT1]; exact hcl₀.ready) rfl (fun d0 acts' => ?_)
  have hcb1 : componentBytes (.array .int) ≤ 8 := by decide
  have hcb2 : componentBytes .int ≤ 8 := by decide
  have X1c := X1.cellsAbove (n := 1) (by omega)
  have X1s := X1.slotsAbove (n := k) (by omega)
  refine mk_two (k6 := k6) (k0 := k0) (c0 := G.2.2.1 0) (comp := comp0) ha hb2 h0 hk6 hkind6 hkind0 (by rw [ea, hlim]; omega) (by
      rw [ea, hhp]
      have h9 : k * componentBytes (.array .int) ≤ 1000 * 8 := Nat.mul_le_mul hk hcb1
      omega) (by rw [eb, hlim]; omega) (by
      rw [eb, hhp]
      have h9 : n * componentBytes .int ≤ 1000 * 8 := Nat.mul_le_mul hn hcb2
      omega) (by omega) (by rw [ea]; exact X1s) (fun i U => U = mst row T1.heap.size i (T1.pushCell outer)) (by rw [ea, hout]; rfl) (fun i U hi hU => ?_) (fun U d' acts2 hU => ?_)
  · subst hU
    rw [ea] at hi
    rw [eb, hrow]
    obtain ⟨f1, f2, L', f3, f4⟩ := F i (by omega)
    obtain ⟨cell, q1, q2, q3, q4⟩ := C i hi
    have hmul : (i + 1) * n ≤ k * n := Nat.mul_le_mul_right n hi
    rw [Nat.add_mul] at hmul
    have fc := f3.cellsAbove (n := 1) (by omega)
    have fs := f3.slotsAbove (n := n) (by omega)
    refine ⟨by rw [f1]; exact hk0, by omega, fs, cell, q1, (by rw [q2]; exact fun h => by cases h), by rw [q3]; exact hi, ?_, ?_⟩
    · rw [q4, q2]
      have hk6' : ((mst row T1.heap.size i (T1.pushCell outer)).pushCell row).vm.classes[G.2.2.1 6]? = some k6 := by
        show (mst row T1.heap.size i (T1.pushCell outer)).vm.classes[G.2.2.1 6]? = some k6
        rw [f1]
        exact hk6
      have hk6'' : (mst row T1.heap.size i (T1.pushCell outer)).vm.classes[G.2.2.1 6]? = some k6 := hk6'
      unfold State.fitsSlot State.slotType?
      rw [hk6']
      simp [hkind6, fits]
    · show _ = ((mst row T1.heap.size i (T1.pushCell outer)).pushCell row).setCell _ (((((mst row T1.heap.size i (T1.pushCell outer)).pushCell row).heap[T1.heap.size]?).getD row).setSlot i _)
      rw [q1]
      rfl
  · rw [ea] at hU
    subst hU
    refine ⟨_, State.topJava?_setTop' _ g3.here.top, fun acts3 => ?_⟩
    rw [State.setTop_setTop]
    rw [hT1s] at a1 ⊢
    simp only [jvm]
    exact a1
end MU2
