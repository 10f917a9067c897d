/-! CATCHING: the search through a method's table, its classes cold or warm -/
/-- the search through the entries comes to the handler pc' (pc: where it was thrown; kc: the object's class) -/
def Cat (s : State) (args : Array Value) (own : String) (pc : Nat) (kc : ClassId) : List ExceptionTableEntry → Nat → Prop
  | [], _ => False
  | x :: t, q => (covers x pc = false ∧ Cat s args own pc kc t q) ∨ (covers x pc = true ∧ x.catchType ≠ 0 ∧ ∃ (name : String) (cT : ClassId), (Cond.classLink own x.catchType name).before args s = true ∧ s.vm.findClass name = some cT ∧ ((s.vm.assignable kc cT = true ∧ q = x.handlerPc) ∨ (s.vm.assignable kc cT = false ∧ Cat s args own pc kc t q)))
section CT
variable {p : Program} {l : Launch} {e : Env} {R : Room} {s : State} {m : MethodId} {args : Array Value} {below : List Frame} {meth : Method} {c : Code} {locs : List Loc} {cells slots : Nat}
theorem go_entry {Qh : Handler → Pre} {E : CtlPost} {d : Bool} {acts : List Action} {u : State} {f : JFrame} {a : Addr} {x : ExceptionTableEntry} {t : List ExceptionTableEntry} {k : ClassId} {cell : Cell} (hx : covers x f.pc = true) (h0 : x.catchType ≠ 0)
    (hl : u.vm.ClassLinks e.platform f.method.cls x.catchType k) (hcell : u.heap[a]? = some cell) (hobj : ∀ j, cell.vm ≠ .statics j) (hk : ∃ j, u.vm.classes[cell.cls]? = some j) (hc : ∃ j, u.vm.classes[k]? = some j) :
    wp (findHandler.go f a (x :: t)) Qh E e d acts u ↔ if u.vm.assignable cell.cls k = true then Qh (.found x.handlerPc) d acts (u.setVm (u.vm.noted f.method.cls x.catchType (.cls k))) else wp (findHandler.go f a t) Qh E e d acts (u.setVm (u.vm.noted f.method.cls x.catchType (.cls k))) := by
  simp only [covers] at hx
  obtain ⟨ha, ht⟩ := (resolveClass_links e.toSetting hl).op (op := VmOp.resolveClass f.method.cls x.catchType) rfl
  have hal : u.vm.Alike (u.vm.noted f.method.cls x.catchType (.cls k)) := (Vm.Alike.refl u.vm).noted _ _ _
  obtain ⟨k1, hk1⟩ := hk
  obtain ⟨k2, hk2⟩ := hc
  obtain ⟨k1', hk1', -⟩ := hal.2.2 _ _ hk1
  obtain ⟨k2', hk2', -⟩ := hal.2.2 _ _ hk2
  have hsame : (u.vm.noted f.method.cls x.catchType (.cls k)).assignable cell.cls k = u.vm.assignable cell.cls k := hal.assignable ..
  by_cases hfit : u.vm.assignable cell.cls k = true
  · rw [if_pos hfit]
    rw [hfit] at hsame
    simp [findHandler.go, hx, h0, ha, ht, hcell, hobj, hk1', hk2', hsame, VmOp.dirties, VmOp.acts]
  · rw [if_neg hfit]
    have hf2 : u.vm.assignable cell.cls k = false := by simpa using hfit
    rw [hf2] at hsame
    simp [findHandler.go, hx, h0, ha, ht, hcell, hobj, hk1', hk2', hsame, VmOp.dirties, VmOp.acts]
theorem go_list {own : String} (hown : s.vm.findClass own = some m.cls) {g : JFrame} (hg : g.method = m) {a : Addr} {cell : Cell} (hobj : ∀ j, cell.vm ≠ .statics j) (hk : ∃ j, s.vm.classes[cell.cls]? = some j) :
    ∀ (ts : List ExceptionTableEntry) (q : Nat) (T : State), Stand p l e R s m args below meth c T locs cells slots → T.heap[a]? = some cell → Cat s args own g.pc cell.cls ts q →
      ∃ vm', Stand p l e R s m args below meth c (T.setVm vm') locs cells slots ∧ ∀ (Qh : Handler → Pre) (E : CtlPost) (d : Bool) (acts : List Action), wp (findHandler.go g a ts) Qh E e d acts ((T.setTop g).pushFrame (.throwing a)) ↔ Qh (.found q) d acts (((T.setVm vm').setTop g).pushFrame (.throwing a))
  | [], _, _, _, _, h => h.elim
  | x :: t, q, T, X, hcell, h => by
    rcases h with ⟨hx, h⟩ | ⟨hx, h0, name, cT, hlink, hcT, hor⟩
    · obtain ⟨vm', X', hh⟩ := go_list hown hg hobj hk t q T X hcell h
      exact ⟨vm', X', fun Qh E d acts => (W.findHandler_go_skip hx).trans (hh Qh E d acts)⟩
    · have hpl : e.platform.magicAccessors = ({} : Platform).magicAccessors := by rw [X.admits.platform]
      obtain ⟨c', hc', hcl⟩ := Cond.classLink_spec hown hlink e.platform hpl
      cases hcT.symm.trans hc'
      obtain ⟨dk, _, _, kt, hd, _, _, _, _, hkt, _, hopen⟩ := hcl.here
      have hcl₀ := X.warmed.classLinks hcl
      have hW' : s.WarmedH (T.vm.noted m.cls x.catchType (.cls cT)) := X.warmed.noted hd hopen (State.rightAt_cls hcl)
      obtain ⟨ks, hks⟩ := hk
      obtain ⟨ks', hks', -⟩ := X.warmed.alike.2.2 _ _ hks
      obtain ⟨kt', hkt', -⟩ := X.warmed.alike.2.2 _ _ hkt
      have X₁ := X.noted hW'
      have hsame : T.vm.assignable cell.cls cT = s.vm.assignable cell.cls cT := X.warmed.alike.assignable ..
      have hge : ∀ (Qh : Handler → Pre) (E : CtlPost) (d : Bool) (acts : List Action), wp (findHandler.go g a (x :: t)) Qh E e d acts ((T.setTop g).pushFrame (.throwing a)) ↔ if T.vm.assignable cell.cls cT = true then Qh (.found x.handlerPc) d acts (((T.setVm (T.vm.noted m.cls x.catchType (.cls cT))).setTop g).pushFrame (.throwing a)) else wp (findHandler.go g a t) Qh E e d acts (((T.setVm (T.vm.noted m.cls x.catchType (.cls cT))).setTop g).pushFrame (.throwing a)) := by
        intro Qh E d acts
        have h9 := go_entry (e := e) (Qh := Qh) (E := E) (d := d) (acts := acts) (u := (T.setTop g).pushFrame (.throwing a)) (f := g) (a := a) (t := t) hx h0 (by rw [hg]; exact hcl₀) hcell hobj ⟨ks', hks'⟩ ⟨kt', hkt'⟩
        rw [hg] at h9
        exact h9
      rcases hor with ⟨hy, rfl⟩ | ⟨hy, h⟩
      · refine ⟨_, X₁, fun Qh E d acts => (hge Qh E d acts).trans ?_⟩
        rw [if_pos (hsame.trans hy)]
      · obtain ⟨vm', X', hh⟩ := go_list hown hg hobj ⟨ks, hks⟩ t q _ X₁ hcell h
        refine ⟨vm', X', fun Qh E d acts => (hge Qh E d acts).trans ?_⟩
        rw [if_neg (by rw [hsame, hy]; exact Bool.false_ne_true)]
        exact hh Qh E d acts
/-- an exception comes to a handler of this method -/
theorem WT.caught {H : Heap} {Q : State → Prop} {own : String} {pc q : Nat} {ls : Array Slot} {st : List Value} {x : Addr} {cell : Cell} (hown : s.vm.findClass own = some m.cls) (hcell : H[x]? = some cell) (hobj : ∀ j, cell.vm ≠ .statics j) (hk : ∃ j, s.vm.classes[cell.cls]? = some j)
    (hcat : Cat s args own pc cell.cls c.exceptionTable.toList q) (k : W p l e R s m args below meth c H locs cells slots Q (F0 m q ls [.ref x])) : WT p l e R s m args below meth c H locs cells slots Q (F0 m pc ls st) x := by
  intro T hT X
  obtain ⟨vm', X', hh⟩ := go_list (g := F0 m pc ls st) (a := x) hown rfl hobj hk _ q T X (by rw [hT]; exact hcell) hcat
  obtain ⟨t, h1, h2⟩ := k (T.setVm vm') hT X'
  refine ⟨t, ?_, h2⟩
  have h : At T (F0 m pc ls st).method c below := X.here
  obtain ⟨hgo, hw⟩ := h.throwing x
  refine Steps.head hgo hw ?_
  rw [stepThread_throwing (frames_entered h.top _)]
  have hfind : ∀ (Qh : Handler → Pre) (E : CtlPost) (d : Bool) (acts : List Action), wp (findHandler (F0 m pc ls st) x) Qh E e d acts ((T.setTop (F0 m pc ls st)).pushFrame (.throwing x)) ↔ Qh (.found q) d acts (((T.setVm vm').setTop (F0 m pc ls st)).pushFrame (.throwing x)) := fun Qh E d acts => (W.findHandler_eq (meth := meth) (code := c) X.method' X.code).trans (hh Qh E d acts)
  have hstep : ∀ r, (stepThrowing e ((T.setTop (F0 m pc ls st)).pushFrame (.throwing x)) x (.java (F0 m pc ls st) :: r)).Is ((((T.setVm vm').setTop (F0 m pc ls st)).pushFrame (.throwing x)).setFrames (.java { (F0 m pc ls st) with pc := q, stack := [.ref x] } :: r)) [] := by
    intro r
    simp only [stepThrowing, searchFrame, vmDo]
    generalize hr : Sem.go _ e false [] _ = res
    obtain ⟨as, rfl, ha⟩ := Sem.eq_ok_of hr (a := Handler.found q) (s' := ((T.setVm vm').setTop (F0 m pc ls st)).pushFrame (.throwing x)) (acts' := []) (by simp [hfind _ _ _ _])
    exact ⟨rfl, ha⟩
  rw [(hstep _).1]
  obtain ⟨g₀, hg⟩ := Option.isSome_iff_exists.mp h.top
  obtain ⟨r, hr⟩ := State.topJava?_eq_some.mp hg
  have hr' : (T.setVm vm').frames = .java g₀ :: r := hr
  rw [State.pushFrame, State.setFrames_setFrames, State.setTop_of_frames _ hr', State.setFrames_setFrames]
  rw [State.setTop_of_frames _ hr'] at h1
  rw [hr]
  exact h1
end CT
