/-! FOR PART 13: ends of both kinds, cells counted by the world, handlers -/
def cvL (r : Int64 ⊕ Nat) : Option Value ⊕ Nat := r.elim (fun v => .inl (some (.long v))) .inr
section TH5
variable {p : Program} {l : Launch} {e : Env} {R : Room} {s : State} {m : MethodId} {args : Array Value} {below : List Frame} {meth : Method} {c : Code} {H : Heap} {locs : List Loc} {cells slots : Nat} {Q : State → Prop} {G : Gw} {z : Nat} {H0 : Heap} {w : Wd}
theorem W.toT {Qc : Array Value → State → Outcome → State → Prop} {A : Array Value} {s1 : State} {mc ms : Nat} {free : Addr → Prop} {g : JFrame} (h : W p l e R s m args below meth c H locs cells slots (MQ below Qc A s1 mc ms free) g) : W p l e R s m args below meth c H locs cells slots (MQT below Qc A s1 mc ms free) g := W.mono h fun _ h9 => h9.toT
theorem W.wid {a b z0 k j : Nat} {g : JFrame} (hab : a + k ≤ b) (ha : z0 ≤ a) (hj : j ≤ 80 * k) (h : W p l e R s m args below meth c H locs (b - z0) (80 * (b - z0)) Q g) : W p l e R s m args below meth c H locs (a - z0 + k) (80 * (a - z0) + j) Q g := W.widen (by omega) (by omega) h
end TH5
theorem hd_X17_init : yX17_init.cls ≠ "java/lang/invoke/MethodHandle" ∧ yX17_init.cls ≠ "java/lang/invoke/VarHandle" ∧ (parseMethodDescriptor yX17_init.desc).map (fun d => d.parameters.length) = some 1 := by decide +kernel
/-! HANDLERS: the search by the world's tags -/
section TH6
variable {p : Program} {l : Launch} {e : Env} {R : Room} {s : State} {m : MethodId} {args : Array Value} {below : List Frame} {meth : Method} {c : Code} {H : Heap} {locs : List Loc} {cells slots : Nat} {Q : State → Prop} {G : Gw} {z : Nat} {H0 : Heap} {w : Wd}
theorem Cat.skip {own : String} {pc q : Nat} {kc : ClassId} {x : ExceptionTableEntry} {t : List ExceptionTableEntry} (h : covers x pc = false) (k : Cat s args own pc kc t q) : Cat s args own pc kc (x :: t) q := Or.inl ⟨h, k⟩
theorem Cat.self {own : String} {pc ci : Nat} {r : vw_C} {x : ExceptionTableEntry} {t : List ExceptionTableEntry} (hK : KK G s) (hc : cl[ci]? = some r) (h : covers x pc = true) (h0 : x.catchType ≠ 0) (hl : (Cond.classLink own x.catchType r.1).before args s = true) : Cat s args own pc (G.1 ci) (x :: t) x.handlerPc :=
  Or.inr ⟨h, h0, r.1, G.1 ci, hl, (hK.1 ci r hc).2.1, Or.inl ⟨va_assign (hK.1 ci r hc).2, rfl⟩⟩
theorem Cat.cast {own nm : String} {pc ci : Nat} {r : vw_C} {x : ExceptionTableEntry} {t : List ExceptionTableEntry} (hK : KK G s) (hc : cl[ci]? = some r) (hca : va_Nw (.castable r.1 nm) s) (h : covers x pc = true) (h0 : x.catchType ≠ 0) (hl : (Cond.classLink own x.catchType nm).before args s = true) : Cat s args own pc (G.1 ci) (x :: t) x.handlerPc := by
  obtain ⟨c0, t1, f1, f2, f3⟩ := Cond.castable_spec (va_Nw.use (A := args) rfl hca)
  cases (hK.1 ci r hc).2.1.symm.trans f1
  exact Or.inr ⟨h, h0, nm, t1, hl, f2, Or.inl ⟨f3, rfl⟩⟩
theorem Cat.no {own nm : String} {pc ci q : Nat} {r : vw_C} {x : ExceptionTableEntry} {t : List ExceptionTableEntry} (hK : KK G s) (hc : cl[ci]? = some r) (hnc : va_Nc r.1 nm s) (h : covers x pc = true) (h0 : x.catchType ≠ 0) (hl : (Cond.classLink own x.catchType nm).before args s = true) (k : Cat s args own pc (G.1 ci) t q) : Cat s args own pc (G.1 ci) (x :: t) q := by
  obtain ⟨c0, t1, f1, f2, f3⟩ := hnc
  cases (hK.1 ci r hc).2.1.symm.trans f1
  exact Or.inr ⟨h, h0, nm, t1, hl, f2, Or.inr ⟨f3, k⟩⟩
theorem x_caught {own : String} {pc q x ci : Nat} {r : vw_C} {ls : Array Slot} {st : List Value} (hR : Rp G z H0 w H) (hK : KK G s) (ht : (wT w x).1 = ci + 1) (hc : cl[ci]? = some r) (hown : s.vm.findClass own = some m.cls) (hcat : Cat s args own pc (G.1 ci) c.exceptionTable.toList q)
    (k : W p l e R s m args below meth c H locs cells slots Q (F0 m q ls [.ref (z + x)])) : WT p l e R s m args below meth c H locs cells slots Q (F0 m pc ls st) (z + x) := by
  obtain ⟨cell, q1, q2, q3, -⟩ := hR.2.2.2.1 x ci r ht hc
  obtain ⟨kC, hkC, -⟩ := (hK.1 ci r hc).2.2
  exact WT.caught hown q1 (fun j h => by rw [q3] at h; cases h) ⟨kC, by rw [q2]; exact hkC⟩ (by rw [q2]; exact hcat) k
end TH6

theorem mTH {l : Launch} {y : MethodName} {cc : ByteArray} {maxL : Nat} {ret : Option FieldType} {tbl : List (Nat × Nat × Nat × Nat)} {rm : Room} {Qc : Array Value → State → Outcome → State → Prop} {mc ms : Nat} {G : Gw} {z : Nat} {H0 : Heap} {w : Wd} {av : List Value} (hy : plainName y.cls = true) (hn : (lg_sl av).length ≤ maxL)
    (body : ∀ (p : Program) (e : Env) (s : State) (m : MethodId) (below : List Frame) (meth : Method) (c : Code) (ls : Array Slot), p.tables.exec = Jvm.exec → c.code = cc → meth.sig.returnType = ret → c.maxLocals = maxL → s.vm.findClass y.cls = some m.cls → (∀ w ∈ lw_all, w.before av.toArray s = true) → meth.locks = false → meth.name = y.name → c.exceptionTable.toList = tableOf tbl → KK G s → Rp G z H0 w s.heap → Fix w → NW s → SW G z H0 s → lv_has ls maxL (lv_args 0 av) →
      W p l e rm s m av.toArray below meth c s.heap [] 0 0 (MQT below Qc av.toArray s mc ms (fun q => z ≤ q)) (F0 m 0 ls [])) : MetT l y (wsW_ y cc maxL ret tbl) rm (pcT G z H0 w av) Qc mc ms (fun q => z ≤ q) := by
  refine MetT.ofWH (cc := cc) (maxL := maxL) (ret := ret) (tbl := tbl) hy rfl ?_
  intro p e s m args below meth c s₁ B hml htb hv
  obtain ⟨⟨rfl, hK, hR, hF, hN⟩, hS⟩ := hv
  have hts := atoms_spec (ws := wsW_ y cc maxL ret tbl) B.pre
  have hl := lv_entry av (n := maxL) hn
  rw [lg_entry_eq]
  exact body p e s m below meth c _ B.exec B.bytes B.returns hml (findClass_of_methodNamed B.named) (fun w h => hts w (List.mem_cons_of_mem _ h)) B.notSynchronized (name_of_methodNamed B.named B.method).1 htb hK hR hF hN hS hl
