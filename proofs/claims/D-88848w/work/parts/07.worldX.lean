/-! WORDS THAT DON'T RIDE IN THE LISTS: nest mates' links, casts, declarations: carried at a contract's start -/
def nwWord : Cond → Bool
  | .fieldLinkNest .. => true
  | .methodLinkNest .. => true
  | .castable .. => true
  | .declares .. => true
  | _ => false
def nwl : List Cond := lw_tbl.filter nwWord
theorem nw_in {w : Cond} (h : w ∈ lw_tbl) (g : nwWord w = true) : w ∈ nwl := List.mem_filter.mpr ⟨h, g⟩
def ncl : List (String × String) := [("[B", "[S"), ("[B", "[I"), ("[B", "[J"), ("[B", "[Z"), ("[S", "[B"), ("[S", "[I"), ("[S", "[J"), ("[S", "[Z"), ("[I", "[B"), ("[I", "[S"), ("[I", "[J"), ("[I", "[Z"), ("[J", "[B"), ("[J", "[S"), ("[J", "[I"), ("[J", "[Z"), ("[Z", "[B"), ("[Z", "[S"), ("[Z", "[I"), ("[Z", "[J"), ("BarredBooks$Card", "BarredBooks$Printed"), ("BarredBooks$Card", "BarredBooks$Barred"), ("BarredBooks$Card", "BarredBooks$Struck"), ("BarredBooks$Card", "BarredBooks$Mended"), ("BarredBooks$Card", "BarredBooks$Leave"), ("BarredBooks$Card", "BarredBooks$Found"), ("BarredBooks$Printed", "BarredBooks$Barred"), ("BarredBooks$Printed", "BarredBooks$Struck"), ("BarredBooks$Printed", "BarredBooks$Mended"), ("BarredBooks$Printed", "BarredBooks$Leave"), ("BarredBooks$Printed", "BarredBooks$Found"), ("BarredBooks$Barred", "BarredBooks$Struck"), ("BarredBooks$Barred", "BarredBooks$Mended"), ("BarredBooks$Barred", "BarredBooks$Leave"), ("BarredBooks$Barred", "BarredBooks$Found"), ("BarredBooks$Struck", "BarredBooks$Barred"), ("BarredBooks$Struck", "BarredBooks$Mended"), ("BarredBooks$Struck", "BarredBooks$Leave"), ("BarredBooks$Struck", "BarredBooks$Found"), ("BarredBooks$Mended", "BarredBooks$Barred"), ("BarredBooks$Mended", "BarredBooks$Leave"), ("BarredBooks$Mended", "BarredBooks$Found"), ("BarredBooks$Leave", "BarredBooks$Printed"), ("BarredBooks$Leave", "BarredBooks$Barred"), ("BarredBooks$Leave", "BarredBooks$Struck"), ("BarredBooks$Leave", "BarredBooks$Mended"), ("BarredBooks$Leave", "BarredBooks$Found"), ("BarredBooks$Found", "BarredBooks$Printed"), ("BarredBooks$Found", "BarredBooks$Barred"), ("BarredBooks$Found", "BarredBooks$Struck"), ("BarredBooks$Found", "BarredBooks$Mended"), ("BarredBooks$Found", "BarredBooks$Leave"), ("BarredBooks$OfAuthor", "BarredBooks$OfLines"), ("BarredBooks$OfTitle", "BarredBooks$OfLines"), ("BarredBooks$OfLines", "BarredBooks$OfAuthor"), ("BarredBooks$OfRank", "BarredBooks$OfAuthor"), ("BarredBooks$OfRank", "BarredBooks$OfLines"), ("java/lang/ClassCastException", "java/lang/NullPointerException"), ("java/lang/ClassCastException", "BarredBooks$Off"), ("java/lang/ClassCastException", "java/lang/NegativeArraySizeException"), ("java/lang/ClassCastException", "java/lang/ArrayStoreException"), ("java/lang/ClassCastException", "java/lang/IndexOutOfBoundsException"), ("java/lang/NullPointerException", "java/lang/ClassCastException"), ("java/lang/NullPointerException", "BarredBooks$Off"), ("java/lang/NullPointerException", "java/lang/NegativeArraySizeException"), ("java/lang/NullPointerException", "java/lang/ArrayStoreException"), ("java/lang/NullPointerException", "java/lang/IndexOutOfBoundsException"), ("BarredBooks$Off", "java/lang/ClassCastException"), ("BarredBooks$Off", "java/lang/NullPointerException"), ("BarredBooks$Off", "java/lang/NegativeArraySizeException"), ("BarredBooks$Off", "java/lang/ArrayStoreException"), ("BarredBooks$Off", "java/lang/IndexOutOfBoundsException"), ("java/lang/NegativeArraySizeException", "java/lang/ClassCastException"), ("java/lang/NegativeArraySizeException", "java/lang/NullPointerException"), ("java/lang/NegativeArraySizeException", "BarredBooks$Off"), ("java/lang/NegativeArraySizeException", "java/lang/ArrayStoreException"), ("java/lang/NegativeArraySizeException", "java/lang/IndexOutOfBoundsException"), ("java/lang/ArrayStoreException", "java/lang/ClassCastException"), ("java/lang/ArrayStoreException", "java/lang/NullPointerException"), ("java/lang/ArrayStoreException", "BarredBooks$Off"), ("java/lang/ArrayStoreException", "java/lang/NegativeArraySizeException"), ("java/lang/ArrayStoreException", "java/lang/IndexOutOfBoundsException"), ("java/lang/ArrayIndexOutOfBoundsException", "java/lang/ClassCastException"), ("java/lang/ArrayIndexOutOfBoundsException", "java/lang/NullPointerException"), ("java/lang/ArrayIndexOutOfBoundsException", "BarredBooks$Off"), ("java/lang/ArrayIndexOutOfBoundsException", "java/lang/NegativeArraySizeException"), ("java/lang/ArrayIndexOutOfBoundsException", "java/lang/ArrayStoreException")]
def NW (U : State) : Prop := (∀ w ∈ nwl, va_Nw w U) ∧ (∀ (t : Nat) (C : String), t < 15 → aty t = .object C → va_AO C U) ∧ ∀ q ∈ ncl, va_Nc q.1 q.2 U
theorem NW.at {U : State} (h : NW U) {w : Cond} (hw : w ∈ lw_tbl) (g : nwWord w = true) : va_Nw w U := h.1 w (nw_in hw g)
theorem NW.nc {U : State} (h : NW U) (i : Nat) {C T : String} (hi : ncl[i]? = some (C, T)) : va_Nc C T U := h.2.2 (C, T) (List.mem_of_getElem? hi)
theorem NW.warm {s U : State} (hW : s.WarmedH U.vm) (h : NW s) : NW U := by
  refine ⟨?_, fun t C ht hC => (h.2.1 t C ht hC).moved hW.alike, fun q hq => (h.2.2 q hq).moved hW.alike⟩
  intro w hw
  have g := (List.mem_filter.mp hw).2
  have h1 := h.1 w hw
  cases w <;> first | (exact absurd (show false = true from g) (by decide)) | exact va_Nw.warmF hW h1 | exact va_Nw.warmM hW h1 | exact va_Nw.warmC hW h1 | exact va_Nw.warmD hW h1
theorem NW.same {u U : State} (h : u.vm = U.vm) (hN : NW u) : NW U := by
  refine ⟨?_, fun t C ht hC => (hN.2.1 t C ht hC).moved (by rw [h]; exact Vm.Alike.refl _), fun q hq => (hN.2.2 q hq).moved (by rw [h]; exact Vm.Alike.refl _)⟩
  intro w hw
  have g := (List.mem_filter.mp hw).2
  have h1 := hN.1 w hw
  cases w <;> first | (exact absurd (show false = true from g) (by decide)) | exact va_Nw.same rfl h h1
/-- a start, with those words -/
def pcX (G : Gw) (z : Nat) (H0 : Heap) (w : Wd) (av : List Value) : Array Value → State → Prop := fun v U => v = av.toArray ∧ KK G U ∧ Rp G z H0 w U.heap ∧ Fix w ∧ NW U
theorem pcX.blind {G : Gw} {z : Nat} {H0 : Heap} {w : Wd} {av : List Value} : FrameBlind (pcX G z H0 w av) := fun a U g mk h => ⟨h.1, h.2.1.moved (u := U) (U := U.calling g mk a) (Vm.Alike.refl U.vm), h.2.2.1, h.2.2.2.1, NW.same (u := U) (U := U.calling g mk a) rfl h.2.2.2.2⟩
theorem mX {l : Launch} {y : MethodName} {cc : ByteArray} {maxL : Nat} {ret : Option FieldType} {rm : Room} {Qc : Array Value → State → Outcome → State → Prop} {mc ms : Nat} {G : Gw} {z : Nat} {H0 : Heap} {w : Wd} {av : List Value} (hy : plainName y.cls = true) (hn : (lg_sl av).length ≤ maxL)
    (body : ∀ (p : Program) (e : Env) (s : State) (m : MethodId) (below : List Frame) (meth : Method) (c : Code) (ls : Array Slot), p.tables.exec = Jvm.exec → c.code = cc → meth.sig.returnType = ret → c.maxLocals = maxL → s.vm.findClass y.cls = some m.cls → (∀ w ∈ lw_all, w.before av.toArray s = true) → meth.locks = false → meth.name = y.name → KK G s → Rp G z H0 w s.heap → Fix w → NW s → lv_has ls maxL (lv_args 0 av) →
      W p l e rm s m av.toArray below meth c s.heap [] 0 0 (MQ below Qc av.toArray s mc ms (fun q => z ≤ q)) (F0 m 0 ls [])) : Met l y (ws_ y cc maxL ret) rm (pcX G z H0 w av) Qc mc ms (fun q => z ≤ q) := by
  refine Met.ofW (cc := cc) (maxL := maxL) (ret := ret) hy rfl ?_
  intro p e s m args below meth c s₁ B hml hv
  obtain ⟨rfl, hK, hR, hF, hN⟩ := hv
  have hts := atoms_spec (ws := ws_ y cc maxL ret) B.pre
  have hl := lv_entry av (n := maxL) hn
  rw [lg_entry_eq]
  exact body p e s m below meth c _ B.exec B.bytes B.returns hml (findClass_of_methodNamed B.named) (fun w h => hts w (List.mem_cons_of_mem _ h)) B.notSynchronized (name_of_methodNamed B.named B.method).1 hK hR hF hN hl
/-- the cell's class has the field (owner, name, descriptor, final) at place k, of type ty -/
def Fam (w : Wd) (a k : Nat) (f : String × String × String × Bool) (ty : FieldType) : Prop := ∃ (ci : Nat) (r : vw_C), (wT w a).1 = ci + 1 ∧ cl[ci]? = some r ∧ clok ci ∧ k < r.2.2 ∧ r.2.1 k = f ∧ tyc ci k = ty
theorem Fam.one {w : Wd} {a k ci : Nat} {r : vw_C} (ht : (wT w a).1 = ci + 1) (hc : cl[ci]? = some r) (hok : clok ci) (hk : k < r.2.2) : Fam w a k (r.2.1 k) (tyc ci k) := ⟨ci, r, ht, hc, hok, hk, rfl, rfl⟩
theorem rfv_some {z : Nat} {r : Option Nat} {a : Nat} (h : r = some a) : rfv z r = .ref (z + a) := by rw [h]; rfl
theorem rfv_none {z : Nat} {r : Option Nat} (h : r = none) : rfv z r = .null := by rw [h]; rfl
section XR
variable {p : Program} {l : Launch} {e : Env} {R : Room} {s : State} {m : MethodId} {args : Array Value} {below : List Frame} {meth : Method} {c : Code} {H : Heap} {locs : List Loc} {cells slots : Nat} {Q : State → Prop}
variable {cc : ByteArray} {pc : Nat} {ls : Array Slot} {rest : List Value} {G : Gw} {z : Nat} {H0 : Heap} {w : Wd} {a : Nat} {v0 : Value}
theorem x_get (hexec : p.tables.exec = Jvm.exec) (hb : c.code = cc) {own ref host o n d : String} {fin : Bool} {index k : Nat} {ty : FieldType} (hts : ∀ w ∈ lw_all, w.before args s = true) (hown : s.vm.findClass own = some m.cls) (hK : KK G s) (hR : Rp G z H0 w H) (h0 : v0 = .ref (z + a)) (hfam : Fam w a k (o, n, d, fin) ty) (hlink : (Cond.fieldLink own index ref n d).before args s = true ∨ va_Nw (.fieldLinkNest own index ref n d host) s) (hsame : ∀ x, s.fieldFound? o n d = some x → s.fieldFound? ref n d = some x) {v : Value} (hv : fv z w a (ftS ty) k = v) (hdg : decode cc pc = .ok (.getfield index, 3))
    (kk : W p l e R s m args below meth c H locs cells slots Q (F0 m (pc + 3) ls (v :: rest))) : W p l e R s m args below meth c H locs cells slots Q (F0 m pc ls (v0 :: rest)) := by
  subst h0
  obtain ⟨ci, ⟨C, T, N⟩, ht, hc, hok, hk, hf, hty⟩ := hfam
  have hf : T k = (o, n, d, fin) := hf
  have hk : k < N := hk
  obtain ⟨cell, q1, q2, q3, q4⟩ := hR.2.2.2.1 a ci _ ht hc
  obtain ⟨hS, hfc, kC, hkC, hkind⟩ := hK.1 ci _ hc
  obtain ⟨cf, kf, fi, f, hi, hsl⟩ := hS k hk
  have hst := (u_facts hfc hkC (u_lays hts (hok _ hc).1 hk) hi).1
  have hi : s.fieldFound? (T k).1 (T k).2.1 (T k).2.2.1 = some (cf, kf, fi, f) := hi
  rw [hf] at hi
  have hval : cell.slots[f.slot]? = some v := by
    rw [hsl, q4 k hk]
    show some (fv z w a (ftS (tyc ci k)) k) = some v
    rw [hty, hv]
  rcases hlink with hlink | hlink
  · exact W.getf hexec hb hown hlink (hsame _ hi) hst q1 (by rw [q3]; exact fun h => by cases h) (v := v) hval rfl rfl hdg kk
  · exact va_Wgetf hexec hb hown (va_Nw.use rfl hlink) (hsame _ hi) hst q1 (by rw [q3]; exact fun h => by cases h) (v := v) hval rfl rfl hdg kk
theorem x_put (hexec : p.tables.exec = Jvm.exec) (hb : c.code = cc) {own ref host o n d : String} {fin : Bool} {index k : Nat} {ty : FieldType} (hts : ∀ w ∈ lw_all, w.before args s = true) (hown : s.vm.findClass own = some m.cls) (hK : KK G s) (hR : Rp G z H0 w H) (hL : lok z locs) (h0 : v0 = .ref (z + a)) (hfam : Fam w a k (o, n, d, fin) ty) (hlink : (Cond.fieldLink own index ref n d).before args s = true ∨ (va_Nw (.fieldLinkNest own index ref n d host) s ∧ fin = false)) (hsame : ∀ x, s.fieldFound? o n d = some x → s.fieldFound? ref n d = some x)
    (hfin : fin = false ∨ (fin = true ∧ meth.name = "<init>" ∧ o = own)) {v : Value} {w1 : Wd} (hn : narrow ty v = v) (hfit : fits ty v = true) (hT : ∀ b, wT w1 b = wT w b) (hZ : wZ w1 = wZ w) (hf : ∀ b s k, b ≠ a → fv z w1 b s k = fv z w b s k) (hv : fv z w1 a (ftS ty) k = v) (hv2 : ∀ j s, j ≠ k → fv z w1 a s j = fv z w a s j)
    (hdg : decode cc pc = .ok (.putfield index, 3)) (kk : ∀ (H1 : Heap) (locs1 : List Loc), Rp G z H0 w1 H1 → lok z locs1 → W p l e R s m args below meth c H1 locs1 cells slots Q (F0 m (pc + 3) ls rest)) : W p l e R s m args below meth c H locs cells slots Q (F0 m pc ls (v :: v0 :: rest)) := by
  subst h0
  obtain ⟨ci, ⟨C, T, N⟩, ht, hc, hok, hk, hfT, hty⟩ := hfam
  have hfT : T k = (o, n, d, fin) := hfT
  have hk : k < N := hk
  have hupd : ∀ j, fv z w1 a (ftS (tyc ci j)) j = updV (fun k => fv z w a (ftS (tyc ci k)) k) k v j := by
    intro j
    by_cases q : j = k
    · subst q
      rw [hty, hv]
      simp [updV]
    · rw [hv2 j _ q]
      simp [updV, q]
  rcases hlink with hlink | ⟨hlink, hff⟩
  · refine r_put (ref := ref) hexec hb hts hok hown hK hR hL ht hc k hk (by rw [hfT]; exact hlink) (by rw [hfT]; exact hsame) (by rw [hfT]; exact hfin) (by rw [hty]; exact hn) (by rw [hty]; exact hfit) hT hZ hf hupd hdg kk
  · subst hff
    have hap := r_apart hts hok hK hc
    obtain ⟨g1, g2, g3⟩ := hok _ hc
    obtain ⟨cell, q1, q2, q3, q4⟩ := hR.2.2.2.1 a ci _ ht hc
    obtain ⟨hS, hfc, kC, hkC, hkind⟩ := hK.1 ci _ hc
    obtain ⟨cf, kf, fi, f, hi, hsl⟩ := hS k hk
    have hlay := hts _ (g1 _ (u_in_lay hk))
    unfold u_lay at hlay
    have hst := (u_facts hfc hkC (u_lays hts g1 hk) hi).1
    have hfT2 : ((C, T, N) : vw_C).2.1 k = (o, n, d, false) := hfT
    rw [if_neg (by rw [hfT2]; exact Bool.false_ne_true)] at hlay
    have h6 := u_store hfc hkC hkind hlay hi (g2 k hk) (by rw [hty]; exact hn) (by rw [hty]; exact hfit)
    have hi : s.fieldFound? (T k).1 (T k).2.1 (T k).2.2.1 = some (cf, kf, fi, f) := hi
    rw [hfT] at hi
    refine va_WputK hexec hb (f := f) hown (va_Nw.use rfl hlink) (hsame _ hi) hst (by rw [q2]; exact h6) q1 q3 (by rw [hsl]; exact k2_hasslot (q4 k hk)) rfl rfl hdg fun H' e1 e2 e3 => ?_
    refine kk H' _ (hR.write hT hZ e2 e3 hf (fun ci' r hc' hr => ?_) (fun t n ht' htl => ?_) (fun h100 => ?_)) (lok_add hL _ _)
    · have hci : ci' = ci := by
        rw [ht] at hc'
        omega
      subst hci
      cases hc.symm.trans hr
      rw [hsl] at e1
      exact t_OB.to (V := updV (fun k => fv z w a (ftS (tyc ci' k)) k) k v) ⟨_, e1, q2, q3, t_set q4 hap hk v⟩ (fun j _ => (hupd j).symm)
    · rw [ht'] at ht
      have hlt := (List.getElem?_eq_some_iff.mp hc).1
      have h27 : cl.length = 32 := rfl
      have : 200 + t = ci + 1 := ht
      omega
    · have hlt := (List.getElem?_eq_some_iff.mp hc).1
      have h27 : cl.length = 32 := rfl
      omega
theorem x_putI (hexec : p.tables.exec = Jvm.exec) (hb : c.code = cc) {own ref host o n d : String} {fin : Bool} {index k : Nat} {ty : FieldType} (hts : ∀ w ∈ lw_all, w.before args s = true) (hown : s.vm.findClass own = some m.cls) (hK : KK G s) (hR : Rp G z H0 w H) (hL : lok z locs) (h0 : v0 = .ref (z + a)) (hfam : Fam w a k (o, n, d, fin) ty) (hlink : (Cond.fieldLink own index ref n d).before args s = true ∨ (va_Nw (.fieldLinkNest own index ref n d host) s ∧ fin = false)) (hsame : ∀ x, s.fieldFound? o n d = some x → s.fieldFound? ref n d = some x)
    (hfin : fin = false ∨ (fin = true ∧ meth.name = "<init>" ∧ o = own)) {v : Int32} (hs : ftS ty = 0) (hn : narrow ty (.int v) = .int v) (hfit : fits ty (.int v) = true)
    (hdg : decode cc pc = .ok (.putfield index, 3)) (kk : ∀ (H1 : Heap) (locs1 : List Loc), Rp G z H0 (sI w a k v) H1 → lok z locs1 → W p l e R s m args below meth c H1 locs1 cells slots Q (F0 m (pc + 3) ls rest)) : W p l e R s m args below meth c H locs cells slots Q (F0 m pc ls (.int v :: v0 :: rest)) := by
  refine x_put (w1 := sI w a k v) hexec hb hts hown hK hR hL h0 hfam hlink hsame hfin hn hfit (fun _ => rfl) rfl (fun b s k h => fv_sI h) ?_ (fun j t q => ?_) hdg kk
  · rw [hs]
    show Value.int (wI (sI w a k v) a k) = _
    rw [wI_self]
  · match t with
    | 0 => show Value.int (wI (sI w a k v) a j) = Value.int _; rw [wI_sI, if_neg (fun h => q h.2)]
    | 1 => rfl
    | t + 2 => rfl
theorem x_putR (hexec : p.tables.exec = Jvm.exec) (hb : c.code = cc) {own ref host o n d : String} {fin : Bool} {index k : Nat} {ty : FieldType} (hts : ∀ w ∈ lw_all, w.before args s = true) (hown : s.vm.findClass own = some m.cls) (hK : KK G s) (hR : Rp G z H0 w H) (hL : lok z locs) (h0 : v0 = .ref (z + a)) (hfam : Fam w a k (o, n, d, fin) ty) (hlink : (Cond.fieldLink own index ref n d).before args s = true ∨ (va_Nw (.fieldLinkNest own index ref n d host) s ∧ fin = false)) (hsame : ∀ x, s.fieldFound? o n d = some x → s.fieldFound? ref n d = some x)
    (hfin : fin = false ∨ (fin = true ∧ meth.name = "<init>" ∧ o = own)) {v : Option Nat} {vv : Value} (hvv : vv = rfv z v) (hs : ftS ty = 2)
    (hdg : decode cc pc = .ok (.putfield index, 3)) (kk : ∀ (H1 : Heap) (locs1 : List Loc), Rp G z H0 (sR w a k v) H1 → lok z locs1 → W p l e R s m args below meth c H1 locs1 cells slots Q (F0 m (pc + 3) ls rest)) : W p l e R s m args below meth c H locs cells slots Q (F0 m pc ls (vv :: v0 :: rest)) := by
  subst hvv
  have hn : narrow ty (rfv z v) = rfv z v := by cases ty <;> first | (exact absurd hs (by decide)) | (cases v <;> rfl)
  have hfit : fits ty (rfv z v) = true := by cases ty <;> first | (exact absurd hs (by decide)) | (cases v <;> rfl)
  refine x_put (w1 := sR w a k v) hexec hb hts hown hK hR hL h0 hfam hlink hsame hfin hn hfit (fun _ => rfl) rfl (fun b s k h => fv_sR h) ?_ (fun j t q => ?_) hdg kk
  · rw [hs]
    show rfv z (wR (sR w a k v) a k) = _
    rw [wR_sR, if_pos ⟨rfl, rfl⟩]
  · match t with
    | 0 => rfl
    | 1 => rfl
    | t + 2 => show rfv z (wR (sR w a k v) a j) = rfv z _; rw [wR_sR, if_neg (fun h => q h.2)]
end XR

section XA
variable {p : Program} {l : Launch} {e : Env} {R : Room} {s : State} {m : MethodId} {args : Array Value} {below : List Frame} {meth : Method} {c : Code} {H : Heap} {locs : List Loc} {cells slots : Nat} {Q : State → Prop}
variable {cc : ByteArray} {pc : Nat} {ls : Array Slot} {rest : List Value} {G : Gw} {z : Nat} {H0 : Heap} {w : Wd} {a : Nat} {v0 : Value}
theorem wT_pair {w : Wd} {a t : Nat} (h : (wT w a).1 = t) : wT w a = (t, (wT w a).2) := by rw [← h]
theorem x_iald (hexec : p.tables.exec = Jvm.exec) (hb : c.code = cc) (hK : KK G s) (hR : Rp G z H0 w H) (h0 : v0 = .ref (z + a)) {n : Nat} (ht : wT w a = (200, n)) {i : Int32} (hin : inb i n) {v : Int32} (hv : wI w a i.toNatClampNeg = v) (hdg : decode cc pc = .ok (.iaload, 1))
    (kk : W p l e R s m args below meth c H locs cells slots Q (F0 m (pc + 1) ls (.int v :: rest))) : W p l e R s m args below meth c H locs cells slots Q (F0 m pc ls (.int i :: v0 :: rest)) := by
  subst h0; exact r_iald hexec hb hK hR ht hin hv hdg kk
theorem x_zald (hexec : p.tables.exec = Jvm.exec) (hb : c.code = cc) (hK : KK G s) (hR : Rp G z H0 w H) (h0 : v0 = .ref (z + a)) {n : Nat} (ht : wT w a = (203, n)) {i : Int32} (hin : inb i n) {v : Int32} (hv : wI w a i.toNatClampNeg = v) (hdg : decode cc pc = .ok (.baload, 1))
    (kk : W p l e R s m args below meth c H locs cells slots Q (F0 m (pc + 1) ls (.int v :: rest))) : W p l e R s m args below meth c H locs cells slots Q (F0 m pc ls (.int i :: v0 :: rest)) := by
  subst h0; exact r_zald hexec hb hK hR ht hin hv hdg kk
theorem x_bald (hexec : p.tables.exec = Jvm.exec) (hb : c.code = cc) (hK : KK G s) (hR : Rp G z H0 w H) (h0 : v0 = .ref (z + a)) {n : Nat} (ht : wT w a = (201, n)) {i : Int32} (hin : inb i n) {v : Int32} (hv : wI w a i.toNatClampNeg = v) (hdg : decode cc pc = .ok (.baload, 1))
    (kk : W p l e R s m args below meth c H locs cells slots Q (F0 m (pc + 1) ls (.int v :: rest))) : W p l e R s m args below meth c H locs cells slots Q (F0 m pc ls (.int i :: v0 :: rest)) := by
  subst h0; exact r_bald hexec hb hK hR ht hin hv hdg kk
theorem x_sald (hexec : p.tables.exec = Jvm.exec) (hb : c.code = cc) (hK : KK G s) (hR : Rp G z H0 w H) (h0 : v0 = .ref (z + a)) {n : Nat} (ht : wT w a = (202, n)) {i : Int32} (hin : inb i n) {v : Int32} (hv : wI w a i.toNatClampNeg = v) (hdg : decode cc pc = .ok (.saload, 1))
    (kk : W p l e R s m args below meth c H locs cells slots Q (F0 m (pc + 1) ls (.int v :: rest))) : W p l e R s m args below meth c H locs cells slots Q (F0 m pc ls (.int i :: v0 :: rest)) := by
  subst h0; exact r_sald hexec hb hK hR ht hin hv hdg kk
theorem x_lald (hexec : p.tables.exec = Jvm.exec) (hb : c.code = cc) (hK : KK G s) (hR : Rp G z H0 w H) (h0 : v0 = .ref (z + a)) {n : Nat} (ht : wT w a = (204, n)) {i : Int32} (hin : inb i n) {v : Int64} (hv : wL w a i.toNatClampNeg = v) (hdg : decode cc pc = .ok (.laload, 1))
    (kk : W p l e R s m args below meth c H locs cells slots Q (F0 m (pc + 1) ls (.long v :: rest))) : W p l e R s m args below meth c H locs cells slots Q (F0 m pc ls (.int i :: v0 :: rest)) := by
  subst h0; exact r_lald hexec hb hK hR ht hin hv hdg kk
/-- an array of references (sort t: 5 .. 14) -/
theorem x_aald (hexec : p.tables.exec = Jvm.exec) (hb : c.code = cc) (hK : KK G s) (hR : Rp G z H0 w H) (h0 : v0 = .ref (z + a)) {t n : Nat} (ht : wT w a = (200 + t, n)) (htl : t < 15) (hs : ftS (aty t) = 2) {i : Int32} (hin : inb i n) {v : Value} (hv : rfv z (wR w a i.toNatClampNeg) = v) (hdg : decode cc pc = .ok (.aaload, 1))
    (kk : W p l e R s m args below meth c H locs cells slots Q (F0 m (pc + 1) ls (v :: rest))) : W p l e R s m args below meth c H locs cells slots Q (F0 m pc ls (.int i :: v0 :: rest)) := by
  subst h0 hv
  have hlt : i.toNatClampNeg < n := Nat.not_le.mp fun q => hin (Or.inr q)
  exact W.aald (v := rfv z (wR w a i.toNatClampNeg)) (ty := aty t) hexec hb (r_ald hR ht htl) ((hK.2 t htl).1 n _) (by cases hty : aty t <;> first | rfl | (rw [hty] at hs; exact absurd hs (by decide))) (fun q => by cases q) (by show ¬ (i < 0 ∨ (arrV _ _ _).slots.size ≤ _); rw [arrV_size]; exact hin) (by show (arrV _ _ _).slots[_]? = _; rw [arrV_read _ _ hlt, hs]; rfl) rfl rfl hdg kk
theorem x_iast (hexec : p.tables.exec = Jvm.exec) (hb : c.code = cc) (hK : KK G s) (hR : Rp G z H0 w H) (hL : lok z locs) (h0 : v0 = .ref (z + a)) {n : Nat} (ht : wT w a = (200, n)) {i x : Int32} (hin : inb i n) (hdg : decode cc pc = .ok (.iastore, 1))
    (kk : ∀ (H1 : Heap) (locs1 : List Loc), Rp G z H0 (sI w a i.toNatClampNeg x) H1 → lok z locs1 → W p l e R s m args below meth c H1 locs1 cells slots Q (F0 m (pc + 1) ls rest)) : W p l e R s m args below meth c H locs cells slots Q (F0 m pc ls (.int x :: .int i :: v0 :: rest)) := by
  subst h0; exact r_iast hexec hb hK hR hL ht hin hdg kk
theorem x_zast (hexec : p.tables.exec = Jvm.exec) (hb : c.code = cc) (hK : KK G s) (hR : Rp G z H0 w H) (hL : lok z locs) (h0 : v0 = .ref (z + a)) {n : Nat} (ht : wT w a = (203, n)) {i x : Int32} (hin : inb i n) (hdg : decode cc pc = .ok (.bastore, 1))
    (kk : ∀ (H1 : Heap) (locs1 : List Loc), Rp G z H0 (sI w a i.toNatClampNeg (x &&& 1)) H1 → lok z locs1 → W p l e R s m args below meth c H1 locs1 cells slots Q (F0 m (pc + 1) ls rest)) : W p l e R s m args below meth c H locs cells slots Q (F0 m pc ls (.int x :: .int i :: v0 :: rest)) := by
  subst h0; exact r_zast hexec hb hK hR hL ht hin hdg kk
theorem x_bast (hexec : p.tables.exec = Jvm.exec) (hb : c.code = cc) (hK : KK G s) (hR : Rp G z H0 w H) (hL : lok z locs) (h0 : v0 = .ref (z + a)) {n : Nat} (ht : wT w a = (201, n)) {i x : Int32} (hin : inb i n) (hdg : decode cc pc = .ok (.bastore, 1))
    (kk : ∀ (H1 : Heap) (locs1 : List Loc), Rp G z H0 (sI w a i.toNatClampNeg x.toInt8.toInt32) H1 → lok z locs1 → W p l e R s m args below meth c H1 locs1 cells slots Q (F0 m (pc + 1) ls rest)) : W p l e R s m args below meth c H locs cells slots Q (F0 m pc ls (.int x :: .int i :: v0 :: rest)) := by
  subst h0; exact r_bast hexec hb hK hR hL ht hin hdg kk
theorem x_sast (hexec : p.tables.exec = Jvm.exec) (hb : c.code = cc) (hK : KK G s) (hR : Rp G z H0 w H) (hL : lok z locs) (h0 : v0 = .ref (z + a)) {n : Nat} (ht : wT w a = (202, n)) {i x : Int32} (hin : inb i n) (hdg : decode cc pc = .ok (.sastore, 1))
    (kk : ∀ (H1 : Heap) (locs1 : List Loc), Rp G z H0 (sI w a i.toNatClampNeg x.toInt16.toInt32) H1 → lok z locs1 → W p l e R s m args below meth c H1 locs1 cells slots Q (F0 m (pc + 1) ls rest)) : W p l e R s m args below meth c H locs cells slots Q (F0 m pc ls (.int x :: .int i :: v0 :: rest)) := by
  subst h0; exact r_sast hexec hb hK hR hL ht hin hdg kk
theorem x_last (hexec : p.tables.exec = Jvm.exec) (hb : c.code = cc) (hK : KK G s) (hR : Rp G z H0 w H) (hL : lok z locs) (h0 : v0 = .ref (z + a)) {n : Nat} (ht : wT w a = (204, n)) {i : Int32} {x : Int64} (hin : inb i n) (hdg : decode cc pc = .ok (.lastore, 1))
    (kk : ∀ (H1 : Heap) (locs1 : List Loc), Rp G z H0 (sL w a i.toNatClampNeg x) H1 → lok z locs1 → W p l e R s m args below meth c H1 locs1 cells slots Q (F0 m (pc + 1) ls rest)) : W p l e R s m args below meth c H locs cells slots Q (F0 m pc ls (.long x :: .int i :: v0 :: rest)) := by
  subst h0; exact r_last hexec hb hK hR hL ht hin hdg kk
end XA
/-! REFERENCES THAT MAY BE NULL; calls -/
theorem cat_rfv (z : Nat) (r : Option Nat) : (rfv z r).category = 1 := by cases r <;> rfl
theorem rfv_inj {z : Nat} {r1 r2 : Option Nat} : r1.map (fun a => z + a) = r2.map (fun a => z + a) ↔ r1 = r2 := by
  cases r1 <;> cases r2 <;> simp
theorem rfv_rf (z : Nat) (r : Option Nat) : rfv z r = va_rf (r.map (fun a => z + a)) := by cases r <;> rfl
section XN
variable {p : Program} {l : Launch} {e : Env} {R : Room} {s : State} {m : MethodId} {args : Array Value} {below : List Frame} {meth : Method} {c : Code} {H : Heap} {locs : List Loc} {cells slots : Nat} {Q : State → Prop}
variable {cc : ByteArray} {pc : Nat} {ls : Array Slot} {rest st0 st1 : List Value} {G : Gw} {z : Nat} {H0 : Heap} {w : Wd} {a : Nat} {v0 v1 : Value} {r r1 : Option Nat} {mc ms : Nat} {av : Array Value}
theorem x_aload_n (hexec : p.tables.exec = Jvm.exec) (hb : c.code = cc) {k : Fin 4} {i : Nat} (hdg : decode cc pc = .ok (.aload_n k, 1)) (hi : (k : Nat) = i) (hl : ls[i]? = some (.val (rfv z r))) (kk : W p l e R s m args below meth c H locs cells slots Q (F0 m (pc + 1) ls (rfv z r :: rest))) : W p l e R s m args below meth c H locs cells slots Q (F0 m pc ls rest) := by
  cases r with
  | none => exact lv_aload_nN hexec hb hdg hi hl kk
  | some a => exact lv_aload_n hexec hb hdg hi hl kk
theorem x_aload (hexec : p.tables.exec = Jvm.exec) (hb : c.code = cc) {i : Nat} (hdg : decode cc pc = .ok (.aload i, 2)) (hl : ls[i]? = some (.val (rfv z r))) (kk : W p l e R s m args below meth c H locs cells slots Q (F0 m (pc + 2) ls (rfv z r :: rest))) : W p l e R s m args below meth c H locs cells slots Q (F0 m pc ls rest) := by
  cases r with
  | none => exact lv_aloadN hexec hb hdg hl kk
  | some a => exact lv_aload hexec hb hdg hl kk
theorem x_astore_n (hexec : p.tables.exec = Jvm.exec) (hb : c.code = cc) {k : Fin 4} {i nL : Nat} {lv lv' : List (Nat × Value)} (hdg : decode cc pc = .ok (.astore_n k, 1)) (hi : (k : Nat) = i) (h : lv_has ls nL lv) (hn : i < nL) (hl : (i, rfv z r) :: lv.filter (fun q => !(q.1 == i) && !(q.1 + 1 == i && q.2.category == 2)) = lv')
    (kk : ∀ ls' : Array Slot, lv_has ls' nL lv' → W p l e R s m args below meth c H locs cells slots Q (F0 m (pc + 1) ls' rest)) : W p l e R s m args below meth c H locs cells slots Q (F0 m pc ls (rfv z r :: rest)) := by
  cases r with
  | none => exact lv_astore_nN hexec hb hdg hi h hn hl kk
  | some a => exact lv_astore_n hexec hb hdg hi h hn hl kk
theorem x_astore (hexec : p.tables.exec = Jvm.exec) (hb : c.code = cc) {i nL : Nat} {lv lv' : List (Nat × Value)} (hdg : decode cc pc = .ok (.astore i, 2)) (h : lv_has ls nL lv) (hn : i < nL) (hl : (i, rfv z r) :: lv.filter (fun q => !(q.1 == i) && !(q.1 + 1 == i && q.2.category == 2)) = lv')
    (kk : ∀ ls' : Array Slot, lv_has ls' nL lv' → W p l e R s m args below meth c H locs cells slots Q (F0 m (pc + 2) ls' rest)) : W p l e R s m args below meth c H locs cells slots Q (F0 m pc ls (rfv z r :: rest)) := by
  cases r with
  | none => exact lv_astoreN hexec hb hdg h hn hl kk
  | some a => exact lv_astore hexec hb hdg h hn hl kk
theorem x_acmp_eq (hexec : p.tables.exec = Jvm.exec) (hb : c.code = cc) {off : Int} {tgt : Nat} (hdg : decode cc pc = .ok (.if_acmp .eq off, 3)) (ht : (pc : Int) + off = (tgt : Int))
    (kt : r = r1 → W p l e R s m args below meth c H locs cells slots Q (F0 m tgt ls rest)) (kf : ¬ r = r1 → W p l e R s m args below meth c H locs cells slots Q (F0 m (pc + 3) ls rest)) : W p l e R s m args below meth c H locs cells slots Q (F0 m pc ls (rfv z r1 :: rfv z r :: rest)) := by
  rw [rfv_rf, rfv_rf]
  exact lv_acmp_eq hexec hb hdg ht (fun h => kt (rfv_inj.mp h)) (fun h => kf (fun q => h (rfv_inj.mpr q)))
theorem x_acmp_ne (hexec : p.tables.exec = Jvm.exec) (hb : c.code = cc) {off : Int} {tgt : Nat} (hdg : decode cc pc = .ok (.if_acmp .ne off, 3)) (ht : (pc : Int) + off = (tgt : Int))
    (kt : ¬ r = r1 → W p l e R s m args below meth c H locs cells slots Q (F0 m tgt ls rest)) (kf : r = r1 → W p l e R s m args below meth c H locs cells slots Q (F0 m (pc + 3) ls rest)) : W p l e R s m args below meth c H locs cells slots Q (F0 m pc ls (rfv z r1 :: rfv z r :: rest)) := by
  rw [rfv_rf, rfv_rf]
  exact lv_acmp_ne hexec hb hdg ht (fun h => kt (fun q => h (rfv_inj.mpr q))) (fun h => kf (rfv_inj.mp h))
theorem x_ifnull (hexec : p.tables.exec = Jvm.exec) (hb : c.code = cc) {off : Int} {tgt : Nat} (hdg : decode cc pc = .ok (.ifnull off, 3)) (ht : (pc : Int) + off = (tgt : Int))
    (kt : r = none → W p l e R s m args below meth c H locs cells slots Q (F0 m tgt ls rest)) (kf : ¬ r = none → W p l e R s m args below meth c H locs cells slots Q (F0 m (pc + 3) ls rest)) : W p l e R s m args below meth c H locs cells slots Q (F0 m pc ls (rfv z r :: rest)) := by
  cases r with
  | none => exact lv_ifnullN hexec hb hdg ht (kt rfl)
  | some a => exact lv_ifnull hexec hb hdg (kf (fun h => by cases h))
theorem x_ifnonnull (hexec : p.tables.exec = Jvm.exec) (hb : c.code = cc) {off : Int} {tgt : Nat} (hdg : decode cc pc = .ok (.ifnonnull off, 3)) (ht : (pc : Int) + off = (tgt : Int))
    (kt : ¬ r = none → W p l e R s m args below meth c H locs cells slots Q (F0 m tgt ls rest)) (kf : r = none → W p l e R s m args below meth c H locs cells slots Q (F0 m (pc + 3) ls rest)) : W p l e R s m args below meth c H locs cells slots Q (F0 m pc ls (rfv z r :: rest)) := by
  cases r with
  | none => exact lv_ifnonnullN hexec hb hdg (kf rfl)
  | some a => exact lv_ifnonnull hexec hb hdg ht (kt (fun h => by cases h))
theorem x_aret {Qc : Array Value → State → Outcome → State → Prop} {free : Addr → Prop} {rt : FieldType} (hexec : p.tables.exec = Jvm.exec) (hb : c.code = cc) (hr : meth.sig.returnType = some rt) (hrt : ftS rt = 2)
    (hq : ∀ t : State, t.heap = H → s.WarmedH t.vm → Qc args s (.returned (some (rfv z r))) t) (hf : ∀ q ∈ locs, free q.base) (hdg : decode cc pc = .ok (.areturn, 1)) (hlocks : meth.locks = false) : W p l e R s m args below meth c H locs cells slots (MQ below Qc args s cells slots free) (F0 m pc ls [rfv z r]) :=
  W.aret hexec hb hr (by cases rt <;> first | (exact absurd hrt (by decide)) | exact Or.inl ⟨_, rfl⟩ | exact Or.inr ⟨_, rfl⟩) (by cases r <;> first | exact Or.inl rfl | exact Or.inr ⟨_, rfl⟩) hq hf hdg hlocks
/-- behind a call -/
theorem k_P {rv : Option Value} (hr : va_Run p l e R s m args below meth c H locs cells slots mc ms (F0 m pc ls st0) rest (qP rv av) (fun q => z ≤ q)) (hL : lok z locs) (hst1 : rv.toList ++ rest = st1)
    (kk : ∀ locs1 : List Loc, lok z locs1 → W p l e R s m args below meth c H locs1 (cells + mc) (slots + ms) Q (F0 m (pc + 3) ls st1)) : W p l e R s m args below meth c H locs cells slots Q (F0 m pc ls st0) := by
  subst hst1; exact c_P hr hL kk
theorem k_W {rv : Option Value} (hr : va_Run p l e R s m args below meth c H locs cells slots mc ms (F0 m pc ls st0) rest (qW G z H0 w rv av) (fun q => z ≤ q)) (hL : lok z locs) (hst1 : rv.toList ++ rest = st1)
    (kk : ∀ (H1 : Heap) (locs1 : List Loc), Rp G z H0 w H1 → Fix w → lok z locs1 → W p l e R s m args below meth c H1 locs1 (cells + mc) (slots + ms) Q (F0 m (pc + 3) ls st1)) : W p l e R s m args below meth c H locs cells slots Q (F0 m pc ls st0) := by
  subst hst1; exact c_W hr hL kk
theorem preS {As : List Value} (hK : KK G s) (hR : Rp G z H0 w H) (hF : Fix w) (hN : NW s) : PreS s H (pcX G z H0 w As) As := ⟨pcX.blind, fun U hU hW => ⟨rfl, hK.moved hW.alike, by rw [hU]; exact hR, hF, hN.warm hW⟩⟩
theorem preV {As : List Value} {ci : Nat} {q : vw_C} (hK : KK G s) (hR : Rp G z H0 w H) (hF : Fix w) (hN : NW s) (ht : (wT w a).1 = ci + 1) (hc : cl[ci]? = some q) : PreV s H q.1 (z + a) (pcX G z H0 w (.ref (z + a) :: As)) As := ⟨pcX.blind, r_recv hK hR ht hc, fun U hU hW => ⟨rfl, hK.moved hW.alike, by rw [hU]; exact hR, hF, hN.warm hW⟩⟩
end XN
theorem lw_U {own C owner : String} {idx : Nat} {x y : MethodName} {b : ByteArray} {L : Nat} {r : Option FieldType} (h1 : Cond.methodLink own idx x ∈ lw_all) (h2 : Cond.sameMethod x.cls owner x.name x.desc ∈ lw_all) (h3 : Cond.selects C x y ∈ lw_all) (h4 : Cond.instanceMethod y ∈ lw_all) (h5 : Cond.initialized y.cls ∈ lw_all) (h6 : Cond.code y b L r ∈ lw_all) : GoodIn lw_all (va_wsU own idx C owner x y (ws_ y b L r)) := by
  refine lw_app ?_ (lw_meth h6)
  intro w hw
  simp only [List.mem_cons, List.not_mem_nil, or_false] at hw
  rcases hw with e | e | e | e | e <;> (rw [e]; assumption)
theorem lw_O {own C owner : String} {idx : Nat} {x y : MethodName} {b : ByteArray} {L : Nat} {r : Option FieldType} (h1 : Cond.methodLink own idx x ∈ lw_all) (h2 : Cond.sameMethod x.cls owner x.name x.desc ∈ lw_all) (h0 : Cond.instanceMethod ⟨owner, x.name, x.desc⟩ ∈ lw_all) (h3 : Cond.selects C x y ∈ lw_all) (h4 : Cond.instanceMethod y ∈ lw_all) (h5 : Cond.initialized y.cls ∈ lw_all) (h6 : Cond.code y b L r ∈ lw_all) : GoodIn lw_all (va_wsO own idx C owner x y (ws_ y b L r)) := by
  refine lw_app ?_ (lw_meth h6)
  intro w hw
  simp only [List.mem_cons, List.not_mem_nil, or_false] at hw
  rcases hw with e | e | e | e | e | e <;> (rw [e]; assumption)
theorem lw_SU {own : String} {idx : Nat} {y : MethodName} {b : ByteArray} {L : Nat} {r : Option FieldType} (h1 : Cond.methodLink own idx y ∈ lw_all) (h2 : Cond.sameMethod y.cls y.cls y.name y.desc ∈ lw_all) (h3 : Cond.superclass own y.cls ∈ lw_all) (h4 : Cond.instanceMethod y ∈ lw_all) (h5 : Cond.initialized y.cls ∈ lw_all) (h6 : Cond.code y b L r ∈ lw_all) : GoodIn lw_all (va_wsSU own idx y (ws_ y b L r)) := by
  refine lw_app ?_ (lw_meth h6)
  intro w hw
  simp only [List.mem_cons, List.not_mem_nil, or_false] at hw
  rcases hw with e | e | e | e | e <;> (rw [e]; assumption)

/-- families of classes: cards (tags 9 .. 15), clauses of a number (19, 20) -/
theorem famX8 {w : Wd} {a : Nat} (h : 9 ≤ (wT w a).1 ∧ (wT w a).1 ≤ 15) (k : Nat) (hk : k < 4) : Fam w a k (TX8 k) (tyX8 k) := by
  have h1 : (wT w a).1 = 8 + 1 ∨ (wT w a).1 = 9 + 1 ∨ (wT w a).1 = 10 + 1 ∨ (wT w a).1 = 11 + 1 ∨ (wT w a).1 = 12 + 1 ∨ (wT w a).1 = 13 + 1 ∨ (wT w a).1 = 14 + 1 := by omega
  have hk4 : k = 0 ∨ k = 1 ∨ k = 2 ∨ k = 3 := by omega
  rcases h1 with h | h | h | h | h | h | h <;> rcases hk4 with rfl | rfl | rfl | rfl <;>
    first
      | exact Fam.one (r := (RX8, TX8, 4)) h rfl ok8 (by decide)
      | exact Fam.one (r := (RX9, TX9, 4)) h rfl ok9 (by decide)
      | exact Fam.one (r := (RX10, TX10, 4)) h rfl ok10 (by decide)
      | exact Fam.one (r := (RX11, TX11, 5)) h rfl ok11 (by decide)
      | exact Fam.one (r := (RX12, TX12, 4)) h rfl ok12 (by decide)
      | exact Fam.one (r := (RX13, TX13, 4)) h rfl ok13 (by decide)
      | exact Fam.one (r := (RX14, TX14, 5)) h rfl ok14 (by decide)
theorem famX19 {w : Wd} {a : Nat} (h : 19 ≤ (wT w a).1 ∧ (wT w a).1 ≤ 20) (k : Nat) (hk : k < 2) : Fam w a k (TX19 k) (tyX19 k) := by
  have h1 : (wT w a).1 = 18 + 1 ∨ (wT w a).1 = 19 + 1 := by omega
  have hk4 : k = 0 ∨ k = 1 := by omega
  rcases h1 with h | h <;> rcases hk4 with rfl | rfl <;>
    first
      | exact Fam.one (r := (RX19, TX19, 2)) h rfl ok18 (by decide)
      | exact Fam.one (r := (RX20, TX20, 2)) h rfl ok19 (by decide)
theorem cat_i (x : Int32) : (Value.int x).category = 1 := rfl
theorem cat_r (x : Nat) : (Value.ref x).category = 1 := rfl
theorem cat_l (x : Int64) : (Value.long x).category = 2 := rfl
theorem cat_n : Value.null.category = 1 := rfl
