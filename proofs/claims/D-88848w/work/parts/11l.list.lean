/-! LISTS: an empty ArrayList's array lies in the old heap (tag 100); its first element makes it tag 27; old cells; copying -/
def sT (w : Wd) (a t : Nat) : Wd := (w.1, w.2.1, w.2.2.1, fun b => if b = a then (t, 0) else w.2.2.2.1 b, w.2.2.2.2)
theorem wI_sT (w : Wd) (a t b k : Nat) : wI (sT w a t) b k = wI w b k := rfl
theorem wL_sT (w : Wd) (a t b k : Nat) : wL (sT w a t) b k = wL w b k := rfl
theorem wR_sT (w : Wd) (a t b k : Nat) : wR (sT w a t) b k = wR w b k := rfl
theorem wT_sT (w : Wd) (a t b : Nat) : wT (sT w a t) b = if b = a then (t, 0) else wT w b := rfl
theorem wZ_sT (w : Wd) (a t : Nat) : wZ (sT w a t) = wZ w := rfl
/-- all references of a cell at once -/
def sC (w : Wd) (a : Nat) (g : Nat → Option Nat) : Wd := (w.1, w.2.1, fun b k => if b = a then g k else w.2.2.1 b k, w.2.2.2)
theorem wI_sC (w : Wd) (a : Nat) (g : Nat → Option Nat) (b k : Nat) : wI (sC w a g) b k = wI w b k := rfl
theorem wL_sC (w : Wd) (a : Nat) (g : Nat → Option Nat) (b k : Nat) : wL (sC w a g) b k = wL w b k := rfl
theorem wR_sC (w : Wd) (a : Nat) (g : Nat → Option Nat) (b k : Nat) : wR (sC w a g) b k = if b = a then g k else wR w b k := rfl
theorem wT_sC (w : Wd) (a : Nat) (g : Nat → Option Nat) (b : Nat) : wT (sC w a g) b = wT w b := rfl
theorem wZ_sC (w : Wd) (a : Nat) (g : Nat → Option Nat) : wZ (sC w a g) = wZ w := rfl
theorem fixT_dyn {a : Nat} (h : 108 ≤ a) : fixT a = none := by
  unfold fixT
  split <;> first | omega | rfl
theorem Fix.sT {w : Wd} (h : Fix w) {a t : Nat} (ha : 108 ≤ a) : Fix (sT w a t) := by
  refine ⟨h.1, fun b q hq => ?_, h.2.2⟩
  rw [wT_sT, if_neg]
  · exact h.2.1 b q hq
  · intro e
    subst e
    rw [fixT_dyn ha] at hq
    cases hq
theorem Fix.sC {w : Wd} (h : Fix w) {a : Nat} {g : Nat → Option Nat} (ha : 108 ≤ a) : Fix (sC w a g) := by
  refine ⟨fun b f x hb => ?_, h.2⟩
  rw [wR_sC, if_neg]
  · exact h.1 b f x hb
  · intro e
    subst e
    rw [fixR_dyn ha] at hb
    cases hb
theorem fv_sT {z : Nat} {w : Wd} {a t b s k : Nat} : fv z (sT w a t) b s k = fv z w b s k := by
  match s with
  | 0 => rfl
  | 1 => rfl
  | s + 2 => rfl
theorem fv_sC {z : Nat} {w : Wd} {a : Nat} {g : Nat → Option Nat} {b s k : Nat} (h : b ≠ a) : fv z (sC w a g) b s k = fv z w b s k := by
  match s with
  | 0 => rfl
  | 1 => rfl
  | s + 2 => show rfv z _ = rfv z _; rw [wR_sC, if_neg h]
/-- one cell written, its tag too -/
theorem Rp.write2 {G : Gw} {z : Nat} {H0 H H1 : Heap} {w w1 : Wd} {a : Nat} (h : Rp G z H0 w H) (ha : a < wZ w) (hT : ∀ b, b ≠ a → wT w1 b = wT w b) (hZ : wZ w1 = wZ w) (hs : H1.size = H.size) (ho : ∀ q, q ≠ z + a → H1[q]? = H[q]?) (hf : ∀ b s k, b ≠ a → fv z w1 b s k = fv z w b s k)
    (hO : ∀ (ci : Nat) (r : vw_C), (wT w1 a).1 = ci + 1 → cl[ci]? = some r → t_OB (z + a) (G.1 ci) r.2.2 (G.2.1 ci) H1 (fun k => fv z w1 a (ftS (tyc ci k)) k))
    (hA : ∀ (t n : Nat), wT w1 a = (200 + t, n) → t < 15 → H1[z + a]? = some (arrV (G.2.2.1 t) n (fun j => fv z w1 a (ftS (aty t)) j)))
    (hE : (wT w1 a).1 = 100 → t_OB (z + a) (G.1 26) 3 (G.2.1 26) H1 (fun k => if k = 1 then .ref G.2.2.2 else fv z w1 a 0 k)) : Rp G z H0 w1 H1 := by
  obtain ⟨h1, h2, h3, h4, h5, h6⟩ := h
  refine ⟨by rw [hs, hZ]; exact h1, fun q hq => (ho q (by omega)).trans (h2 q hq), fun b hb => ?_, fun b ci r hb hc => ?_, fun b t n hb ht => ?_, fun b hb => ?_⟩
  · rw [hZ] at hb
    rw [hT b (by omega)]
    exact h3 b hb
  · by_cases q : b = a
    · subst q
      exact hO ci r hb hc
    · rw [hT b q] at hb
      have e := (h4 b ci r hb hc).kept (ho (z + b) (by omega))
      exact e.to fun k _ => (hf b _ k q).symm
  · by_cases q : b = a
    · subst q
      exact hA t n hb ht
    · rw [hT b q] at hb
      rw [ho (z + b) (by omega), h5 b t n hb ht]
      congr 2
      funext j
      exact (hf b _ j q).symm
  · by_cases q : b = a
    · subst q
      exact hE hb
    · rw [hT b q] at hb
      have e := (h6 b hb).kept (ho (z + b) (by omega))
      refine e.to fun k _ => ?_
      by_cases hk : k = 1
      · simp [hk]
      · simp only [if_neg hk]
        exact (hf b _ k q).symm
section LS
variable {p : Program} {l : Launch} {e : Env} {R : Room} {s : State} {m : MethodId} {args : Array Value} {below : List Frame} {meth : Method} {c : Code} {H : Heap} {locs : List Loc} {cells slots : Nat} {Q : State → Prop}
variable {cc : ByteArray} {pc : Nat} {ls : Array Slot} {rest : List Value} {G : Gw} {z : Nat} {H0 : Heap} {w : Wd} {a : Nat} {v0 : Value}
/-- statics and cells of the old heap -/
theorem x_gets (hexec : p.tables.exec = Jvm.exec) (hb : c.code = cc) {C n d own ref : String} {v : Value} {index : Nat} (hZ : va_Z C n d v (fun q => z ≤ q) s H0) (hold : ∀ q : Nat, q < z → H[q]? = H0[q]?) (hown : s.vm.findClass own = some m.cls) (hlink : (Cond.fieldLink own index ref n d).before args s = true) (hsame : ∀ x, s.fieldFound? C n d = some x → s.fieldFound? ref n d = some x) (hdg : decode cc pc = .ok (.getstatic index, 3))
    (kk : W p l e R s m args below meth c H locs cells slots Q (F0 m (pc + 3) ls (v :: rest))) : W p l e R s m args below meth c H locs cells slots Q (F0 m pc ls rest) := by
  obtain ⟨cf, kf, fi, f, a, cell, h1, h2, h3, h4, h5, h6, h7, h8⟩ := hZ
  exact W.gets hexec hb hown hlink (hsame _ h1) h2 h3 h4 (by rw [hold a (Nat.not_le.mp h8)]; exact h5) (fun e => by rw [e] at h6; cases h6) h7 rfl hdg kk
theorem x_tlen (hexec : p.tables.exec = Jvm.exec) (hb : c.code = cc) {ty : FieldType} {t N : Nat} {f : Nat → Value} (hT : va_T ty t N f (fun q => z ≤ q) s H0) (hold : ∀ q : Nat, q < z → H[q]? = H0[q]?) {v : Int32} (hv : Int32.ofNat N = v) (hdg : decode cc pc = .ok (.arraylength, 1))
    (kk : W p l e R s m args below meth c H locs cells slots Q (F0 m (pc + 1) ls (.int v :: rest))) : W p l e R s m args below meth c H locs cells slots Q (F0 m pc ls (.ref t :: rest)) := by
  subst hv
  obtain ⟨cell, h1, h2, h3, h4, h5, h6, h7⟩ := hT
  exact W.alen (n := Int32.ofNat N) hexec hb (by rw [hold t (Nat.not_le.mp h7)]; exact h1) h2 h5 rfl rfl hdg kk
theorem x_tb (hexec : p.tables.exec = Jvm.exec) (hb : c.code = cc) {t N : Nat} {f : Nat → Value} (hT : va_T .byte t N f (fun q => z ≤ q) s H0) (hold : ∀ q : Nat, q < z → H[q]? = H0[q]?) {i : Int32} (hin : inb i N) {v : Value} (hv : f i.toNatClampNeg = v) (hdg : decode cc pc = .ok (.baload, 1))
    (kk : W p l e R s m args below meth c H locs cells slots Q (F0 m (pc + 1) ls (v :: rest))) : W p l e R s m args below meth c H locs cells slots Q (F0 m pc ls (.int i :: .ref t :: rest)) := by
  obtain ⟨cell, h1, h2, h3, h4, h5, h6, h7⟩ := hT
  have hlt : i.toNatClampNeg < N := Nat.not_le.mp fun q => hin (Or.inr q)
  have hin' : ¬ (i < 0 ∨ cell.slots.size ≤ i.toNatClampNeg) := by
    intro q
    rcases q with q | q
    · exact hin (Or.inl q)
    · omega
  exact W.bald (v := v) hexec hb (by rw [hold t (Nat.not_le.mp h7)]; exact h1) h2 h3 hin' (by rw [h6 _ hlt, hv]) rfl rfl hdg kk
theorem x_oldf (hexec : p.tables.exec = Jvm.exec) (hb : c.code = cc) {o n d own ref : String} {index q : Nat} {v : Value} (hE : va_OF o n d v q (fun q => z ≤ q) s H0) (hold : ∀ q : Nat, q < z → H[q]? = H0[q]?) (hown : s.vm.findClass own = some m.cls) (hlink : (Cond.fieldLink own index ref n d).before args s = true) (hsame : ∀ x, s.fieldFound? o n d = some x → s.fieldFound? ref n d = some x) (hdg : decode cc pc = .ok (.getfield index, 3))
    (kk : W p l e R s m args below meth c H locs cells slots Q (F0 m (pc + 3) ls (v :: rest))) : W p l e R s m args below meth c H locs cells slots Q (F0 m pc ls (.ref q :: rest)) := by
  obtain ⟨cf, k, fi, f, cell, h1, h2, h3, h4, h5, h6⟩ := hE
  exact W.getf hexec hb hown hlink (hsame _ h1) h2 (by rw [hold q (Nat.not_le.mp h6)]; exact h3) h4 (v := v) h5 rfl rfl hdg kk
/-- an object of ArrayList, whatever it holds -/
theorem j9_get (hexec : p.tables.exec = Jvm.exec) (hb : c.code = cc) {own ref o n d : String} {index : Nat} {V : Nat → Value} (hts : ∀ w ∈ lw_all, w.before args s = true) (hown : s.vm.findClass own = some m.cls) (hK : KK G s) (hOB : t_OB (z + a) (G.1 26) 3 (G.2.1 26) H V) (k : Nat) (hk : k < 3) {fin : Bool} (hT : TJ9 k = (o, n, d, fin)) (hlink : (Cond.fieldLink own index ref n d).before args s = true) (hsame : ∀ x, s.fieldFound? o n d = some x → s.fieldFound? ref n d = some x) {v : Value} (hv : V k = v) (hdg : decode cc pc = .ok (.getfield index, 3))
    (kk : W p l e R s m args below meth c H locs cells slots Q (F0 m (pc + 3) ls (v :: rest))) : W p l e R s m args below meth c H locs cells slots Q (F0 m pc ls (.ref (z + a) :: rest)) := by
  have hc : cl[26]? = some (RJ9, TJ9, 3) := rfl
  obtain ⟨cell, q1, q2, q3, q4⟩ := hOB
  obtain ⟨hS, hfc, kC, hkC, hkind⟩ := hK.1 26 _ hc
  obtain ⟨cf, kf, fi, f, hi, hsl⟩ := hS k hk
  have hst := (u_facts hfc hkC (u_lays hts (ok26 _ hc).1 hk) hi).1
  have hi : s.fieldFound? (TJ9 k).1 (TJ9 k).2.1 (TJ9 k).2.2.1 = some (cf, kf, fi, f) := hi
  rw [hT] at hi
  exact W.getf hexec hb hown hlink (hsame _ hi) hst q1 (by rw [q3]; exact fun h => by cases h) (v := v) (by rw [hsl, q4 k hk, hv]) rfl rfl hdg kk
theorem j9_put (hexec : p.tables.exec = Jvm.exec) (hb : c.code = cc) {own ref o n d : String} {index : Nat} {V : Nat → Value} (hts : ∀ w ∈ lw_all, w.before args s = true) (hown : s.vm.findClass own = some m.cls) (hK : KK G s) (hL : lok z locs) (hOB : t_OB (z + a) (G.1 26) 3 (G.2.1 26) H V) (k : Nat) (hk : k < 3) (hT : TJ9 k = (o, n, d, false)) (hlink : (Cond.fieldLink own index ref n d).before args s = true) (hsame : ∀ x, s.fieldFound? o n d = some x → s.fieldFound? ref n d = some x) {v : Value} (hn : narrow (tyJ9 k) v = v) (hfit : fits (tyJ9 k) v = true) (hdg : decode cc pc = .ok (.putfield index, 3))
    (kk : ∀ (H1 : Heap) (locs1 : List Loc), t_OB (z + a) (G.1 26) 3 (G.2.1 26) H1 (updV V k v) → H1.size = H.size → (∀ q, q ≠ z + a → H1[q]? = H[q]?) → lok z locs1 → W p l e R s m args below meth c H1 locs1 cells slots Q (F0 m (pc + 3) ls rest)) : W p l e R s m args below meth c H locs cells slots Q (F0 m pc ls (v :: .ref (z + a) :: rest)) := by
  have hc : cl[26]? = some (RJ9, TJ9, 3) := rfl
  have hap := r_apart hts ok26 hK hc
  obtain ⟨g1, g2, g3⟩ := ok26 _ hc
  obtain ⟨cell, q1, q2, q3, q4⟩ := hOB
  obtain ⟨hS, hfc, kC, hkC, hkind⟩ := hK.1 26 _ hc
  obtain ⟨cf, kf, fi, f, hi, hsl⟩ := hS k hk
  have hlay := hts _ (g1 _ (u_in_lay hk))
  unfold u_lay at hlay
  have hst := (u_facts hfc hkC (u_lays hts g1 hk) hi).1
  have hT2 : ((RJ9, TJ9, 3) : vw_C).2.1 k = (o, n, d, false) := hT
  rw [if_neg (by rw [hT2]; exact Bool.false_ne_true)] at hlay
  have h6 := u_store hfc hkC hkind hlay hi (g2 k hk) hn hfit
  have hi : s.fieldFound? (TJ9 k).1 (TJ9 k).2.1 (TJ9 k).2.2.1 = some (cf, kf, fi, f) := hi
  rw [hT] at hi
  refine W.putK hexec hb (f := f) ⟨hown, hlink, ⟨_, _, _, hsame _ hi⟩, hst⟩ (by rw [q2]; exact h6) q1 q3 (by rw [hsl]; exact k2_hasslot (q4 k hk)) rfl rfl hdg fun H' e1 e2 e3 => ?_
  rw [hsl] at e1
  exact kk H' _ ⟨_, e1, q2, q3, t_set q4 hap hk v⟩ e2 e3 (lok_add hL _ _)
theorem r_100 (hR : Rp G z H0 w H) (ht : (wT w a).1 = 100) : t_OB (z + a) (G.1 26) 3 (G.2.1 26) H (fun k => if k = 1 then .ref G.2.2.2 else fv z w a 0 k) := hR.2.2.2.2.2 a ht
/-- an int field of an empty list -/
theorem Rp.put100 {k : Nat} {v : Int32} {H1 : Heap} (hR : Rp G z H0 w H) (ht : (wT w a).1 = 100) (hk : k ≠ 1) (e1 : t_OB (z + a) (G.1 26) 3 (G.2.1 26) H1 (updV (fun k => if k = 1 then .ref G.2.2.2 else fv z w a 0 k) k (.int v))) (e2 : H1.size = H.size) (e3 : ∀ q, q ≠ z + a → H1[q]? = H[q]?) : Rp G z H0 (sI w a k v) H1 := by
  refine hR.write (fun _ => rfl) rfl e2 e3 (fun b s k h => fv_sI h) (fun ci r hc hr => ?_) (fun t n h9 _ => ?_) (fun _ => ?_)
  · have hlt := (List.getElem?_eq_some_iff.mp hr).1
    have h27 : cl.length = 32 := rfl
    omega
  · have : 200 + t = 100 := (congrArg Prod.fst h9).symm.trans ht
    omega
  · refine e1.to fun j _ => ?_
    by_cases q : j = k
    · subst q
      rw [if_neg hk]
      show updV _ j _ j = Value.int (wI (sI w a j v) a j)
      rw [wI_sI, if_pos ⟨rfl, rfl⟩]
      simp [updV]
    · by_cases q1 : j = 1
      · subst q1
        simp [updV, q]
      · rw [if_neg q1]
        show updV _ k _ j = Value.int (wI (sI w a k v) a j)
        rw [wI_sI, if_neg (fun h => q h.2)]
        simp [updV, q, q1]
        rfl
/-- an empty list gets its own array -/
theorem Rp.first {b : Nat} {H1 : Heap} (hR : Rp G z H0 w H) (ht : (wT w a).1 = 100) (e1 : t_OB (z + a) (G.1 26) 3 (G.2.1 26) H1 (updV (fun k => if k = 1 then .ref G.2.2.2 else fv z w a 0 k) 1 (.ref (z + b)))) (e2 : H1.size = H.size) (e3 : ∀ q, q ≠ z + a → H1[q]? = H[q]?) : Rp G z H0 (sR (sT w a 27) a 1 (some b)) H1 := by
  have hT : wT (sR (sT w a 27) a 1 (some b)) a = (27, 0) := by rw [wT_sR, wT_sT, if_pos rfl]
  refine hR.write2 (hR.live ht (by decide)) (fun b h => by rw [wT_sR, wT_sT, if_neg h]) rfl e2 e3 (fun b s k h => by rw [fv_sR h, fv_sT]) (fun ci r hc hr => ?_) (fun t n h9 _ => ?_) (fun h9 => ?_)
  · rw [hT] at hc
    have hci : ci = 26 := by have : 27 = ci + 1 := hc; omega
    subst hci
    cases Option.some.inj ((show cl[26]? = some (RJ9, TJ9, 3) from rfl).symm.trans hr)
    refine e1.to fun j hj => ?_
    have hj3 : j = 0 ∨ j = 1 ∨ j = 2 := by have : j < 3 := hj; omega
    rcases hj3 with rfl | rfl | rfl
    · rfl
    · show updV _ 1 _ 1 = rfv z (wR (sR (sT w a 27) a 1 (some b)) a 1)
      rw [wR_sR, if_pos ⟨rfl, rfl⟩]
      simp [updV]
      rfl
    · rfl
  · rw [hT] at h9
    have : 27 = 200 + t := congrArg Prod.fst h9
    omega
  · rw [hT] at h9
    exact absurd h9 (by decide)
/-- a new list: its array is the old empty one -/
theorem Rp.empty {H1 : Heap} (hR : Rp G z H0 w H) (ht : (wT w a).1 = 27) (e1 : t_OB (z + a) (G.1 26) 3 (G.2.1 26) H1 (updV (fun k => fv z w a (ftS (tyJ9 k)) k) 1 (.ref G.2.2.2))) (e2 : H1.size = H.size) (e3 : ∀ q, q ≠ z + a → H1[q]? = H[q]?) : Rp G z H0 (sT w a 100) H1 := by
  have hT : wT (sT w a 100) a = (100, 0) := by rw [wT_sT, if_pos rfl]
  refine hR.write2 (hR.live ht (by decide)) (fun b h => by rw [wT_sT, if_neg h]) rfl e2 e3 (fun b s k h => fv_sT) (fun ci r hc hr => ?_) (fun t n h9 _ => ?_) (fun _ => ?_)
  · rw [hT] at hc
    have hlt := (List.getElem?_eq_some_iff.mp hr).1
    have h27 : cl.length = 32 := rfl
    have : 100 = ci + 1 := hc
    omega
  · rw [hT] at h9
    have : 100 = 200 + t := congrArg Prod.fst h9
    omega
  · refine e1.to fun j hj => ?_
    have hj3 : j = 0 ∨ j = 1 ∨ j = 2 := by omega
    rcases hj3 with rfl | rfl | rfl
    · rfl
    · rfl
    · rfl
theorem x_acmpS (hexec : p.tables.exec = Jvm.exec) (hb : c.code = cc) {q : Nat} {off : Int} {tgt : Nat} (hdg : decode cc pc = .ok (.if_acmp .eq off, 3)) (ht : (pc : Int) + off = (tgt : Int)) (kt : W p l e R s m args below meth c H locs cells slots Q (F0 m tgt ls rest)) : W p l e R s m args below meth c H locs cells slots Q (F0 m pc ls (.ref q :: .ref q :: rest)) :=
  lv_acmp_eq (rx := some q) (ry := some q) hexec hb hdg ht (fun _ => kt) (fun h => absurd rfl h)
theorem x_acmpSn (hexec : p.tables.exec = Jvm.exec) (hb : c.code = cc) {q : Nat} {off : Int} {tgt : Nat} (hdg : decode cc pc = .ok (.if_acmp .ne off, 3)) (ht : (pc : Int) + off = (tgt : Int)) (kf : W p l e R s m args below meth c H locs cells slots Q (F0 m (pc + 3) ls rest)) : W p l e R s m args below meth c H locs cells slots Q (F0 m pc ls (.ref q :: .ref q :: rest)) :=
  lv_acmp_ne (rx := some q) (ry := some q) hexec hb hdg ht (fun h => absurd rfl h) (fun _ => kf)
end LS
