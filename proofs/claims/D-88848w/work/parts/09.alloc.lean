/-! NEW CELLS -/
theorem fv_sN {z : Nat} {w : Wd} {t n b s k : Nat} (h : b ≠ wZ w) : fv z (sN w t n) b s k = fv z w b s k := by
  match s with
  | 0 => show Value.int _ = Value.int _; rw [wI_sN, if_neg h]
  | 1 => show Value.long _ = Value.long _; rw [wL_sN, if_neg h]
  | s + 2 => show rfv z _ = rfv z _; rw [wR_sN, if_neg h]
theorem fv_sN0 {z : Nat} {w : Wd} {t n k : Nat} (ty : FieldType) (h : ty ≠ .float ∧ ty ≠ .double) : fv z (sN w t n) (wZ w) (ftS ty) k = defaultValue ty := by
  cases ty <;> first | (exact absurd rfl h.1) | (exact absurd rfl h.2) | (show Value.int (wI _ _ _) = _; rw [wI_sN, if_pos rfl]; rfl) | (show Value.long (wL _ _ _) = _; rw [wL_sN, if_pos rfl]; rfl) | (show rfv z (wR _ _ _) = _; rw [wR_sN, if_pos rfl]; rfl)
theorem Fix.sN {w : Wd} (h : Fix w) (t n : Nat) : Fix (sN w t n) := by
  refine ⟨fun a f b hb => ?_, fun a q hq => ?_, by rw [wZ_sN]; exact Nat.le_succ_of_le h.2.2⟩
  · rw [wR_sN, if_neg]
    · exact h.1 a f b hb
    · intro q
      rw [fixR_dyn (by rw [q]; exact h.2.2)] at hb
      cases hb
  · rw [wT_sN, if_neg]
    · exact h.2.1 a q hq
    · intro e
      have h1 := h.2.2
      rw [← e] at h1
      have : fixT a = none := by unfold fixT; split <;> first | omega | rfl
      rw [this] at hq
      cases hq
/-- the tags of live cells are below the size -/
theorem Rp.live {G : Gw} {z : Nat} {H0 H : Heap} {w : Wd} (h : Rp G z H0 w H) {a t : Nat} (ht : (wT w a).1 = t) (h0 : t ≠ 0) : a < wZ w := by
  rcases Nat.lt_or_ge a (wZ w) with q | q
  · exact q
  · exact absurd (ht.symm.trans (h.2.2.1 a q)) h0
theorem tag_sN {G : Gw} {z : Nat} {H0 H : Heap} {w : Wd} (h : Rp G z H0 w H) {a t n : Nat} (ht : (wT w a).1 ≠ 0) : wT (sN w t n) a = wT w a := by
  rw [wT_sN, if_neg]
  intro q
  have := h.live rfl ht
  omega
/-- a cell pushed: the world's new picture -/
theorem Rp.push {G : Gw} {z : Nat} {H0 H H1 : Heap} {w : Wd} {t n : Nat} (h : Rp G z H0 w H) (z1 : H1.size = H.size + 1) (o1 : ∀ q, q < H.size → H1[q]? = H[q]?)
    (hO : ∀ (ci : Nat) (r : vw_C), t = ci + 1 → cl[ci]? = some r → t_OB (z + wZ w) (G.1 ci) r.2.2 (G.2.1 ci) H1 (fun k => fv z (sN w t n) (wZ w) (ftS (tyc ci k)) k))
    (hA : ∀ (j : Nat), t = 200 + j → j < 15 → H1[z + wZ w]? = some (arrV (G.2.2.1 j) n (fun k => fv z (sN w t n) (wZ w) (ftS (aty j)) k))) (ht100 : t ≠ 100) : Rp G z H0 (sN w t n) H1 := by
  have hh := h
  obtain ⟨h1, h2, h3, h4, h5, h6⟩ := h
  refine ⟨by rw [z1, h1, wZ_sN]; omega, fun q hq => (o1 q (by omega)).trans (h2 q hq), fun b hb => ?_, fun a ci r hT hc => ?_, fun a j m hT hj => ?_, fun a hT => ?_⟩
  · rw [wZ_sN] at hb
    rw [wT_sN, if_neg (by omega)]
    exact h3 b (by omega)
  · rw [wT_sN] at hT
    by_cases q : a = wZ w
    · rw [if_pos q] at hT
      subst q
      exact hO ci r hT hc
    · rw [if_neg q] at hT
      have hl := hh.live hT (by omega)
      exact ((h4 a ci r hT hc).kept (o1 _ (by omega))).to fun k _ => (fv_sN q).symm
  · rw [wT_sN] at hT
    by_cases q : a = wZ w
    · rw [if_pos q] at hT
      subst q
      cases hT
      exact hA j rfl hj
    · rw [if_neg q] at hT
      have hl := hh.live (congrArg Prod.fst hT) (by omega)
      rw [o1 _ (by omega), h5 a j m hT hj]
      congr 2
      funext k
      exact (fv_sN q).symm
  · rw [wT_sN] at hT
    by_cases q : a = wZ w
    · rw [if_pos q] at hT
      exact absurd hT ht100
    · rw [if_neg q] at hT
      have hl := hh.live hT (by omega)
      refine ((h6 a hT).kept (o1 _ (by omega))).to fun k _ => ?_
      by_cases hk : k = 1
      · simp [hk]
      · simp only [if_neg hk]
        exact (fv_sN q).symm
section AL
variable {p : Program} {l : Launch} {e : Env} {R : Room} {s : State} {m : MethodId} {args : Array Value} {below : List Frame} {meth : Method} {c : Code} {H : Heap} {locs : List Loc} {cells slots : Nat} {Q : State → Prop}
variable {cc : ByteArray} {pc : Nat} {ls : Array Slot} {rest : List Value} {G : Gw} {z : Nat} {H0 : Heap} {w : Wd} {a : Nat} {v0 : Value}
theorem x_new (hexec : p.tables.exec = Jvm.exec) (hb : c.code = cc) {own C : String} {T : u_T} {N nS ci index : Nat} (hts : ∀ w ∈ lw_all, w.before args s = true) (hok : clok ci) (hown : s.vm.findClass own = some m.cls) (hcl : (Cond.classLink own index C).before args s = true) (hinst : (Cond.instantiable C nS).before args s = true) (hini : (Cond.initialized C).before args s = true)
    (hK : KK G s) (hR : Rp G z H0 w H) (hc : cl[ci]? = some (C, T, N)) (hty : ∀ k, tyc ci k ≠ .float ∧ tyc ci k ≠ .double) (hcells : cells + 1 ≤ R.cells) (hslots : slots + nS ≤ R.slots) (hdg : decode cc pc = .ok (.new index, 3))
    (kk : ∀ H1 : Heap, Rp G z H0 (sN w (ci + 1) 0) H1 → W p l e R s m args below meth c H1 locs (cells + 1) (slots + nS) Q (F0 m (pc + 3) ls (.ref (z + wZ w) :: rest))) : W p l e R s m args below meth c H locs cells slots Q (F0 m pc ls rest) := by
  have hKn := hK.1 ci _ hc
  refine W.newcK hexec hb hown hcl hinst hini rfl hdg hcells hslots hKn.2.1 hR.1 fun H1 kC hkC e1 z1 o1 => ?_
  refine kk H1 (hR.push (by rw [z1, hR.1]) (fun q hq => o1 q (by rw [← hR.1]; exact hq)) (fun ci' r hT hc' => ?_) (fun j hT hj => ?_) (by have hlt := (List.getElem?_eq_some_iff.mp hc).1; have h27 : cl.length = 32 := rfl; omega))
  · have hci : ci' = ci := by omega
    subst hci
    cases hc.symm.trans hc'
    exact (u_born (tyc ci') hts (hok _ hc).1 hKn hkC e1 (hok _ hc).2.1).to fun k _ => (fv_sN0 _ (hty k)).symm
  · have hlt := (List.getElem?_eq_some_iff.mp hc).1
    have h27 : cl.length = 32 := rfl
    omega
theorem x_newa (hexec : p.tables.exec = Jvm.exec) (hb : c.code = cc) {atype : ArrayType} (harr : (Cond.arrayClass (newarray.typeOf atype)).before args s = true) (hK : KK G s) (hR : Rp G z H0 w H) {t : Nat} (hty : newarray.typeOf atype = aty t) (htl : t < 5) (hcb : componentBytes (aty t) ≤ 8)
    {n : Int32} {N : Nat} (hn : ¬ n < 0) (hN : n.toNatClampNeg = N) (hbytes : N ≤ 60000) (hcells : cells + 1 ≤ R.cells) (hslots : slots + N ≤ R.slots) (hdg : decode cc pc = .ok (.newarray atype, 2))
    (kk : ∀ H1 : Heap, Rp G z H0 (sN w (200 + t) N) H1 → W p l e R s m args below meth c H1 locs (cells + 1) (slots + N) Q (F0 m (pc + 2) ls (.ref (z + wZ w) :: rest))) : W p l e R s m args below meth c H locs cells slots Q (F0 m pc ls (.int n :: rest)) := by
  refine va_newaK hexec hb harr rfl hdg rfl hn hN (by rw [hty]; exact Nat.le_trans (Nat.mul_le_mul hbytes hcb) (by decide)) hcells hslots hR.1 fun H1 cA e1 z1 o1 hAr hNm => ?_
  refine kk H1 (hR.push (by rw [z1, hR.1]) (fun q hq => o1 q (by rw [← hR.1]; exact hq)) (fun ci r hT hc => ?_) (fun j hT hj => ?_) (by omega))
  · have hlt := (List.getElem?_eq_some_iff.mp hc).1
    have h27 : cl.length = 32 := rfl
    omega
  · have hj' : j = t := by omega
    subst hj'
    have hcA : cA = G.2.2.1 j := by
      have h2 := (hK.2 j hj).2
      have : va_RA s (G.2.2.1 j) (aty j) → s.vm.findClass ("[" ++ (aty j).toString) = some (G.2.2.1 j) := by
        match j, htl with
        | 0, _ => exact id
        | 1, _ => exact id
        | 2, _ => exact id
        | 3, _ => exact id
        | 4, _ => exact id
      have h3 := this h2
      rw [hty] at hNm
      exact Option.some.inj (hNm.symm.trans h3)
    rw [e1, hcA]
    congr 2
    funext k
    rw [hty]
    exact (fv_sN0 _ (by match j, htl with | 0, _ => decide | 1, _ => decide | 2, _ => decide | 3, _ => decide | 4, _ => decide)).symm
/-- a reference stored: the element's class is the component's, or may be cast to it -/
theorem x_aast (hexec : p.tables.exec = Jvm.exec) (hb : c.code = cc) (hK : KK G s) (hR : Rp G z H0 w H) (hL : lok z locs) (h0 : v0 = .ref (z + a)) {t n : Nat} {E : String} (ht : wT w a = (200 + t, n)) (htl : t < 15) (hE : aty t = .object E) {v1 : Value} {v ci : Nat} {r : vw_C} (h1 : v1 = .ref (z + v)) (hv : (wT w v).1 = ci + 1) (hc : cl[ci]? = some r) (hca : r.1 = E ∨ va_Nw (.castable r.1 E) s) {i : Int32} (hin : inb i n) (hdg : decode cc pc = .ok (.aastore, 1))
    (kk : ∀ (H1 : Heap) (locs1 : List Loc), Rp G z H0 (sR w a i.toNatClampNeg (some v)) H1 → lok z locs1 → W p l e R s m args below meth c H1 locs1 cells slots Q (F0 m (pc + 1) ls rest)) : W p l e R s m args below meth c H locs cells slots Q (F0 m pc ls (v1 :: .int i :: v0 :: rest)) := by
  subst h0 h1
  have hlt : i.toNatClampNeg < n := Nat.not_le.mp fun q => hin (Or.inr q)
  have hn0 : ¬ i < 0 := fun q => hin (Or.inl q)
  obtain ⟨cellV, g1, g2, g3, -⟩ := hR.2.2.2.1 v ci r hv hc
  have hcls := (hK.1 ci r hc).2
  have hra := (hK.2 t htl).2
  rw [hE] at hra
  obtain ⟨kA, comp, k1, k2, k3, -⟩ := hra
  obtain ⟨kE, hkE, -⟩ := Vm.findClass_spec k3
  obtain ⟨kC, hkC, -⟩ := hcls.2
  have hasg : s.vm.assignable (G.1 ci) comp = true := by
    rcases hca with q | q
    · have : comp = G.1 ci := Option.some.inj (k3.symm.trans (by rw [← q]; exact hcls.1))
      rw [this]
      exact va_assign hcls
    · obtain ⟨c0, t1, f1, f2, f3⟩ := Cond.castable_spec (va_Nw.use (A := args) rfl q)
      cases hcls.1.symm.trans f1
      cases k3.symm.trans f2
      exact f3
  refine W.aast hexec hb (r_ald hR ht htl) (fun q h => by cases h) (fun h => by cases h) k1 k2 rfl hkE ⟨hn0, by show _ < (arrV _ _ _).slots.size; rw [arrV_size]; exact hlt⟩ g1 (fun q h => by rw [g3] at h; cases h) (by rw [g2]; exact hkC) (by rw [g2]; exact hasg) rfl rfl hdg fun H1 e1 e2 e3 => ?_
  refine kk H1 _ (r_arrW (t := t) hR ht (fun _ => rfl) rfl (fun b s k h => fv_sR h) (fun j => ?_) e1 e2 e3) (lok_add hL _ _)
  rw [hE]
  show rfv z (wR (sR w a _ (some v)) a j) = _
  rw [wR_sR]
  by_cases q : j = i.toNatClampNeg
  · subst q; simp [updV]; rfl
  · rw [if_neg (fun h => q h.2)]; simp [updV, q]; rfl
end AL
theorem ty_ok0 : ∀ k, tyc 0 k ≠ .float ∧ tyc 0 k ≠ .double := by intro k; show tyX0 k ≠ _ ∧ tyX0 k ≠ _; unfold tyX0; first | (split <;> decide) | decide
theorem ty_ok1 : ∀ k, tyc 1 k ≠ .float ∧ tyc 1 k ≠ .double := by intro k; show tyX1 k ≠ _ ∧ tyX1 k ≠ _; unfold tyX1; first | (split <;> decide) | decide
theorem ty_ok2 : ∀ k, tyc 2 k ≠ .float ∧ tyc 2 k ≠ .double := by intro k; show tyX2 k ≠ _ ∧ tyX2 k ≠ _; unfold tyX2; first | (split <;> decide) | decide
theorem ty_ok3 : ∀ k, tyc 3 k ≠ .float ∧ tyc 3 k ≠ .double := by intro k; show tyX3 k ≠ _ ∧ tyX3 k ≠ _; unfold tyX3; first | (split <;> decide) | decide
theorem ty_ok4 : ∀ k, tyc 4 k ≠ .float ∧ tyc 4 k ≠ .double := by intro k; show tyX4 k ≠ _ ∧ tyX4 k ≠ _; unfold tyX4; first | (split <;> decide) | decide
theorem ty_ok5 : ∀ k, tyc 5 k ≠ .float ∧ tyc 5 k ≠ .double := by intro k; show tyX5 k ≠ _ ∧ tyX5 k ≠ _; unfold tyX5; first | (split <;> decide) | decide
theorem ty_ok6 : ∀ k, tyc 6 k ≠ .float ∧ tyc 6 k ≠ .double := by intro k; show tyX6 k ≠ _ ∧ tyX6 k ≠ _; unfold tyX6; first | (split <;> decide) | decide
theorem ty_ok7 : ∀ k, tyc 7 k ≠ .float ∧ tyc 7 k ≠ .double := by intro k; show tyX7 k ≠ _ ∧ tyX7 k ≠ _; unfold tyX7; first | (split <;> decide) | decide
theorem ty_ok8 : ∀ k, tyc 8 k ≠ .float ∧ tyc 8 k ≠ .double := by intro k; show tyX8 k ≠ _ ∧ tyX8 k ≠ _; unfold tyX8; first | (split <;> decide) | decide
theorem ty_ok9 : ∀ k, tyc 9 k ≠ .float ∧ tyc 9 k ≠ .double := by intro k; show tyX9 k ≠ _ ∧ tyX9 k ≠ _; unfold tyX9; first | (split <;> decide) | decide
theorem ty_ok10 : ∀ k, tyc 10 k ≠ .float ∧ tyc 10 k ≠ .double := by intro k; show tyX10 k ≠ _ ∧ tyX10 k ≠ _; unfold tyX10; first | (split <;> decide) | decide
theorem ty_ok11 : ∀ k, tyc 11 k ≠ .float ∧ tyc 11 k ≠ .double := by intro k; show tyX11 k ≠ _ ∧ tyX11 k ≠ _; unfold tyX11; first | (split <;> decide) | decide
theorem ty_ok12 : ∀ k, tyc 12 k ≠ .float ∧ tyc 12 k ≠ .double := by intro k; show tyX12 k ≠ _ ∧ tyX12 k ≠ _; unfold tyX12; first | (split <;> decide) | decide
theorem ty_ok13 : ∀ k, tyc 13 k ≠ .float ∧ tyc 13 k ≠ .double := by intro k; show tyX13 k ≠ _ ∧ tyX13 k ≠ _; unfold tyX13; first | (split <;> decide) | decide
theorem ty_ok14 : ∀ k, tyc 14 k ≠ .float ∧ tyc 14 k ≠ .double := by intro k; show tyX14 k ≠ _ ∧ tyX14 k ≠ _; unfold tyX14; first | (split <;> decide) | decide
theorem ty_ok15 : ∀ k, tyc 15 k ≠ .float ∧ tyc 15 k ≠ .double := by intro k; show tyX15 k ≠ _ ∧ tyX15 k ≠ _; unfold tyX15; first | (split <;> decide) | decide
theorem ty_ok16 : ∀ k, tyc 16 k ≠ .float ∧ tyc 16 k ≠ .double := by intro k; show tyX16 k ≠ _ ∧ tyX16 k ≠ _; unfold tyX16; first | (split <;> decide) | decide
theorem ty_ok17 : ∀ k, tyc 17 k ≠ .float ∧ tyc 17 k ≠ .double := by intro k; show tyX17p k ≠ _ ∧ tyX17p k ≠ _; unfold tyX17p; first | (split <;> decide) | decide
theorem ty_ok18 : ∀ k, tyc 18 k ≠ .float ∧ tyc 18 k ≠ .double := by intro k; show tyX19 k ≠ _ ∧ tyX19 k ≠ _; unfold tyX19; first | (split <;> decide) | decide
theorem ty_ok19 : ∀ k, tyc 19 k ≠ .float ∧ tyc 19 k ≠ .double := by intro k; show tyX20 k ≠ _ ∧ tyX20 k ≠ _; unfold tyX20; first | (split <;> decide) | decide
theorem ty_ok20 : ∀ k, tyc 20 k ≠ .float ∧ tyc 20 k ≠ .double := by intro k; show tyX21 k ≠ _ ∧ tyX21 k ≠ _; unfold tyX21; first | (split <;> decide) | decide
theorem ty_ok21 : ∀ k, tyc 21 k ≠ .float ∧ tyc 21 k ≠ .double := by intro k; show tyX26 k ≠ _ ∧ tyX26 k ≠ _; unfold tyX26; first | (split <;> decide) | decide
theorem ty_ok22 : ∀ k, tyc 22 k ≠ .float ∧ tyc 22 k ≠ .double := by intro k; show tyX23 k ≠ _ ∧ tyX23 k ≠ _; unfold tyX23; first | (split <;> decide) | decide
theorem ty_ok23 : ∀ k, tyc 23 k ≠ .float ∧ tyc 23 k ≠ .double := by intro k; show tyX24 k ≠ _ ∧ tyX24 k ≠ _; unfold tyX24; first | (split <;> decide) | decide
theorem ty_ok24 : ∀ k, tyc 24 k ≠ .float ∧ tyc 24 k ≠ .double := by intro k; show tyX25 k ≠ _ ∧ tyX25 k ≠ _; unfold tyX25; first | (split <;> decide) | decide
theorem ty_ok25 : ∀ k, tyc 25 k ≠ .float ∧ tyc 25 k ≠ .double := by intro k; show tyX27 k ≠ _ ∧ tyX27 k ≠ _; unfold tyX27; first | (split <;> decide) | decide
theorem ty_ok26 : ∀ k, tyc 26 k ≠ .float ∧ tyc 26 k ≠ .double := by intro k; show tyJ9 k ≠ _ ∧ tyJ9 k ≠ _; unfold tyJ9; first | (split <;> decide) | decide
theorem nar_bool {v : Int32} (h : v = 0 ∨ v = 1) : narrow .boolean (.int v) = .int v := by rcases h with rfl | rfl <;> rfl
theorem fit_bool {v : Int32} (h : v = 0 ∨ v = 1) : fits .boolean (.int v) = true := by rcases h with rfl | rfl <;> rfl

section AN
variable {p : Program} {l : Launch} {e : Env} {R : Room} {s : State} {m : MethodId} {args : Array Value} {below : List Frame} {meth : Method} {c : Code} {H : Heap} {locs : List Loc} {cells slots : Nat} {Q : State → Prop}
variable {cc : ByteArray} {pc : Nat} {ls : Array Slot} {rest : List Value} {G : Gw} {z : Nat} {H0 : Heap} {w : Wd}
theorem x_anewa (hexec : p.tables.exec = Jvm.exec) (hb : c.code = cc) {own C : String} {index t : Nat} (hown : s.vm.findClass own = some m.cls) (hclink : (Cond.classLink own index C).before args s = true) (hN : NW s) (hK : KK G s) (hR : Rp G z H0 w H) (htl : t < 15) (hE : aty t = .object C)
    {n : Int32} {N : Nat} (hn : ¬ n < 0) (hNn : n.toNatClampNeg = N) (hbytes : N ≤ 60000) (hcells : cells + 1 ≤ R.cells) (hslots : slots + N ≤ R.slots) (hdg : decode cc pc = .ok (.anewarray index, 3))
    (kk : ∀ H1 : Heap, Rp G z H0 (sN w (200 + t) N) H1 → W p l e R s m args below meth c H1 locs (cells + 1) (slots + N) Q (F0 m (pc + 3) ls (.ref (z + wZ w) :: rest))) : W p l e R s m args below meth c H locs cells slots Q (F0 m pc ls (.int n :: rest)) := by
  subst hNn
  refine W.anew hexec hb hown hclink (va_AO.use (hN.2.1 t C htl hE)) rfl hdg rfl hn (by omega) hcells hslots fun cA kA comp f1 f2 f3 f4 => ?_
  generalize hH1 : H.push ({ cls := cA, slots := Array.replicate n.toNatClampNeg .null, vm := .none } : Cell) = H1
  have z1 : H1.size = H.size + 1 := by rw [← hH1, Array.size_push]
  have e1 : H1[H.size]? = some (arrV cA n.toNatClampNeg (fun _ => .null)) := by rw [← hH1, Array.getElem?_push_size, ← arrV_new]
  have o1 : ∀ q : Nat, q < H.size → H1[q]? = H[q]? := fun q hq => by rw [← hH1, Array.getElem?_push, if_neg (Nat.ne_of_lt hq)]
  have hsz := hR.1
  rw [hsz] at e1 ⊢
  refine kk H1 (hR.push z1 o1 (fun ci r hT hc => ?_) (fun j hT hj => ?_) (by omega))
  · have hlt := (List.getElem?_eq_some_iff.mp hc).1
    have h27 : cl.length = 32 := rfl
    omega
  · have hj' : j = t := by omega
    subst hj'
    have hra := (hK.2 j hj).2
    rw [hE] at hra
    obtain ⟨kA', comp', k1, k2, k3, k4⟩ := hra
    have hcA : cA = G.2.2.1 j := Option.some.inj (f1.symm.trans k4)
    rw [e1, hcA]
    congr 2
    funext k
    rw [hE]
    exact (fv_sN0 (.object C) ⟨(fun h => by cases h), (fun h => by cases h)⟩).symm
end AN
section CS
variable {p : Program} {l : Launch} {e : Env} {R : Room} {s : State} {m : MethodId} {args : Array Value} {below : List Frame} {meth : Method} {c : Code} {H : Heap} {locs : List Loc} {cells slots : Nat} {Q : State → Prop}
variable {cc : ByteArray} {pc : Nat} {ls : Array Slot} {rest : List Value} {G : Gw} {z : Nat} {H0 : Heap} {w : Wd} {a : Nat} {v0 : Value}
theorem x_cast (hexec : p.tables.exec = Jvm.exec) (hb : c.code = cc) {own nm : String} {index ci : Nat} {r : vw_C} (hown : s.vm.findClass own = some m.cls) (hlink : (Cond.classLink own index nm).before args s = true) (hK : KK G s) (hR : Rp G z H0 w H) (h0 : v0 = .ref (z + a)) (ht : (wT w a).1 = ci + 1) (hc : cl[ci]? = some r) (hca : r.1 = nm ∨ va_Nw (.castable r.1 nm) s) (hdg : decode cc pc = .ok (.checkcast index, 3))
    (kk : W p l e R s m args below meth c H locs cells slots Q (F0 m (pc + 3) ls (v0 :: rest))) : W p l e R s m args below meth c H locs cells slots Q (F0 m pc ls (v0 :: rest)) := by
  subst h0
  rcases hca with q | q
  · subst q
    exact va_castS hexec hb hown hlink (hK.1 ci r hc).2 (r_recv hK hR ht hc) hdg kk
  · exact va_castY hexec hb hown hlink q (r_recv hK hR ht hc) hdg kk
theorem x_instY (hexec : p.tables.exec = Jvm.exec) (hb : c.code = cc) {own nm : String} {index ci : Nat} {r : vw_C} (hown : s.vm.findClass own = some m.cls) (hlink : (Cond.classLink own index nm).before args s = true) (hK : KK G s) (hR : Rp G z H0 w H) (h0 : v0 = .ref (z + a)) (ht : (wT w a).1 = ci + 1) (hc : cl[ci]? = some r) (hca : r.1 = nm ∨ va_Nw (.castable r.1 nm) s) (hdg : decode cc pc = .ok (.instanceof index, 3))
    (kk : W p l e R s m args below meth c H locs cells slots Q (F0 m (pc + 3) ls (.int 1 :: rest))) : W p l e R s m args below meth c H locs cells slots Q (F0 m pc ls (v0 :: rest)) := by
  subst h0
  rcases hca with q | q
  · subst q
    exact va_instS hexec hb hown hlink (hK.1 ci r hc).2 (r_recv hK hR ht hc) hdg kk
  · exact va_instY hexec hb hown hlink q (r_recv hK hR ht hc) hdg kk
theorem x_instN (hexec : p.tables.exec = Jvm.exec) (hb : c.code = cc) {own nm : String} {index ci : Nat} {r : vw_C} (hown : s.vm.findClass own = some m.cls) (hlink : (Cond.classLink own index nm).before args s = true) (hK : KK G s) (hR : Rp G z H0 w H) (h0 : v0 = .ref (z + a)) (ht : (wT w a).1 = ci + 1) (hc : cl[ci]? = some r) (hca : va_Nc r.1 nm s) (hdg : decode cc pc = .ok (.instanceof index, 3))
    (kk : W p l e R s m args below meth c H locs cells slots Q (F0 m (pc + 3) ls (.int 0 :: rest))) : W p l e R s m args below meth c H locs cells slots Q (F0 m pc ls (v0 :: rest)) := by
  subst h0
  exact va_instNo hexec hb hown hlink hca (r_recv hK hR ht hc) hdg kk
end CS
theorem bI_eq1 {x : Int32} (h : x = 0 ∨ x = 1) : bI (x == 1) = x := by rcases h with rfl | rfl <;> rfl
/-! ROWS OF FIVE SORTS, OR NOTHING (Tape.row): instanceof and casts to arrays -/
def isRow (w : Wd) (r : Option Nat) : Bool := match r with
  | none => true
  | some a => decide (200 ≤ (wT w a).1 ∧ (wT w a).1 ≤ 204)
def isA (w : Wd) (r : Option Nat) (t : Nat) : Bool := match r with
  | none => false
  | some a => decide ((wT w a).1 = t)
def anm (t : Nat) : String := match t with
  | 0 => "[I" | 1 => "[B" | 2 => "[S" | 3 => "[Z" | _ => "[J"
section AR
variable {p : Program} {l : Launch} {e : Env} {R : Room} {s : State} {m : MethodId} {args : Array Value} {below : List Frame} {meth : Method} {c : Code} {H : Heap} {locs : List Loc} {cells slots : Nat} {Q : State → Prop}
variable {cc : ByteArray} {pc : Nat} {ls : Array Slot} {rest : List Value} {G : Gw} {z : Nat} {H0 : Heap} {w : Wd} {a : Nat} {v0 : Value} {r : Option Nat}
theorem anm_ok {t : Nat} (ht : t < 5) (hK : KK G s) : s.vm.findClass (anm t) = some (G.2.2.1 t) := by
  have h := (hK.2 t (by omega)).2
  match t, ht with
  | 0, _ => exact h
  | 1, _ => exact h
  | 2, _ => exact h
  | 3, _ => exact h
  | 4, _ => exact h
theorem r_recvA {t n : Nat} (ht : t < 5) (hK : KK G s) (hR : Rp G z H0 w H) (hT : wT w a = (200 + t, n)) : ∃ cell : Cell, H[z + a]? = some cell ∧ cell.vm.isStatics = false ∧ s.vm.findClass (anm t) = some cell.cls :=
  ⟨_, hR.2.2.2.2.1 a t n hT (by omega), rfl, anm_ok ht hK⟩
theorem nc_arr (hN : NW s) {t t' : Nat} (h : t < 5) (h' : t' < 5) (hne : t ≠ t') : va_Nc (anm t) (anm t') s := by
  match t, t', h, h', hne with
  | 0, 0, _, _, q => exact absurd rfl q
  | 1, 1, _, _, q => exact absurd rfl q
  | 2, 2, _, _, q => exact absurd rfl q
  | 3, 3, _, _, q => exact absurd rfl q
  | 4, 4, _, _, q => exact absurd rfl q
  | 1, 2, _, _, _ => exact hN.nc 0 rfl
  | 1, 0, _, _, _ => exact hN.nc 1 rfl
  | 1, 4, _, _, _ => exact hN.nc 2 rfl
  | 1, 3, _, _, _ => exact hN.nc 3 rfl
  | 2, 1, _, _, _ => exact hN.nc 4 rfl
  | 2, 0, _, _, _ => exact hN.nc 5 rfl
  | 2, 4, _, _, _ => exact hN.nc 6 rfl
  | 2, 3, _, _, _ => exact hN.nc 7 rfl
  | 0, 1, _, _, _ => exact hN.nc 8 rfl
  | 0, 2, _, _, _ => exact hN.nc 9 rfl
  | 0, 4, _, _, _ => exact hN.nc 10 rfl
  | 0, 3, _, _, _ => exact hN.nc 11 rfl
  | 4, 1, _, _, _ => exact hN.nc 12 rfl
  | 4, 2, _, _, _ => exact hN.nc 13 rfl
  | 4, 0, _, _, _ => exact hN.nc 14 rfl
  | 4, 3, _, _, _ => exact hN.nc 15 rfl
  | 3, 1, _, _, _ => exact hN.nc 16 rfl
  | 3, 2, _, _, _ => exact hN.nc 17 rfl
  | 3, 0, _, _, _ => exact hN.nc 18 rfl
  | 3, 4, _, _, _ => exact hN.nc 19 rfl
theorem x_castA (hexec : p.tables.exec = Jvm.exec) (hb : c.code = cc) {own nm : String} {index t : Nat} (hown : s.vm.findClass own = some m.cls) (hlink : (Cond.classLink own index nm).before args s = true) (hK : KK G s) (hR : Rp G z H0 w H) (h0 : v0 = .ref (z + a)) (htl : t < 5) (hnm : anm t = nm) (ht : (wT w a).1 = 200 + t) (hdg : decode cc pc = .ok (.checkcast index, 3))
    (kk : W p l e R s m args below meth c H locs cells slots Q (F0 m (pc + 3) ls (v0 :: rest))) : W p l e R s m args below meth c H locs cells slots Q (F0 m pc ls (v0 :: rest)) := by
  subst h0 hnm
  obtain ⟨cell, h1, h2, h3⟩ := r_recvA htl hK hR (wT_pair ht)
  intro T hT X
  obtain ⟨vm', X', st⟩ := X.checkcastYes hexec hown hlink (by rw [hT]; exact h1) h2 h3 (va_asg _ _) (g := F0 m pc ls (.ref (z + a) :: rest)) rfl rfl (by rw [hb]; exact hdg)
  obtain ⟨t, a1, b1⟩ := kk (T.setVm vm') hT X'
  exact ⟨t, st t a1, b1⟩
theorem x_instA (hexec : p.tables.exec = Jvm.exec) (hb : c.code = cc) {own nm : String} {index t : Nat} (hown : s.vm.findClass own = some m.cls) (hlink : (Cond.classLink own index nm).before args s = true) (hK : KK G s) (hN : NW s) (hR : Rp G z H0 w H) (h0 : v0 = rfv z r) (htl : t < 5) (hnm : anm t = nm) (hrow : isRow w r = true) (hdg : decode cc pc = .ok (.instanceof index, 3))
    (kk : W p l e R s m args below meth c H locs cells slots Q (F0 m (pc + 3) ls (.int (bI (isA w r (200 + t))) :: rest))) : W p l e R s m args below meth c H locs cells slots Q (F0 m pc ls (v0 :: rest)) := by
  subst h0 hnm
  cases r with
  | none => exact lv_instN hexec hb hdg kk
  | some a =>
    have hr : 200 ≤ (wT w a).1 ∧ (wT w a).1 ≤ 204 := of_decide_eq_true hrow
    obtain ⟨t', ht', hl'⟩ : ∃ t', (wT w a).1 = 200 + t' ∧ t' < 5 := ⟨(wT w a).1 - 200, by omega, by omega⟩
    have hrc := r_recvA hl' hK hR (wT_pair ht')
    by_cases q : t' = t
    · subst q
      have e1 : isA w (some a) (200 + t') = true := decide_eq_true ht'
      rw [e1] at kk
      obtain ⟨cell, h1, h2, h3⟩ := hrc
      intro T hT X
      obtain ⟨vm', X', st⟩ := X.instanceofYes hexec hown hlink (by rw [hT]; exact h1) h2 h3 (va_asg _ _) (g := F0 m pc ls (.ref (z + a) :: rest)) rfl rfl (by rw [hb]; exact hdg)
      obtain ⟨t, a1, b1⟩ := kk (T.setVm vm') hT X'
      exact ⟨t, st t a1, b1⟩
    · have e1 : isA w (some a) (200 + t) = false := decide_eq_false (by omega)
      rw [e1] at kk
      exact va_instNo hexec hb hown hlink (nc_arr hN hl' htl q) hrc hdg kk
theorem x_alen (hexec : p.tables.exec = Jvm.exec) (hb : c.code = cc) (hK : KK G s) (hR : Rp G z H0 w H) (h0 : v0 = .ref (z + a)) {t n : Nat} (ht : wT w a = (200 + t, n)) (htl : t < 15) (hdg : decode cc pc = .ok (.arraylength, 1))
    (kk : W p l e R s m args below meth c H locs cells slots Q (F0 m (pc + 1) ls (.int (Int32.ofNat n) :: rest))) : W p l e R s m args below meth c H locs cells slots Q (F0 m pc ls (v0 :: rest)) := by
  subst h0
  exact W.alen (n := Int32.ofNat n) hexec hb (r_ald hR ht htl) ((hK.2 t htl).1 n _) (by rw [arrV_size]) rfl rfl hdg kk
end AR
