def f_X0_decree (B n : Nat) (w : Wd) : Option ((Int32 ⊕ Nat) × Wd) :=
  if (wI w 0 14) = (16 : Int32) then (some (.inl (-4 : Int32), w)) else ((f_X0_takesText B n w).bind fun q7 => (match q7 with | (.inl v2, qw4) => if wZ w ≤ wZ qw4 ∧ wZ qw4 ≤ B then ((v2).bind fun r9 => if (wT qw4 r9).1 = 17 then (if inb (wI (sI qw4 r9 0 (wI qw4 0 0)) 0 14) 16 then (some (.inl (wI (sI qw4 r9 0 (wI qw4 0 0)) 0 14), sI (sR (sI qw4 r9 0 (wI qw4 0 0)) 17 ((wI (sI qw4 r9 0 (wI qw4 0 0)) 0 14).toNatClampNeg) (some r9)) 0 14 ((wI (sI qw4 r9 0 (wI qw4 0 0)) 0 14) + (1 : Int32)))) else none) else none) else none | (.inr x3, qw4) => if wZ w ≤ wZ qw4 ∧ wZ qw4 ≤ B then (if (wT qw4 x3).1 = 18 then (some (.inl ((-10 : Int32) - (wI qw4 x3 0)), qw4)) else none) else none))
theorem hd_X0_decree : yX0_decree.cls ≠ "java/lang/invoke/MethodHandle" ∧ yX0_decree.cls ≠ "java/lang/invoke/VarHandle" ∧ (parseMethodDescriptor yX0_decree.desc).map (fun d => d.parameters.length) = some 0 := by decide +kernel
set_option maxHeartbeats 4000000 in
set_option maxRecDepth 100000 in
theorem met_X0_decree (l : Launch) (htr : ∀ e, l.admits e → e.platform.stackTraces = false) (G : Gw) (z : Nat) (H0 : Heap) (B n : Nat) (w : Wd)  (q : (Int32 ⊕ Nat) × Wd) (h : f_X0_decree B n w = some q)  (hB : wZ w ≤ B) : MetT l yX0_decree (wsW_ yX0_decree cX0_decree 2 (some .int) [(12, 46, 47, 283)]) ({ frames := 33, cells := B - wZ w, slots := 80 * (B - wZ w), locals := 717 } : Room) (pcT G z H0 w [.ref (z + 0)]) (qT G z H0 q.2 (cvI q.1)) (wZ q.2 - wZ w) (80 * (wZ q.2 - wZ w)) (fun q => z ≤ q) := by
  refine mTH (by decide) (Nat.le_of_ble_eq_true rfl) ?_
  intro p e s m below meth c ls hx hb hr hml hown hts hlocks hnm htb hK hR hF hN hS hl
  have hown : s.vm.findClass RX0 = some m.cls := hown
  have hl : lv_has ls 2 [(0, .ref (z + 0))] := hl
  have hL : lok z [] := lok_nil
  unfold f_X0_decree at h
  obtain ⟨z0, hz0⟩ : ∃ z0, wZ w = z0 := ⟨_, rfl⟩
  rw [hz0]
  refine W.widen (k := wZ w - z0) (n := 80 * (wZ w - z0)) (Nat.zero_le _) (Nat.zero_le _) ?_
  have hZ : z0 ≤ wZ w ∧ wZ w ≤ B := ⟨by omega, hB⟩
  generalize s.heap = H at hR ⊢
  generalize ([] : List Loc) = locs at hL ⊢
  refine lv_aload_n hx hb dX0_decree_0 rfl (lv_at hl 0 rfl) ?_
  refine x_get (k := 14) (o := "BarredBooks") (n := "decreeMany") (d := "I") (fin := false) (ty := .int) (host := "BarredBooks") hx hb hts hown hK hR rfl (Fam.one (r := (RX0, TX0, 40)) (congrArg Prod.fst (hF.2.1 0 (1, 0) rfl)) rfl ok0 (by decide)) (Or.inl (hts _ q233)) (fun _ h9 => h9) (v := .int (wI w 0 14)) rfl dX0_decree_1 ?_
  refine lv_bipush (v := 16) hx hb dX0_decree_4 (by decide) ?_
  refine lv_icmp_ne (tgt := 12) hx hb dX0_decree_6 (by decide) (fun c1 => ?_) (fun c1 => ?_)
  · rw [if_neg c1] at h
    refine lv_aload_n hx hb dX0_decree_12 rfl (lv_at hl 0 rfl) ?_
    obtain ⟨⟨v2 | x3, qw4⟩, hq5, h⟩ := bnd h
    rotate_left
    · dsimp only at h
      obtain ⟨hz6, h⟩ := grd h
      obtain ⟨hg8, h⟩ := grd h
      refine k_TT (w := qw4) (x := x3) (mc := wZ qw4 - wZ w) (ms := 80 * (wZ qw4 - wZ w)) (runT_V (As := []) (rest := []) ⟨hx, hb, hml, hown, hts⟩ (met_X0_takesText l htr G z H0 B n w  (.inr x3, qw4) hq5 hZ.2) hd_X0_takesText q842 q844 qs6 q100 q845 ⟨Nat.le_of_ble_eq_true rfl, Nat.le_of_ble_eq_true rfl⟩ (preVT (q := (RX0, TX0, 40)) hK hR hF hN hS (congrArg Prod.fst (hF.2.1 0 (1, 0) rfl)) rfl) rfl rfl hl.1 rfl (lv_room (Nat.le_of_ble_eq_true rfl)) dX0_decree_13 ⟨by dsimp only; omega, by dsimp only; omega⟩) hL (fun H locs hR hF hL => ?_)
      refine WT.widen (k := wZ qw4 - z0) (n := 80 * (wZ qw4 - z0)) (by omega) (by omega) ?_
      have hZ : z0 ≤ wZ qw4 ∧ wZ qw4 ≤ B := ⟨by omega, hz6.2⟩
      refine x_caught (q := 47) hR hK hg8 rfl hown (by rw [htb]; exact (Cat.self hK rfl (by decide +kernel) (by decide) (hts _ q841))) ?_
      refine lv_astore_n (lv' := [(1, .ref (z + x3)), (0, .ref (z + 0))]) hx hb dX0_decree_47 rfl hl (by decide) rfl (fun ls hl => ?_)
      refine lv_bipush (v := -10) hx hb dX0_decree_48 (by decide) ?_
      refine lv_aload_n hx hb dX0_decree_50 rfl (lv_at hl 0 rfl) ?_
      refine x_get (k := 0) (o := "BarredBooks$Off") (n := "place") (d := "I") (fin := true) (ty := .int) (host := "BarredBooks") hx hb hts hown hK hR rfl (Fam.one (r := (RX17, TX17p, 1)) hg8 rfl ok17 (by decide)) (Or.inr (hN.at q997 rfl)) (fun _ h9 => h9) (v := .int (wI qw4 x3 0)) rfl dX0_decree_51 ?_
      refine lv_isub hx hb dX0_decree_54 ?_
      have h := Option.some.inj h
      subst h
      exact W.toT (W.iret (v := (-10 : Int32) - (wI qw4 x3 0)) hx hb hr (fun t ht _ => ⟨rfl, by rw [ht]; exact hR, hF⟩) hL dX0_decree_55)
    dsimp only at h
    obtain ⟨hz6, h⟩ := grd h
    refine k_TR (v := (some (rfv z v2))) (w := qw4) (mc := wZ qw4 - wZ w) (ms := 80 * (wZ qw4 - wZ w)) (st1 := [rfv z v2]) (runT_V (As := []) (rest := []) ⟨hx, hb, hml, hown, hts⟩ (met_X0_takesText l htr G z H0 B n w  (.inl v2, qw4) hq5 hZ.2) hd_X0_takesText q842 q844 qs6 q100 q845 ⟨Nat.le_of_ble_eq_true rfl, Nat.le_of_ble_eq_true rfl⟩ (preVT (q := (RX0, TX0, 40)) hK hR hF hN hS (congrArg Prod.fst (hF.2.1 0 (1, 0) rfl)) rfl) rfl rfl hl.1 rfl (lv_room (Nat.le_of_ble_eq_true rfl)) dX0_decree_13 ⟨by dsimp only; omega, by dsimp only; omega⟩) hL rfl (fun H locs hR hF hL => ?_)
    refine W.wid (b := wZ qw4) (by omega) hZ.1 (Nat.le_refl _) ?_
    have hZ : z0 ≤ wZ qw4 ∧ wZ qw4 ≤ B := ⟨by omega, hz6.2⟩
    refine x_astore_n (lv' := [(1, rfv z v2), (0, .ref (z + 0))]) hx hb dX0_decree_16 rfl hl (by decide) rfl (fun ls hl => ?_)
    refine x_aload_n hx hb dX0_decree_17 rfl (lv_at hl 0 rfl) ?_
    refine lv_aload_n hx hb dX0_decree_18 rfl (lv_at hl 1 rfl) ?_
    refine x_get (k := 0) (o := "BarredBooks") (n := "today") (d := "I") (fin := false) (ty := .int) (host := "BarredBooks") hx hb hts hown hK hR rfl (Fam.one (r := (RX0, TX0, 40)) (congrArg Prod.fst (hF.2.1 0 (1, 0) rfl)) rfl ok0 (by decide)) (Or.inl (hts _ q219)) (fun _ h9 => h9) (v := .int (wI qw4 0 0)) rfl dX0_decree_19 ?_
    obtain ⟨r9, hr10, h⟩ := bnd h
    obtain ⟨hg11, h⟩ := grd h
    refine x_putI (k := 0) (o := "BarredBooks$Decree") (n := "issued") (d := "I") (fin := false) (ty := .int) (host := "BarredBooks") hx hb hts hown hK hR hL (rfv_some hr10) (Fam.one (r := (RX16, TX16, 3)) hg11 rfl ok16 (by decide)) (Or.inr ⟨hN.at q901 rfl, rfl⟩) (fun _ h9 => h9) (Or.inl rfl) rfl rfl rfl dX0_decree_22 (fun H locs hR hL => ?_)
    rw [← wT_sI _ r9 0 (wI qw4 0 0)] at hg11
    have hF := hF.sI r9 0 (wI qw4 0 0)
    refine lv_aload_n hx hb dX0_decree_25 rfl (lv_at hl 1 rfl) ?_
    refine x_get (k := 13) (o := "BarredBooks") (n := "decrees") (d := "[LBarredBooks$Decree;") (fin := true) (ty := (.array (.object "BarredBooks$Decree"))) (host := "BarredBooks") hx hb hts hown hK hR rfl (Fam.one (r := (RX0, TX0, 40)) (congrArg Prod.fst (hF.2.1 0 (1, 0) rfl)) rfl ok0 (by decide)) (Or.inl (hts _ q232)) (fun _ h9 => h9) (v := .ref (z + 17)) (fv_fix hF rfl rfl) dX0_decree_26 ?_
    refine lv_aload_n hx hb dX0_decree_29 rfl (lv_at hl 1 rfl) ?_
    refine x_get (k := 14) (o := "BarredBooks") (n := "decreeMany") (d := "I") (fin := false) (ty := .int) (host := "BarredBooks") hx hb hts hown hK hR rfl (Fam.one (r := (RX0, TX0, 40)) (congrArg Prod.fst (hF.2.1 0 (1, 0) rfl)) rfl ok0 (by decide)) (Or.inl (hts _ q233)) (fun _ h9 => h9) (v := .int (wI (sI qw4 r9 0 (wI qw4 0 0)) 0 14)) rfl dX0_decree_30 ?_
    refine x_aload_n hx hb dX0_decree_33 rfl (lv_at hl 0 rfl) ?_
    obtain ⟨hb12, h⟩ := grd h
    refine x_aast (t := 11) (E := "BarredBooks$Decree") (ci := 16) (r := (RX16, TX16, 3)) hx hb hK hR hL rfl (hF.2.1 17 (211, 16) rfl) (by decide) rfl (rfv_some hr10) hg11 rfl (Or.inl rfl) hb12 dX0_decree_34 (fun H locs hR hL => ?_)
    rw [← wT_sR _ 17 ((wI (sI qw4 r9 0 (wI qw4 0 0)) 0 14).toNatClampNeg) (some r9)] at hg11
    have hF := hF.sR (a := 17) (f := (wI (sI qw4 r9 0 (wI qw4 0 0)) 0 14).toNatClampNeg) (v := some r9) rfl
    refine lv_aload_n hx hb dX0_decree_35 rfl (lv_at hl 1 rfl) ?_
    refine lv_dup hx hb dX0_decree_36 rfl ?_
    refine x_get (k := 14) (o := "BarredBooks") (n := "decreeMany") (d := "I") (fin := false) (ty := .int) (host := "BarredBooks") hx hb hts hown hK hR rfl (Fam.one (r := (RX0, TX0, 40)) (congrArg Prod.fst (hF.2.1 0 (1, 0) rfl)) rfl ok0 (by decide)) (Or.inl (hts _ q233)) (fun _ h9 => h9) (v := .int (wI (sI qw4 r9 0 (wI qw4 0 0)) 0 14)) rfl dX0_decree_37 ?_
    refine lv_dup_x1 hx hb dX0_decree_40 rfl rfl ?_
    refine lv_iconst (v := 1) hx hb dX0_decree_41 (by decide) ?_
    refine lv_iadd hx hb dX0_decree_42 ?_
    refine x_putI (k := 14) (o := "BarredBooks") (n := "decreeMany") (d := "I") (fin := false) (ty := .int) (host := "BarredBooks") hx hb hts hown hK hR hL rfl (Fam.one (r := (RX0, TX0, 40)) (congrArg Prod.fst (hF.2.1 0 (1, 0) rfl)) rfl ok0 (by decide)) (Or.inl (hts _ q233)) (fun _ h9 => h9) (Or.inl rfl) rfl rfl rfl dX0_decree_43 (fun H locs hR hL => ?_)
    rw [← wT_sI _ 0 14 ((wI (sI qw4 r9 0 (wI qw4 0 0)) 0 14) + (1 : Int32))] at hg11
    have hF := hF.sI 0 14 ((wI (sI qw4 r9 0 (wI qw4 0 0)) 0 14) + (1 : Int32))
    have h := Option.some.inj h
    subst h
    refine W.widen (k := wZ (sI (sR (sI qw4 r9 0 (wI qw4 0 0)) 17 ((wI (sI qw4 r9 0 (wI qw4 0 0)) 0 14).toNatClampNeg) (some r9)) 0 14 ((wI (sI qw4 r9 0 (wI qw4 0 0)) 0 14) + (1 : Int32))) - z0) (n := 80 * (wZ (sI (sR (sI qw4 r9 0 (wI qw4 0 0)) 17 ((wI (sI qw4 r9 0 (wI qw4 0 0)) 0 14).toNatClampNeg) (some r9)) 0 14 ((wI (sI qw4 r9 0 (wI qw4 0 0)) 0 14) + (1 : Int32))) - z0)) (Nat.le_refl _) (Nat.le_refl _) ?_
    exact W.toT (W.iret (v := wI (sI qw4 r9 0 (wI qw4 0 0)) 0 14) hx hb hr (fun t ht _ => ⟨rfl, by rw [ht]; exact hR, hF⟩) hL dX0_decree_46)
  · rw [if_pos c1] at h
    refine lv_bipush (v := -4) hx hb dX0_decree_9 (by decide) ?_
    have h := Option.some.inj h
    subst h
    exact W.toT (W.iret (v := (-4 : Int32)) hx hb hr (fun t ht _ => ⟨rfl, by rw [ht]; exact hR, hF⟩) hL dX0_decree_11)
def f_X0_choice (B n : Nat) (w : Wd) : Option ((Int32 ⊕ Nat) × Wd) :=
  if (wI w 0 28) = (8 : Int32) then (some (.inl (-4 : Int32), w)) else ((f_X0_takesText B n w).bind fun q7 => (match q7 with | (.inl v2, qw4) => if wZ w ≤ wZ qw4 ∧ wZ qw4 ≤ B then ((f_X0_canBeChosen v2 qw4).bind fun q9 => if q9 then ((v2).bind fun r12 => if (wT qw4 r12).1 = 17 then ((wR qw4 r12 2).bind fun r15 => if (wT qw4 r15).1 = 27 then ((f_J9_get r15 (0 : Int32) qw4).bind fun q18 => (q18).bind fun r20 => if 19 ≤ (wT qw4 r20).1 ∧ (wT qw4 r20).1 ≤ 22 then (if inb (wI qw4 0 28) 8 then (some (.inl (wI qw4 0 28), sI (sR qw4 45 ((wI qw4 0 28).toNatClampNeg) (some r20)) 0 28 ((wI qw4 0 28) + (1 : Int32)))) else none) else none) else none) else none) else (some (.inl (-2 : Int32), qw4))) else none | (.inr x3, qw4) => if wZ w ≤ wZ qw4 ∧ wZ qw4 ≤ B then (if (wT qw4 x3).1 = 18 then (some (.inl ((-10 : Int32) - (wI qw4 x3 0)), qw4)) else none) else none))
theorem hd_X0_choice : yX0_choice.cls ≠ "java/lang/invoke/MethodHandle" ∧ yX0_choice.cls ≠ "java/lang/invoke/VarHandle" ∧ (parseMethodDescriptor yX0_choice.desc).map (fun d => d.parameters.length) = some 0 := by decide +kernel
set_option maxHeartbeats 4000000 in
set_option maxRecDepth 100000 in
theorem met_X0_choice (l : Launch) (htr : ∀ e, l.admits e → e.platform.stackTraces = false) (G : Gw) (z : Nat) (H0 : Heap) (B n : Nat) (w : Wd)  (q : (Int32 ⊕ Nat) × Wd) (h : f_X0_choice B n w = some q)  (hB : wZ w ≤ B) : MetT l yX0_choice (wsW_ yX0_choice cX0_choice 2 (some .int) [(12, 26, 59, 283), (27, 58, 59, 283)]) ({ frames := 33, cells := B - wZ w, slots := 80 * (B - wZ w), locals := 717 } : Room) (pcT G z H0 w [.ref (z + 0)]) (qT G z H0 q.2 (cvI q.1)) (wZ q.2 - wZ w) (80 * (wZ q.2 - wZ w)) (fun q => z ≤ q) := by
  refine mTH (by decide) (Nat.le_of_ble_eq_true rfl) ?_
  intro p e s m below meth c ls hx hb hr hml hown hts hlocks hnm htb hK hR hF hN hS hl
  have hown : s.vm.findClass RX0 = some m.cls := hown
  have hl : lv_has ls 2 [(0, .ref (z + 0))] := hl
  have hL : lok z [] := lok_nil
  unfold f_X0_choice at h
  obtain ⟨z0, hz0⟩ : ∃ z0, wZ w = z0 := ⟨_, rfl⟩
  rw [hz0]
  refine W.widen (k := wZ w - z0) (n := 80 * (wZ w - z0)) (Nat.zero_le _) (Nat.zero_le _) ?_
  have hZ : z0 ≤ wZ w ∧ wZ w ≤ B := ⟨by omega, hB⟩
  generalize s.heap = H at hR ⊢
  generalize ([] : List Loc) = locs at hL ⊢
  refine lv_aload_n hx hb dX0_choice_0 rfl (lv_at hl 0 rfl) ?_
  refine x_get (k := 28) (o := "BarredBooks") (n := "choiceMany") (d := "I") (fin := false) (ty := .int) (host := "BarredBooks") hx hb hts hown hK hR rfl (Fam.one (r := (RX0, TX0, 40)) (congrArg Prod.fst (hF.2.1 0 (1, 0) rfl)) rfl ok0 (by decide)) (Or.inl (hts _ q247)) (fun _ h9 => h9) (v := .int (wI w 0 28)) rfl dX0_choice_1 ?_
  refine lv_bipush (v := 8) hx hb dX0_choice_4 (by decide) ?_
  refine lv_icmp_ne (tgt := 12) hx hb dX0_choice_6 (by decide) (fun c1 => ?_) (fun c1 => ?_)
  · rw [if_neg c1] at h
    refine lv_aload_n hx hb dX0_choice_12 rfl (lv_at hl 0 rfl) ?_
    obtain ⟨⟨v2 | x3, qw4⟩, hq5, h⟩ := bnd h
    rotate_left
    · dsimp only at h
      obtain ⟨hz6, h⟩ := grd h
      obtain ⟨hg8, h⟩ := grd h
      refine k_TT (w := qw4) (x := x3) (mc := wZ qw4 - wZ w) (ms := 80 * (wZ qw4 - wZ w)) (runT_V (As := []) (rest := []) ⟨hx, hb, hml, hown, hts⟩ (met_X0_takesText l htr G z H0 B n w  (.inr x3, qw4) hq5 hZ.2) hd_X0_takesText q842 q844 qs6 q100 q845 ⟨Nat.le_of_ble_eq_true rfl, Nat.le_of_ble_eq_true rfl⟩ (preVT (q := (RX0, TX0, 40)) hK hR hF hN hS (congrArg Prod.fst (hF.2.1 0 (1, 0) rfl)) rfl) rfl rfl hl.1 rfl (lv_room (Nat.le_of_ble_eq_true rfl)) dX0_choice_13 ⟨by dsimp only; omega, by dsimp only; omega⟩) hL (fun H locs hR hF hL => ?_)
      refine WT.widen (k := wZ qw4 - z0) (n := 80 * (wZ qw4 - z0)) (by omega) (by omega) ?_
      have hZ : z0 ≤ wZ qw4 ∧ wZ qw4 ≤ B := ⟨by omega, hz6.2⟩
      refine x_caught (q := 59) hR hK hg8 rfl hown (by rw [htb]; exact (Cat.self hK rfl (by decide +kernel) (by decide) (hts _ q841))) ?_
      refine lv_astore_n (lv' := [(1, .ref (z + x3)), (0, .ref (z + 0))]) hx hb dX0_choice_59 rfl hl (by decide) rfl (fun ls hl => ?_)
      refine lv_bipush (v := -10) hx hb dX0_choice_60 (by decide) ?_
      refine lv_aload_n hx hb dX0_choice_62 rfl (lv_at hl 0 rfl) ?_
      refine x_get (k := 0) (o := "BarredBooks$Off") (n := "place") (d := "I") (fin := true) (ty := .int) (host := "BarredBooks") hx hb hts hown hK hR rfl (Fam.one (r := (RX17, TX17p, 1)) hg8 rfl ok17 (by decide)) (Or.inr (hN.at q997 rfl)) (fun _ h9 => h9) (v := .int (wI qw4 x3 0)) rfl dX0_choice_63 ?_
      refine lv_isub hx hb dX0_choice_66 ?_
      have h := Option.some.inj h
      subst h
      exact W.toT (W.iret (v := (-10 : Int32) - (wI qw4 x3 0)) hx hb hr (fun t ht _ => ⟨rfl, by rw [ht]; exact hR, hF⟩) hL dX0_choice_67)
    dsimp only at h
    obtain ⟨hz6, h⟩ := grd h
    refine k_TR (v := (some (rfv z v2))) (w := qw4) (mc := wZ qw4 - wZ w) (ms := 80 * (wZ qw4 - wZ w)) (st1 := [rfv z v2]) (runT_V (As := []) (rest := []) ⟨hx, hb, hml, hown, hts⟩ (met_X0_takesText l htr G z H0 B n w  (.inl v2, qw4) hq5 hZ.2) hd_X0_takesText q842 q844 qs6 q100 q845 ⟨Nat.le_of_ble_eq_true rfl, Nat.le_of_ble_eq_true rfl⟩ (preVT (q := (RX0, TX0, 40)) hK hR hF hN hS (congrArg Prod.fst (hF.2.1 0 (1, 0) rfl)) rfl) rfl rfl hl.1 rfl (lv_room (Nat.le_of_ble_eq_true rfl)) dX0_choice_13 ⟨by dsimp only; omega, by dsimp only; omega⟩) hL rfl (fun H locs hR hF hL => ?_)
    refine W.wid (b := wZ qw4) (by omega) hZ.1 (Nat.le_refl _) ?_
    have hZ : z0 ≤ wZ qw4 ∧ wZ qw4 ≤ B := ⟨by omega, hz6.2⟩
    refine x_astore_n (lv' := [(1, rfv z v2), (0, .ref (z + 0))]) hx hb dX0_choice_16 rfl hl (by decide) rfl (fun ls hl => ?_)
    refine x_aload_n hx hb dX0_choice_17 rfl (lv_at hl 0 rfl) ?_
    obtain ⟨q9, hq10, h⟩ := bnd h
    refine k_P (st1 := [.int (bI q9)]) (va_runS (As := [rfv z v2]) (rest := []) ⟨hx, hb, hml, hown, hts⟩ (met_X0_canBeChosen l G z H0 qw4 v2 q9 hq10) (va_cwS 1 hts (lw_S q1452 q1453 q100 q1454) rfl rfl rfl hd_X0_canBeChosen ⟨Nat.le_of_ble_eq_true rfl, Nat.le_of_ble_eq_true rfl⟩) (preS hK hR hF hN) rfl rfl hl.1 rfl (lv_room (Nat.le_of_ble_eq_true rfl)) dX0_choice_18 ⟨by dsimp only; omega, by dsimp only; omega⟩) hL rfl (fun locs hL => ?_)
    refine W.wid (b := wZ qw4) (Nat.le_refl _) hZ.1 (Nat.le_refl _) ?_
    refine lv_if_ne (tgt := 27) hx hb dX0_choice_21 (by decide) (fun c11 => ?_) (fun c11 => ?_)
    · rw [if_pos (bI_p c11)] at h
      refine lv_aload_n hx hb dX0_choice_27 rfl (lv_at hl 1 rfl) ?_
      refine x_get (k := 27) (o := "BarredBooks") (n := "choices") (d := "[LBarredBooks$Clause;") (fin := true) (ty := (.array (.object "BarredBooks$Clause"))) (host := "BarredBooks") hx hb hts hown hK hR rfl (Fam.one (r := (RX0, TX0, 40)) (congrArg Prod.fst (hF.2.1 0 (1, 0) rfl)) rfl ok0 (by decide)) (Or.inl (hts _ q246)) (fun _ h9 => h9) (v := .ref (z + 45)) (fv_fix hF rfl rfl) dX0_choice_28 ?_
      refine lv_aload_n hx hb dX0_choice_31 rfl (lv_at hl 1 rfl) ?_
      refine x_get (k := 28) (o := "BarredBooks") (n := "choiceMany") (d := "I") (fin := false) (ty := .int) (host := "BarredBooks") hx hb hts hown hK hR rfl (Fam.one (r := (RX0, TX0, 40)) (congrArg Prod.fst (hF.2.1 0 (1, 0) rfl)) rfl ok0 (by decide)) (Or.inl (hts _ q247)) (fun _ h9 => h9) (v := .int (wI qw4 0 28)) rfl dX0_choice_32 ?_
      refine x_aload_n hx hb dX0_choice_35 rfl (lv_at hl 0 rfl) ?_
      obtain ⟨r12, hr13, h⟩ := bnd h
      obtain ⟨hg14, h⟩ := grd h
      refine x_get (k := 2) (o := "BarredBooks$Decree") (n := "clauses") (d := "Ljava/util/ArrayList;") (fin := true) (ty := (.object "java/util/ArrayList")) (host := "BarredBooks") hx hb hts hown hK hR (rfv_some hr13) (Fam.one (r := (RX16, TX16, 3)) hg14 rfl ok16 (by decide)) (Or.inr (hN.at q906 rfl)) (fun _ h9 => h9) (v := rfv z (wR qw4 r12 2)) rfl dX0_choice_36 ?_
      refine lv_iconst (v := 0) hx hb dX0_choice_39 (by decide) ?_
      obtain ⟨r15, hr16, h⟩ := bnd h
      obtain ⟨hg17, h⟩ := grd h
      obtain ⟨q18, hq19, h⟩ := bnd h
      refine k_P (st1 := [rfv z q18, .int (wI qw4 0 28), .ref (z + 45)]) (va_runV (As := [.int (0 : Int32)]) (rest := [.int (wI qw4 0 28), .ref (z + 45)]) ⟨hx, hb, hml, hown, hts⟩ (met_J9_get l G z H0 qw4 r15 (0 : Int32) q18 hq19 hg17) (cwV 1 hts (lw_V q1352 q1242 q1243 q126 q1244) rfl rfl rfl ⟨rfl, hd_J9_get⟩ ⟨Nat.le_of_ble_eq_true rfl, Nat.le_of_ble_eq_true rfl⟩) (preV (q := (RJ9, TJ9, 3)) hK hR hF hN hg17 rfl) rfl rfl hl.1 (by rw [(rfv_some hr16)]; rfl) (lv_room (Nat.le_of_ble_eq_true rfl)) dX0_choice_40 ⟨by dsimp only; omega, by dsimp only; omega⟩) hL rfl (fun locs hL => ?_)
      refine W.wid (b := wZ qw4) (Nat.le_refl _) hZ.1 (Nat.le_refl _) ?_
      obtain ⟨r20, hr21, h⟩ := bnd h
      obtain ⟨hg22, h⟩ := grd h
      suffices hk23 : W p l e ({ frames := 33, cells := B - z0, slots := 80 * (B - z0), locals := 717 } : Room) s m ([.ref (z + 0)] : List Value).toArray below meth c H locs (wZ qw4 - z0) (80 * (wZ qw4 - z0)) (MQT below (qT G z H0 q.2 (cvI q.1)) ([.ref (z + 0)] : List Value).toArray s (wZ q.2 - z0) (80 * (wZ q.2 - z0)) (fun q => z ≤ q)) (F0 m 46 ls [rfv z q18, .int (wI qw4 0 28), .ref (z + 45)]) by
        have c24 : (wT qw4 r20).1 = 19 ∨ (wT qw4 r20).1 = 20 ∨ (wT qw4 r20).1 = 21 ∨ (wT qw4 r20).1 = 22 := by omega
        rcases c24 with c24 | c24 | c24 | c24
        · exact x_cast (nm := "BarredBooks$Clause") (ci := 18) (r := (RX19, TX19, 2)) hx hb hown (hts _ q207) hK hR (rfv_some hr21) c24 rfl (Or.inr (hN.at q2314 rfl)) dX0_choice_43 hk23
        · exact x_cast (nm := "BarredBooks$Clause") (ci := 19) (r := (RX20, TX20, 2)) hx hb hown (hts _ q207) hK hR (rfv_some hr21) c24 rfl (Or.inr (hN.at q2317 rfl)) dX0_choice_43 hk23
        · exact x_cast (nm := "BarredBooks$Clause") (ci := 20) (r := (RX21, TX21, 1)) hx hb hown (hts _ q207) hK hR (rfv_some hr21) c24 rfl (Or.inr (hN.at q2315 rfl)) dX0_choice_43 hk23
        · exact x_cast (nm := "BarredBooks$Clause") (ci := 21) (r := (RX26, TX26, 2)) hx hb hown (hts _ q207) hK hR (rfv_some hr21) c24 rfl (Or.inr (hN.at q2316 rfl)) dX0_choice_43 hk23
      obtain ⟨hb25, h⟩ := grd h
      suffices hk26 : ∀ (H : Heap) (locs : List Loc), Rp G z H0 (sR qw4 45 ((wI qw4 0 28).toNatClampNeg) (some r20)) H → lok z locs → W p l e ({ frames := 33, cells := B - z0, slots := 80 * (B - z0), locals := 717 } : Room) s m ([.ref (z + 0)] : List Value).toArray below meth c H locs (wZ qw4 - z0) (80 * (wZ qw4 - z0)) (MQT below (qT G z H0 q.2 (cvI q.1)) ([.ref (z + 0)] : List Value).toArray s (wZ q.2 - z0) (80 * (wZ q.2 - z0)) (fun q => z ≤ q)) (F0 m 47 ls []) by
        have c27 : (wT qw4 r20).1 = 19 ∨ (wT qw4 r20).1 = 20 ∨ (wT qw4 r20).1 = 21 ∨ (wT qw4 r20).1 = 22 := by omega
        rcases c27 with c27 | c27 | c27 | c27
        · exact x_aast (t := 14) (E := "BarredBooks$Clause") (ci := 18) (r := (RX19, TX19, 2)) hx hb hK hR hL rfl (hF.2.1 45 (214, 8) rfl) (by decide) rfl (rfv_some hr21) c27 rfl (Or.inr (hN.at q2314 rfl)) hb25 dX0_choice_46 hk26
        · exact x_aast (t := 14) (E := "BarredBooks$Clause") (ci := 19) (r := (RX20, TX20, 2)) hx hb hK hR hL rfl (hF.2.1 45 (214, 8) rfl) (by decide) rfl (rfv_some hr21) c27 rfl (Or.inr (hN.at q2317 rfl)) hb25 dX0_choice_46 hk26
        · exact x_aast (t := 14) (E := "BarredBooks$Clause") (ci := 20) (r := (RX21, TX21, 1)) hx hb hK hR hL rfl (hF.2.1 45 (214, 8) rfl) (by decide) rfl (rfv_some hr21) c27 rfl (Or.inr (hN.at q2315 rfl)) hb25 dX0_choice_46 hk26
        · exact x_aast (t := 14) (E := "BarredBooks$Clause") (ci := 21) (r := (RX26, TX26, 2)) hx hb hK hR hL rfl (hF.2.1 45 (214, 8) rfl) (by decide) rfl (rfv_some hr21) c27 rfl (Or.inr (hN.at q2316 rfl)) hb25 dX0_choice_46 hk26
      intro H locs hR hL
      rw [← wT_sR _ 45 ((wI qw4 0 28).toNatClampNeg) (some r20)] at hg14
      rw [← wT_sR _ 45 ((wI qw4 0 28).toNatClampNeg) (some r20)] at hg17
      rw [← wT_sR _ 45 ((wI qw4 0 28).toNatClampNeg) (some r20)] at hg22
      have hF := hF.sR (a := 45) (f := (wI qw4 0 28).toNatClampNeg) (v := some r20) rfl
      refine lv_aload_n hx hb dX0_choice_47 rfl (lv_at hl 1 rfl) ?_
      refine lv_dup hx hb dX0_choice_48 rfl ?_
      refine x_get (k := 28) (o := "BarredBooks") (n := "choiceMany") (d := "I") (fin := false) (ty := .int) (host := "BarredBooks") hx hb hts hown hK hR rfl (Fam.one (r := (RX0, TX0, 40)) (congrArg Prod.fst (hF.2.1 0 (1, 0) rfl)) rfl ok0 (by decide)) (Or.inl (hts _ q247)) (fun _ h9 => h9) (v := .int (wI qw4 0 28)) rfl dX0_choice_49 ?_
      refine lv_dup_x1 hx hb dX0_choice_52 rfl rfl ?_
      refine lv_iconst (v := 1) hx hb dX0_choice_53 (by decide) ?_
      refine lv_iadd hx hb dX0_choice_54 ?_
      refine x_putI (k := 28) (o := "BarredBooks") (n := "choiceMany") (d := "I") (fin := false) (ty := .int) (host := "BarredBooks") hx hb hts hown hK hR hL rfl (Fam.one (r := (RX0, TX0, 40)) (congrArg Prod.fst (hF.2.1 0 (1, 0) rfl)) rfl ok0 (by decide)) (Or.inl (hts _ q247)) (fun _ h9 => h9) (Or.inl rfl) rfl rfl rfl dX0_choice_55 (fun H locs hR hL => ?_)
      rw [← wT_sI _ 0 28 ((wI qw4 0 28) + (1 : Int32))] at hg14
      rw [← wT_sI _ 0 28 ((wI qw4 0 28) + (1 : Int32))] at hg17
      rw [← wT_sI _ 0 28 ((wI qw4 0 28) + (1 : Int32))] at hg22
      have hF := hF.sI 0 28 ((wI qw4 0 28) + (1 : Int32))
      have h := Option.some.inj h
      subst h
      refine W.widen (k := wZ (sI (sR qw4 45 ((wI qw4 0 28).toNatClampNeg) (some r20)) 0 28 ((wI qw4 0 28) + (1 : Int32))) - z0) (n := 80 * (wZ (sI (sR qw4 45 ((wI qw4 0 28).toNatClampNeg) (some r20)) 0 28 ((wI qw4 0 28) + (1 : Int32))) - z0)) (Nat.le_refl _) (Nat.le_refl _) ?_
      exact W.toT (W.iret (v := wI qw4 0 28) hx hb hr (fun t ht _ => ⟨rfl, by rw [ht]; exact hR, hF⟩) hL dX0_choice_58)
    · rw [if_neg (bI_n c11)] at h
      refine lv_bipush (v := -2) hx hb dX0_choice_24 (by decide) ?_
      have h := Option.some.inj h
      subst h
      exact W.toT (W.iret (v := (-2 : Int32)) hx hb hr (fun t ht _ => ⟨rfl, by rw [ht]; exact hR, hF⟩) hL dX0_choice_26)
  · rw [if_pos c1] at h
    refine lv_bipush (v := -4) hx hb dX0_choice_9 (by decide) ?_
    have h := Option.some.inj h
    subst h
    exact W.toT (W.iret (v := (-4 : Int32)) hx hb hr (fun t ht _ => ⟨rfl, by rw [ht]; exact hR, hF⟩) hL dX0_choice_11)
def f_X0_item (B n : Nat) (a1 : Int32) (a2 : Int32) (a3 : Int64) (w : Wd) : Option ((Int32 ⊕ Nat) × Wd) :=
  if (f_X0_isTape a1 w) then (if inb a1 6 then ((wR w 19 a1.toNatClampNeg).bind fun r3 => if (wT w r3).1 = 4 then ((f_X3_has B n r3 a2 w).bind fun q11 => (match q11 with | (.inl v6, qw8) => if wZ w ≤ wZ qw8 ∧ wZ qw8 ≤ B then (if (wT qw8 r3).1 = 4 then (if isRow qw8 (wR qw8 r3 0) = true then (if isA qw8 (wR qw8 r3 0) 201 then ((wR qw8 r3 0).bind fun r40 => if (wT qw8 r40).1 = 201 then (if inb a2 (wT qw8 r40).2 then (some (.inl (1 : Int32), sI qw8 r40 a2.toNatClampNeg a3.toInt32.toInt8.toInt32.toInt8.toInt32)) else none) else none) else (if isRow qw8 (wR qw8 r3 0) = true then (if isA qw8 (wR qw8 r3 0) 202 then ((wR qw8 r3 0).bind fun r36 => if (wT qw8 r36).1 = 202 then (if inb a2 (wT qw8 r36).2 then (some (.inl (1 : Int32), sI qw8 r36 a2.toNatClampNeg a3.toInt32.toInt16.toInt32.toInt16.toInt32)) else none) else none) else (if isRow qw8 (wR qw8 r3 0) = true then (if isA qw8 (wR qw8 r3 0) 200 then ((wR qw8 r3 0).bind fun r32 => if (wT qw8 r32).1 = 200 then (if inb a2 (wT qw8 r32).2 then (some (.inl (1 : Int32), sI qw8 r32 a2.toNatClampNeg a3.toInt32)) else none) else none) else (if isRow qw8 (wR qw8 r3 0) = true then (if isA qw8 (wR qw8 r3 0) 204 then ((wR qw8 r3 0).bind fun r28 => if (wT qw8 r28).1 = 204 then (if inb a2 (wT qw8 r28).2 then (some (.inl (1 : Int32), sL qw8 r28 a2.toNatClampNeg a3)) else none) else none) else ((wR qw8 r3 0).bind fun r22 => if (wT qw8 r22).1 = 203 then (if (lg_cmp a3 (0 : Int64)) = 0 then (if inb a2 (wT qw8 r22).2 then (some (.inl (1 : Int32), sI qw8 r22 a2.toNatClampNeg ((0 : Int32) &&& 1))) else none) else (if inb a2 (wT qw8 r22).2 then (some (.inl (1 : Int32), sI qw8 r22 a2.toNatClampNeg ((1 : Int32) &&& 1))) else none)) else none)) else none)) else none)) else none)) else none) else none) else none | (.inr x7, qw8) => if wZ w ≤ wZ qw8 ∧ wZ qw8 ≤ B then (if (wT qw8 x7).1 = 18 then (some (.inl (wI qw8 x7 0), qw8)) else none) else none)) else none) else none) else (some (.inl (-1 : Int32), w))
theorem hd_X0_item : yX0_item.cls ≠ "java/lang/invoke/MethodHandle" ∧ yX0_item.cls ≠ "java/lang/invoke/VarHandle" ∧ (parseMethodDescriptor yX0_item.desc).map (fun d => d.parameters.length) = some 3 := by decide +kernel
set_option maxHeartbeats 4000000 in
set_option maxRecDepth 100000 in
theorem met_X0_item (l : Launch) (htr : ∀ e, l.admits e → e.platform.stackTraces = false) (G : Gw) (z : Nat) (H0 : Heap) (B n : Nat) (w : Wd) (a1 : Int32) (a2 : Int32) (a3 : Int64) (q : (Int32 ⊕ Nat) × Wd) (h : f_X0_item B n a1 a2 a3 w = some q)  (hB : wZ w ≤ B) : MetT l yX0_item (wsW_ yX0_item cX0_item 11 (some .int) [(17, 23, 26, 283)]) ({ frames := 7, cells := B - wZ w, slots := 80 * (B - wZ w), locals := 122 } : Room) (pcT G z H0 w [.ref (z + 0), .int a1, .int a2, .long a3]) (qT G z H0 q.2 (cvI q.1)) (wZ q.2 - wZ w) (80 * (wZ q.2 - wZ w)) (fun q => z ≤ q) := by
  refine mTH (by decide) (Nat.le_of_ble_eq_true rfl) ?_
  intro p e s m below meth c ls hx hb hr hml hown hts hlocks hnm htb hK hR hF hN hS hl
  have hown : s.vm.findClass RX0 = some m.cls := hown
  have hl : lv_has ls 11 [(0, .ref (z + 0)), (1, .int a1), (2, .int a2), (3, .long a3)] := hl
  have hL : lok z [] := lok_nil
  unfold f_X0_item at h
  obtain ⟨z0, hz0⟩ : ∃ z0, wZ w = z0 := ⟨_, rfl⟩
  rw [hz0]
  refine W.widen (k := wZ w - z0) (n := 80 * (wZ w - z0)) (Nat.zero_le _) (Nat.zero_le _) ?_
  have hZ : z0 ≤ wZ w ∧ wZ w ≤ B := ⟨by omega, hB⟩
  generalize s.heap = H at hR ⊢
  generalize ([] : List Loc) = locs at hL ⊢
  refine lv_iload_n hx hb dX0_item_0 rfl (lv_at hl 1 rfl) ?_
  refine k_P (st1 := [.int (bI (f_X0_isTape a1 w))]) (va_runS (As := [.int a1]) (rest := []) ⟨hx, hb, hml, hown, hts⟩ (met_X0_isTape l G z H0 w a1 _ rfl) (va_cwS 1 hts (lw_S q1519 q1520 q100 q1521) rfl rfl rfl hd_X0_isTape ⟨Nat.le_of_ble_eq_true rfl, Nat.le_of_ble_eq_true rfl⟩) (preS hK hR hF hN) rfl rfl hl.1 rfl (lv_room (Nat.le_of_ble_eq_true rfl)) dX0_item_1 ⟨by dsimp only; omega, by dsimp only; omega⟩) hL rfl (fun locs hL => ?_)
  refine W.wid (b := wZ w) (Nat.le_refl _) hZ.1 (Nat.le_refl _) ?_
  refine lv_if_ne (tgt := 9) hx hb dX0_item_4 (by decide) (fun c1 => ?_) (fun c1 => ?_)
  · rw [if_pos (bI_p c1)] at h
    refine lv_aload_n hx hb dX0_item_9 rfl (lv_at hl 0 rfl) ?_
    refine x_get (k := 16) (o := "BarredBooks") (n := "tapes") (d := "[LBarredBooks$Tape;") (fin := true) (ty := (.array (.object "BarredBooks$Tape"))) (host := "BarredBooks") hx hb hts hown hK hR rfl (Fam.one (r := (RX0, TX0, 40)) (congrArg Prod.fst (hF.2.1 0 (1, 0) rfl)) rfl ok0 (by decide)) (Or.inl (hts _ q235)) (fun _ h9 => h9) (v := .ref (z + 19)) (fv_fix hF rfl rfl) dX0_item_10 ?_
    refine lv_iload_n hx hb dX0_item_13 rfl (lv_at hl 1 rfl) ?_
    obtain ⟨hb2, h⟩ := grd h
    refine x_aald (v := rfv z (wR w 19 a1.toNatClampNeg)) (t := 12) hx hb hK hR rfl (hF.2.1 19 (212, 6) rfl) (by decide) rfl hb2 rfl dX0_item_14 ?_
    refine x_astore (lv' := [(5, rfv z (wR w 19 a1.toNatClampNeg)), (0, .ref (z + 0)), (1, .int a1), (2, .int a2), (3, .long a3)]) hx hb dX0_item_15 hl (by decide) rfl (fun ls hl => ?_)
    refine x_aload hx hb dX0_item_17 (lv_at hl 0 rfl) ?_
    refine lv_iload_n hx hb dX0_item_19 rfl (lv_at hl 3 rfl) ?_
    obtain ⟨r3, hr4, h⟩ := bnd h
    obtain ⟨hg5, h⟩ := grd h
    obtain ⟨⟨v6 | x7, qw8⟩, hq9, h⟩ := bnd h
    rotate_left
    · dsimp only at h
      obtain ⟨hz10, h⟩ := grd h
      obtain ⟨hg12, h⟩ := grd h
      refine k_TT (w := qw8) (x := x7) (mc := wZ qw8 - wZ w) (ms := 80 * (wZ qw8 - wZ w)) (runT_VN (As := [.int a2]) (rest := []) ⟨hx, hb, hml, hown, hts⟩ (met_X3_has l htr G z H0 B n w r3 a2 (.inr x7, qw8) hq9 hg5 hZ.2) hd_X3_has (hN.at q1564 rfl) q1566 qs39 q103 q1567 ⟨Nat.le_of_ble_eq_true rfl, Nat.le_of_ble_eq_true rfl⟩ (preVT (q := (RX3, TX3, 1)) hK hR hF hN hS hg5 rfl) rfl rfl hl.1 (by rw [(rfv_some hr4)]; rfl) (lv_room (Nat.le_of_ble_eq_true rfl)) dX0_item_20 ⟨by dsimp only; omega, by dsimp only; omega⟩) hL (fun H locs hR hF hL => ?_)
      refine WT.widen (k := wZ qw8 - z0) (n := 80 * (wZ qw8 - z0)) (by omega) (by omega) ?_
      have hZ : z0 ≤ wZ qw8 ∧ wZ qw8 ≤ B := ⟨by omega, hz10.2⟩
      refine x_caught (q := 26) hR hK hg12 rfl hown (by rw [htb]; exact (Cat.self hK rfl (by decide +kernel) (by decide) (hts _ q841))) ?_
      refine lv_astore (lv' := [(6, .ref (z + x7)), (5, rfv z (wR w 19 a1.toNatClampNeg)), (0, .ref (z + 0)), (1, .int a1), (2, .int a2), (3, .long a3)]) hx hb dX0_item_26 hl (by decide) (by simp [cat_rfv, cat_i, cat_r, cat_l, cat_n]) (fun ls hl => ?_)
      refine lv_aload hx hb dX0_item_28 (lv_at hl 0 rfl) ?_
      refine x_get (k := 0) (o := "BarredBooks$Off") (n := "place") (d := "I") (fin := true) (ty := .int) (host := "BarredBooks") hx hb hts hown hK hR rfl (Fam.one (r := (RX17, TX17p, 1)) hg12 rfl ok17 (by decide)) (Or.inr (hN.at q997 rfl)) (fun _ h9 => h9) (v := .int (wI qw8 x7 0)) rfl dX0_item_30 ?_
      have h := Option.some.inj h
      subst h
      exact W.toT (W.iret (v := wI qw8 x7 0) hx hb hr (fun t ht _ => ⟨rfl, by rw [ht]; exact hR, hF⟩) hL dX0_item_33)
    dsimp only at h
    obtain ⟨hz10, h⟩ := grd h
    refine k_TR (v := none) (w := qw8) (mc := wZ qw8 - wZ w) (ms := 80 * (wZ qw8 - wZ w)) (st1 := []) (runT_VN (As := [.int a2]) (rest := []) ⟨hx, hb, hml, hown, hts⟩ (met_X3_has l htr G z H0 B n w r3 a2 (.inl v6, qw8) hq9 hg5 hZ.2) hd_X3_has (hN.at q1564 rfl) q1566 qs39 q103 q1567 ⟨Nat.le_of_ble_eq_true rfl, Nat.le_of_ble_eq_true rfl⟩ (preVT (q := (RX3, TX3, 1)) hK hR hF hN hS hg5 rfl) rfl rfl hl.1 (by rw [(rfv_some hr4)]; rfl) (lv_room (Nat.le_of_ble_eq_true rfl)) dX0_item_20 ⟨by dsimp only; omega, by dsimp only; omega⟩) hL rfl (fun H locs hR hF hL => ?_)
    refine W.wid (b := wZ qw8) (by omega) hZ.1 (Nat.le_refl _) ?_
    have hZ : z0 ≤ wZ qw8 ∧ wZ qw8 ≤ B := ⟨by omega, hz10.2⟩
    refine lv_goto (tgt := 34) hx hb dX0_item_23 (by decide) ?_
    refine x_aload hx hb dX0_item_34 (lv_at hl 0 rfl) ?_
    obtain ⟨hg13, h⟩ := grd h
    refine x_get (k := 0) (o := "BarredBooks$Tape") (n := "row") (d := "Ljava/lang/Object;") (fin := false) (ty := (.object "java/lang/Object")) (host := "BarredBooks") hx hb hts hown hK hR (rfv_some hr4) (Fam.one (r := (RX3, TX3, 1)) hg13 rfl ok3 (by decide)) (Or.inr (hN.at q215 rfl)) (fun _ h9 => h9) (v := rfv z (wR qw8 r3 0)) rfl dX0_item_36 ?_
    refine x_astore (lv' := [(10, rfv z (wR qw8 r3 0)), (5, rfv z (wR w 19 a1.toNatClampNeg)), (0, .ref (z + 0)), (1, .int a1), (2, .int a2), (3, .long a3)]) hx hb dX0_item_39 hl (by decide) rfl (fun ls hl => ?_)
    refine x_aload hx hb dX0_item_41 (lv_at hl 0 rfl) ?_
    obtain ⟨hb14, h⟩ := grd h
    refine x_instA (r := wR qw8 r3 0) (t := 1) hx hb hown (hts _ q1580) hK hN hR rfl (by decide) rfl hb14 dX0_item_43 ?_
    refine lv_if_eq (tgt := 66) hx hb dX0_item_46 (by decide) (fun c15 => ?_) (fun c15 => ?_)
    · rw [if_neg (bI_n c15)] at h
      refine x_aload hx hb dX0_item_66 (lv_at hl 1 rfl) ?_
      refine x_get (k := 0) (o := "BarredBooks$Tape") (n := "row") (d := "Ljava/lang/Object;") (fin := false) (ty := (.object "java/lang/Object")) (host := "BarredBooks") hx hb hts hown hK hR (rfv_some hr4) (Fam.one (r := (RX3, TX3, 1)) hg13 rfl ok3 (by decide)) (Or.inr (hN.at q215 rfl)) (fun _ h9 => h9) (v := rfv z (wR qw8 r3 0)) rfl dX0_item_68 ?_
      refine x_astore (lv' := [(10, rfv z (wR qw8 r3 0)), (5, rfv z (wR w 19 a1.toNatClampNeg)), (0, .ref (z + 0)), (1, .int a1), (2, .int a2), (3, .long a3)]) hx hb dX0_item_71 hl (by decide) rfl (fun ls hl => ?_)
      refine x_aload hx hb dX0_item_73 (lv_at hl 0 rfl) ?_
      obtain ⟨hb16, h⟩ := grd h
      refine x_instA (r := wR qw8 r3 0) (t := 2) hx hb hown (hts _ q1523) hK hN hR rfl (by decide) rfl hb16 dX0_item_75 ?_
      refine lv_if_eq (tgt := 98) hx hb dX0_item_78 (by decide) (fun c17 => ?_) (fun c17 => ?_)
      · rw [if_neg (bI_n c17)] at h
        refine x_aload hx hb dX0_item_98 (lv_at hl 1 rfl) ?_
        refine x_get (k := 0) (o := "BarredBooks$Tape") (n := "row") (d := "Ljava/lang/Object;") (fin := false) (ty := (.object "java/lang/Object")) (host := "BarredBooks") hx hb hts hown hK hR (rfv_some hr4) (Fam.one (r := (RX3, TX3, 1)) hg13 rfl ok3 (by decide)) (Or.inr (hN.at q215 rfl)) (fun _ h9 => h9) (v := rfv z (wR qw8 r3 0)) rfl dX0_item_100 ?_
        refine x_astore (lv' := [(10, rfv z (wR qw8 r3 0)), (5, rfv z (wR w 19 a1.toNatClampNeg)), (0, .ref (z + 0)), (1, .int a1), (2, .int a2), (3, .long a3)]) hx hb dX0_item_103 hl (by decide) rfl (fun ls hl => ?_)
        refine x_aload hx hb dX0_item_105 (lv_at hl 0 rfl) ?_
        obtain ⟨hb18, h⟩ := grd h
        refine x_instA (r := wR qw8 r3 0) (t := 0) hx hb hown (hts _ q1581) hK hN hR rfl (by decide) rfl hb18 dX0_item_107 ?_
        refine lv_if_eq (tgt := 129) hx hb dX0_item_110 (by decide) (fun c19 => ?_) (fun c19 => ?_)
        · rw [if_neg (bI_n c19)] at h
          refine x_aload hx hb dX0_item_129 (lv_at hl 1 rfl) ?_
          refine x_get (k := 0) (o := "BarredBooks$Tape") (n := "row") (d := "Ljava/lang/Object;") (fin := false) (ty := (.object "java/lang/Object")) (host := "BarredBooks") hx hb hts hown hK hR (rfv_some hr4) (Fam.one (r := (RX3, TX3, 1)) hg13 rfl ok3 (by decide)) (Or.inr (hN.at q215 rfl)) (fun _ h9 => h9) (v := rfv z (wR qw8 r3 0)) rfl dX0_item_131 ?_
          refine x_astore (lv' := [(10, rfv z (wR qw8 r3 0)), (5, rfv z (wR w 19 a1.toNatClampNeg)), (0, .ref (z + 0)), (1, .int a1), (2, .int a2), (3, .long a3)]) hx hb dX0_item_134 hl (by decide) rfl (fun ls hl => ?_)
          refine x_aload hx hb dX0_item_136 (lv_at hl 0 rfl) ?_
          obtain ⟨hb20, h⟩ := grd h
          refine x_instA (r := wR qw8 r3 0) (t := 4) hx hb hown (hts _ q1582) hK hN hR rfl (by decide) rfl hb20 dX0_item_138 ?_
          refine lv_if_eq (tgt := 159) hx hb dX0_item_141 (by decide) (fun c21 => ?_) (fun c21 => ?_)
          · rw [if_neg (bI_n c21)] at h
            refine x_aload hx hb dX0_item_159 (lv_at hl 1 rfl) ?_
            refine x_get (k := 0) (o := "BarredBooks$Tape") (n := "row") (d := "Ljava/lang/Object;") (fin := false) (ty := (.object "java/lang/Object")) (host := "BarredBooks") hx hb hts hown hK hR (rfv_some hr4) (Fam.one (r := (RX3, TX3, 1)) hg13 rfl ok3 (by decide)) (Or.inr (hN.at q215 rfl)) (fun _ h9 => h9) (v := rfv z (wR qw8 r3 0)) rfl dX0_item_161 ?_
            obtain ⟨r22, hr23, h⟩ := bnd h
            obtain ⟨hg24, h⟩ := grd h
            refine x_castA (t := 3) hx hb hown (hts _ q1583) hK hR (rfv_some hr23) (by decide) rfl hg24 dX0_item_164 ?_
            refine lv_iload_n hx hb dX0_item_167 rfl (lv_at hl 4 rfl) ?_
            refine lv_lload_n hx hb dX0_item_168 rfl (lv_at hl 5 rfl) ?_
            refine lv_lconst (v := 0) hx hb dX0_item_169 (by decide) ?_
            refine W.lcmp hx hb dX0_item_170 ?_
            refine lv_if_eq (tgt := 178) hx hb dX0_item_171 (by decide) (fun c25 => ?_) (fun c25 => ?_)
            · rw [if_pos c25] at h
              refine lv_iconst (v := 0) hx hb dX0_item_178 (by decide) ?_
              obtain ⟨hb26, h⟩ := grd h
              refine x_zast hx hb hK hR hL (rfv_some hr23) (wT_pair hg24) hb26 dX0_item_179 (fun H locs hR hL => ?_)
              rw [← wT_sI _ r22 a2.toNatClampNeg ((0 : Int32) &&& 1)] at hg13
              rw [← wT_sI _ r22 a2.toNatClampNeg ((0 : Int32) &&& 1)] at hg24
              have hF := hF.sI r22 (a2.toNatClampNeg) ((0 : Int32) &&& 1)
              refine lv_iconst (v := 1) hx hb dX0_item_180 (by decide) ?_
              have h := Option.some.inj h
              subst h
              refine W.widen (k := wZ (sI qw8 r22 a2.toNatClampNeg ((0 : Int32) &&& 1)) - z0) (n := 80 * (wZ (sI qw8 r22 a2.toNatClampNeg ((0 : Int32) &&& 1)) - z0)) (Nat.le_refl _) (Nat.le_refl _) ?_
              exact W.toT (W.iret (v := (1 : Int32)) hx hb hr (fun t ht _ => ⟨rfl, by rw [ht]; exact hR, hF⟩) hL dX0_item_181)
            · rw [if_neg c25] at h
              refine lv_iconst (v := 1) hx hb dX0_item_174 (by decide) ?_
              refine lv_goto (tgt := 179) hx hb dX0_item_175 (by decide) ?_
              obtain ⟨hb27, h⟩ := grd h
              refine x_zast hx hb hK hR hL (rfv_some hr23) (wT_pair hg24) hb27 dX0_item_179 (fun H locs hR hL => ?_)
              rw [← wT_sI _ r22 a2.toNatClampNeg ((1 : Int32) &&& 1)] at hg13
              rw [← wT_sI _ r22 a2.toNatClampNeg ((1 : Int32) &&& 1)] at hg24
              have hF := hF.sI r22 (a2.toNatClampNeg) ((1 : Int32) &&& 1)
              refine lv_iconst (v := 1) hx hb dX0_item_180 (by decide) ?_
              have h := Option.some.inj h
              subst h
              refine W.widen (k := wZ (sI qw8 r22 a2.toNatClampNeg ((1 : Int32) &&& 1)) - z0) (n := 80 * (wZ (sI qw8 r22 a2.toNatClampNeg ((1 : Int32) &&& 1)) - z0)) (Nat.le_refl _) (Nat.le_refl _) ?_
              exact W.toT (W.iret (v := (1 : Int32)) hx hb hr (fun t ht _ => ⟨rfl, by rw [ht]; exact hR, hF⟩) hL dX0_item_181)
          · rw [if_pos (bI_p c21)] at h
            refine x_aload hx hb dX0_item_144 (lv_at hl 0 rfl) ?_
            obtain ⟨r28, hr29, h⟩ := bnd h
            obtain ⟨hg30, h⟩ := grd h
            refine x_castA (t := 4) hx hb hown (hts _ q1582) hK hR (rfv_some hr29) (by decide) rfl hg30 dX0_item_146 ?_
            refine x_astore (lv' := [(9, rfv z (wR qw8 r3 0)), (10, rfv z (wR qw8 r3 0)), (5, rfv z (wR w 19 a1.toNatClampNeg)), (0, .ref (z + 0)), (1, .int a1), (2, .int a2), (3, .long a3)]) hx hb dX0_item_149 hl (by decide) rfl (fun ls hl => ?_)
            refine x_aload hx hb dX0_item_151 (lv_at hl 0 rfl) ?_
            refine lv_iload_n hx hb dX0_item_153 rfl (lv_at hl 5 rfl) ?_
            refine lv_lload_n hx hb dX0_item_154 rfl (lv_at hl 6 rfl) ?_
            obtain ⟨hb31, h⟩ := grd h
            refine x_last hx hb hK hR hL (rfv_some hr29) (wT_pair hg30) hb31 dX0_item_155 (fun H locs hR hL => ?_)
            rw [← wT_sL _ r28 a2.toNatClampNeg a3] at hg13
            rw [← wT_sL _ r28 a2.toNatClampNeg a3] at hg30
            have hF := hF.sL r28 (a2.toNatClampNeg) a3
            refine lv_goto (tgt := 180) hx hb dX0_item_156 (by decide) ?_
            refine lv_iconst (v := 1) hx hb dX0_item_180 (by decide) ?_
            have h := Option.some.inj h
            subst h
            refine W.widen (k := wZ (sL qw8 r28 a2.toNatClampNeg a3) - z0) (n := 80 * (wZ (sL qw8 r28 a2.toNatClampNeg a3) - z0)) (Nat.le_refl _) (Nat.le_refl _) ?_
            exact W.toT (W.iret (v := (1 : Int32)) hx hb hr (fun t ht _ => ⟨rfl, by rw [ht]; exact hR, hF⟩) hL dX0_item_181)
        · rw [if_pos (bI_p c19)] at h
          refine x_aload hx hb dX0_item_113 (lv_at hl 0 rfl) ?_
          obtain ⟨r32, hr33, h⟩ := bnd h
          obtain ⟨hg34, h⟩ := grd h
          refine x_castA (t := 0) hx hb hown (hts _ q1581) hK hR (rfv_some hr33) (by decide) rfl hg34 dX0_item_115 ?_
          refine x_astore (lv' := [(8, rfv z (wR qw8 r3 0)), (10, rfv z (wR qw8 r3 0)), (5, rfv z (wR w 19 a1.toNatClampNeg)), (0, .ref (z + 0)), (1, .int a1), (2, .int a2), (3, .long a3)]) hx hb dX0_item_118 hl (by decide) rfl (fun ls hl => ?_)
          refine x_aload hx hb dX0_item_120 (lv_at hl 0 rfl) ?_
          refine lv_iload_n hx hb dX0_item_122 rfl (lv_at hl 5 rfl) ?_
          refine lv_lload_n hx hb dX0_item_123 rfl (lv_at hl 6 rfl) ?_
          refine lv_l2i (v := a3.toInt32) hx hb dX0_item_124 rfl ?_
          obtain ⟨hb35, h⟩ := grd h
          refine x_iast hx hb hK hR hL (rfv_some hr33) (wT_pair hg34) hb35 dX0_item_125 (fun H locs hR hL => ?_)
          rw [← wT_sI _ r32 a2.toNatClampNeg a3.toInt32] at hg13
          rw [← wT_sI _ r32 a2.toNatClampNeg a3.toInt32] at hg34
          have hF := hF.sI r32 (a2.toNatClampNeg) a3.toInt32
          refine lv_goto (tgt := 180) hx hb dX0_item_126 (by decide) ?_
          refine lv_iconst (v := 1) hx hb dX0_item_180 (by decide) ?_
          have h := Option.some.inj h
          subst h
          refine W.widen (k := wZ (sI qw8 r32 a2.toNatClampNeg a3.toInt32) - z0) (n := 80 * (wZ (sI qw8 r32 a2.toNatClampNeg a3.toInt32) - z0)) (Nat.le_refl _) (Nat.le_refl _) ?_
          exact W.toT (W.iret (v := (1 : Int32)) hx hb hr (fun t ht _ => ⟨rfl, by rw [ht]; exact hR, hF⟩) hL dX0_item_181)
      · rw [if_pos (bI_p c17)] at h
        refine x_aload hx hb dX0_item_81 (lv_at hl 0 rfl) ?_
        obtain ⟨r36, hr37, h⟩ := bnd h
        obtain ⟨hg38, h⟩ := grd h
        refine x_castA (t := 2) hx hb hown (hts _ q1523) hK hR (rfv_some hr37) (by decide) rfl hg38 dX0_item_83 ?_
        refine x_astore (lv' := [(7, rfv z (wR qw8 r3 0)), (10, rfv z (wR qw8 r3 0)), (5, rfv z (wR w 19 a1.toNatClampNeg)), (0, .ref (z + 0)), (1, .int a1), (2, .int a2), (3, .long a3)]) hx hb dX0_item_86 hl (by decide) rfl (fun ls hl => ?_)
        refine x_aload hx hb dX0_item_88 (lv_at hl 0 rfl) ?_
        refine lv_iload_n hx hb dX0_item_90 rfl (lv_at hl 5 rfl) ?_
        refine lv_lload_n hx hb dX0_item_91 rfl (lv_at hl 6 rfl) ?_
        refine lv_l2i (v := a3.toInt32) hx hb dX0_item_92 rfl ?_
        refine lv_i2s (v := a3.toInt32.toInt16.toInt32) hx hb dX0_item_93 rfl ?_
        obtain ⟨hb39, h⟩ := grd h
        refine x_sast hx hb hK hR hL (rfv_some hr37) (wT_pair hg38) hb39 dX0_item_94 (fun H locs hR hL => ?_)
        rw [← wT_sI _ r36 a2.toNatClampNeg a3.toInt32.toInt16.toInt32.toInt16.toInt32] at hg13
        rw [← wT_sI _ r36 a2.toNatClampNeg a3.toInt32.toInt16.toInt32.toInt16.toInt32] at hg38
        have hF := hF.sI r36 (a2.toNatClampNeg) a3.toInt32.toInt16.toInt32.toInt16.toInt32
        refine lv_goto (tgt := 180) hx hb dX0_item_95 (by decide) ?_
        refine lv_iconst (v := 1) hx hb dX0_item_180 (by decide) ?_
        have h := Option.some.inj h
        subst h
        refine W.widen (k := wZ (sI qw8 r36 a2.toNatClampNeg a3.toInt32.toInt16.toInt32.toInt16.toInt32) - z0) (n := 80 * (wZ (sI qw8 r36 a2.toNatClampNeg a3.toInt32.toInt16.toInt32.toInt16.toInt32) - z0)) (Nat.le_refl _) (Nat.le_refl _) ?_
        exact W.toT (W.iret (v := (1 : Int32)) hx hb hr (fun t ht _ => ⟨rfl, by rw [ht]; exact hR, hF⟩) hL dX0_item_181)
    · rw [if_pos (bI_p c15)] at h
      refine x_aload hx hb dX0_item_49 (lv_at hl 0 rfl) ?_
      obtain ⟨r40, hr41, h⟩ := bnd h
      obtain ⟨hg42, h⟩ := grd h
      refine x_castA (t := 1) hx hb hown (hts _ q1580) hK hR (rfv_some hr41) (by decide) rfl hg42 dX0_item_51 ?_
      refine x_astore (lv' := [(6, rfv z (wR qw8 r3 0)), (10, rfv z (wR qw8 r3 0)), (5, rfv z (wR w 19 a1.toNatClampNeg)), (0, .ref (z + 0)), (1, .int a1), (2, .int a2), (3, .long a3)]) hx hb dX0_item_54 hl (by decide) (by simp [cat_rfv, cat_i, cat_r, cat_l, cat_n]) (fun ls hl => ?_)
      refine x_aload hx hb dX0_item_56 (lv_at hl 0 rfl) ?_
      refine lv_iload_n hx hb dX0_item_58 rfl (lv_at hl 5 rfl) ?_
      refine lv_lload_n hx hb dX0_item_59 rfl (lv_at hl 6 rfl) ?_
      refine lv_l2i (v := a3.toInt32) hx hb dX0_item_60 rfl ?_
      refine lv_i2b (v := a3.toInt32.toInt8.toInt32) hx hb dX0_item_61 rfl ?_
      obtain ⟨hb43, h⟩ := grd h
      refine x_bast hx hb hK hR hL (rfv_some hr41) (wT_pair hg42) hb43 dX0_item_62 (fun H locs hR hL => ?_)
      rw [← wT_sI _ r40 a2.toNatClampNeg a3.toInt32.toInt8.toInt32.toInt8.toInt32] at hg13
      rw [← wT_sI _ r40 a2.toNatClampNeg a3.toInt32.toInt8.toInt32.toInt8.toInt32] at hg42
      have hF := hF.sI r40 (a2.toNatClampNeg) a3.toInt32.toInt8.toInt32.toInt8.toInt32
      refine lv_goto (tgt := 180) hx hb dX0_item_63 (by decide) ?_
      refine lv_iconst (v := 1) hx hb dX0_item_180 (by decide) ?_
      have h := Option.some.inj h
      subst h
      refine W.widen (k := wZ (sI qw8 r40 a2.toNatClampNeg a3.toInt32.toInt8.toInt32.toInt8.toInt32) - z0) (n := 80 * (wZ (sI qw8 r40 a2.toNatClampNeg a3.toInt32.toInt8.toInt32.toInt8.toInt32) - z0)) (Nat.le_refl _) (Nat.le_refl _) ?_
      exact W.toT (W.iret (v := (1 : Int32)) hx hb hr (fun t ht _ => ⟨rfl, by rw [ht]; exact hR, hF⟩) hL dX0_item_181)
  · rw [if_neg (bI_n c1)] at h
    refine lv_iconst (v := -1) hx hb dX0_item_7 (by decide) ?_
    have h := Option.some.inj h
    subst h
    exact W.toT (W.iret (v := (-1 : Int32)) hx hb hr (fun t ht _ => ⟨rfl, by rw [ht]; exact hR, hF⟩) hL dX0_item_8)
