def f_X4_in (a1 : Int32) (a2 : Int32) (a3 : Int32) (w : Wd) : Bool :=
  if a1 < a2 then false else (if a3 < a1 then false else true)
theorem hd_X4_in : yX4_in.cls = RX4 ∧ yX4_in.cls ≠ "java/lang/invoke/MethodHandle" ∧ yX4_in.cls ≠ "java/lang/invoke/VarHandle" ∧ (parseMethodDescriptor yX4_in.desc).map (fun d => d.parameters.length) = some 3 := by decide +kernel
set_option maxHeartbeats 4000000 in
set_option maxRecDepth 100000 in
theorem met_X4_in (l : Launch) (G : Gw) (z : Nat) (H0 : Heap)  (w : Wd) (a1 : Int32) (a2 : Int32) (a3 : Int32) (q : Bool) (h : f_X4_in a1 a2 a3 w = q) : Met l yX4_in (ws_ yX4_in cX4_in 4 (some .boolean)) ({ frames := 0, cells := 0, slots := 0, locals := 0 } : Room) (pcW G z H0 w [.ref (z + 58), .int a1, .int a2, .int a3]) (qP (some (.int (bI q)))) 0 0 (fun q => z ≤ q) := by
  refine mW (by decide) (Nat.le_of_ble_eq_true rfl) ?_
  intro p e s m below meth c ls hx hb hr hml hown hts hlocks hnm hK hR hF hl
  have hown : s.vm.findClass RX4 = some m.cls := hown
  have hl : lv_has ls 4 [(0, .ref (z + 58)), (1, .int a1), (2, .int a2), (3, .int a3)] := hl
  have hL : lok z [] := lok_nil
  unfold f_X4_in at h
  generalize ([] : List Loc) = locs at hL ⊢
  refine lv_iload_n hx hb dX4_in_0 rfl (lv_at hl 1 rfl) ?_
  refine lv_iload_n hx hb dX4_in_1 rfl (lv_at hl 2 rfl) ?_
  refine lv_icmp_lt (tgt := 14) hx hb dX4_in_2 (by decide) (fun c1 => ?_) (fun c1 => ?_)
  · rw [if_pos c1] at h
    refine lv_iconst (v := 0) hx hb dX4_in_14 (by decide) ?_
    subst h
    exact W.zret (v := bI false) hx hb hr (bI_nar _) (fun t ht _ => ⟨rfl, ht⟩) hL dX4_in_15
  · rw [if_neg c1] at h
    refine lv_iload_n hx hb dX4_in_5 rfl (lv_at hl 1 rfl) ?_
    refine lv_iload_n hx hb dX4_in_6 rfl (lv_at hl 3 rfl) ?_
    refine lv_icmp_gt (tgt := 14) hx hb dX4_in_7 (by decide) (fun c2 => ?_) (fun c2 => ?_)
    · rw [if_pos c2] at h
      refine lv_iconst (v := 0) hx hb dX4_in_14 (by decide) ?_
      subst h
      exact W.zret (v := bI false) hx hb hr (bI_nar _) (fun t ht _ => ⟨rfl, ht⟩) hL dX4_in_15
    · rw [if_neg c2] at h
      refine lv_iconst (v := 1) hx hb dX4_in_10 (by decide) ?_
      refine lv_goto (tgt := 15) hx hb dX4_in_11 (by decide) ?_
      subst h
      exact W.zret (v := bI true) hx hb hr (bI_nar _) (fun t ht _ => ⟨rfl, ht⟩) hL dX4_in_15
def f_X4_pass (a1 : Int32) (w : Wd) : Int32 × Wd :=
  if (f_X4_in a1 (1 : Int32) (400 : Int32) w) then (if ((wI w 58 0) + a1) ≤ (9999 : Int32) then (((wI w 58 0) + a1, sI w 58 0 ((wI w 58 0) + a1))) else (((-2 : Int32), w))) else (((-2 : Int32), w))
theorem hd_X4_pass : yX4_pass.cls = RX4 ∧ yX4_pass.cls ≠ "java/lang/invoke/MethodHandle" ∧ yX4_pass.cls ≠ "java/lang/invoke/VarHandle" ∧ (parseMethodDescriptor yX4_pass.desc).map (fun d => d.parameters.length) = some 1 := by decide +kernel
set_option maxHeartbeats 4000000 in
set_option maxRecDepth 100000 in
theorem met_X4_pass (l : Launch) (G : Gw) (z : Nat) (H0 : Heap)  (w : Wd) (a1 : Int32) (q : Int32 × Wd) (h : f_X4_pass a1 w = q) : Met l yX4_pass (ws_ yX4_pass cX4_pass 2 (some .int)) ({ frames := 1, cells := 0, slots := 0, locals := 23 } : Room) (pcW G z H0 w [.ref (z + 58), .int a1]) (qW G z H0 q.2 (some (.int q.1))) 0 0 (fun q => z ≤ q) := by
  refine mW (by decide) (Nat.le_of_ble_eq_true rfl) ?_
  intro p e s m below meth c ls hx hb hr hml hown hts hlocks hnm hK hR hF hl
  have hown : s.vm.findClass RX4 = some m.cls := hown
  have hl : lv_has ls 2 [(0, .ref (z + 58)), (1, .int a1)] := hl
  have hL : lok z [] := lok_nil
  unfold f_X4_pass at h
  generalize s.heap = H at hR ⊢
  generalize ([] : List Loc) = locs at hL ⊢
  refine lv_aload_n hx hb dX4_pass_0 rfl (lv_at hl 0 rfl) ?_
  refine lv_iload_n hx hb dX4_pass_1 rfl (lv_at hl 1 rfl) ?_
  refine lv_iconst (v := 1) hx hb dX4_pass_2 (by decide) ?_
  refine lv_sipush (v := 400) hx hb dX4_pass_3 (by decide) ?_
  refine c_VP (a := 58) (ci := 4) (q := (RX4, TX4, 80)) (rest := []) (st1 := [.int (bI (f_X4_in a1 (1 : Int32) (400 : Int32) w))]) hx hb hml hown hts hK hR hF hL hl.1 (met_X4_in l G z H0 w a1 (1 : Int32) (400 : Int32) _ rfl) (congrArg Prod.fst (hF.2.1 58 (5, 0) rfl)) rfl rfl rfl hd_X4_in q1878 q1880 qs41 q104 q1881 ⟨Nat.le_of_ble_eq_true rfl, Nat.le_of_ble_eq_true rfl⟩ ⟨Nat.le_refl 0, Nat.le_refl 0⟩ rfl rfl (Nat.le_of_ble_eq_true rfl) dX4_pass_6 rfl (fun locs hL => ?_)
  refine lv_if_eq (tgt := 24) hx hb dX4_pass_9 (by decide) (fun c1 => ?_) (fun c1 => ?_)
  · rw [if_neg (bI_n c1)] at h
    refine lv_bipush (v := -2) hx hb dX4_pass_24 (by decide) ?_
    subst h
    exact W.iret (v := (-2 : Int32)) hx hb hr (fun t ht _ => ⟨rfl, by rw [ht]; exact hR, hF⟩) hL dX4_pass_26
  · rw [if_pos (bI_p c1)] at h
    refine lv_aload_n hx hb dX4_pass_12 rfl (lv_at hl 0 rfl) ?_
    refine r_get (C := RX4) (T := TX4) (N := 80) hx hb hts ok4 hown hK hR (congrArg Prod.fst (hF.2.1 58 (5, 0) rfl)) rfl 0 (by decide) (hts _ q1633) (fun _ h9 => h9) (v := .int (wI w 58 0)) rfl dX4_pass_13 ?_
    refine lv_iload_n hx hb dX4_pass_16 rfl (lv_at hl 1 rfl) ?_
    refine lv_iadd hx hb dX4_pass_17 ?_
    refine lv_sipush (v := 9999) hx hb dX4_pass_18 (by decide) ?_
    refine lv_icmp_le (tgt := 27) hx hb dX4_pass_21 (by decide) (fun c2 => ?_) (fun c2 => ?_)
    · rw [if_pos c2] at h
      refine lv_aload_n hx hb dX4_pass_27 rfl (lv_at hl 0 rfl) ?_
      refine lv_dup hx hb dX4_pass_28 rfl ?_
      refine r_get (C := RX4) (T := TX4) (N := 80) hx hb hts ok4 hown hK hR (congrArg Prod.fst (hF.2.1 58 (5, 0) rfl)) rfl 0 (by decide) (hts _ q1633) (fun _ h9 => h9) (v := .int (wI w 58 0)) rfl dX4_pass_29 ?_
      refine lv_iload_n hx hb dX4_pass_32 rfl (lv_at hl 1 rfl) ?_
      refine lv_iadd hx hb dX4_pass_33 ?_
      refine r_putI (C := RX4) (T := TX4) (N := 80) hx hb hts ok4 hown hK hR hL (congrArg Prod.fst (hF.2.1 58 (5, 0) rfl)) rfl 0 (by decide) (hts _ q1633) (fun _ h9 => h9) (Or.inl rfl) rfl rfl rfl dX4_pass_34 (fun H locs hR hL => ?_)
      have hF := hF.sI 58 0 ((wI w 58 0) + a1)
      refine lv_aload_n hx hb dX4_pass_37 rfl (lv_at hl 0 rfl) ?_
      refine r_get (C := RX4) (T := TX4) (N := 80) hx hb hts ok4 hown hK hR (congrArg Prod.fst (hF.2.1 58 (5, 0) rfl)) rfl 0 (by decide) (hts _ q1633) (fun _ h9 => h9) (v := .int ((wI w 58 0) + a1)) rfl dX4_pass_38 ?_
      subst h
      exact W.iret (v := (wI w 58 0) + a1) hx hb hr (fun t ht _ => ⟨rfl, by rw [ht]; exact hR, hF⟩) hL dX4_pass_41
    · rw [if_neg c2] at h
      refine lv_bipush (v := -2) hx hb dX4_pass_24 (by decide) ?_
      subst h
      exact W.iret (v := (-2 : Int32)) hx hb hr (fun t ht _ => ⟨rfl, by rw [ht]; exact hR, hF⟩) hL dX4_pass_26
def f_X4_isTown (a1 : Int32) (w : Wd) : Bool :=
  (f_X4_in a1 (0 : Int32) (7 : Int32) w)
theorem hd_X4_isTown : yX4_isTown.cls = RX4 ∧ yX4_isTown.cls ≠ "java/lang/invoke/MethodHandle" ∧ yX4_isTown.cls ≠ "java/lang/invoke/VarHandle" ∧ (parseMethodDescriptor yX4_isTown.desc).map (fun d => d.parameters.length) = some 1 := by decide +kernel
set_option maxHeartbeats 4000000 in
set_option maxRecDepth 100000 in
theorem met_X4_isTown (l : Launch) (G : Gw) (z : Nat) (H0 : Heap)  (w : Wd) (a1 : Int32) (q : Bool) (h : f_X4_isTown a1 w = q) : Met l yX4_isTown (ws_ yX4_isTown cX4_isTown 2 (some .boolean)) ({ frames := 1, cells := 0, slots := 0, locals := 23 } : Room) (pcW G z H0 w [.ref (z + 58), .int a1]) (qP (some (.int (bI q)))) 0 0 (fun q => z ≤ q) := by
  refine mW (by decide) (Nat.le_of_ble_eq_true rfl) ?_
  intro p e s m below meth c ls hx hb hr hml hown hts hlocks hnm hK hR hF hl
  have hown : s.vm.findClass RX4 = some m.cls := hown
  have hl : lv_has ls 2 [(0, .ref (z + 58)), (1, .int a1)] := hl
  have hL : lok z [] := lok_nil
  unfold f_X4_isTown at h
  generalize ([] : List Loc) = locs at hL ⊢
  refine lv_aload_n hx hb dX4_isTown_0 rfl (lv_at hl 0 rfl) ?_
  refine lv_iload_n hx hb dX4_isTown_1 rfl (lv_at hl 1 rfl) ?_
  refine lv_iconst (v := 0) hx hb dX4_isTown_2 (by decide) ?_
  refine lv_bipush (v := 7) hx hb dX4_isTown_3 (by decide) ?_
  refine c_VP (a := 58) (ci := 4) (q := (RX4, TX4, 80)) (rest := []) (st1 := [.int (bI (f_X4_in a1 (0 : Int32) (7 : Int32) w))]) hx hb hml hown hts hK hR hF hL hl.1 (met_X4_in l G z H0 w a1 (0 : Int32) (7 : Int32) _ rfl) (congrArg Prod.fst (hF.2.1 58 (5, 0) rfl)) rfl rfl rfl hd_X4_in q1878 q1880 qs41 q104 q1881 ⟨Nat.le_of_ble_eq_true rfl, Nat.le_of_ble_eq_true rfl⟩ ⟨Nat.le_refl 0, Nat.le_refl 0⟩ rfl rfl (Nat.le_of_ble_eq_true rfl) dX4_isTown_5 rfl (fun locs hL => ?_)
  subst h
  exact W.zret (v := bI (f_X4_in a1 (0 : Int32) (7 : Int32) w)) hx hb hr (bI_nar _) (fun t ht _ => ⟨rfl, ht⟩) hL dX4_isTown_8
def f_X4_road (a1 : Int32) (a2 : Int32) (a3 : Int32) (w : Wd) : Option (Int32 × Wd) :=
  if (f_X4_isTown a1 w) then (if (f_X4_isTown a2 w) then (if a1 = a2 then (some ((-2 : Int32), w)) else (if (f_X4_in a3 (1 : Int32) (60 : Int32) w) then (if inb (((8 : Int32) * a1) + a2) 64 then (if (wI w 59 ((((8 : Int32) * a1) + a2).toNatClampNeg)) ≤ a3 then (some ((1 : Int32), w)) else (if inb (((8 : Int32) * a1) + a2) 64 then (if inb (((8 : Int32) * a2) + a1) 64 then (some ((1 : Int32), sI (sI w 59 ((((8 : Int32) * a1) + a2).toNatClampNeg) a3) 59 ((((8 : Int32) * a2) + a1).toNatClampNeg) a3)) else none) else none)) else none) else (some ((-2 : Int32), w)))) else (some ((-1 : Int32), w))) else (some ((-1 : Int32), w))
theorem hd_X4_road : yX4_road.cls = RX4 ∧ yX4_road.cls ≠ "java/lang/invoke/MethodHandle" ∧ yX4_road.cls ≠ "java/lang/invoke/VarHandle" ∧ (parseMethodDescriptor yX4_road.desc).map (fun d => d.parameters.length) = some 3 := by decide +kernel
set_option maxHeartbeats 4000000 in
set_option maxRecDepth 100000 in
theorem met_X4_road (l : Launch) (G : Gw) (z : Nat) (H0 : Heap)  (w : Wd) (a1 : Int32) (a2 : Int32) (a3 : Int32) (q : Int32 × Wd) (h : f_X4_road a1 a2 a3 w = some q) : Met l yX4_road (ws_ yX4_road cX4_road 4 (some .int)) ({ frames := 2, cells := 0, slots := 0, locals := 44 } : Room) (pcW G z H0 w [.ref (z + 58), .int a1, .int a2, .int a3]) (qW G z H0 q.2 (some (.int q.1))) 0 0 (fun q => z ≤ q) := by
  refine mW (by decide) (Nat.le_of_ble_eq_true rfl) ?_
  intro p e s m below meth c ls hx hb hr hml hown hts hlocks hnm hK hR hF hl
  have hown : s.vm.findClass RX4 = some m.cls := hown
  have hl : lv_has ls 4 [(0, .ref (z + 58)), (1, .int a1), (2, .int a2), (3, .int a3)] := hl
  have hL : lok z [] := lok_nil
  unfold f_X4_road at h
  generalize s.heap = H at hR ⊢
  generalize ([] : List Loc) = locs at hL ⊢
  refine lv_aload_n hx hb dX4_road_0 rfl (lv_at hl 0 rfl) ?_
  refine lv_iload_n hx hb dX4_road_1 rfl (lv_at hl 1 rfl) ?_
  refine c_VP (a := 58) (ci := 4) (q := (RX4, TX4, 80)) (rest := []) (st1 := [.int (bI (f_X4_isTown a1 w))]) hx hb hml hown hts hK hR hF hL hl.1 (met_X4_isTown l G z H0 w a1 _ rfl) (congrArg Prod.fst (hF.2.1 58 (5, 0) rfl)) rfl rfl rfl hd_X4_isTown q1886 q1888 qs42 q104 q1889 ⟨Nat.le_of_ble_eq_true rfl, Nat.le_of_ble_eq_true rfl⟩ ⟨Nat.le_refl 0, Nat.le_refl 0⟩ rfl rfl (Nat.le_of_ble_eq_true rfl) dX4_road_2 rfl (fun locs hL => ?_)
  refine lv_if_eq (tgt := 16) hx hb dX4_road_5 (by decide) (fun c1 => ?_) (fun c1 => ?_)
  · rw [if_neg (bI_n c1)] at h
    refine lv_iconst (v := -1) hx hb dX4_road_16 (by decide) ?_
    have h := Option.some.inj h
    subst h
    exact W.iret (v := (-1 : Int32)) hx hb hr (fun t ht _ => ⟨rfl, by rw [ht]; exact hR, hF⟩) hL dX4_road_17
  · rw [if_pos (bI_p c1)] at h
    refine lv_aload_n hx hb dX4_road_8 rfl (lv_at hl 0 rfl) ?_
    refine lv_iload_n hx hb dX4_road_9 rfl (lv_at hl 2 rfl) ?_
    refine c_VP (a := 58) (ci := 4) (q := (RX4, TX4, 80)) (rest := []) (st1 := [.int (bI (f_X4_isTown a2 w))]) hx hb hml hown hts hK hR hF hL hl.1 (met_X4_isTown l G z H0 w a2 _ rfl) (congrArg Prod.fst (hF.2.1 58 (5, 0) rfl)) rfl rfl rfl hd_X4_isTown q1886 q1888 qs42 q104 q1889 ⟨Nat.le_of_ble_eq_true rfl, Nat.le_of_ble_eq_true rfl⟩ ⟨Nat.le_refl 0, Nat.le_refl 0⟩ rfl rfl (Nat.le_of_ble_eq_true rfl) dX4_road_10 rfl (fun locs hL => ?_)
    refine lv_if_ne (tgt := 18) hx hb dX4_road_13 (by decide) (fun c2 => ?_) (fun c2 => ?_)
    · rw [if_pos (bI_p c2)] at h
      refine lv_iload_n hx hb dX4_road_18 rfl (lv_at hl 1 rfl) ?_
      refine lv_iload_n hx hb dX4_road_19 rfl (lv_at hl 2 rfl) ?_
      refine lv_icmp_eq (tgt := 34) hx hb dX4_road_20 (by decide) (fun c3 => ?_) (fun c3 => ?_)
      · rw [if_pos c3] at h
        refine lv_bipush (v := -2) hx hb dX4_road_34 (by decide) ?_
        have h := Option.some.inj h
        subst h
        exact W.iret (v := (-2 : Int32)) hx hb hr (fun t ht _ => ⟨rfl, by rw [ht]; exact hR, hF⟩) hL dX4_road_36
      · rw [if_neg c3] at h
        refine lv_aload_n hx hb dX4_road_23 rfl (lv_at hl 0 rfl) ?_
        refine lv_iload_n hx hb dX4_road_24 rfl (lv_at hl 3 rfl) ?_
        refine lv_iconst (v := 1) hx hb dX4_road_25 (by decide) ?_
        refine lv_bipush (v := 60) hx hb dX4_road_26 (by decide) ?_
        refine c_VP (a := 58) (ci := 4) (q := (RX4, TX4, 80)) (rest := []) (st1 := [.int (bI (f_X4_in a3 (1 : Int32) (60 : Int32) w))]) hx hb hml hown hts hK hR hF hL hl.1 (met_X4_in l G z H0 w a3 (1 : Int32) (60 : Int32) _ rfl) (congrArg Prod.fst (hF.2.1 58 (5, 0) rfl)) rfl rfl rfl hd_X4_in q1878 q1880 qs41 q104 q1881 ⟨Nat.le_of_ble_eq_true rfl, Nat.le_of_ble_eq_true rfl⟩ ⟨Nat.le_refl 0, Nat.le_refl 0⟩ rfl rfl (Nat.le_of_ble_eq_true rfl) dX4_road_28 rfl (fun locs hL => ?_)
        refine lv_if_ne (tgt := 37) hx hb dX4_road_31 (by decide) (fun c4 => ?_) (fun c4 => ?_)
        · rw [if_pos (bI_p c4)] at h
          refine lv_iload_n hx hb dX4_road_37 rfl (lv_at hl 3 rfl) ?_
          refine lv_aload_n hx hb dX4_road_38 rfl (lv_at hl 0 rfl) ?_
          refine r_get (C := RX4) (T := TX4) (N := 80) hx hb hts ok4 hown hK hR (congrArg Prod.fst (hF.2.1 58 (5, 0) rfl)) rfl 4 (by decide) (hts _ q1637) (fun _ h9 => h9) (v := .ref (z + 59)) (fv_fix hF rfl rfl) dX4_road_39 ?_
          refine lv_bipush (v := 8) hx hb dX4_road_42 (by decide) ?_
          refine lv_iload_n hx hb dX4_road_44 rfl (lv_at hl 1 rfl) ?_
          refine lv_imul hx hb dX4_road_45 ?_
          refine lv_iload_n hx hb dX4_road_46 rfl (lv_at hl 2 rfl) ?_
          refine lv_iadd hx hb dX4_road_47 ?_
          obtain ⟨hb5, h⟩ := grd h
          refine r_iald (v := wI w 59 ((((8 : Int32) * a1) + a2).toNatClampNeg)) hx hb hK hR (hF.2.1 59 (200, 64) rfl) hb5 rfl dX4_road_48 ?_
          refine lv_icmp_ge (tgt := 76) hx hb dX4_road_49 (by decide) (fun c6 => ?_) (fun c6 => ?_)
          · rw [if_pos c6] at h
            refine lv_iconst (v := 1) hx hb dX4_road_76 (by decide) ?_
            have h := Option.some.inj h
            subst h
            exact W.iret (v := (1 : Int32)) hx hb hr (fun t ht _ => ⟨rfl, by rw [ht]; exact hR, hF⟩) hL dX4_road_77
          · rw [if_neg c6] at h
            refine lv_aload_n hx hb dX4_road_52 rfl (lv_at hl 0 rfl) ?_
            refine r_get (C := RX4) (T := TX4) (N := 80) hx hb hts ok4 hown hK hR (congrArg Prod.fst (hF.2.1 58 (5, 0) rfl)) rfl 4 (by decide) (hts _ q1637) (fun _ h9 => h9) (v := .ref (z + 59)) (fv_fix hF rfl rfl) dX4_road_53 ?_
            refine lv_bipush (v := 8) hx hb dX4_road_56 (by decide) ?_
            refine lv_iload_n hx hb dX4_road_58 rfl (lv_at hl 1 rfl) ?_
            refine lv_imul hx hb dX4_road_59 ?_
            refine lv_iload_n hx hb dX4_road_60 rfl (lv_at hl 2 rfl) ?_
            refine lv_iadd hx hb dX4_road_61 ?_
            refine lv_iload_n hx hb dX4_road_62 rfl (lv_at hl 3 rfl) ?_
            obtain ⟨hb7, h⟩ := grd h
            refine r_iast hx hb hK hR hL (hF.2.1 59 (200, 64) rfl) hb7 dX4_road_63 (fun H locs hR hL => ?_)
            have hF := hF.sI 59 ((((8 : Int32) * a1) + a2).toNatClampNeg) a3
            refine lv_aload_n hx hb dX4_road_64 rfl (lv_at hl 0 rfl) ?_
            refine r_get (C := RX4) (T := TX4) (N := 80) hx hb hts ok4 hown hK hR (congrArg Prod.fst (hF.2.1 58 (5, 0) rfl)) rfl 4 (by decide) (hts _ q1637) (fun _ h9 => h9) (v := .ref (z + 59)) (fv_fix hF rfl rfl) dX4_road_65 ?_
            refine lv_bipush (v := 8) hx hb dX4_road_68 (by decide) ?_
            refine lv_iload_n hx hb dX4_road_70 rfl (lv_at hl 2 rfl) ?_
            refine lv_imul hx hb dX4_road_71 ?_
            refine lv_iload_n hx hb dX4_road_72 rfl (lv_at hl 1 rfl) ?_
            refine lv_iadd hx hb dX4_road_73 ?_
            refine lv_iload_n hx hb dX4_road_74 rfl (lv_at hl 3 rfl) ?_
            obtain ⟨hb8, h⟩ := grd h
            refine r_iast hx hb hK hR hL (hF.2.1 59 (200, 64) rfl) hb8 dX4_road_75 (fun H locs hR hL => ?_)
            have hF := hF.sI 59 ((((8 : Int32) * a2) + a1).toNatClampNeg) a3
            refine lv_iconst (v := 1) hx hb dX4_road_76 (by decide) ?_
            have h := Option.some.inj h
            subst h
            exact W.iret (v := (1 : Int32)) hx hb hr (fun t ht _ => ⟨rfl, by rw [ht]; exact hR, hF⟩) hL dX4_road_77
        · rw [if_neg (bI_n c4)] at h
          refine lv_bipush (v := -2) hx hb dX4_road_34 (by decide) ?_
          have h := Option.some.inj h
          subst h
          exact W.iret (v := (-2 : Int32)) hx hb hr (fun t ht _ => ⟨rfl, by rw [ht]; exact hR, hF⟩) hL dX4_road_36
    · rw [if_neg (bI_n c2)] at h
      refine lv_iconst (v := -1) hx hb dX4_road_16 (by decide) ?_
      have h := Option.some.inj h
      subst h
      exact W.iret (v := (-1 : Int32)) hx hb hr (fun t ht _ => ⟨rfl, by rw [ht]; exact hR, hF⟩) hL dX4_road_17
def f_X4_farOf_L41 (n : Nat) (u2_2 : Int32) (u2_1 : Int32) (s2 : Int32 × Wd) : Option ((Int32 × Wd) ⊕ ((Int32 × Wd))) :=
  if (64 : Int32) ≤ s2.1 then (some (.inr (s2.1, s2.2))) else (if inb (s2.1 / (8 : Int32)) 8 then (if inb s2.1 64 then (if inb (s2.1 - s2.1 / (8 : Int32) * (8 : Int32)) 8 then (if (wI s2.2 71 ((s2.1 - s2.1 / (8 : Int32) * (8 : Int32)).toNatClampNeg)) ≤ ((wI s2.2 71 ((s2.1 / (8 : Int32)).toNatClampNeg)) + (wI s2.2 59 s2.1.toNatClampNeg)) then (some (.inl (s2.1 + (1 : Int32), s2.2))) else (if inb (s2.1 / (8 : Int32)) 8 then (if inb s2.1 64 then (if inb (s2.1 - s2.1 / (8 : Int32) * (8 : Int32)) 8 then (some (.inl (s2.1 + (1 : Int32), sI s2.2 71 ((s2.1 - s2.1 / (8 : Int32) * (8 : Int32)).toNatClampNeg) ((wI s2.2 71 ((s2.1 / (8 : Int32)).toNatClampNeg)) + (wI s2.2 59 s2.1.toNatClampNeg))))) else none) else none) else none)) else none) else none) else none)
def f_X4_farOf_L33 (n : Nat) (u1_1 : Int32) (s1 : Int32 × Wd) : Option ((Int32 × Wd) ⊕ ((Int32 × Wd))) :=
  if (8 : Int32) ≤ s1.1 then (some (.inr (s1.1, s1.2))) else ((it n (f_X4_farOf_L41 n s1.1 u1_1) ((0 : Int32), s1.2)).bind fun q41_106 => some (.inl (s1.1 + (1 : Int32), q41_106.2)))
def f_X4_farOf_L2 (n : Nat) (u1_1 : Int32) (s1 : Int32 × Wd) : Option ((Int32 × Wd) ⊕ ((Int32 × Wd))) :=
  if (8 : Int32) ≤ s1.1 then (some (.inr (s1.1, s1.2))) else (if s1.1 = 0 then (if inb s1.1 8 then (some (.inl (s1.1 + (1 : Int32), sI s1.2 71 s1.1.toNatClampNeg (0 : Int32)))) else none) else (if inb s1.1 8 then (some (.inl (s1.1 + (1 : Int32), sI s1.2 71 s1.1.toNatClampNeg (9999 : Int32)))) else none))
def f_X4_farOf (n : Nat) (a1 : Int32) (w : Wd) : Option (Int32 × Wd) :=
  (it n (f_X4_farOf_L2 n a1) ((0 : Int32), w)).bind fun q2_31 => (it n (f_X4_farOf_L33 n a1) ((0 : Int32), q2_31.2)).bind fun q33_112 => if inb a1 8 then (some (wI q33_112.2 71 a1.toNatClampNeg, q33_112.2)) else none
theorem hd_X4_farOf : yX4_farOf.cls = RX4 ∧ yX4_farOf.cls ≠ "java/lang/invoke/MethodHandle" ∧ yX4_farOf.cls ≠ "java/lang/invoke/VarHandle" ∧ (parseMethodDescriptor yX4_farOf.desc).map (fun d => d.parameters.length) = some 1 := by decide +kernel
set_option maxHeartbeats 4000000 in
set_option maxRecDepth 100000 in
theorem met_X4_farOf (l : Launch) (G : Gw) (z : Nat) (H0 : Heap) (n : Nat) (w : Wd) (a1 : Int32) (q : Int32 × Wd) (h : f_X4_farOf n a1 w = some q) : Met l yX4_farOf (ws_ yX4_farOf cX4_farOf 4 (some .int)) ({ frames := 0, cells := 0, slots := 0, locals := 0 } : Room) (pcW G z H0 w [.ref (z + 58), .int a1]) (qW G z H0 q.2 (some (.int q.1))) 0 0 (fun q => z ≤ q) := by
  refine mW (by decide) (Nat.le_of_ble_eq_true rfl) ?_
  intro p e s m below meth c ls hx hb hr hml hown hts hlocks hnm hK hR hF hl
  have hown : s.vm.findClass RX4 = some m.cls := hown
  have hl : lv_has ls 4 [(0, .ref (z + 58)), (1, .int a1)] := hl
  have hL : lok z [] := lok_nil
  unfold f_X4_farOf at h
  generalize s.heap = H at hR ⊢
  generalize ([] : List Loc) = locs at hL ⊢
  refine lv_iconst (v := 0) hx hb dX4_farOf_0 (by decide) ?_
  refine lv_istore_n (lv' := [(2, .int (0 : Int32)), (0, .ref (z + 58)), (1, .int a1)]) hx hb dX4_farOf_1 rfl hl (by decide) rfl (fun ls hl => ?_)
  have hX2_31 : ∀ (q2_31 : Int32 × Wd), ((it n (f_X4_farOf_L33 n a1) ((0 : Int32), q2_31.2)).bind fun q33_112 => if inb a1 8 then (some (wI q33_112.2 71 a1.toNatClampNeg, q33_112.2)) else none) = some q → ∀ (H : Heap) (locs : List Loc) (ls : Array Slot), Rp G z H0 q2_31.2 H → Fix q2_31.2 → lok z locs → lv_has ls 4 [(0, .ref (z + 58)), (1, .int a1)] → W p l e ({ frames := 0, cells := 0, slots := 0, locals := 0 } : Room) s m ([.ref (z + 58), .int a1] : List Value).toArray below meth c H locs 0 0 (MQ below (qW G z H0 q.2 (some (.int q.1))) ([.ref (z + 58), .int a1] : List Value).toArray s 0 0 (fun q => z ≤ q)) (F0 m 31 ls []) := by
    intro q2_31 h H locs ls hR hF hL hl
    refine lv_iconst (v := 0) hx hb dX4_farOf_31 (by decide) ?_
    refine lv_istore_n (lv' := [(2, .int (0 : Int32)), (0, .ref (z + 58)), (1, .int a1)]) hx hb dX4_farOf_32 rfl hl (by decide) rfl (fun ls hl => ?_)
    have hX33_112 : ∀ (q33_112 : Int32 × Wd), (if inb a1 8 then (some (wI q33_112.2 71 a1.toNatClampNeg, q33_112.2)) else none) = some q → ∀ (H : Heap) (locs : List Loc) (ls : Array Slot), Rp G z H0 q33_112.2 H → Fix q33_112.2 → lok z locs → lv_has ls 4 [(0, .ref (z + 58)), (1, .int a1)] → W p l e ({ frames := 0, cells := 0, slots := 0, locals := 0 } : Room) s m ([.ref (z + 58), .int a1] : List Value).toArray below meth c H locs 0 0 (MQ below (qW G z H0 q.2 (some (.int q.1))) ([.ref (z + 58), .int a1] : List Value).toArray s 0 0 (fun q => z ≤ q)) (F0 m 112 ls []) := by
      intro q33_112 h H locs ls hR hF hL hl
      refine lv_aload_n hx hb dX4_farOf_112 rfl (lv_at hl 0 rfl) ?_
      refine r_get (C := RX4) (T := TX4) (N := 80) hx hb hts ok4 hown hK hR (congrArg Prod.fst (hF.2.1 58 (5, 0) rfl)) rfl 16 (by decide) (hts _ q1649) (fun _ h9 => h9) (v := .ref (z + 71)) (fv_fix hF rfl rfl) dX4_farOf_113 ?_
      refine lv_iload_n hx hb dX4_farOf_116 rfl (lv_at hl 1 rfl) ?_
      obtain ⟨hb1, h⟩ := grd h
      refine r_iald (v := wI q33_112.2 71 a1.toNatClampNeg) hx hb hK hR (hF.2.1 71 (200, 8) rfl) hb1 rfl dX4_farOf_117 ?_
      have h := Option.some.inj h
      subst h
      exact W.iret (v := wI q33_112.2 71 a1.toNatClampNeg) hx hb hr (fun t ht _ => ⟨rfl, by rw [ht]; exact hR, hF⟩) hL dX4_farOf_118
    obtain ⟨t13, hq14, h⟩ := bnd h
    refine it_W (b := f_X4_farOf_L33 n a1) (P := fun (s1 : Int32 × Wd) => ∀ (H : Heap) (locs : List Loc) (ls : Array Slot), Rp G z H0 s1.2 H → Fix s1.2 → lok z locs → lv_has ls 4 [(2, .int s1.1), (0, .ref (z + 58)), (1, .int a1)] → W p l e ({ frames := 0, cells := 0, slots := 0, locals := 0 } : Room) s m ([.ref (z + 58), .int a1] : List Value).toArray below meth c H locs 0 0 (MQ below (qW G z H0 q.2 (some (.int q.1))) ([.ref (z + 58), .int a1] : List Value).toArray s 0 0 (fun q => z ≤ q)) (F0 m 33 ls [])) (K := fun q33_112 => (if inb a1 8 then (some (wI q33_112.2 71 a1.toNatClampNeg, q33_112.2)) else none) = some q) (fun s1 x1 h hc1 ht1 => ?_) n ((0 : Int32), q2_31.2) t13 hq14 h H locs ls hR hF hL (lv_sub hl [0, 1, 2] rfl)
    intro H locs ls hR hF hL hl
    unfold f_X4_farOf_L33 at h
    refine lv_iload_n hx hb dX4_farOf_33 rfl (lv_at hl 0 rfl) ?_
    refine lv_bipush (v := 8) hx hb dX4_farOf_34 (by decide) ?_
    refine lv_icmp_ge (tgt := 112) hx hb dX4_farOf_36 (by decide) (fun c2 => ?_) (fun c2 => ?_)
    · rw [if_pos c2] at h
      exact hX33_112 (s1.1, s1.2) (ht1 _ (Option.some.inj h).symm) H locs ls hR hF hL (lv_sub hl [1, 2] rfl)
    · rw [if_neg c2] at h
      refine lv_iconst (v := 0) hx hb dX4_farOf_39 (by decide) ?_
      refine lv_istore_n (lv' := [(3, .int (0 : Int32)), (2, .int s1.1), (0, .ref (z + 58)), (1, .int a1)]) hx hb dX4_farOf_40 rfl hl (by decide) rfl (fun ls hl => ?_)
      have hX41_106 : ∀ (q41_106 : Int32 × Wd), (some (.inl (s1.1 + (1 : Int32), q41_106.2))) = some x1 → ∀ (H : Heap) (locs : List Loc) (ls : Array Slot), Rp G z H0 q41_106.2 H → Fix q41_106.2 → lok z locs → lv_has ls 4 [(2, .int s1.1), (0, .ref (z + 58)), (1, .int a1)] → W p l e ({ frames := 0, cells := 0, slots := 0, locals := 0 } : Room) s m ([.ref (z + 58), .int a1] : List Value).toArray below meth c H locs 0 0 (MQ below (qW G z H0 q.2 (some (.int q.1))) ([.ref (z + 58), .int a1] : List Value).toArray s 0 0 (fun q => z ≤ q)) (F0 m 106 ls []) := by
        intro q41_106 h H locs ls hR hF hL hl
        refine lv_iinc (v := s1.1 + (1 : Int32)) (lv' := [(2, .int (s1.1 + (1 : Int32))), (0, .ref (z + 58)), (1, .int a1)]) hx hb dX4_farOf_106 hl (k := 0) rfl rfl (by decide) rfl (fun ls hl => ?_)
        refine lv_goto (tgt := 33) hx hb dX4_farOf_109 (by decide) ?_
        exact hc1 _ (Option.some.inj h).symm H locs ls hR hF hL (lv_sub hl [0, 1, 2] rfl)
      obtain ⟨t11, hq12, h⟩ := bnd h
      refine it_W (b := f_X4_farOf_L41 n s1.1 a1) (P := fun (s2 : Int32 × Wd) => ∀ (H : Heap) (locs : List Loc) (ls : Array Slot), Rp G z H0 s2.2 H → Fix s2.2 → lok z locs → lv_has ls 4 [(3, .int s2.1), (2, .int s1.1), (0, .ref (z + 58)), (1, .int a1)] → W p l e ({ frames := 0, cells := 0, slots := 0, locals := 0 } : Room) s m ([.ref (z + 58), .int a1] : List Value).toArray below meth c H locs 0 0 (MQ below (qW G z H0 q.2 (some (.int q.1))) ([.ref (z + 58), .int a1] : List Value).toArray s 0 0 (fun q => z ≤ q)) (F0 m 41 ls [])) (K := fun q41_106 => (some (.inl (s1.1 + (1 : Int32), q41_106.2))) = some x1) (fun s2 x2 h hc2 ht2 => ?_) n ((0 : Int32), s1.2) t11 hq12 h H locs ls hR hF hL (lv_sub hl [0, 1, 2, 3] rfl)
      intro H locs ls hR hF hL hl
      unfold f_X4_farOf_L41 at h
      refine lv_iload_n hx hb dX4_farOf_41 rfl (lv_at hl 0 rfl) ?_
      refine lv_bipush (v := 64) hx hb dX4_farOf_42 (by decide) ?_
      refine lv_icmp_ge (tgt := 106) hx hb dX4_farOf_44 (by decide) (fun c3 => ?_) (fun c3 => ?_)
      · rw [if_pos c3] at h
        exact hX41_106 (s2.1, s2.2) (ht2 _ (Option.some.inj h).symm) H locs ls hR hF hL (lv_sub hl [1, 2, 3] rfl)
      · rw [if_neg c3] at h
        refine lv_aload_n hx hb dX4_farOf_47 rfl (lv_at hl 2 rfl) ?_
        refine r_get (C := RX4) (T := TX4) (N := 80) hx hb hts ok4 hown hK hR (congrArg Prod.fst (hF.2.1 58 (5, 0) rfl)) rfl 16 (by decide) (hts _ q1649) (fun _ h9 => h9) (v := .ref (z + 71)) (fv_fix hF rfl rfl) dX4_farOf_48 ?_
        refine lv_iload_n hx hb dX4_farOf_51 rfl (lv_at hl 0 rfl) ?_
        refine lv_bipush (v := 8) hx hb dX4_farOf_52 (by decide) ?_
        refine lv_idiv hx hb dX4_farOf_54 (by decide) ?_
        obtain ⟨hb4, h⟩ := grd h
        refine r_iald (v := wI s2.2 71 ((s2.1 / (8 : Int32)).toNatClampNeg)) hx hb hK hR (hF.2.1 71 (200, 8) rfl) hb4 rfl dX4_farOf_55 ?_
        refine lv_aload_n hx hb dX4_farOf_56 rfl (lv_at hl 2 rfl) ?_
        refine r_get (C := RX4) (T := TX4) (N := 80) hx hb hts ok4 hown hK hR (congrArg Prod.fst (hF.2.1 58 (5, 0) rfl)) rfl 4 (by decide) (hts _ q1637) (fun _ h9 => h9) (v := .ref (z + 59)) (fv_fix hF rfl rfl) dX4_farOf_57 ?_
        refine lv_iload_n hx hb dX4_farOf_60 rfl (lv_at hl 0 rfl) ?_
        obtain ⟨hb5, h⟩ := grd h
        refine r_iald (v := wI s2.2 59 s2.1.toNatClampNeg) hx hb hK hR (hF.2.1 59 (200, 64) rfl) hb5 rfl dX4_farOf_61 ?_
        refine lv_iadd hx hb dX4_farOf_62 ?_
        refine lv_aload_n hx hb dX4_farOf_63 rfl (lv_at hl 2 rfl) ?_
        refine r_get (C := RX4) (T := TX4) (N := 80) hx hb hts ok4 hown hK hR (congrArg Prod.fst (hF.2.1 58 (5, 0) rfl)) rfl 16 (by decide) (hts _ q1649) (fun _ h9 => h9) (v := .ref (z + 71)) (fv_fix hF rfl rfl) dX4_farOf_64 ?_
        refine lv_iload_n hx hb dX4_farOf_67 rfl (lv_at hl 0 rfl) ?_
        refine lv_bipush (v := 8) hx hb dX4_farOf_68 (by decide) ?_
        refine lv_irem hx hb dX4_farOf_70 (by decide) ?_
        obtain ⟨hb6, h⟩ := grd h
        refine r_iald (v := wI s2.2 71 ((s2.1 - s2.1 / (8 : Int32) * (8 : Int32)).toNatClampNeg)) hx hb hK hR (hF.2.1 71 (200, 8) rfl) hb6 rfl dX4_farOf_71 ?_
        refine lv_icmp_ge (tgt := 100) hx hb dX4_farOf_72 (by decide) (fun c7 => ?_) (fun c7 => ?_)
        · rw [if_pos c7] at h
          refine lv_iinc (v := s2.1 + (1 : Int32)) (lv' := [(3, .int (s2.1 + (1 : Int32))), (2, .int s1.1), (0, .ref (z + 58)), (1, .int a1)]) hx hb dX4_farOf_100 hl (k := 0) rfl rfl (by decide) rfl (fun ls hl => ?_)
          refine lv_goto (tgt := 41) hx hb dX4_farOf_103 (by decide) ?_
          exact hc2 _ (Option.some.inj h).symm H locs ls hR hF hL (lv_sub hl [0, 1, 2, 3] rfl)
        · rw [if_neg c7] at h
          refine lv_aload_n hx hb dX4_farOf_75 rfl (lv_at hl 2 rfl) ?_
          refine r_get (C := RX4) (T := TX4) (N := 80) hx hb hts ok4 hown hK hR (congrArg Prod.fst (hF.2.1 58 (5, 0) rfl)) rfl 16 (by decide) (hts _ q1649) (fun _ h9 => h9) (v := .ref (z + 71)) (fv_fix hF rfl rfl) dX4_farOf_76 ?_
          refine lv_iload_n hx hb dX4_farOf_79 rfl (lv_at hl 0 rfl) ?_
          refine lv_bipush (v := 8) hx hb dX4_farOf_80 (by decide) ?_
          refine lv_irem hx hb dX4_farOf_82 (by decide) ?_
          refine lv_aload_n hx hb dX4_farOf_83 rfl (lv_at hl 2 rfl) ?_
          refine r_get (C := RX4) (T := TX4) (N := 80) hx hb hts ok4 hown hK hR (congrArg Prod.fst (hF.2.1 58 (5, 0) rfl)) rfl 16 (by decide) (hts _ q1649) (fun _ h9 => h9) (v := .ref (z + 71)) (fv_fix hF rfl rfl) dX4_farOf_84 ?_
          refine lv_iload_n hx hb dX4_farOf_87 rfl (lv_at hl 0 rfl) ?_
          refine lv_bipush (v := 8) hx hb dX4_farOf_88 (by decide) ?_
          refine lv_idiv hx hb dX4_farOf_90 (by decide) ?_
          obtain ⟨hb8, h⟩ := grd h
          refine r_iald (v := wI s2.2 71 ((s2.1 / (8 : Int32)).toNatClampNeg)) hx hb hK hR (hF.2.1 71 (200, 8) rfl) hb8 rfl dX4_farOf_91 ?_
          refine lv_aload_n hx hb dX4_farOf_92 rfl (lv_at hl 2 rfl) ?_
          refine r_get (C := RX4) (T := TX4) (N := 80) hx hb hts ok4 hown hK hR (congrArg Prod.fst (hF.2.1 58 (5, 0) rfl)) rfl 4 (by decide) (hts _ q1637) (fun _ h9 => h9) (v := .ref (z + 59)) (fv_fix hF rfl rfl) dX4_farOf_93 ?_
          refine lv_iload_n hx hb dX4_farOf_96 rfl (lv_at hl 0 rfl) ?_
          obtain ⟨hb9, h⟩ := grd h
          refine r_iald (v := wI s2.2 59 s2.1.toNatClampNeg) hx hb hK hR (hF.2.1 59 (200, 64) rfl) hb9 rfl dX4_farOf_97 ?_
          refine lv_iadd hx hb dX4_farOf_98 ?_
          obtain ⟨hb10, h⟩ := grd h
          refine r_iast hx hb hK hR hL (hF.2.1 71 (200, 8) rfl) hb10 dX4_farOf_99 (fun H locs hR hL => ?_)
          have hF := hF.sI 71 ((s2.1 - s2.1 / (8 : Int32) * (8 : Int32)).toNatClampNeg) ((wI s2.2 71 ((s2.1 / (8 : Int32)).toNatClampNeg)) + (wI s2.2 59 s2.1.toNatClampNeg))
          refine lv_iinc (v := s2.1 + (1 : Int32)) (lv' := [(3, .int (s2.1 + (1 : Int32))), (2, .int s1.1), (0, .ref (z + 58)), (1, .int a1)]) hx hb dX4_farOf_100 hl (k := 0) rfl rfl (by decide) rfl (fun ls hl => ?_)
          refine lv_goto (tgt := 41) hx hb dX4_farOf_103 (by decide) ?_
          exact hc2 _ (Option.some.inj h).symm H locs ls hR hF hL (lv_sub hl [0, 1, 2, 3] rfl)
  obtain ⟨t19, hq20, h⟩ := bnd h
  refine it_W (b := f_X4_farOf_L2 n a1) (P := fun (s1 : Int32 × Wd) => ∀ (H : Heap) (locs : List Loc) (ls : Array Slot), Rp G z H0 s1.2 H → Fix s1.2 → lok z locs → lv_has ls 4 [(2, .int s1.1), (0, .ref (z + 58)), (1, .int a1)] → W p l e ({ frames := 0, cells := 0, slots := 0, locals := 0 } : Room) s m ([.ref (z + 58), .int a1] : List Value).toArray below meth c H locs 0 0 (MQ below (qW G z H0 q.2 (some (.int q.1))) ([.ref (z + 58), .int a1] : List Value).toArray s 0 0 (fun q => z ≤ q)) (F0 m 2 ls [])) (K := fun q2_31 => ((it n (f_X4_farOf_L33 n a1) ((0 : Int32), q2_31.2)).bind fun q33_112 => if inb a1 8 then (some (wI q33_112.2 71 a1.toNatClampNeg, q33_112.2)) else none) = some q) (fun s1 x1 h hc1 ht1 => ?_) n ((0 : Int32), w) t19 hq20 h H locs ls hR hF hL (lv_sub hl [0, 1, 2] rfl)
  intro H locs ls hR hF hL hl
  unfold f_X4_farOf_L2 at h
  refine lv_iload_n hx hb dX4_farOf_2 rfl (lv_at hl 0 rfl) ?_
  refine lv_bipush (v := 8) hx hb dX4_farOf_3 (by decide) ?_
  refine lv_icmp_ge (tgt := 31) hx hb dX4_farOf_5 (by decide) (fun c15 => ?_) (fun c15 => ?_)
  · rw [if_pos c15] at h
    exact hX2_31 (s1.1, s1.2) (ht1 _ (Option.some.inj h).symm) H locs ls hR hF hL (lv_sub hl [1, 2] rfl)
  · rw [if_neg c15] at h
    refine lv_aload_n hx hb dX4_farOf_8 rfl (lv_at hl 1 rfl) ?_
    refine r_get (C := RX4) (T := TX4) (N := 80) hx hb hts ok4 hown hK hR (congrArg Prod.fst (hF.2.1 58 (5, 0) rfl)) rfl 16 (by decide) (hts _ q1649) (fun _ h9 => h9) (v := .ref (z + 71)) (fv_fix hF rfl rfl) dX4_farOf_9 ?_
    refine lv_iload_n hx hb dX4_farOf_12 rfl (lv_at hl 0 rfl) ?_
    refine lv_iload_n hx hb dX4_farOf_13 rfl (lv_at hl 0 rfl) ?_
    refine lv_if_ne (tgt := 21) hx hb dX4_farOf_14 (by decide) (fun c16 => ?_) (fun c16 => ?_)
    · rw [if_neg c16] at h
      refine lv_sipush (v := 9999) hx hb dX4_farOf_21 (by decide) ?_
      obtain ⟨hb17, h⟩ := grd h
      refine r_iast hx hb hK hR hL (hF.2.1 71 (200, 8) rfl) hb17 dX4_farOf_24 (fun H locs hR hL => ?_)
      have hF := hF.sI 71 (s1.1.toNatClampNeg) (9999 : Int32)
      refine lv_iinc (v := s1.1 + (1 : Int32)) (lv' := [(2, .int (s1.1 + (1 : Int32))), (0, .ref (z + 58)), (1, .int a1)]) hx hb dX4_farOf_25 hl (k := 0) rfl rfl (by decide) rfl (fun ls hl => ?_)
      refine lv_goto (tgt := 2) hx hb dX4_farOf_28 (by decide) ?_
      exact hc1 _ (Option.some.inj h).symm H locs ls hR hF hL (lv_sub hl [0, 1, 2] rfl)
    · rw [if_pos c16] at h
      refine lv_iconst (v := 0) hx hb dX4_farOf_17 (by decide) ?_
      refine lv_goto (tgt := 24) hx hb dX4_farOf_18 (by decide) ?_
      obtain ⟨hb18, h⟩ := grd h
      refine r_iast hx hb hK hR hL (hF.2.1 71 (200, 8) rfl) hb18 dX4_farOf_24 (fun H locs hR hL => ?_)
      have hF := hF.sI 71 (s1.1.toNatClampNeg) (0 : Int32)
      refine lv_iinc (v := s1.1 + (1 : Int32)) (lv' := [(2, .int (s1.1 + (1 : Int32))), (0, .ref (z + 58)), (1, .int a1)]) hx hb dX4_farOf_25 hl (k := 0) rfl rfl (by decide) rfl (fun ls hl => ?_)
      refine lv_goto (tgt := 2) hx hb dX4_farOf_28 (by decide) ?_
      exact hc1 _ (Option.some.inj h).symm H locs ls hR hF hL (lv_sub hl [0, 1, 2] rfl)
def f_X4_far (n : Nat) (a1 : Int32) (w : Wd) : Option (Int32 × Wd) :=
  if (f_X4_isTown a1 w) then ((f_X4_farOf n a1 w).bind fun q2 => some (q2.1, q2.2)) else (some ((-1 : Int32), w))
theorem hd_X4_far : yX4_far.cls = RX4 ∧ yX4_far.cls ≠ "java/lang/invoke/MethodHandle" ∧ yX4_far.cls ≠ "java/lang/invoke/VarHandle" ∧ (parseMethodDescriptor yX4_far.desc).map (fun d => d.parameters.length) = some 1 := by decide +kernel
set_option maxHeartbeats 4000000 in
set_option maxRecDepth 100000 in
theorem met_X4_far (l : Launch) (G : Gw) (z : Nat) (H0 : Heap) (n : Nat) (w : Wd) (a1 : Int32) (q : Int32 × Wd) (h : f_X4_far n a1 w = some q) : Met l yX4_far (ws_ yX4_far cX4_far 2 (some .int)) ({ frames := 2, cells := 0, slots := 0, locals := 44 } : Room) (pcW G z H0 w [.ref (z + 58), .int a1]) (qW G z H0 q.2 (some (.int q.1))) 0 0 (fun q => z ≤ q) := by
  refine mW (by decide) (Nat.le_of_ble_eq_true rfl) ?_
  intro p e s m below meth c ls hx hb hr hml hown hts hlocks hnm hK hR hF hl
  have hown : s.vm.findClass RX4 = some m.cls := hown
  have hl : lv_has ls 2 [(0, .ref (z + 58)), (1, .int a1)] := hl
  have hL : lok z [] := lok_nil
  unfold f_X4_far at h
  generalize s.heap = H at hR ⊢
  generalize ([] : List Loc) = locs at hL ⊢
  refine lv_aload_n hx hb dX4_far_0 rfl (lv_at hl 0 rfl) ?_
  refine lv_iload_n hx hb dX4_far_1 rfl (lv_at hl 1 rfl) ?_
  refine c_VP (a := 58) (ci := 4) (q := (RX4, TX4, 80)) (rest := []) (st1 := [.int (bI (f_X4_isTown a1 w))]) hx hb hml hown hts hK hR hF hL hl.1 (met_X4_isTown l G z H0 w a1 _ rfl) (congrArg Prod.fst (hF.2.1 58 (5, 0) rfl)) rfl rfl rfl hd_X4_isTown q1886 q1888 qs42 q104 q1889 ⟨Nat.le_of_ble_eq_true rfl, Nat.le_of_ble_eq_true rfl⟩ ⟨Nat.le_refl 0, Nat.le_refl 0⟩ rfl rfl (Nat.le_of_ble_eq_true rfl) dX4_far_2 rfl (fun locs hL => ?_)
  refine lv_if_eq (tgt := 16) hx hb dX4_far_5 (by decide) (fun c1 => ?_) (fun c1 => ?_)
  · rw [if_neg (bI_n c1)] at h
    refine lv_iconst (v := -1) hx hb dX4_far_16 (by decide) ?_
    have h := Option.some.inj h
    subst h
    exact W.iret (v := (-1 : Int32)) hx hb hr (fun t ht _ => ⟨rfl, by rw [ht]; exact hR, hF⟩) hL dX4_far_17
  · rw [if_pos (bI_p c1)] at h
    refine lv_aload_n hx hb dX4_far_8 rfl (lv_at hl 0 rfl) ?_
    refine lv_iload_n hx hb dX4_far_9 rfl (lv_at hl 1 rfl) ?_
    obtain ⟨q2, hq3, h⟩ := bnd h
    refine c_VW (a := 58) (ci := 4) (q := (RX4, TX4, 80)) (rest := []) (st1 := [.int q2.1]) hx hb hml hown hts hK hR hF hL hl.1 (met_X4_farOf l G z H0 n w a1 q2 hq3) (congrArg Prod.fst (hF.2.1 58 (5, 0) rfl)) rfl rfl rfl hd_X4_farOf q1894 q1896 qs43 q104 q1897 ⟨Nat.le_of_ble_eq_true rfl, Nat.le_of_ble_eq_true rfl⟩ ⟨Nat.le_refl 0, Nat.le_refl 0⟩ rfl rfl (Nat.le_of_ble_eq_true rfl) dX4_far_10 rfl (fun H locs hR hF hL => ?_)
    refine lv_goto (tgt := 17) hx hb dX4_far_13 (by decide) ?_
    have h := Option.some.inj h
    subst h
    exact W.iret (v := q2.1) hx hb hr (fun t ht _ => ⟨rfl, by rw [ht]; exact hR, hF⟩) hL dX4_far_17
def f_X4_person (a1 : Int32) (a2 : Int32) (w : Wd) : Option (Int32 × Wd) :=
  if (f_X4_isTown a1 w) then (if (f_X4_in a2 (0 : Int32) (5 : Int32) w) then (if (wI w 58 1) = (16 : Int32) then (some ((-4 : Int32), w)) else (if inb (wI w 58 1) 16 then (if inb (wI w 58 1) 16 then (some (((wI w 58 1) + (1 : Int32)) - (1 : Int32), sI (sI (sI w 60 ((wI w 58 1).toNatClampNeg) a1) 61 ((wI w 58 1).toNatClampNeg) a2) 58 1 ((wI w 58 1) + (1 : Int32)))) else none) else none)) else (some ((-2 : Int32), w))) else (some ((-1 : Int32), w))
theorem hd_X4_person : yX4_person.cls = RX4 ∧ yX4_person.cls ≠ "java/lang/invoke/MethodHandle" ∧ yX4_person.cls ≠ "java/lang/invoke/VarHandle" ∧ (parseMethodDescriptor yX4_person.desc).map (fun d => d.parameters.length) = some 2 := by decide +kernel
set_option maxHeartbeats 4000000 in
set_option maxRecDepth 100000 in
theorem met_X4_person (l : Launch) (G : Gw) (z : Nat) (H0 : Heap)  (w : Wd) (a1 : Int32) (a2 : Int32) (q : Int32 × Wd) (h : f_X4_person a1 a2 w = some q) : Met l yX4_person (ws_ yX4_person cX4_person 3 (some .int)) ({ frames := 2, cells := 0, slots := 0, locals := 44 } : Room) (pcW G z H0 w [.ref (z + 58), .int a1, .int a2]) (qW G z H0 q.2 (some (.int q.1))) 0 0 (fun q => z ≤ q) := by
  refine mW (by decide) (Nat.le_of_ble_eq_true rfl) ?_
  intro p e s m below meth c ls hx hb hr hml hown hts hlocks hnm hK hR hF hl
  have hown : s.vm.findClass RX4 = some m.cls := hown
  have hl : lv_has ls 3 [(0, .ref (z + 58)), (1, .int a1), (2, .int a2)] := hl
  have hL : lok z [] := lok_nil
  unfold f_X4_person at h
  generalize s.heap = H at hR ⊢
  generalize ([] : List Loc) = locs at hL ⊢
  refine lv_aload_n hx hb dX4_person_0 rfl (lv_at hl 0 rfl) ?_
  refine lv_iload_n hx hb dX4_person_1 rfl (lv_at hl 1 rfl) ?_
  refine c_VP (a := 58) (ci := 4) (q := (RX4, TX4, 80)) (rest := []) (st1 := [.int (bI (f_X4_isTown a1 w))]) hx hb hml hown hts hK hR hF hL hl.1 (met_X4_isTown l G z H0 w a1 _ rfl) (congrArg Prod.fst (hF.2.1 58 (5, 0) rfl)) rfl rfl rfl hd_X4_isTown q1886 q1888 qs42 q104 q1889 ⟨Nat.le_of_ble_eq_true rfl, Nat.le_of_ble_eq_true rfl⟩ ⟨Nat.le_refl 0, Nat.le_refl 0⟩ rfl rfl (Nat.le_of_ble_eq_true rfl) dX4_person_2 rfl (fun locs hL => ?_)
  refine lv_if_ne (tgt := 10) hx hb dX4_person_5 (by decide) (fun c1 => ?_) (fun c1 => ?_)
  · rw [if_pos (bI_p c1)] at h
    refine lv_aload_n hx hb dX4_person_10 rfl (lv_at hl 0 rfl) ?_
    refine lv_iload_n hx hb dX4_person_11 rfl (lv_at hl 2 rfl) ?_
    refine lv_iconst (v := 0) hx hb dX4_person_12 (by decide) ?_
    refine lv_iconst (v := 5) hx hb dX4_person_13 (by decide) ?_
    refine c_VP (a := 58) (ci := 4) (q := (RX4, TX4, 80)) (rest := []) (st1 := [.int (bI (f_X4_in a2 (0 : Int32) (5 : Int32) w))]) hx hb hml hown hts hK hR hF hL hl.1 (met_X4_in l G z H0 w a2 (0 : Int32) (5 : Int32) _ rfl) (congrArg Prod.fst (hF.2.1 58 (5, 0) rfl)) rfl rfl rfl hd_X4_in q1878 q1880 qs41 q104 q1881 ⟨Nat.le_of_ble_eq_true rfl, Nat.le_of_ble_eq_true rfl⟩ ⟨Nat.le_refl 0, Nat.le_refl 0⟩ rfl rfl (Nat.le_of_ble_eq_true rfl) dX4_person_14 rfl (fun locs hL => ?_)
    refine lv_if_ne (tgt := 23) hx hb dX4_person_17 (by decide) (fun c2 => ?_) (fun c2 => ?_)
    · rw [if_pos (bI_p c2)] at h
      refine lv_aload_n hx hb dX4_person_23 rfl (lv_at hl 0 rfl) ?_
      refine r_get (C := RX4) (T := TX4) (N := 80) hx hb hts ok4 hown hK hR (congrArg Prod.fst (hF.2.1 58 (5, 0) rfl)) rfl 1 (by decide) (hts _ q1634) (fun _ h9 => h9) (v := .int (wI w 58 1)) rfl dX4_person_24 ?_
      refine lv_bipush (v := 16) hx hb dX4_person_27 (by decide) ?_
      refine lv_icmp_ne (tgt := 35) hx hb dX4_person_29 (by decide) (fun c3 => ?_) (fun c3 => ?_)
      · rw [if_neg c3] at h
        refine lv_aload_n hx hb dX4_person_35 rfl (lv_at hl 0 rfl) ?_
        refine r_get (C := RX4) (T := TX4) (N := 80) hx hb hts ok4 hown hK hR (congrArg Prod.fst (hF.2.1 58 (5, 0) rfl)) rfl 5 (by decide) (hts _ q1638) (fun _ h9 => h9) (v := .ref (z + 60)) (fv_fix hF rfl rfl) dX4_person_36 ?_
        refine lv_aload_n hx hb dX4_person_39 rfl (lv_at hl 0 rfl) ?_
        refine r_get (C := RX4) (T := TX4) (N := 80) hx hb hts ok4 hown hK hR (congrArg Prod.fst (hF.2.1 58 (5, 0) rfl)) rfl 1 (by decide) (hts _ q1634) (fun _ h9 => h9) (v := .int (wI w 58 1)) rfl dX4_person_40 ?_
        refine lv_iload_n hx hb dX4_person_43 rfl (lv_at hl 1 rfl) ?_
        obtain ⟨hb4, h⟩ := grd h
        refine r_iast hx hb hK hR hL (hF.2.1 60 (200, 16) rfl) hb4 dX4_person_44 (fun H locs hR hL => ?_)
        have hF := hF.sI 60 ((wI w 58 1).toNatClampNeg) a1
        refine lv_aload_n hx hb dX4_person_45 rfl (lv_at hl 0 rfl) ?_
        refine r_get (C := RX4) (T := TX4) (N := 80) hx hb hts ok4 hown hK hR (congrArg Prod.fst (hF.2.1 58 (5, 0) rfl)) rfl 6 (by decide) (hts _ q1639) (fun _ h9 => h9) (v := .ref (z + 61)) (fv_fix hF rfl rfl) dX4_person_46 ?_
        refine lv_aload_n hx hb dX4_person_49 rfl (lv_at hl 0 rfl) ?_
        refine r_get (C := RX4) (T := TX4) (N := 80) hx hb hts ok4 hown hK hR (congrArg Prod.fst (hF.2.1 58 (5, 0) rfl)) rfl 1 (by decide) (hts _ q1634) (fun _ h9 => h9) (v := .int (wI w 58 1)) rfl dX4_person_50 ?_
        refine lv_iload_n hx hb dX4_person_53 rfl (lv_at hl 2 rfl) ?_
        obtain ⟨hb5, h⟩ := grd h
        refine r_iast hx hb hK hR hL (hF.2.1 61 (200, 16) rfl) hb5 dX4_person_54 (fun H locs hR hL => ?_)
        have hF := hF.sI 61 ((wI w 58 1).toNatClampNeg) a2
        refine lv_aload_n hx hb dX4_person_55 rfl (lv_at hl 0 rfl) ?_
        refine lv_dup hx hb dX4_person_56 rfl ?_
        refine r_get (C := RX4) (T := TX4) (N := 80) hx hb hts ok4 hown hK hR (congrArg Prod.fst (hF.2.1 58 (5, 0) rfl)) rfl 1 (by decide) (hts _ q1634) (fun _ h9 => h9) (v := .int (wI w 58 1)) rfl dX4_person_57 ?_
        refine lv_iconst (v := 1) hx hb dX4_person_60 (by decide) ?_
        refine lv_iadd hx hb dX4_person_61 ?_
        refine r_putI (C := RX4) (T := TX4) (N := 80) hx hb hts ok4 hown hK hR hL (congrArg Prod.fst (hF.2.1 58 (5, 0) rfl)) rfl 1 (by decide) (hts _ q1634) (fun _ h9 => h9) (Or.inl rfl) rfl rfl rfl dX4_person_62 (fun H locs hR hL => ?_)
        have hF := hF.sI 58 1 ((wI w 58 1) + (1 : Int32))
        refine lv_aload_n hx hb dX4_person_65 rfl (lv_at hl 0 rfl) ?_
        refine r_get (C := RX4) (T := TX4) (N := 80) hx hb hts ok4 hown hK hR (congrArg Prod.fst (hF.2.1 58 (5, 0) rfl)) rfl 1 (by decide) (hts _ q1634) (fun _ h9 => h9) (v := .int ((wI w 58 1) + (1 : Int32))) rfl dX4_person_66 ?_
        refine lv_iconst (v := 1) hx hb dX4_person_69 (by decide) ?_
        refine lv_isub hx hb dX4_person_70 ?_
        have h := Option.some.inj h
        subst h
        exact W.iret (v := ((wI w 58 1) + (1 : Int32)) - (1 : Int32)) hx hb hr (fun t ht _ => ⟨rfl, by rw [ht]; exact hR, hF⟩) hL dX4_person_71
      · rw [if_pos c3] at h
        refine lv_bipush (v := -4) hx hb dX4_person_32 (by decide) ?_
        have h := Option.some.inj h
        subst h
        exact W.iret (v := (-4 : Int32)) hx hb hr (fun t ht _ => ⟨rfl, by rw [ht]; exact hR, hF⟩) hL dX4_person_34
    · rw [if_neg (bI_n c2)] at h
      refine lv_bipush (v := -2) hx hb dX4_person_20 (by decide) ?_
      have h := Option.some.inj h
      subst h
      exact W.iret (v := (-2 : Int32)) hx hb hr (fun t ht _ => ⟨rfl, by rw [ht]; exact hR, hF⟩) hL dX4_person_22
  · rw [if_neg (bI_n c1)] at h
    refine lv_iconst (v := -1) hx hb dX4_person_8 (by decide) ?_
    have h := Option.some.inj h
    subst h
    exact W.iret (v := (-1 : Int32)) hx hb hr (fun t ht _ => ⟨rfl, by rw [ht]; exact hR, hF⟩) hL dX4_person_9
def f_X4_book (a1 : Int32) (a2 : Int32) (a3 : Int32) (w : Wd) : Option (Int32 × Wd) :=
  if (f_X4_in a1 (0 : Int32) (99 : Int32) w) then (if (f_X4_in a2 (0 : Int32) (19 : Int32) w) then (if (f_X4_in a3 (0 : Int32) (2000 : Int32) w) then (if (wI w 58 2) = (16 : Int32) then (some ((-4 : Int32), w)) else (if inb (wI w 58 2) 16 then (if inb (wI w 58 2) 16 then (if inb (wI w 58 2) 16 then (if inb (wI w 58 2) 16 then (some (((wI w 58 2) + (1 : Int32)) - (1 : Int32), sI (sI (sI (sI (sI w 62 ((wI w 58 2).toNatClampNeg) a1) 63 ((wI w 58 2).toNatClampNeg) a2) 64 ((wI w 58 2).toNatClampNeg) a3) 65 ((wI w 58 2).toNatClampNeg) (0 : Int32)) 58 2 ((wI w 58 2) + (1 : Int32)))) else none) else none) else none) else none)) else (some ((-2 : Int32), w))) else (some ((-2 : Int32), w))) else (some ((-2 : Int32), w))
theorem hd_X4_book : yX4_book.cls = RX4 ∧ yX4_book.cls ≠ "java/lang/invoke/MethodHandle" ∧ yX4_book.cls ≠ "java/lang/invoke/VarHandle" ∧ (parseMethodDescriptor yX4_book.desc).map (fun d => d.parameters.length) = some 3 := by decide +kernel
set_option maxHeartbeats 4000000 in
set_option maxRecDepth 100000 in
theorem met_X4_book (l : Launch) (G : Gw) (z : Nat) (H0 : Heap)  (w : Wd) (a1 : Int32) (a2 : Int32) (a3 : Int32) (q : Int32 × Wd) (h : f_X4_book a1 a2 a3 w = some q) : Met l yX4_book (ws_ yX4_book cX4_book 4 (some .int)) ({ frames := 1, cells := 0, slots := 0, locals := 23 } : Room) (pcW G z H0 w [.ref (z + 58), .int a1, .int a2, .int a3]) (qW G z H0 q.2 (some (.int q.1))) 0 0 (fun q => z ≤ q) := by
  refine mW (by decide) (Nat.le_of_ble_eq_true rfl) ?_
  intro p e s m below meth c ls hx hb hr hml hown hts hlocks hnm hK hR hF hl
  have hown : s.vm.findClass RX4 = some m.cls := hown
  have hl : lv_has ls 4 [(0, .ref (z + 58)), (1, .int a1), (2, .int a2), (3, .int a3)] := hl
  have hL : lok z [] := lok_nil
  unfold f_X4_book at h
  generalize s.heap = H at hR ⊢
  generalize ([] : List Loc) = locs at hL ⊢
  refine lv_aload_n hx hb dX4_book_0 rfl (lv_at hl 0 rfl) ?_
  refine lv_iload_n hx hb dX4_book_1 rfl (lv_at hl 1 rfl) ?_
  refine lv_iconst (v := 0) hx hb dX4_book_2 (by decide) ?_
  refine lv_bipush (v := 99) hx hb dX4_book_3 (by decide) ?_
  refine c_VP (a := 58) (ci := 4) (q := (RX4, TX4, 80)) (rest := []) (st1 := [.int (bI (f_X4_in a1 (0 : Int32) (99 : Int32) w))]) hx hb hml hown hts hK hR hF hL hl.1 (met_X4_in l G z H0 w a1 (0 : Int32) (99 : Int32) _ rfl) (congrArg Prod.fst (hF.2.1 58 (5, 0) rfl)) rfl rfl rfl hd_X4_in q1878 q1880 qs41 q104 q1881 ⟨Nat.le_of_ble_eq_true rfl, Nat.le_of_ble_eq_true rfl⟩ ⟨Nat.le_refl 0, Nat.le_refl 0⟩ rfl rfl (Nat.le_of_ble_eq_true rfl) dX4_book_5 rfl (fun locs hL => ?_)
  refine lv_if_eq (tgt := 34) hx hb dX4_book_8 (by decide) (fun c1 => ?_) (fun c1 => ?_)
  · rw [if_neg (bI_n c1)] at h
    refine lv_bipush (v := -2) hx hb dX4_book_34 (by decide) ?_
    have h := Option.some.inj h
    subst h
    exact W.iret (v := (-2 : Int32)) hx hb hr (fun t ht _ => ⟨rfl, by rw [ht]; exact hR, hF⟩) hL dX4_book_36
  · rw [if_pos (bI_p c1)] at h
    refine lv_aload_n hx hb dX4_book_11 rfl (lv_at hl 0 rfl) ?_
    refine lv_iload_n hx hb dX4_book_12 rfl (lv_at hl 2 rfl) ?_
    refine lv_iconst (v := 0) hx hb dX4_book_13 (by decide) ?_
    refine lv_bipush (v := 19) hx hb dX4_book_14 (by decide) ?_
    refine c_VP (a := 58) (ci := 4) (q := (RX4, TX4, 80)) (rest := []) (st1 := [.int (bI (f_X4_in a2 (0 : Int32) (19 : Int32) w))]) hx hb hml hown hts hK hR hF hL hl.1 (met_X4_in l G z H0 w a2 (0 : Int32) (19 : Int32) _ rfl) (congrArg Prod.fst (hF.2.1 58 (5, 0) rfl)) rfl rfl rfl hd_X4_in q1878 q1880 qs41 q104 q1881 ⟨Nat.le_of_ble_eq_true rfl, Nat.le_of_ble_eq_true rfl⟩ ⟨Nat.le_refl 0, Nat.le_refl 0⟩ rfl rfl (Nat.le_of_ble_eq_true rfl) dX4_book_16 rfl (fun locs hL => ?_)
    refine lv_if_eq (tgt := 34) hx hb dX4_book_19 (by decide) (fun c2 => ?_) (fun c2 => ?_)
    · rw [if_neg (bI_n c2)] at h
      refine lv_bipush (v := -2) hx hb dX4_book_34 (by decide) ?_
      have h := Option.some.inj h
      subst h
      exact W.iret (v := (-2 : Int32)) hx hb hr (fun t ht _ => ⟨rfl, by rw [ht]; exact hR, hF⟩) hL dX4_book_36
    · rw [if_pos (bI_p c2)] at h
      refine lv_aload_n hx hb dX4_book_22 rfl (lv_at hl 0 rfl) ?_
      refine lv_iload_n hx hb dX4_book_23 rfl (lv_at hl 3 rfl) ?_
      refine lv_iconst (v := 0) hx hb dX4_book_24 (by decide) ?_
      refine lv_sipush (v := 2000) hx hb dX4_book_25 (by decide) ?_
      refine c_VP (a := 58) (ci := 4) (q := (RX4, TX4, 80)) (rest := []) (st1 := [.int (bI (f_X4_in a3 (0 : Int32) (2000 : Int32) w))]) hx hb hml hown hts hK hR hF hL hl.1 (met_X4_in l G z H0 w a3 (0 : Int32) (2000 : Int32) _ rfl) (congrArg Prod.fst (hF.2.1 58 (5, 0) rfl)) rfl rfl rfl hd_X4_in q1878 q1880 qs41 q104 q1881 ⟨Nat.le_of_ble_eq_true rfl, Nat.le_of_ble_eq_true rfl⟩ ⟨Nat.le_refl 0, Nat.le_refl 0⟩ rfl rfl (Nat.le_of_ble_eq_true rfl) dX4_book_28 rfl (fun locs hL => ?_)
      refine lv_if_ne (tgt := 37) hx hb dX4_book_31 (by decide) (fun c3 => ?_) (fun c3 => ?_)
      · rw [if_pos (bI_p c3)] at h
        refine lv_aload_n hx hb dX4_book_37 rfl (lv_at hl 0 rfl) ?_
        refine r_get (C := RX4) (T := TX4) (N := 80) hx hb hts ok4 hown hK hR (congrArg Prod.fst (hF.2.1 58 (5, 0) rfl)) rfl 2 (by decide) (hts _ q1635) (fun _ h9 => h9) (v := .int (wI w 58 2)) rfl dX4_book_38 ?_
        refine lv_bipush (v := 16) hx hb dX4_book_41 (by decide) ?_
        refine lv_icmp_ne (tgt := 49) hx hb dX4_book_43 (by decide) (fun c4 => ?_) (fun c4 => ?_)
        · rw [if_neg c4] at h
          refine lv_aload_n hx hb dX4_book_49 rfl (lv_at hl 0 rfl) ?_
          refine r_get (C := RX4) (T := TX4) (N := 80) hx hb hts ok4 hown hK hR (congrArg Prod.fst (hF.2.1 58 (5, 0) rfl)) rfl 7 (by decide) (hts _ q1640) (fun _ h9 => h9) (v := .ref (z + 62)) (fv_fix hF rfl rfl) dX4_book_50 ?_
          refine lv_aload_n hx hb dX4_book_53 rfl (lv_at hl 0 rfl) ?_
          refine r_get (C := RX4) (T := TX4) (N := 80) hx hb hts ok4 hown hK hR (congrArg Prod.fst (hF.2.1 58 (5, 0) rfl)) rfl 2 (by decide) (hts _ q1635) (fun _ h9 => h9) (v := .int (wI w 58 2)) rfl dX4_book_54 ?_
          refine lv_iload_n hx hb dX4_book_57 rfl (lv_at hl 1 rfl) ?_
          obtain ⟨hb5, h⟩ := grd h
          refine r_iast hx hb hK hR hL (hF.2.1 62 (200, 16) rfl) hb5 dX4_book_58 (fun H locs hR hL => ?_)
          have hF := hF.sI 62 ((wI w 58 2).toNatClampNeg) a1
          refine lv_aload_n hx hb dX4_book_59 rfl (lv_at hl 0 rfl) ?_
          refine r_get (C := RX4) (T := TX4) (N := 80) hx hb hts ok4 hown hK hR (congrArg Prod.fst (hF.2.1 58 (5, 0) rfl)) rfl 8 (by decide) (hts _ q1641) (fun _ h9 => h9) (v := .ref (z + 63)) (fv_fix hF rfl rfl) dX4_book_60 ?_
          refine lv_aload_n hx hb dX4_book_63 rfl (lv_at hl 0 rfl) ?_
          refine r_get (C := RX4) (T := TX4) (N := 80) hx hb hts ok4 hown hK hR (congrArg Prod.fst (hF.2.1 58 (5, 0) rfl)) rfl 2 (by decide) (hts _ q1635) (fun _ h9 => h9) (v := .int (wI w 58 2)) rfl dX4_book_64 ?_
          refine lv_iload_n hx hb dX4_book_67 rfl (lv_at hl 2 rfl) ?_
          obtain ⟨hb6, h⟩ := grd h
          refine r_iast hx hb hK hR hL (hF.2.1 63 (200, 16) rfl) hb6 dX4_book_68 (fun H locs hR hL => ?_)
          have hF := hF.sI 63 ((wI w 58 2).toNatClampNeg) a2
          refine lv_aload_n hx hb dX4_book_69 rfl (lv_at hl 0 rfl) ?_
          refine r_get (C := RX4) (T := TX4) (N := 80) hx hb hts ok4 hown hK hR (congrArg Prod.fst (hF.2.1 58 (5, 0) rfl)) rfl 9 (by decide) (hts _ q1642) (fun _ h9 => h9) (v := .ref (z + 64)) (fv_fix hF rfl rfl) dX4_book_70 ?_
          refine lv_aload_n hx hb dX4_book_73 rfl (lv_at hl 0 rfl) ?_
          refine r_get (C := RX4) (T := TX4) (N := 80) hx hb hts ok4 hown hK hR (congrArg Prod.fst (hF.2.1 58 (5, 0) rfl)) rfl 2 (by decide) (hts _ q1635) (fun _ h9 => h9) (v := .int (wI w 58 2)) rfl dX4_book_74 ?_
          refine lv_iload_n hx hb dX4_book_77 rfl (lv_at hl 3 rfl) ?_
          obtain ⟨hb7, h⟩ := grd h
          refine r_iast hx hb hK hR hL (hF.2.1 64 (200, 16) rfl) hb7 dX4_book_78 (fun H locs hR hL => ?_)
          have hF := hF.sI 64 ((wI w 58 2).toNatClampNeg) a3
          refine lv_aload_n hx hb dX4_book_79 rfl (lv_at hl 0 rfl) ?_
          refine r_get (C := RX4) (T := TX4) (N := 80) hx hb hts ok4 hown hK hR (congrArg Prod.fst (hF.2.1 58 (5, 0) rfl)) rfl 10 (by decide) (hts _ q1643) (fun _ h9 => h9) (v := .ref (z + 65)) (fv_fix hF rfl rfl) dX4_book_80 ?_
          refine lv_aload_n hx hb dX4_book_83 rfl (lv_at hl 0 rfl) ?_
          refine r_get (C := RX4) (T := TX4) (N := 80) hx hb hts ok4 hown hK hR (congrArg Prod.fst (hF.2.1 58 (5, 0) rfl)) rfl 2 (by decide) (hts _ q1635) (fun _ h9 => h9) (v := .int (wI w 58 2)) rfl dX4_book_84 ?_
          refine lv_iconst (v := 0) hx hb dX4_book_87 (by decide) ?_
          obtain ⟨hb8, h⟩ := grd h
          refine r_iast hx hb hK hR hL (hF.2.1 65 (200, 16) rfl) hb8 dX4_book_88 (fun H locs hR hL => ?_)
          have hF := hF.sI 65 ((wI w 58 2).toNatClampNeg) (0 : Int32)
          refine lv_aload_n hx hb dX4_book_89 rfl (lv_at hl 0 rfl) ?_
          refine lv_dup hx hb dX4_book_90 rfl ?_
          refine r_get (C := RX4) (T := TX4) (N := 80) hx hb hts ok4 hown hK hR (congrArg Prod.fst (hF.2.1 58 (5, 0) rfl)) rfl 2 (by decide) (hts _ q1635) (fun _ h9 => h9) (v := .int (wI w 58 2)) rfl dX4_book_91 ?_
          refine lv_iconst (v := 1) hx hb dX4_book_94 (by decide) ?_
          refine lv_iadd hx hb dX4_book_95 ?_
          refine r_putI (C := RX4) (T := TX4) (N := 80) hx hb hts ok4 hown hK hR hL (congrArg Prod.fst (hF.2.1 58 (5, 0) rfl)) rfl 2 (by decide) (hts _ q1635) (fun _ h9 => h9) (Or.inl rfl) rfl rfl rfl dX4_book_96 (fun H locs hR hL => ?_)
          have hF := hF.sI 58 2 ((wI w 58 2) + (1 : Int32))
          refine lv_aload_n hx hb dX4_book_99 rfl (lv_at hl 0 rfl) ?_
          refine r_get (C := RX4) (T := TX4) (N := 80) hx hb hts ok4 hown hK hR (congrArg Prod.fst (hF.2.1 58 (5, 0) rfl)) rfl 2 (by decide) (hts _ q1635) (fun _ h9 => h9) (v := .int ((wI w 58 2) + (1 : Int32))) rfl dX4_book_100 ?_
          refine lv_iconst (v := 1) hx hb dX4_book_103 (by decide) ?_
          refine lv_isub hx hb dX4_book_104 ?_
          have h := Option.some.inj h
          subst h
          exact W.iret (v := ((wI w 58 2) + (1 : Int32)) - (1 : Int32)) hx hb hr (fun t ht _ => ⟨rfl, by rw [ht]; exact hR, hF⟩) hL dX4_book_105
        · rw [if_pos c4] at h
          refine lv_bipush (v := -4) hx hb dX4_book_46 (by decide) ?_
          have h := Option.some.inj h
          subst h
          exact W.iret (v := (-4 : Int32)) hx hb hr (fun t ht _ => ⟨rfl, by rw [ht]; exact hR, hF⟩) hL dX4_book_48
      · rw [if_neg (bI_n c3)] at h
        refine lv_bipush (v := -2) hx hb dX4_book_34 (by decide) ?_
        have h := Option.some.inj h
        subst h
        exact W.iret (v := (-2 : Int32)) hx hb hr (fun t ht _ => ⟨rfl, by rw [ht]; exact hR, hF⟩) hL dX4_book_36
def f_X4_isBook (a1 : Int32) (w : Wd) : Bool :=
  (f_X4_in a1 (0 : Int32) ((wI w 58 2) - (1 : Int32)) w)
theorem hd_X4_isBook : yX4_isBook.cls = RX4 ∧ yX4_isBook.cls ≠ "java/lang/invoke/MethodHandle" ∧ yX4_isBook.cls ≠ "java/lang/invoke/VarHandle" ∧ (parseMethodDescriptor yX4_isBook.desc).map (fun d => d.parameters.length) = some 1 := by decide +kernel
set_option maxHeartbeats 4000000 in
set_option maxRecDepth 100000 in
theorem met_X4_isBook (l : Launch) (G : Gw) (z : Nat) (H0 : Heap)  (w : Wd) (a1 : Int32) (q : Bool) (h : f_X4_isBook a1 w = q) : Met l yX4_isBook (ws_ yX4_isBook cX4_isBook 2 (some .boolean)) ({ frames := 1, cells := 0, slots := 0, locals := 23 } : Room) (pcW G z H0 w [.ref (z + 58), .int a1]) (qP (some (.int (bI q)))) 0 0 (fun q => z ≤ q) := by
  refine mW (by decide) (Nat.le_of_ble_eq_true rfl) ?_
  intro p e s m below meth c ls hx hb hr hml hown hts hlocks hnm hK hR hF hl
  have hown : s.vm.findClass RX4 = some m.cls := hown
  have hl : lv_has ls 2 [(0, .ref (z + 58)), (1, .int a1)] := hl
  have hL : lok z [] := lok_nil
  unfold f_X4_isBook at h
  generalize ([] : List Loc) = locs at hL ⊢
  refine lv_aload_n hx hb dX4_isBook_0 rfl (lv_at hl 0 rfl) ?_
  refine lv_iload_n hx hb dX4_isBook_1 rfl (lv_at hl 1 rfl) ?_
  refine lv_iconst (v := 0) hx hb dX4_isBook_2 (by decide) ?_
  refine lv_aload_n hx hb dX4_isBook_3 rfl (lv_at hl 0 rfl) ?_
  refine r_get (C := RX4) (T := TX4) (N := 80) hx hb hts ok4 hown hK hR (congrArg Prod.fst (hF.2.1 58 (5, 0) rfl)) rfl 2 (by decide) (hts _ q1635) (fun _ h9 => h9) (v := .int (wI w 58 2)) rfl dX4_isBook_4 ?_
  refine lv_iconst (v := 1) hx hb dX4_isBook_7 (by decide) ?_
  refine lv_isub hx hb dX4_isBook_8 ?_
  refine c_VP (a := 58) (ci := 4) (q := (RX4, TX4, 80)) (rest := []) (st1 := [.int (bI (f_X4_in a1 (0 : Int32) ((wI w 58 2) - (1 : Int32)) w))]) hx hb hml hown hts hK hR hF hL hl.1 (met_X4_in l G z H0 w a1 (0 : Int32) ((wI w 58 2) - (1 : Int32)) _ rfl) (congrArg Prod.fst (hF.2.1 58 (5, 0) rfl)) rfl rfl rfl hd_X4_in q1878 q1880 qs41 q104 q1881 ⟨Nat.le_of_ble_eq_true rfl, Nat.le_of_ble_eq_true rfl⟩ ⟨Nat.le_refl 0, Nat.le_refl 0⟩ rfl rfl (Nat.le_of_ble_eq_true rfl) dX4_isBook_9 rfl (fun locs hL => ?_)
  subst h
  exact W.zret (v := bI (f_X4_in a1 (0 : Int32) ((wI w 58 2) - (1 : Int32)) w)) hx hb hr (bI_nar _) (fun t ht _ => ⟨rfl, ht⟩) hL dX4_isBook_12
def f_X4_line (a1 : Int32) (a2 : Int32) (w : Wd) : Option (Int32 × Wd) :=
  if (f_X4_isBook a1 w) then (if (f_X4_in a2 (1 : Int32) (65535 : Int32) w) then (if inb a1 16 then (if (wI w 65 a1.toNatClampNeg) = (16 : Int32) then (some ((-4 : Int32), w)) else (if inb a1 16 then (if inb (((16 : Int32) * a1) + (wI w 65 a1.toNatClampNeg)) 256 then (if inb a1 16 then (if inb a1 16 then (if inb a1 16 then (some (((wI w 65 a1.toNatClampNeg) + (1 : Int32)) - (1 : Int32), sI (sI w 66 ((((16 : Int32) * a1) + (wI w 65 a1.toNatClampNeg)).toNatClampNeg) a2) 65 a1.toNatClampNeg ((wI w 65 a1.toNatClampNeg) + (1 : Int32)))) else none) else none) else none) else none) else none)) else none) else (some ((-2 : Int32), w))) else (some ((-1 : Int32), w))
theorem hd_X4_line : yX4_line.cls = RX4 ∧ yX4_line.cls ≠ "java/lang/invoke/MethodHandle" ∧ yX4_line.cls ≠ "java/lang/invoke/VarHandle" ∧ (parseMethodDescriptor yX4_line.desc).map (fun d => d.parameters.length) = some 2 := by decide +kernel
set_option maxHeartbeats 4000000 in
set_option maxRecDepth 100000 in
theorem met_X4_line (l : Launch) (G : Gw) (z : Nat) (H0 : Heap)  (w : Wd) (a1 : Int32) (a2 : Int32) (q : Int32 × Wd) (h : f_X4_line a1 a2 w = some q) : Met l yX4_line (ws_ yX4_line cX4_line 3 (some .int)) ({ frames := 2, cells := 0, slots := 0, locals := 44 } : Room) (pcW G z H0 w [.ref (z + 58), .int a1, .int a2]) (qW G z H0 q.2 (some (.int q.1))) 0 0 (fun q => z ≤ q) := by
  refine mW (by decide) (Nat.le_of_ble_eq_true rfl) ?_
  intro p e s m below meth c ls hx hb hr hml hown hts hlocks hnm hK hR hF hl
  have hown : s.vm.findClass RX4 = some m.cls := hown
  have hl : lv_has ls 3 [(0, .ref (z + 58)), (1, .int a1), (2, .int a2)] := hl
  have hL : lok z [] := lok_nil
  unfold f_X4_line at h
  generalize s.heap = H at hR ⊢
  generalize ([] : List Loc) = locs at hL ⊢
  refine lv_aload_n hx hb dX4_line_0 rfl (lv_at hl 0 rfl) ?_
  refine lv_iload_n hx hb dX4_line_1 rfl (lv_at hl 1 rfl) ?_
  refine c_VP (a := 58) (ci := 4) (q := (RX4, TX4, 80)) (rest := []) (st1 := [.int (bI (f_X4_isBook a1 w))]) hx hb hml hown hts hK hR hF hL hl.1 (met_X4_isBook l G z H0 w a1 _ rfl) (congrArg Prod.fst (hF.2.1 58 (5, 0) rfl)) rfl rfl rfl hd_X4_isBook q1910 q1912 qs44 q104 q1913 ⟨Nat.le_of_ble_eq_true rfl, Nat.le_of_ble_eq_true rfl⟩ ⟨Nat.le_refl 0, Nat.le_refl 0⟩ rfl rfl (Nat.le_of_ble_eq_true rfl) dX4_line_2 rfl (fun locs hL => ?_)
  refine lv_if_ne (tgt := 10) hx hb dX4_line_5 (by decide) (fun c1 => ?_) (fun c1 => ?_)
  · rw [if_pos (bI_p c1)] at h
    refine lv_aload_n hx hb dX4_line_10 rfl (lv_at hl 0 rfl) ?_
    refine lv_iload_n hx hb dX4_line_11 rfl (lv_at hl 2 rfl) ?_
    refine lv_iconst (v := 1) hx hb dX4_line_12 (by decide) ?_
    refine lv_ldcw (v := 65535) hx hb hown (hts _ q1914) dX4_line_13 ?_
    refine c_VP (a := 58) (ci := 4) (q := (RX4, TX4, 80)) (rest := []) (st1 := [.int (bI (f_X4_in a2 (1 : Int32) (65535 : Int32) w))]) hx hb hml hown hts hK hR hF hL hl.1 (met_X4_in l G z H0 w a2 (1 : Int32) (65535 : Int32) _ rfl) (congrArg Prod.fst (hF.2.1 58 (5, 0) rfl)) rfl rfl rfl hd_X4_in q1878 q1880 qs41 q104 q1881 ⟨Nat.le_of_ble_eq_true rfl, Nat.le_of_ble_eq_true rfl⟩ ⟨Nat.le_refl 0, Nat.le_refl 0⟩ rfl rfl (Nat.le_of_ble_eq_true rfl) dX4_line_16 rfl (fun locs hL => ?_)
    refine lv_if_ne (tgt := 25) hx hb dX4_line_19 (by decide) (fun c2 => ?_) (fun c2 => ?_)
    · rw [if_pos (bI_p c2)] at h
      refine lv_aload_n hx hb dX4_line_25 rfl (lv_at hl 0 rfl) ?_
      refine r_get (C := RX4) (T := TX4) (N := 80) hx hb hts ok4 hown hK hR (congrArg Prod.fst (hF.2.1 58 (5, 0) rfl)) rfl 10 (by decide) (hts _ q1643) (fun _ h9 => h9) (v := .ref (z + 65)) (fv_fix hF rfl rfl) dX4_line_26 ?_
      refine lv_iload_n hx hb dX4_line_29 rfl (lv_at hl 1 rfl) ?_
      obtain ⟨hb3, h⟩ := grd h
      refine r_iald (v := wI w 65 a1.toNatClampNeg) hx hb hK hR (hF.2.1 65 (200, 16) rfl) hb3 rfl dX4_line_30 ?_
      refine lv_bipush (v := 16) hx hb dX4_line_31 (by decide) ?_
      refine lv_icmp_ne (tgt := 39) hx hb dX4_line_33 (by decide) (fun c4 => ?_) (fun c4 => ?_)
      · rw [if_neg c4] at h
        refine lv_aload_n hx hb dX4_line_39 rfl (lv_at hl 0 rfl) ?_
        refine r_get (C := RX4) (T := TX4) (N := 80) hx hb hts ok4 hown hK hR (congrArg Prod.fst (hF.2.1 58 (5, 0) rfl)) rfl 11 (by decide) (hts _ q1644) (fun _ h9 => h9) (v := .ref (z + 66)) (fv_fix hF rfl rfl) dX4_line_40 ?_
        refine lv_bipush (v := 16) hx hb dX4_line_43 (by decide) ?_
        refine lv_iload_n hx hb dX4_line_45 rfl (lv_at hl 1 rfl) ?_
        refine lv_imul hx hb dX4_line_46 ?_
        refine lv_aload_n hx hb dX4_line_47 rfl (lv_at hl 0 rfl) ?_
        refine r_get (C := RX4) (T := TX4) (N := 80) hx hb hts ok4 hown hK hR (congrArg Prod.fst (hF.2.1 58 (5, 0) rfl)) rfl 10 (by decide) (hts _ q1643) (fun _ h9 => h9) (v := .ref (z + 65)) (fv_fix hF rfl rfl) dX4_line_48 ?_
        refine lv_iload_n hx hb dX4_line_51 rfl (lv_at hl 1 rfl) ?_
        obtain ⟨hb5, h⟩ := grd h
        refine r_iald (v := wI w 65 a1.toNatClampNeg) hx hb hK hR (hF.2.1 65 (200, 16) rfl) hb5 rfl dX4_line_52 ?_
        refine lv_iadd hx hb dX4_line_53 ?_
        refine lv_iload_n hx hb dX4_line_54 rfl (lv_at hl 2 rfl) ?_
        obtain ⟨hb6, h⟩ := grd h
        refine r_iast hx hb hK hR hL (hF.2.1 66 (200, 256) rfl) hb6 dX4_line_55 (fun H locs hR hL => ?_)
        have hF := hF.sI 66 ((((16 : Int32) * a1) + (wI w 65 a1.toNatClampNeg)).toNatClampNeg) a2
        refine lv_aload_n hx hb dX4_line_56 rfl (lv_at hl 0 rfl) ?_
        refine r_get (C := RX4) (T := TX4) (N := 80) hx hb hts ok4 hown hK hR (congrArg Prod.fst (hF.2.1 58 (5, 0) rfl)) rfl 10 (by decide) (hts _ q1643) (fun _ h9 => h9) (v := .ref (z + 65)) (fv_fix hF rfl rfl) dX4_line_57 ?_
        refine lv_iload_n hx hb dX4_line_60 rfl (lv_at hl 1 rfl) ?_
        refine lv_dup2_11 hx hb dX4_line_61 rfl rfl ?_
        obtain ⟨hb7, h⟩ := grd h
        refine r_iald (v := wI w 65 a1.toNatClampNeg) hx hb hK hR (hF.2.1 65 (200, 16) rfl) hb7 rfl dX4_line_62 ?_
        refine lv_iconst (v := 1) hx hb dX4_line_63 (by decide) ?_
        refine lv_iadd hx hb dX4_line_64 ?_
        obtain ⟨hb8, h⟩ := grd h
        refine r_iast hx hb hK hR hL (hF.2.1 65 (200, 16) rfl) hb8 dX4_line_65 (fun H locs hR hL => ?_)
        have hF := hF.sI 65 (a1.toNatClampNeg) ((wI w 65 a1.toNatClampNeg) + (1 : Int32))
        refine lv_aload_n hx hb dX4_line_66 rfl (lv_at hl 0 rfl) ?_
        refine r_get (C := RX4) (T := TX4) (N := 80) hx hb hts ok4 hown hK hR (congrArg Prod.fst (hF.2.1 58 (5, 0) rfl)) rfl 10 (by decide) (hts _ q1643) (fun _ h9 => h9) (v := .ref (z + 65)) (fv_fix hF rfl rfl) dX4_line_67 ?_
        refine lv_iload_n hx hb dX4_line_70 rfl (lv_at hl 1 rfl) ?_
        obtain ⟨hb9, h⟩ := grd h
        refine r_iald (v := (wI w 65 a1.toNatClampNeg) + (1 : Int32)) hx hb hK hR (hF.2.1 65 (200, 16) rfl) hb9 (by simp [wI_sI, wL_sL, wI_sL, wL_sI]) dX4_line_71 ?_
        refine lv_iconst (v := 1) hx hb dX4_line_72 (by decide) ?_
        refine lv_isub hx hb dX4_line_73 ?_
        have h := Option.some.inj h
        subst h
        exact W.iret (v := ((wI w 65 a1.toNatClampNeg) + (1 : Int32)) - (1 : Int32)) hx hb hr (fun t ht _ => ⟨rfl, by rw [ht]; exact hR, hF⟩) hL dX4_line_74
      · rw [if_pos c4] at h
        refine lv_bipush (v := -4) hx hb dX4_line_36 (by decide) ?_
        have h := Option.some.inj h
        subst h
        exact W.iret (v := (-4 : Int32)) hx hb hr (fun t ht _ => ⟨rfl, by rw [ht]; exact hR, hF⟩) hL dX4_line_38
    · rw [if_neg (bI_n c2)] at h
      refine lv_bipush (v := -2) hx hb dX4_line_22 (by decide) ?_
      have h := Option.some.inj h
      subst h
      exact W.iret (v := (-2 : Int32)) hx hb hr (fun t ht _ => ⟨rfl, by rw [ht]; exact hR, hF⟩) hL dX4_line_24
  · rw [if_neg (bI_n c1)] at h
    refine lv_iconst (v := -1) hx hb dX4_line_8 (by decide) ?_
    have h := Option.some.inj h
    subst h
    exact W.iret (v := (-1 : Int32)) hx hb hr (fun t ht _ => ⟨rfl, by rw [ht]; exact hR, hF⟩) hL dX4_line_9
def f_X4_isEdition (a1 : Int32) (w : Wd) : Bool :=
  (f_X4_in a1 (0 : Int32) ((wI w 58 3) - (1 : Int32)) w)
theorem hd_X4_isEdition : yX4_isEdition.cls = RX4 ∧ yX4_isEdition.cls ≠ "java/lang/invoke/MethodHandle" ∧ yX4_isEdition.cls ≠ "java/lang/invoke/VarHandle" ∧ (parseMethodDescriptor yX4_isEdition.desc).map (fun d => d.parameters.length) = some 1 := by decide +kernel
set_option maxHeartbeats 4000000 in
set_option maxRecDepth 100000 in
theorem met_X4_isEdition (l : Launch) (G : Gw) (z : Nat) (H0 : Heap)  (w : Wd) (a1 : Int32) (q : Bool) (h : f_X4_isEdition a1 w = q) : Met l yX4_isEdition (ws_ yX4_isEdition cX4_isEdition 2 (some .boolean)) ({ frames := 1, cells := 0, slots := 0, locals := 23 } : Room) (pcW G z H0 w [.ref (z + 58), .int a1]) (qP (some (.int (bI q)))) 0 0 (fun q => z ≤ q) := by
  refine mW (by decide) (Nat.le_of_ble_eq_true rfl) ?_
  intro p e s m below meth c ls hx hb hr hml hown hts hlocks hnm hK hR hF hl
  have hown : s.vm.findClass RX4 = some m.cls := hown
  have hl : lv_has ls 2 [(0, .ref (z + 58)), (1, .int a1)] := hl
  have hL : lok z [] := lok_nil
  unfold f_X4_isEdition at h
  generalize ([] : List Loc) = locs at hL ⊢
  refine lv_aload_n hx hb dX4_isEdition_0 rfl (lv_at hl 0 rfl) ?_
  refine lv_iload_n hx hb dX4_isEdition_1 rfl (lv_at hl 1 rfl) ?_
  refine lv_iconst (v := 0) hx hb dX4_isEdition_2 (by decide) ?_
  refine lv_aload_n hx hb dX4_isEdition_3 rfl (lv_at hl 0 rfl) ?_
  refine r_get (C := RX4) (T := TX4) (N := 80) hx hb hts ok4 hown hK hR (congrArg Prod.fst (hF.2.1 58 (5, 0) rfl)) rfl 3 (by decide) (hts _ q1636) (fun _ h9 => h9) (v := .int (wI w 58 3)) rfl dX4_isEdition_4 ?_
  refine lv_iconst (v := 1) hx hb dX4_isEdition_7 (by decide) ?_
  refine lv_isub hx hb dX4_isEdition_8 ?_
  refine c_VP (a := 58) (ci := 4) (q := (RX4, TX4, 80)) (rest := []) (st1 := [.int (bI (f_X4_in a1 (0 : Int32) ((wI w 58 3) - (1 : Int32)) w))]) hx hb hml hown hts hK hR hF hL hl.1 (met_X4_in l G z H0 w a1 (0 : Int32) ((wI w 58 3) - (1 : Int32)) _ rfl) (congrArg Prod.fst (hF.2.1 58 (5, 0) rfl)) rfl rfl rfl hd_X4_in q1878 q1880 qs41 q104 q1881 ⟨Nat.le_of_ble_eq_true rfl, Nat.le_of_ble_eq_true rfl⟩ ⟨Nat.le_refl 0, Nat.le_refl 0⟩ rfl rfl (Nat.le_of_ble_eq_true rfl) dX4_isEdition_9 rfl (fun locs hL => ?_)
  subst h
  exact W.zret (v := bI (f_X4_in a1 (0 : Int32) ((wI w 58 3) - (1 : Int32)) w)) hx hb hr (bI_nar _) (fun t ht _ => ⟨rfl, ht⟩) hL dX4_isEdition_12
def f_X4_edition_J74 (a1 : Int32) (a2 : Int32) (a3 : Int32) (a4 : Int32) (w : Wd) : Option (Int32 × Wd) :=
  if (wI w 58 3) = (24 : Int32) then (some ((-4 : Int32), w)) else (if inb (wI w 58 3) 24 then (if inb (wI w 58 3) 24 then (if inb (wI w 58 3) 24 then (if inb (wI w 58 3) 24 then (some (((wI w 58 3) + (1 : Int32)) - (1 : Int32), sI (sI (sI (sI (sI w 67 ((wI w 58 3).toNatClampNeg) a1) 68 ((wI w 58 3).toNatClampNeg) a2) 69 ((wI w 58 3).toNatClampNeg) a3) 70 ((wI w 58 3).toNatClampNeg) a4) 58 3 ((wI w 58 3) + (1 : Int32)))) else none) else none) else none) else none)
def f_X4_edition_J33 (a1 : Int32) (a2 : Int32) (a3 : Int32) (a4 : Int32) (w : Wd) : Option (Int32 × Wd) :=
  if inb a1 16 then (if (f_X4_in a2 (1 : Int32) (((1 : Int32) <<< ((wI w 65 a1.toNatClampNeg) &&& 31)) - (1 : Int32)) w) then (if a4 < 0 then (f_X4_edition_J74 a1 a2 a3 a4 w) else (if inb a4 24 then (if (wI w 67 a4.toNatClampNeg) = a1 then (f_X4_edition_J74 a1 a2 a3 a4 w) else (some ((-3 : Int32), w))) else none)) else (some ((-2 : Int32), w))) else none
def f_X4_edition (a1 : Int32) (a2 : Int32) (a3 : Int32) (a4 : Int32) (w : Wd) : Option (Int32 × Wd) :=
  if (f_X4_isBook a1 w) then (if (f_X4_isTown a3 w) then (if a4 = (-1 : Int32) then (f_X4_edition_J33 a1 a2 a3 a4 w) else (if (f_X4_isEdition a4 w) then (f_X4_edition_J33 a1 a2 a3 a4 w) else (some ((-1 : Int32), w)))) else (some ((-1 : Int32), w))) else (some ((-1 : Int32), w))
theorem hd_X4_edition : yX4_edition.cls = RX4 ∧ yX4_edition.cls ≠ "java/lang/invoke/MethodHandle" ∧ yX4_edition.cls ≠ "java/lang/invoke/VarHandle" ∧ (parseMethodDescriptor yX4_edition.desc).map (fun d => d.parameters.length) = some 4 := by decide +kernel
set_option maxHeartbeats 4000000 in
set_option maxRecDepth 100000 in
theorem met_X4_edition (l : Launch) (G : Gw) (z : Nat) (H0 : Heap)  (w : Wd) (a1 : Int32) (a2 : Int32) (a3 : Int32) (a4 : Int32) (q : Int32 × Wd) (h : f_X4_edition a1 a2 a3 a4 w = some q) : Met l yX4_edition (ws_ yX4_edition cX4_edition 5 (some .int)) ({ frames := 2, cells := 0, slots := 0, locals := 44 } : Room) (pcW G z H0 w [.ref (z + 58), .int a1, .int a2, .int a3, .int a4]) (qW G z H0 q.2 (some (.int q.1))) 0 0 (fun q => z ≤ q) := by
  refine mW (by decide) (Nat.le_of_ble_eq_true rfl) ?_
  intro p e s m below meth c ls hx hb hr hml hown hts hlocks hnm hK hR hF hl
  have hown : s.vm.findClass RX4 = some m.cls := hown
  have hl : lv_has ls 5 [(0, .ref (z + 58)), (1, .int a1), (2, .int a2), (3, .int a3), (4, .int a4)] := hl
  have hL : lok z [] := lok_nil
  unfold f_X4_edition at h
  generalize s.heap = H at hR ⊢
  generalize ([] : List Loc) = locs at hL ⊢
  have hJ74 : ∀  (w : Wd), f_X4_edition_J74 a1 a2 a3 a4 w = some q → ∀ (H : Heap) (locs : List Loc) (ls : Array Slot), Rp G z H0 w H → Fix w → lok z locs → lv_has ls 5 [(0, .ref (z + 58)), (1, .int a1), (2, .int a2), (3, .int a3), (4, .int a4)] → W p l e ({ frames := 2, cells := 0, slots := 0, locals := 44 } : Room) s m ([.ref (z + 58), .int a1, .int a2, .int a3, .int a4] : List Value).toArray below meth c H locs 0 0 (MQ below (qW G z H0 q.2 (some (.int q.1))) ([.ref (z + 58), .int a1, .int a2, .int a3, .int a4] : List Value).toArray s 0 0 (fun q => z ≤ q)) (F0 m 74 ls []) := by
    intro  w h H locs ls hR hF hL hl
    unfold f_X4_edition_J74 at h
    refine lv_aload_n hx hb dX4_edition_74 rfl (lv_at hl 0 rfl) ?_
    refine r_get (C := RX4) (T := TX4) (N := 80) hx hb hts ok4 hown hK hR (congrArg Prod.fst (hF.2.1 58 (5, 0) rfl)) rfl 3 (by decide) (hts _ q1636) (fun _ h9 => h9) (v := .int (wI w 58 3)) rfl dX4_edition_75 ?_
    refine lv_bipush (v := 24) hx hb dX4_edition_78 (by decide) ?_
    refine lv_icmp_ne (tgt := 86) hx hb dX4_edition_80 (by decide) (fun c7 => ?_) (fun c7 => ?_)
    · rw [if_neg c7] at h
      refine lv_aload_n hx hb dX4_edition_86 rfl (lv_at hl 0 rfl) ?_
      refine r_get (C := RX4) (T := TX4) (N := 80) hx hb hts ok4 hown hK hR (congrArg Prod.fst (hF.2.1 58 (5, 0) rfl)) rfl 12 (by decide) (hts _ q1645) (fun _ h9 => h9) (v := .ref (z + 67)) (fv_fix hF rfl rfl) dX4_edition_87 ?_
      refine lv_aload_n hx hb dX4_edition_90 rfl (lv_at hl 0 rfl) ?_
      refine r_get (C := RX4) (T := TX4) (N := 80) hx hb hts ok4 hown hK hR (congrArg Prod.fst (hF.2.1 58 (5, 0) rfl)) rfl 3 (by decide) (hts _ q1636) (fun _ h9 => h9) (v := .int (wI w 58 3)) rfl dX4_edition_91 ?_
      refine lv_iload_n hx hb dX4_edition_94 rfl (lv_at hl 1 rfl) ?_
      obtain ⟨hb8, h⟩ := grd h
      refine r_iast hx hb hK hR hL (hF.2.1 67 (200, 24) rfl) hb8 dX4_edition_95 (fun H locs hR hL => ?_)
      have hF := hF.sI 67 ((wI w 58 3).toNatClampNeg) a1
      refine lv_aload_n hx hb dX4_edition_96 rfl (lv_at hl 0 rfl) ?_
      refine r_get (C := RX4) (T := TX4) (N := 80) hx hb hts ok4 hown hK hR (congrArg Prod.fst (hF.2.1 58 (5, 0) rfl)) rfl 13 (by decide) (hts _ q1646) (fun _ h9 => h9) (v := .ref (z + 68)) (fv_fix hF rfl rfl) dX4_edition_97 ?_
      refine lv_aload_n hx hb dX4_edition_100 rfl (lv_at hl 0 rfl) ?_
      refine r_get (C := RX4) (T := TX4) (N := 80) hx hb hts ok4 hown hK hR (congrArg Prod.fst (hF.2.1 58 (5, 0) rfl)) rfl 3 (by decide) (hts _ q1636) (fun _ h9 => h9) (v := .int (wI w 58 3)) rfl dX4_edition_101 ?_
      refine lv_iload_n hx hb dX4_edition_104 rfl (lv_at hl 2 rfl) ?_
      obtain ⟨hb9, h⟩ := grd h
      refine r_iast hx hb hK hR hL (hF.2.1 68 (200, 24) rfl) hb9 dX4_edition_105 (fun H locs hR hL => ?_)
      have hF := hF.sI 68 ((wI w 58 3).toNatClampNeg) a2
      refine lv_aload_n hx hb dX4_edition_106 rfl (lv_at hl 0 rfl) ?_
      refine r_get (C := RX4) (T := TX4) (N := 80) hx hb hts ok4 hown hK hR (congrArg Prod.fst (hF.2.1 58 (5, 0) rfl)) rfl 14 (by decide) (hts _ q1647) (fun _ h9 => h9) (v := .ref (z + 69)) (fv_fix hF rfl rfl) dX4_edition_107 ?_
      refine lv_aload_n hx hb dX4_edition_110 rfl (lv_at hl 0 rfl) ?_
      refine r_get (C := RX4) (T := TX4) (N := 80) hx hb hts ok4 hown hK hR (congrArg Prod.fst (hF.2.1 58 (5, 0) rfl)) rfl 3 (by decide) (hts _ q1636) (fun _ h9 => h9) (v := .int (wI w 58 3)) rfl dX4_edition_111 ?_
      refine lv_iload_n hx hb dX4_edition_114 rfl (lv_at hl 3 rfl) ?_
      obtain ⟨hb10, h⟩ := grd h
      refine r_iast hx hb hK hR hL (hF.2.1 69 (200, 24) rfl) hb10 dX4_edition_115 (fun H locs hR hL => ?_)
      have hF := hF.sI 69 ((wI w 58 3).toNatClampNeg) a3
      refine lv_aload_n hx hb dX4_edition_116 rfl (lv_at hl 0 rfl) ?_
      refine r_get (C := RX4) (T := TX4) (N := 80) hx hb hts ok4 hown hK hR (congrArg Prod.fst (hF.2.1 58 (5, 0) rfl)) rfl 15 (by decide) (hts _ q1648) (fun _ h9 => h9) (v := .ref (z + 70)) (fv_fix hF rfl rfl) dX4_edition_117 ?_
      refine lv_aload_n hx hb dX4_edition_120 rfl (lv_at hl 0 rfl) ?_
      refine r_get (C := RX4) (T := TX4) (N := 80) hx hb hts ok4 hown hK hR (congrArg Prod.fst (hF.2.1 58 (5, 0) rfl)) rfl 3 (by decide) (hts _ q1636) (fun _ h9 => h9) (v := .int (wI w 58 3)) rfl dX4_edition_121 ?_
      refine lv_iload hx hb dX4_edition_124 (lv_at hl 4 rfl) ?_
      obtain ⟨hb11, h⟩ := grd h
      refine r_iast hx hb hK hR hL (hF.2.1 70 (200, 24) rfl) hb11 dX4_edition_126 (fun H locs hR hL => ?_)
      have hF := hF.sI 70 ((wI w 58 3).toNatClampNeg) a4
      refine lv_aload_n hx hb dX4_edition_127 rfl (lv_at hl 0 rfl) ?_
      refine lv_dup hx hb dX4_edition_128 rfl ?_
      refine r_get (C := RX4) (T := TX4) (N := 80) hx hb hts ok4 hown hK hR (congrArg Prod.fst (hF.2.1 58 (5, 0) rfl)) rfl 3 (by decide) (hts _ q1636) (fun _ h9 => h9) (v := .int (wI w 58 3)) rfl dX4_edition_129 ?_
      refine lv_iconst (v := 1) hx hb dX4_edition_132 (by decide) ?_
      refine lv_iadd hx hb dX4_edition_133 ?_
      refine r_putI (C := RX4) (T := TX4) (N := 80) hx hb hts ok4 hown hK hR hL (congrArg Prod.fst (hF.2.1 58 (5, 0) rfl)) rfl 3 (by decide) (hts _ q1636) (fun _ h9 => h9) (Or.inl rfl) rfl rfl rfl dX4_edition_134 (fun H locs hR hL => ?_)
      have hF := hF.sI 58 3 ((wI w 58 3) + (1 : Int32))
      refine lv_aload_n hx hb dX4_edition_137 rfl (lv_at hl 0 rfl) ?_
      refine r_get (C := RX4) (T := TX4) (N := 80) hx hb hts ok4 hown hK hR (congrArg Prod.fst (hF.2.1 58 (5, 0) rfl)) rfl 3 (by decide) (hts _ q1636) (fun _ h9 => h9) (v := .int ((wI w 58 3) + (1 : Int32))) rfl dX4_edition_138 ?_
      refine lv_iconst (v := 1) hx hb dX4_edition_141 (by decide) ?_
      refine lv_isub hx hb dX4_edition_142 ?_
      have h := Option.some.inj h
      subst h
      exact W.iret (v := ((wI w 58 3) + (1 : Int32)) - (1 : Int32)) hx hb hr (fun t ht _ => ⟨rfl, by rw [ht]; exact hR, hF⟩) hL dX4_edition_143
    · rw [if_pos c7] at h
      refine lv_bipush (v := -4) hx hb dX4_edition_83 (by decide) ?_
      have h := Option.some.inj h
      subst h
      exact W.iret (v := (-4 : Int32)) hx hb hr (fun t ht _ => ⟨rfl, by rw [ht]; exact hR, hF⟩) hL dX4_edition_85
  have hJ33 : ∀  (w : Wd), f_X4_edition_J33 a1 a2 a3 a4 w = some q → ∀ (H : Heap) (locs : List Loc) (ls : Array Slot), Rp G z H0 w H → Fix w → lok z locs → lv_has ls 5 [(0, .ref (z + 58)), (1, .int a1), (2, .int a2), (3, .int a3), (4, .int a4)] → W p l e ({ frames := 2, cells := 0, slots := 0, locals := 44 } : Room) s m ([.ref (z + 58), .int a1, .int a2, .int a3, .int a4] : List Value).toArray below meth c H locs 0 0 (MQ below (qW G z H0 q.2 (some (.int q.1))) ([.ref (z + 58), .int a1, .int a2, .int a3, .int a4] : List Value).toArray s 0 0 (fun q => z ≤ q)) (F0 m 33 ls []) := by
    intro  w h H locs ls hR hF hL hl
    unfold f_X4_edition_J33 at h
    refine lv_aload_n hx hb dX4_edition_33 rfl (lv_at hl 0 rfl) ?_
    refine lv_iload_n hx hb dX4_edition_34 rfl (lv_at hl 2 rfl) ?_
    refine lv_iconst (v := 1) hx hb dX4_edition_35 (by decide) ?_
    refine lv_iconst (v := 1) hx hb dX4_edition_36 (by decide) ?_
    refine lv_aload_n hx hb dX4_edition_37 rfl (lv_at hl 0 rfl) ?_
    refine r_get (C := RX4) (T := TX4) (N := 80) hx hb hts ok4 hown hK hR (congrArg Prod.fst (hF.2.1 58 (5, 0) rfl)) rfl 10 (by decide) (hts _ q1643) (fun _ h9 => h9) (v := .ref (z + 65)) (fv_fix hF rfl rfl) dX4_edition_38 ?_
    refine lv_iload_n hx hb dX4_edition_41 rfl (lv_at hl 1 rfl) ?_
    obtain ⟨hb4, h⟩ := grd h
    refine r_iald (v := wI w 65 a1.toNatClampNeg) hx hb hK hR (hF.2.1 65 (200, 16) rfl) hb4 rfl dX4_edition_42 ?_
    refine lv_ishl hx hb dX4_edition_43 ?_
    refine lv_iconst (v := 1) hx hb dX4_edition_44 (by decide) ?_
    refine lv_isub hx hb dX4_edition_45 ?_
    refine c_VP (a := 58) (ci := 4) (q := (RX4, TX4, 80)) (rest := []) (st1 := [.int (bI (f_X4_in a2 (1 : Int32) (((1 : Int32) <<< ((wI w 65 a1.toNatClampNeg) &&& 31)) - (1 : Int32)) w))]) hx hb hml hown hts hK hR hF hL hl.1 (met_X4_in l G z H0 w a2 (1 : Int32) (((1 : Int32) <<< ((wI w 65 a1.toNatClampNeg) &&& 31)) - (1 : Int32)) _ rfl) (congrArg Prod.fst (hF.2.1 58 (5, 0) rfl)) rfl rfl rfl hd_X4_in q1878 q1880 qs41 q104 q1881 ⟨Nat.le_of_ble_eq_true rfl, Nat.le_of_ble_eq_true rfl⟩ ⟨Nat.le_refl 0, Nat.le_refl 0⟩ rfl rfl (Nat.le_of_ble_eq_true rfl) dX4_edition_46 rfl (fun locs hL => ?_)
    refine lv_if_ne (tgt := 55) hx hb dX4_edition_49 (by decide) (fun c5 => ?_) (fun c5 => ?_)
    · rw [if_pos (bI_p c5)] at h
      refine lv_iload hx hb dX4_edition_55 (lv_at hl 4 rfl) ?_
      refine lv_if_lt (tgt := 74) hx hb dX4_edition_57 (by decide) (fun c6 => ?_) (fun c6 => ?_)
      · rw [if_pos c6] at h
        exact hJ74  w h H locs ls hR hF hL (lv_sub hl [0, 1, 2, 3, 4] rfl)
      · rw [if_neg c6] at h
        refine lv_aload_n hx hb dX4_edition_60 rfl (lv_at hl 0 rfl) ?_
        refine r_get (C := RX4) (T := TX4) (N := 80) hx hb hts ok4 hown hK hR (congrArg Prod.fst (hF.2.1 58 (5, 0) rfl)) rfl 12 (by decide) (hts _ q1645) (fun _ h9 => h9) (v := .ref (z + 67)) (fv_fix hF rfl rfl) dX4_edition_61 ?_
        refine lv_iload hx hb dX4_edition_64 (lv_at hl 4 rfl) ?_
        obtain ⟨hb12, h⟩ := grd h
        refine r_iald (v := wI w 67 a4.toNatClampNeg) hx hb hK hR (hF.2.1 67 (200, 24) rfl) hb12 rfl dX4_edition_66 ?_
        refine lv_iload_n hx hb dX4_edition_67 rfl (lv_at hl 1 rfl) ?_
        refine lv_icmp_eq (tgt := 74) hx hb dX4_edition_68 (by decide) (fun c13 => ?_) (fun c13 => ?_)
        · rw [if_pos c13] at h
          exact hJ74  w h H locs ls hR hF hL (lv_sub hl [0, 1, 2, 3, 4] rfl)
        · rw [if_neg c13] at h
          refine lv_bipush (v := -3) hx hb dX4_edition_71 (by decide) ?_
          have h := Option.some.inj h
          subst h
          exact W.iret (v := (-3 : Int32)) hx hb hr (fun t ht _ => ⟨rfl, by rw [ht]; exact hR, hF⟩) hL dX4_edition_73
    · rw [if_neg (bI_n c5)] at h
      refine lv_bipush (v := -2) hx hb dX4_edition_52 (by decide) ?_
      have h := Option.some.inj h
      subst h
      exact W.iret (v := (-2 : Int32)) hx hb hr (fun t ht _ => ⟨rfl, by rw [ht]; exact hR, hF⟩) hL dX4_edition_54
  refine lv_aload_n hx hb dX4_edition_0 rfl (lv_at hl 0 rfl) ?_
  refine lv_iload_n hx hb dX4_edition_1 rfl (lv_at hl 1 rfl) ?_
  refine c_VP (a := 58) (ci := 4) (q := (RX4, TX4, 80)) (rest := []) (st1 := [.int (bI (f_X4_isBook a1 w))]) hx hb hml hown hts hK hR hF hL hl.1 (met_X4_isBook l G z H0 w a1 _ rfl) (congrArg Prod.fst (hF.2.1 58 (5, 0) rfl)) rfl rfl rfl hd_X4_isBook q1910 q1912 qs44 q104 q1913 ⟨Nat.le_of_ble_eq_true rfl, Nat.le_of_ble_eq_true rfl⟩ ⟨Nat.le_refl 0, Nat.le_refl 0⟩ rfl rfl (Nat.le_of_ble_eq_true rfl) dX4_edition_2 rfl (fun locs hL => ?_)
  refine lv_if_eq (tgt := 31) hx hb dX4_edition_5 (by decide) (fun c1 => ?_) (fun c1 => ?_)
  · rw [if_neg (bI_n c1)] at h
    refine lv_iconst (v := -1) hx hb dX4_edition_31 (by decide) ?_
    have h := Option.some.inj h
    subst h
    exact W.iret (v := (-1 : Int32)) hx hb hr (fun t ht _ => ⟨rfl, by rw [ht]; exact hR, hF⟩) hL dX4_edition_32
  · rw [if_pos (bI_p c1)] at h
    refine lv_aload_n hx hb dX4_edition_8 rfl (lv_at hl 0 rfl) ?_
    refine lv_iload_n hx hb dX4_edition_9 rfl (lv_at hl 3 rfl) ?_
    refine c_VP (a := 58) (ci := 4) (q := (RX4, TX4, 80)) (rest := []) (st1 := [.int (bI (f_X4_isTown a3 w))]) hx hb hml hown hts hK hR hF hL hl.1 (met_X4_isTown l G z H0 w a3 _ rfl) (congrArg Prod.fst (hF.2.1 58 (5, 0) rfl)) rfl rfl rfl hd_X4_isTown q1886 q1888 qs42 q104 q1889 ⟨Nat.le_of_ble_eq_true rfl, Nat.le_of_ble_eq_true rfl⟩ ⟨Nat.le_refl 0, Nat.le_refl 0⟩ rfl rfl (Nat.le_of_ble_eq_true rfl) dX4_edition_10 rfl (fun locs hL => ?_)
    refine lv_if_eq (tgt := 31) hx hb dX4_edition_13 (by decide) (fun c2 => ?_) (fun c2 => ?_)
    · rw [if_neg (bI_n c2)] at h
      refine lv_iconst (v := -1) hx hb dX4_edition_31 (by decide) ?_
      have h := Option.some.inj h
      subst h
      exact W.iret (v := (-1 : Int32)) hx hb hr (fun t ht _ => ⟨rfl, by rw [ht]; exact hR, hF⟩) hL dX4_edition_32
    · rw [if_pos (bI_p c2)] at h
      refine lv_iload hx hb dX4_edition_16 (lv_at hl 4 rfl) ?_
      refine lv_iconst (v := -1) hx hb dX4_edition_18 (by decide) ?_
      refine lv_icmp_eq (tgt := 33) hx hb dX4_edition_19 (by decide) (fun c3 => ?_) (fun c3 => ?_)
      · rw [if_pos c3] at h
        exact hJ33  w h H locs ls hR hF hL (lv_sub hl [0, 1, 2, 3, 4] rfl)
      · rw [if_neg c3] at h
        refine lv_aload_n hx hb dX4_edition_22 rfl (lv_at hl 0 rfl) ?_
        refine lv_iload hx hb dX4_edition_23 (lv_at hl 4 rfl) ?_
        refine c_VP (a := 58) (ci := 4) (q := (RX4, TX4, 80)) (rest := []) (st1 := [.int (bI (f_X4_isEdition a4 w))]) hx hb hml hown hts hK hR hF hL hl.1 (met_X4_isEdition l G z H0 w a4 _ rfl) (congrArg Prod.fst (hF.2.1 58 (5, 0) rfl)) rfl rfl rfl hd_X4_isEdition q1919 q1921 qs45 q104 q1922 ⟨Nat.le_of_ble_eq_true rfl, Nat.le_of_ble_eq_true rfl⟩ ⟨Nat.le_refl 0, Nat.le_refl 0⟩ rfl rfl (Nat.le_of_ble_eq_true rfl) dX4_edition_25 rfl (fun locs hL => ?_)
        refine lv_if_ne (tgt := 33) hx hb dX4_edition_28 (by decide) (fun c14 => ?_) (fun c14 => ?_)
        · rw [if_pos (bI_p c14)] at h
          exact hJ33  w h H locs ls hR hF hL (lv_sub hl [0, 1, 2, 3, 4] rfl)
        · rw [if_neg (bI_n c14)] at h
          refine lv_iconst (v := -1) hx hb dX4_edition_31 (by decide) ?_
          have h := Option.some.inj h
          subst h
          exact W.iret (v := (-1 : Int32)) hx hb hr (fun t ht _ => ⟨rfl, by rw [ht]; exact hR, hF⟩) hL dX4_edition_32
def f_X4_of (a1 : Int32) (a2 : Int32) (w : Wd) : Option (Int32) :=
  if (f_X4_isEdition a1 w) then (if a2 = 0 then (if inb a1 24 then (some (wI w 67 a1.toNatClampNeg)) else none) else (if a2 = 1 then (if inb a1 24 then (some (wI w 68 a1.toNatClampNeg)) else none) else (if a2 = 2 then (if inb a1 24 then (some (wI w 69 a1.toNatClampNeg)) else none) else (if a2 = 3 then (if inb a1 24 then (some (wI w 70 a1.toNatClampNeg)) else none) else (if a2 = 4 then (if inb a1 24 then (if inb (wI w 67 a1.toNatClampNeg) 16 then (some (wI w 62 ((wI w 67 a1.toNatClampNeg).toNatClampNeg))) else none) else none) else (if a2 = 5 then (if inb a1 24 then (if inb (wI w 67 a1.toNatClampNeg) 16 then (some (wI w 63 ((wI w 67 a1.toNatClampNeg).toNatClampNeg))) else none) else none) else (if a2 = 6 then (if inb a1 24 then (if inb (wI w 67 a1.toNatClampNeg) 16 then (some (wI w 64 ((wI w 67 a1.toNatClampNeg).toNatClampNeg))) else none) else none) else (some (-1 : Int32))))))))) else (some (-1 : Int32))
theorem hd_X4_of : yX4_of.cls = RX4 ∧ yX4_of.cls ≠ "java/lang/invoke/MethodHandle" ∧ yX4_of.cls ≠ "java/lang/invoke/VarHandle" ∧ (parseMethodDescriptor yX4_of.desc).map (fun d => d.parameters.length) = some 2 := by decide +kernel
set_option maxHeartbeats 4000000 in
set_option maxRecDepth 100000 in
theorem met_X4_of (l : Launch) (G : Gw) (z : Nat) (H0 : Heap)  (w : Wd) (a1 : Int32) (a2 : Int32) (q : Int32) (h : f_X4_of a1 a2 w = some q) : Met l yX4_of (ws_ yX4_of cX4_of 3 (some .int)) ({ frames := 2, cells := 0, slots := 0, locals := 44 } : Room) (pcW G z H0 w [.ref (z + 58), .int a1, .int a2]) (qP (some (.int q))) 0 0 (fun q => z ≤ q) := by
  refine mW (by decide) (Nat.le_of_ble_eq_true rfl) ?_
  intro p e s m below meth c ls hx hb hr hml hown hts hlocks hnm hK hR hF hl
  have hown : s.vm.findClass RX4 = some m.cls := hown
  have hl : lv_has ls 3 [(0, .ref (z + 58)), (1, .int a1), (2, .int a2)] := hl
  have hL : lok z [] := lok_nil
  unfold f_X4_of at h
  generalize ([] : List Loc) = locs at hL ⊢
  refine lv_aload_n hx hb dX4_of_0 rfl (lv_at hl 0 rfl) ?_
  refine lv_iload_n hx hb dX4_of_1 rfl (lv_at hl 1 rfl) ?_
  refine c_VP (a := 58) (ci := 4) (q := (RX4, TX4, 80)) (rest := []) (st1 := [.int (bI (f_X4_isEdition a1 w))]) hx hb hml hown hts hK hR hF hL hl.1 (met_X4_isEdition l G z H0 w a1 _ rfl) (congrArg Prod.fst (hF.2.1 58 (5, 0) rfl)) rfl rfl rfl hd_X4_isEdition q1919 q1921 qs45 q104 q1922 ⟨Nat.le_of_ble_eq_true rfl, Nat.le_of_ble_eq_true rfl⟩ ⟨Nat.le_refl 0, Nat.le_refl 0⟩ rfl rfl (Nat.le_of_ble_eq_true rfl) dX4_of_2 rfl (fun locs hL => ?_)
  refine lv_if_ne (tgt := 10) hx hb dX4_of_5 (by decide) (fun c1 => ?_) (fun c1 => ?_)
  · rw [if_pos (bI_p c1)] at h
    refine lv_iload_n hx hb dX4_of_10 rfl (lv_at hl 2 rfl) ?_
    by_cases c2 : a2 = 0
    · rw [if_pos c2] at h
      refine lv_tableIn (off := 41) (tgt := 52) hx hb dX4_of_11 (by rw [c2]; decide) (by rw [c2]; decide) (by rw [c2]; rfl) (by decide) ?_
      refine lv_aload_n hx hb dX4_of_52 rfl (lv_at hl 0 rfl) ?_
      refine r_get (C := RX4) (T := TX4) (N := 80) hx hb hts ok4 hown hK hR (congrArg Prod.fst (hF.2.1 58 (5, 0) rfl)) rfl 12 (by decide) (hts _ q1645) (fun _ h9 => h9) (v := .ref (z + 67)) (fv_fix hF rfl rfl) dX4_of_53 ?_
      refine lv_iload_n hx hb dX4_of_56 rfl (lv_at hl 1 rfl) ?_
      obtain ⟨hb3, h⟩ := grd h
      refine r_iald (v := wI w 67 a1.toNatClampNeg) hx hb hK hR (hF.2.1 67 (200, 24) rfl) hb3 rfl dX4_of_57 ?_
      have h := Option.some.inj h
      subst h
      exact W.iret (v := wI w 67 a1.toNatClampNeg) hx hb hr (fun t ht _ => ⟨rfl, ht⟩) hL dX4_of_58
    rw [if_neg c2] at h
    by_cases c4 : a2 = 1
    · rw [if_pos c4] at h
      refine lv_tableIn (off := 48) (tgt := 59) hx hb dX4_of_11 (by rw [c4]; decide) (by rw [c4]; decide) (by rw [c4]; rfl) (by decide) ?_
      refine lv_aload_n hx hb dX4_of_59 rfl (lv_at hl 0 rfl) ?_
      refine r_get (C := RX4) (T := TX4) (N := 80) hx hb hts ok4 hown hK hR (congrArg Prod.fst (hF.2.1 58 (5, 0) rfl)) rfl 13 (by decide) (hts _ q1646) (fun _ h9 => h9) (v := .ref (z + 68)) (fv_fix hF rfl rfl) dX4_of_60 ?_
      refine lv_iload_n hx hb dX4_of_63 rfl (lv_at hl 1 rfl) ?_
      obtain ⟨hb5, h⟩ := grd h
      refine r_iald (v := wI w 68 a1.toNatClampNeg) hx hb hK hR (hF.2.1 68 (200, 24) rfl) hb5 rfl dX4_of_64 ?_
      have h := Option.some.inj h
      subst h
      exact W.iret (v := wI w 68 a1.toNatClampNeg) hx hb hr (fun t ht _ => ⟨rfl, ht⟩) hL dX4_of_65
    rw [if_neg c4] at h
    by_cases c6 : a2 = 2
    · rw [if_pos c6] at h
      refine lv_tableIn (off := 55) (tgt := 66) hx hb dX4_of_11 (by rw [c6]; decide) (by rw [c6]; decide) (by rw [c6]; rfl) (by decide) ?_
      refine lv_aload_n hx hb dX4_of_66 rfl (lv_at hl 0 rfl) ?_
      refine r_get (C := RX4) (T := TX4) (N := 80) hx hb hts ok4 hown hK hR (congrArg Prod.fst (hF.2.1 58 (5, 0) rfl)) rfl 14 (by decide) (hts _ q1647) (fun _ h9 => h9) (v := .ref (z + 69)) (fv_fix hF rfl rfl) dX4_of_67 ?_
      refine lv_iload_n hx hb dX4_of_70 rfl (lv_at hl 1 rfl) ?_
      obtain ⟨hb7, h⟩ := grd h
      refine r_iald (v := wI w 69 a1.toNatClampNeg) hx hb hK hR (hF.2.1 69 (200, 24) rfl) hb7 rfl dX4_of_71 ?_
      have h := Option.some.inj h
      subst h
      exact W.iret (v := wI w 69 a1.toNatClampNeg) hx hb hr (fun t ht _ => ⟨rfl, ht⟩) hL dX4_of_72
    rw [if_neg c6] at h
    by_cases c8 : a2 = 3
    · rw [if_pos c8] at h
      refine lv_tableIn (off := 62) (tgt := 73) hx hb dX4_of_11 (by rw [c8]; decide) (by rw [c8]; decide) (by rw [c8]; rfl) (by decide) ?_
      refine lv_aload_n hx hb dX4_of_73 rfl (lv_at hl 0 rfl) ?_
      refine r_get (C := RX4) (T := TX4) (N := 80) hx hb hts ok4 hown hK hR (congrArg Prod.fst (hF.2.1 58 (5, 0) rfl)) rfl 15 (by decide) (hts _ q1648) (fun _ h9 => h9) (v := .ref (z + 70)) (fv_fix hF rfl rfl) dX4_of_74 ?_
      refine lv_iload_n hx hb dX4_of_77 rfl (lv_at hl 1 rfl) ?_
      obtain ⟨hb9, h⟩ := grd h
      refine r_iald (v := wI w 70 a1.toNatClampNeg) hx hb hK hR (hF.2.1 70 (200, 24) rfl) hb9 rfl dX4_of_78 ?_
      have h := Option.some.inj h
      subst h
      exact W.iret (v := wI w 70 a1.toNatClampNeg) hx hb hr (fun t ht _ => ⟨rfl, ht⟩) hL dX4_of_79
    rw [if_neg c8] at h
    by_cases c10 : a2 = 4
    · rw [if_pos c10] at h
      refine lv_tableIn (off := 69) (tgt := 80) hx hb dX4_of_11 (by rw [c10]; decide) (by rw [c10]; decide) (by rw [c10]; rfl) (by decide) ?_
      refine lv_aload_n hx hb dX4_of_80 rfl (lv_at hl 0 rfl) ?_
      refine r_get (C := RX4) (T := TX4) (N := 80) hx hb hts ok4 hown hK hR (congrArg Prod.fst (hF.2.1 58 (5, 0) rfl)) rfl 7 (by decide) (hts _ q1640) (fun _ h9 => h9) (v := .ref (z + 62)) (fv_fix hF rfl rfl) dX4_of_81 ?_
      refine lv_aload_n hx hb dX4_of_84 rfl (lv_at hl 0 rfl) ?_
      refine r_get (C := RX4) (T := TX4) (N := 80) hx hb hts ok4 hown hK hR (congrArg Prod.fst (hF.2.1 58 (5, 0) rfl)) rfl 12 (by decide) (hts _ q1645) (fun _ h9 => h9) (v := .ref (z + 67)) (fv_fix hF rfl rfl) dX4_of_85 ?_
      refine lv_iload_n hx hb dX4_of_88 rfl (lv_at hl 1 rfl) ?_
      obtain ⟨hb11, h⟩ := grd h
      refine r_iald (v := wI w 67 a1.toNatClampNeg) hx hb hK hR (hF.2.1 67 (200, 24) rfl) hb11 rfl dX4_of_89 ?_
      obtain ⟨hb12, h⟩ := grd h
      refine r_iald (v := wI w 62 ((wI w 67 a1.toNatClampNeg).toNatClampNeg)) hx hb hK hR (hF.2.1 62 (200, 16) rfl) hb12 rfl dX4_of_90 ?_
      have h := Option.some.inj h
      subst h
      exact W.iret (v := wI w 62 ((wI w 67 a1.toNatClampNeg).toNatClampNeg)) hx hb hr (fun t ht _ => ⟨rfl, ht⟩) hL dX4_of_91
    rw [if_neg c10] at h
    by_cases c13 : a2 = 5
    · rw [if_pos c13] at h
      refine lv_tableIn (off := 81) (tgt := 92) hx hb dX4_of_11 (by rw [c13]; decide) (by rw [c13]; decide) (by rw [c13]; rfl) (by decide) ?_
      refine lv_aload_n hx hb dX4_of_92 rfl (lv_at hl 0 rfl) ?_
      refine r_get (C := RX4) (T := TX4) (N := 80) hx hb hts ok4 hown hK hR (congrArg Prod.fst (hF.2.1 58 (5, 0) rfl)) rfl 8 (by decide) (hts _ q1641) (fun _ h9 => h9) (v := .ref (z + 63)) (fv_fix hF rfl rfl) dX4_of_93 ?_
      refine lv_aload_n hx hb dX4_of_96 rfl (lv_at hl 0 rfl) ?_
      refine r_get (C := RX4) (T := TX4) (N := 80) hx hb hts ok4 hown hK hR (congrArg Prod.fst (hF.2.1 58 (5, 0) rfl)) rfl 12 (by decide) (hts _ q1645) (fun _ h9 => h9) (v := .ref (z + 67)) (fv_fix hF rfl rfl) dX4_of_97 ?_
      refine lv_iload_n hx hb dX4_of_100 rfl (lv_at hl 1 rfl) ?_
      obtain ⟨hb14, h⟩ := grd h
      refine r_iald (v := wI w 67 a1.toNatClampNeg) hx hb hK hR (hF.2.1 67 (200, 24) rfl) hb14 rfl dX4_of_101 ?_
      obtain ⟨hb15, h⟩ := grd h
      refine r_iald (v := wI w 63 ((wI w 67 a1.toNatClampNeg).toNatClampNeg)) hx hb hK hR (hF.2.1 63 (200, 16) rfl) hb15 rfl dX4_of_102 ?_
      have h := Option.some.inj h
      subst h
      exact W.iret (v := wI w 63 ((wI w 67 a1.toNatClampNeg).toNatClampNeg)) hx hb hr (fun t ht _ => ⟨rfl, ht⟩) hL dX4_of_103
    rw [if_neg c13] at h
    by_cases c16 : a2 = 6
    · rw [if_pos c16] at h
      refine lv_tableIn (off := 93) (tgt := 104) hx hb dX4_of_11 (by rw [c16]; decide) (by rw [c16]; decide) (by rw [c16]; rfl) (by decide) ?_
      refine lv_aload_n hx hb dX4_of_104 rfl (lv_at hl 0 rfl) ?_
      refine r_get (C := RX4) (T := TX4) (N := 80) hx hb hts ok4 hown hK hR (congrArg Prod.fst (hF.2.1 58 (5, 0) rfl)) rfl 9 (by decide) (hts _ q1642) (fun _ h9 => h9) (v := .ref (z + 64)) (fv_fix hF rfl rfl) dX4_of_105 ?_
      refine lv_aload_n hx hb dX4_of_108 rfl (lv_at hl 0 rfl) ?_
      refine r_get (C := RX4) (T := TX4) (N := 80) hx hb hts ok4 hown hK hR (congrArg Prod.fst (hF.2.1 58 (5, 0) rfl)) rfl 12 (by decide) (hts _ q1645) (fun _ h9 => h9) (v := .ref (z + 67)) (fv_fix hF rfl rfl) dX4_of_109 ?_
      refine lv_iload_n hx hb dX4_of_112 rfl (lv_at hl 1 rfl) ?_
      obtain ⟨hb17, h⟩ := grd h
      refine r_iald (v := wI w 67 a1.toNatClampNeg) hx hb hK hR (hF.2.1 67 (200, 24) rfl) hb17 rfl dX4_of_113 ?_
      obtain ⟨hb18, h⟩ := grd h
      refine r_iald (v := wI w 64 ((wI w 67 a1.toNatClampNeg).toNatClampNeg)) hx hb hK hR (hF.2.1 64 (200, 16) rfl) hb18 rfl dX4_of_114 ?_
      have h := Option.some.inj h
      subst h
      exact W.iret (v := wI w 64 ((wI w 67 a1.toNatClampNeg).toNatClampNeg)) hx hb hr (fun t ht _ => ⟨rfl, ht⟩) hL dX4_of_115
    rw [if_neg c16] at h
    refine lv_tableOut (tgt := 116) hx hb dX4_of_11 (by have c2_ := lv_neT c2 (show (0 : Int32).toInt = 0 by decide); have c4_ := lv_neT c4 (show (1 : Int32).toInt = 1 by decide); have c6_ := lv_neT c6 (show (2 : Int32).toInt = 2 by decide); have c8_ := lv_neT c8 (show (3 : Int32).toInt = 3 by decide); have c10_ := lv_neT c10 (show (4 : Int32).toInt = 4 by decide); have c13_ := lv_neT c13 (show (5 : Int32).toInt = 5 by decide); have c16_ := lv_neT c16 (show (6 : Int32).toInt = 6 by decide); omega) (by decide) ?_
    refine lv_iconst (v := -1) hx hb dX4_of_116 (by decide) ?_
    have h := Option.some.inj h
    subst h
    exact W.iret (v := (-1 : Int32)) hx hb hr (fun t ht _ => ⟨rfl, ht⟩) hL dX4_of_117
  · rw [if_neg (bI_n c1)] at h
    refine lv_iconst (v := -1) hx hb dX4_of_8 (by decide) ?_
    have h := Option.some.inj h
    subst h
    exact W.iret (v := (-1 : Int32)) hx hb hr (fun t ht _ => ⟨rfl, ht⟩) hL dX4_of_9
def f_X4_card (a1 : Int32) (a2 : Int32) (a3 : Int32) (w : Wd) : Option (Int32 × Wd) :=
  if (f_X4_in a1 (0 : Int32) (6 : Int32) w) then (if a1 = (4 : Int32) then (some ((-1 : Int32), w)) else (if (f_X4_isEdition a2 w) then (if (f_X4_in a3 (0 : Int32) (999 : Int32) w) then (if (wI w 58 17) = (50 : Int32) then (some ((-4 : Int32), w)) else (if inb (wI w 58 17) 50 then (if inb (wI w 58 17) 50 then (if inb (wI w 58 17) 50 then (if inb (wI w 58 17) 50 then (some (((wI w 58 17) + (1 : Int32)) - (1 : Int32), sI (sI (sI (sI (sI w 72 ((wI w 58 17).toNatClampNeg) a1) 73 ((wI w 58 17).toNatClampNeg) a2) 74 ((wI w 58 17).toNatClampNeg) a3) 75 ((wI w 58 17).toNatClampNeg) (0 : Int32)) 58 17 ((wI w 58 17) + (1 : Int32)))) else none) else none) else none) else none)) else (some ((-2 : Int32), w))) else (some ((-1 : Int32), w)))) else (some ((-1 : Int32), w))
theorem hd_X4_card : yX4_card.cls = RX4 ∧ yX4_card.cls ≠ "java/lang/invoke/MethodHandle" ∧ yX4_card.cls ≠ "java/lang/invoke/VarHandle" ∧ (parseMethodDescriptor yX4_card.desc).map (fun d => d.parameters.length) = some 3 := by decide +kernel
set_option maxHeartbeats 4000000 in
set_option maxRecDepth 100000 in
theorem met_X4_card (l : Launch) (G : Gw) (z : Nat) (H0 : Heap)  (w : Wd) (a1 : Int32) (a2 : Int32) (a3 : Int32) (q : Int32 × Wd) (h : f_X4_card a1 a2 a3 w = some q) : Met l yX4_card (ws_ yX4_card cX4_card 4 (some .int)) ({ frames := 2, cells := 0, slots := 0, locals := 44 } : Room) (pcW G z H0 w [.ref (z + 58), .int a1, .int a2, .int a3]) (qW G z H0 q.2 (some (.int q.1))) 0 0 (fun q => z ≤ q) := by
  refine mW (by decide) (Nat.le_of_ble_eq_true rfl) ?_
  intro p e s m below meth c ls hx hb hr hml hown hts hlocks hnm hK hR hF hl
  have hown : s.vm.findClass RX4 = some m.cls := hown
  have hl : lv_has ls 4 [(0, .ref (z + 58)), (1, .int a1), (2, .int a2), (3, .int a3)] := hl
  have hL : lok z [] := lok_nil
  unfold f_X4_card at h
  generalize s.heap = H at hR ⊢
  generalize ([] : List Loc) = locs at hL ⊢
  refine lv_aload_n hx hb dX4_card_0 rfl (lv_at hl 0 rfl) ?_
  refine lv_iload_n hx hb dX4_card_1 rfl (lv_at hl 1 rfl) ?_
  refine lv_iconst (v := 0) hx hb dX4_card_2 (by decide) ?_
  refine lv_bipush (v := 6) hx hb dX4_card_3 (by decide) ?_
  refine c_VP (a := 58) (ci := 4) (q := (RX4, TX4, 80)) (rest := []) (st1 := [.int (bI (f_X4_in a1 (0 : Int32) (6 : Int32) w))]) hx hb hml hown hts hK hR hF hL hl.1 (met_X4_in l G z H0 w a1 (0 : Int32) (6 : Int32) _ rfl) (congrArg Prod.fst (hF.2.1 58 (5, 0) rfl)) rfl rfl rfl hd_X4_in q1878 q1880 qs41 q104 q1881 ⟨Nat.le_of_ble_eq_true rfl, Nat.le_of_ble_eq_true rfl⟩ ⟨Nat.le_refl 0, Nat.le_refl 0⟩ rfl rfl (Nat.le_of_ble_eq_true rfl) dX4_card_5 rfl (fun locs hL => ?_)
  refine lv_if_eq (tgt := 24) hx hb dX4_card_8 (by decide) (fun c1 => ?_) (fun c1 => ?_)
  · rw [if_neg (bI_n c1)] at h
    refine lv_iconst (v := -1) hx hb dX4_card_24 (by decide) ?_
    have h := Option.some.inj h
    subst h
    exact W.iret (v := (-1 : Int32)) hx hb hr (fun t ht _ => ⟨rfl, by rw [ht]; exact hR, hF⟩) hL dX4_card_25
  · rw [if_pos (bI_p c1)] at h
    refine lv_iload_n hx hb dX4_card_11 rfl (lv_at hl 1 rfl) ?_
    refine lv_iconst (v := 4) hx hb dX4_card_12 (by decide) ?_
    refine lv_icmp_eq (tgt := 24) hx hb dX4_card_13 (by decide) (fun c2 => ?_) (fun c2 => ?_)
    · rw [if_pos c2] at h
      refine lv_iconst (v := -1) hx hb dX4_card_24 (by decide) ?_
      have h := Option.some.inj h
      subst h
      exact W.iret (v := (-1 : Int32)) hx hb hr (fun t ht _ => ⟨rfl, by rw [ht]; exact hR, hF⟩) hL dX4_card_25
    · rw [if_neg c2] at h
      refine lv_aload_n hx hb dX4_card_16 rfl (lv_at hl 0 rfl) ?_
      refine lv_iload_n hx hb dX4_card_17 rfl (lv_at hl 2 rfl) ?_
      refine c_VP (a := 58) (ci := 4) (q := (RX4, TX4, 80)) (rest := []) (st1 := [.int (bI (f_X4_isEdition a2 w))]) hx hb hml hown hts hK hR hF hL hl.1 (met_X4_isEdition l G z H0 w a2 _ rfl) (congrArg Prod.fst (hF.2.1 58 (5, 0) rfl)) rfl rfl rfl hd_X4_isEdition q1919 q1921 qs45 q104 q1922 ⟨Nat.le_of_ble_eq_true rfl, Nat.le_of_ble_eq_true rfl⟩ ⟨Nat.le_refl 0, Nat.le_refl 0⟩ rfl rfl (Nat.le_of_ble_eq_true rfl) dX4_card_18 rfl (fun locs hL => ?_)
      refine lv_if_ne (tgt := 26) hx hb dX4_card_21 (by decide) (fun c3 => ?_) (fun c3 => ?_)
      · rw [if_pos (bI_p c3)] at h
        refine lv_aload_n hx hb dX4_card_26 rfl (lv_at hl 0 rfl) ?_
        refine lv_iload_n hx hb dX4_card_27 rfl (lv_at hl 3 rfl) ?_
        refine lv_iconst (v := 0) hx hb dX4_card_28 (by decide) ?_
        refine lv_sipush (v := 999) hx hb dX4_card_29 (by decide) ?_
        refine c_VP (a := 58) (ci := 4) (q := (RX4, TX4, 80)) (rest := []) (st1 := [.int (bI (f_X4_in a3 (0 : Int32) (999 : Int32) w))]) hx hb hml hown hts hK hR hF hL hl.1 (met_X4_in l G z H0 w a3 (0 : Int32) (999 : Int32) _ rfl) (congrArg Prod.fst (hF.2.1 58 (5, 0) rfl)) rfl rfl rfl hd_X4_in q1878 q1880 qs41 q104 q1881 ⟨Nat.le_of_ble_eq_true rfl, Nat.le_of_ble_eq_true rfl⟩ ⟨Nat.le_refl 0, Nat.le_refl 0⟩ rfl rfl (Nat.le_of_ble_eq_true rfl) dX4_card_32 rfl (fun locs hL => ?_)
        refine lv_if_ne (tgt := 41) hx hb dX4_card_35 (by decide) (fun c4 => ?_) (fun c4 => ?_)
        · rw [if_pos (bI_p c4)] at h
          refine lv_aload_n hx hb dX4_card_41 rfl (lv_at hl 0 rfl) ?_
          refine r_get (C := RX4) (T := TX4) (N := 80) hx hb hts ok4 hown hK hR (congrArg Prod.fst (hF.2.1 58 (5, 0) rfl)) rfl 17 (by decide) (hts _ q1650) (fun _ h9 => h9) (v := .int (wI w 58 17)) rfl dX4_card_42 ?_
          refine lv_bipush (v := 50) hx hb dX4_card_45 (by decide) ?_
          refine lv_icmp_ne (tgt := 53) hx hb dX4_card_47 (by decide) (fun c5 => ?_) (fun c5 => ?_)
          · rw [if_neg c5] at h
            refine lv_aload_n hx hb dX4_card_53 rfl (lv_at hl 0 rfl) ?_
            refine r_get (C := RX4) (T := TX4) (N := 80) hx hb hts ok4 hown hK hR (congrArg Prod.fst (hF.2.1 58 (5, 0) rfl)) rfl 19 (by decide) (hts _ q1652) (fun _ h9 => h9) (v := .ref (z + 72)) (fv_fix hF rfl rfl) dX4_card_54 ?_
            refine lv_aload_n hx hb dX4_card_57 rfl (lv_at hl 0 rfl) ?_
            refine r_get (C := RX4) (T := TX4) (N := 80) hx hb hts ok4 hown hK hR (congrArg Prod.fst (hF.2.1 58 (5, 0) rfl)) rfl 17 (by decide) (hts _ q1650) (fun _ h9 => h9) (v := .int (wI w 58 17)) rfl dX4_card_58 ?_
            refine lv_iload_n hx hb dX4_card_61 rfl (lv_at hl 1 rfl) ?_
            obtain ⟨hb6, h⟩ := grd h
            refine r_iast hx hb hK hR hL (hF.2.1 72 (200, 50) rfl) hb6 dX4_card_62 (fun H locs hR hL => ?_)
            have hF := hF.sI 72 ((wI w 58 17).toNatClampNeg) a1
            refine lv_aload_n hx hb dX4_card_63 rfl (lv_at hl 0 rfl) ?_
            refine r_get (C := RX4) (T := TX4) (N := 80) hx hb hts ok4 hown hK hR (congrArg Prod.fst (hF.2.1 58 (5, 0) rfl)) rfl 20 (by decide) (hts _ q1653) (fun _ h9 => h9) (v := .ref (z + 73)) (fv_fix hF rfl rfl) dX4_card_64 ?_
            refine lv_aload_n hx hb dX4_card_67 rfl (lv_at hl 0 rfl) ?_
            refine r_get (C := RX4) (T := TX4) (N := 80) hx hb hts ok4 hown hK hR (congrArg Prod.fst (hF.2.1 58 (5, 0) rfl)) rfl 17 (by decide) (hts _ q1650) (fun _ h9 => h9) (v := .int (wI w 58 17)) rfl dX4_card_68 ?_
            refine lv_iload_n hx hb dX4_card_71 rfl (lv_at hl 2 rfl) ?_
            obtain ⟨hb7, h⟩ := grd h
            refine r_iast hx hb hK hR hL (hF.2.1 73 (200, 50) rfl) hb7 dX4_card_72 (fun H locs hR hL => ?_)
            have hF := hF.sI 73 ((wI w 58 17).toNatClampNeg) a2
            refine lv_aload_n hx hb dX4_card_73 rfl (lv_at hl 0 rfl) ?_
            refine r_get (C := RX4) (T := TX4) (N := 80) hx hb hts ok4 hown hK hR (congrArg Prod.fst (hF.2.1 58 (5, 0) rfl)) rfl 21 (by decide) (hts _ q1654) (fun _ h9 => h9) (v := .ref (z + 74)) (fv_fix hF rfl rfl) dX4_card_74 ?_
            refine lv_aload_n hx hb dX4_card_77 rfl (lv_at hl 0 rfl) ?_
            refine r_get (C := RX4) (T := TX4) (N := 80) hx hb hts ok4 hown hK hR (congrArg Prod.fst (hF.2.1 58 (5, 0) rfl)) rfl 17 (by decide) (hts _ q1650) (fun _ h9 => h9) (v := .int (wI w 58 17)) rfl dX4_card_78 ?_
            refine lv_iload_n hx hb dX4_card_81 rfl (lv_at hl 3 rfl) ?_
            obtain ⟨hb8, h⟩ := grd h
            refine r_iast hx hb hK hR hL (hF.2.1 74 (200, 50) rfl) hb8 dX4_card_82 (fun H locs hR hL => ?_)
            have hF := hF.sI 74 ((wI w 58 17).toNatClampNeg) a3
            refine lv_aload_n hx hb dX4_card_83 rfl (lv_at hl 0 rfl) ?_
            refine r_get (C := RX4) (T := TX4) (N := 80) hx hb hts ok4 hown hK hR (congrArg Prod.fst (hF.2.1 58 (5, 0) rfl)) rfl 22 (by decide) (hts _ q1655) (fun _ h9 => h9) (v := .ref (z + 75)) (fv_fix hF rfl rfl) dX4_card_84 ?_
            refine lv_aload_n hx hb dX4_card_87 rfl (lv_at hl 0 rfl) ?_
            refine r_get (C := RX4) (T := TX4) (N := 80) hx hb hts ok4 hown hK hR (congrArg Prod.fst (hF.2.1 58 (5, 0) rfl)) rfl 17 (by decide) (hts _ q1650) (fun _ h9 => h9) (v := .int (wI w 58 17)) rfl dX4_card_88 ?_
            refine lv_iconst (v := 0) hx hb dX4_card_91 (by decide) ?_
            obtain ⟨hb9, h⟩ := grd h
            refine r_iast hx hb hK hR hL (hF.2.1 75 (200, 50) rfl) hb9 dX4_card_92 (fun H locs hR hL => ?_)
            have hF := hF.sI 75 ((wI w 58 17).toNatClampNeg) (0 : Int32)
            refine lv_aload_n hx hb dX4_card_93 rfl (lv_at hl 0 rfl) ?_
            refine lv_dup hx hb dX4_card_94 rfl ?_
            refine r_get (C := RX4) (T := TX4) (N := 80) hx hb hts ok4 hown hK hR (congrArg Prod.fst (hF.2.1 58 (5, 0) rfl)) rfl 17 (by decide) (hts _ q1650) (fun _ h9 => h9) (v := .int (wI w 58 17)) rfl dX4_card_95 ?_
            refine lv_iconst (v := 1) hx hb dX4_card_98 (by decide) ?_
            refine lv_iadd hx hb dX4_card_99 ?_
            refine r_putI (C := RX4) (T := TX4) (N := 80) hx hb hts ok4 hown hK hR hL (congrArg Prod.fst (hF.2.1 58 (5, 0) rfl)) rfl 17 (by decide) (hts _ q1650) (fun _ h9 => h9) (Or.inl rfl) rfl rfl rfl dX4_card_100 (fun H locs hR hL => ?_)
            have hF := hF.sI 58 17 ((wI w 58 17) + (1 : Int32))
            refine lv_aload_n hx hb dX4_card_103 rfl (lv_at hl 0 rfl) ?_
            refine r_get (C := RX4) (T := TX4) (N := 80) hx hb hts ok4 hown hK hR (congrArg Prod.fst (hF.2.1 58 (5, 0) rfl)) rfl 17 (by decide) (hts _ q1650) (fun _ h9 => h9) (v := .int ((wI w 58 17) + (1 : Int32))) rfl dX4_card_104 ?_
            refine lv_iconst (v := 1) hx hb dX4_card_107 (by decide) ?_
            refine lv_isub hx hb dX4_card_108 ?_
            have h := Option.some.inj h
            subst h
            exact W.iret (v := ((wI w 58 17) + (1 : Int32)) - (1 : Int32)) hx hb hr (fun t ht _ => ⟨rfl, by rw [ht]; exact hR, hF⟩) hL dX4_card_109
          · rw [if_pos c5] at h
            refine lv_bipush (v := -4) hx hb dX4_card_50 (by decide) ?_
            have h := Option.some.inj h
            subst h
            exact W.iret (v := (-4 : Int32)) hx hb hr (fun t ht _ => ⟨rfl, by rw [ht]; exact hR, hF⟩) hL dX4_card_52
        · rw [if_neg (bI_n c4)] at h
          refine lv_bipush (v := -2) hx hb dX4_card_38 (by decide) ?_
          have h := Option.some.inj h
          subst h
          exact W.iret (v := (-2 : Int32)) hx hb hr (fun t ht _ => ⟨rfl, by rw [ht]; exact hR, hF⟩) hL dX4_card_40
      · rw [if_neg (bI_n c3)] at h
        refine lv_iconst (v := -1) hx hb dX4_card_24 (by decide) ?_
        have h := Option.some.inj h
        subst h
        exact W.iret (v := (-1 : Int32)) hx hb hr (fun t ht _ => ⟨rfl, by rw [ht]; exact hR, hF⟩) hL dX4_card_25
def f_X4_isCard (a1 : Int32) (w : Wd) : Bool :=
  (f_X4_in a1 (0 : Int32) ((wI w 58 17) - (1 : Int32)) w)
theorem hd_X4_isCard : yX4_isCard.cls = RX4 ∧ yX4_isCard.cls ≠ "java/lang/invoke/MethodHandle" ∧ yX4_isCard.cls ≠ "java/lang/invoke/VarHandle" ∧ (parseMethodDescriptor yX4_isCard.desc).map (fun d => d.parameters.length) = some 1 := by decide +kernel
set_option maxHeartbeats 4000000 in
set_option maxRecDepth 100000 in
theorem met_X4_isCard (l : Launch) (G : Gw) (z : Nat) (H0 : Heap)  (w : Wd) (a1 : Int32) (q : Bool) (h : f_X4_isCard a1 w = q) : Met l yX4_isCard (ws_ yX4_isCard cX4_isCard 2 (some .boolean)) ({ frames := 1, cells := 0, slots := 0, locals := 23 } : Room) (pcW G z H0 w [.ref (z + 58), .int a1]) (qP (some (.int (bI q)))) 0 0 (fun q => z ≤ q) := by
  refine mW (by decide) (Nat.le_of_ble_eq_true rfl) ?_
  intro p e s m below meth c ls hx hb hr hml hown hts hlocks hnm hK hR hF hl
  have hown : s.vm.findClass RX4 = some m.cls := hown
  have hl : lv_has ls 2 [(0, .ref (z + 58)), (1, .int a1)] := hl
  have hL : lok z [] := lok_nil
  unfold f_X4_isCard at h
  generalize ([] : List Loc) = locs at hL ⊢
  refine lv_aload_n hx hb dX4_isCard_0 rfl (lv_at hl 0 rfl) ?_
  refine lv_iload_n hx hb dX4_isCard_1 rfl (lv_at hl 1 rfl) ?_
  refine lv_iconst (v := 0) hx hb dX4_isCard_2 (by decide) ?_
  refine lv_aload_n hx hb dX4_isCard_3 rfl (lv_at hl 0 rfl) ?_
  refine r_get (C := RX4) (T := TX4) (N := 80) hx hb hts ok4 hown hK hR (congrArg Prod.fst (hF.2.1 58 (5, 0) rfl)) rfl 17 (by decide) (hts _ q1650) (fun _ h9 => h9) (v := .int (wI w 58 17)) rfl dX4_isCard_4 ?_
  refine lv_iconst (v := 1) hx hb dX4_isCard_7 (by decide) ?_
  refine lv_isub hx hb dX4_isCard_8 ?_
  refine c_VP (a := 58) (ci := 4) (q := (RX4, TX4, 80)) (rest := []) (st1 := [.int (bI (f_X4_in a1 (0 : Int32) ((wI w 58 17) - (1 : Int32)) w))]) hx hb hml hown hts hK hR hF hL hl.1 (met_X4_in l G z H0 w a1 (0 : Int32) ((wI w 58 17) - (1 : Int32)) _ rfl) (congrArg Prod.fst (hF.2.1 58 (5, 0) rfl)) rfl rfl rfl hd_X4_in q1878 q1880 qs41 q104 q1881 ⟨Nat.le_of_ble_eq_true rfl, Nat.le_of_ble_eq_true rfl⟩ ⟨Nat.le_refl 0, Nat.le_refl 0⟩ rfl rfl (Nat.le_of_ble_eq_true rfl) dX4_isCard_9 rfl (fun locs hL => ?_)
  subst h
  exact W.zret (v := bI (f_X4_in a1 (0 : Int32) ((wI w 58 17) - (1 : Int32)) w)) hx hb hr (bI_nar _) (fun t ht _ => ⟨rfl, ht⟩) hL dX4_isCard_12
def f_X4_kindOf (a1 : Int32) (w : Wd) : Option (Int32) :=
  if inb a1 50 then (if (wI w 77 a1.toNatClampNeg) = 0 then (if inb a1 50 then (some (wI w 72 a1.toNatClampNeg)) else none) else (some (4 : Int32))) else none
theorem hd_X4_kindOf : yX4_kindOf.cls = RX4 ∧ yX4_kindOf.cls ≠ "java/lang/invoke/MethodHandle" ∧ yX4_kindOf.cls ≠ "java/lang/invoke/VarHandle" ∧ (parseMethodDescriptor yX4_kindOf.desc).map (fun d => d.parameters.length) = some 1 := by decide +kernel
set_option maxHeartbeats 4000000 in
set_option maxRecDepth 100000 in
theorem met_X4_kindOf (l : Launch) (G : Gw) (z : Nat) (H0 : Heap)  (w : Wd) (a1 : Int32) (q : Int32) (h : f_X4_kindOf a1 w = some q) : Met l yX4_kindOf (ws_ yX4_kindOf cX4_kindOf 2 (some .int)) ({ frames := 0, cells := 0, slots := 0, locals := 0 } : Room) (pcW G z H0 w [.ref (z + 58), .int a1]) (qP (some (.int q))) 0 0 (fun q => z ≤ q) := by
  refine mW (by decide) (Nat.le_of_ble_eq_true rfl) ?_
  intro p e s m below meth c ls hx hb hr hml hown hts hlocks hnm hK hR hF hl
  have hown : s.vm.findClass RX4 = some m.cls := hown
  have hl : lv_has ls 2 [(0, .ref (z + 58)), (1, .int a1)] := hl
  have hL : lok z [] := lok_nil
  unfold f_X4_kindOf at h
  generalize ([] : List Loc) = locs at hL ⊢
  refine lv_aload_n hx hb dX4_kindOf_0 rfl (lv_at hl 0 rfl) ?_
  refine r_get (C := RX4) (T := TX4) (N := 80) hx hb hts ok4 hown hK hR (congrArg Prod.fst (hF.2.1 58 (5, 0) rfl)) rfl 24 (by decide) (hts _ q1657) (fun _ h9 => h9) (v := .ref (z + 77)) (fv_fix hF rfl rfl) dX4_kindOf_1 ?_
  refine lv_iload_n hx hb dX4_kindOf_4 rfl (lv_at hl 1 rfl) ?_
  obtain ⟨hb1, h⟩ := grd h
  refine r_zald (v := wI w 77 a1.toNatClampNeg) hx hb hK hR (hF.2.1 77 (203, 50) rfl) hb1 rfl dX4_kindOf_5 ?_
  refine lv_if_eq (tgt := 13) hx hb dX4_kindOf_6 (by decide) (fun c2 => ?_) (fun c2 => ?_)
  · rw [if_pos c2] at h
    refine lv_aload_n hx hb dX4_kindOf_13 rfl (lv_at hl 0 rfl) ?_
    refine r_get (C := RX4) (T := TX4) (N := 80) hx hb hts ok4 hown hK hR (congrArg Prod.fst (hF.2.1 58 (5, 0) rfl)) rfl 19 (by decide) (hts _ q1652) (fun _ h9 => h9) (v := .ref (z + 72)) (fv_fix hF rfl rfl) dX4_kindOf_14 ?_
    refine lv_iload_n hx hb dX4_kindOf_17 rfl (lv_at hl 1 rfl) ?_
    obtain ⟨hb3, h⟩ := grd h
    refine r_iald (v := wI w 72 a1.toNatClampNeg) hx hb hK hR (hF.2.1 72 (200, 50) rfl) hb3 rfl dX4_kindOf_18 ?_
    have h := Option.some.inj h
    subst h
    exact W.iret (v := wI w 72 a1.toNatClampNeg) hx hb hr (fun t ht _ => ⟨rfl, ht⟩) hL dX4_kindOf_19
  · rw [if_neg c2] at h
    refine lv_iconst (v := 4) hx hb dX4_kindOf_9 (by decide) ?_
    refine lv_goto (tgt := 19) hx hb dX4_kindOf_10 (by decide) ?_
    have h := Option.some.inj h
    subst h
    exact W.iret (v := (4 : Int32)) hx hb hr (fun t ht _ => ⟨rfl, ht⟩) hL dX4_kindOf_19
def f_X4_mend (a1 : Int32) (a2 : Int32) (w : Wd) : Option (Int32 × Wd) :=
  if (f_X4_isCard a1 w) then (if (f_X4_in a2 (0 : Int32) (99 : Int32) w) then ((f_X4_kindOf a1 w).bind fun q3 => if q3 = (3 : Int32) then (if inb a1 50 then (if inb a1 50 then (if ((wI w 75 a1.toNatClampNeg) + a2) ≤ (wI w 74 a1.toNatClampNeg) then (if inb a1 50 then (if inb a1 50 then (if inb a1 50 then (if inb a1 50 then (if ((wI w 75 a1.toNatClampNeg) + a2) = (wI w 74 a1.toNatClampNeg) then (if inb a1 50 then (if inb a1 50 then (some ((wI w 75 a1.toNatClampNeg) + a2, sI (sI w 75 a1.toNatClampNeg ((wI w 75 a1.toNatClampNeg) + a2)) 77 a1.toNatClampNeg ((1 : Int32) &&& 1))) else none) else none) else (if inb a1 50 then (if inb a1 50 then (some ((wI w 75 a1.toNatClampNeg) + a2, sI (sI w 75 a1.toNatClampNeg ((wI w 75 a1.toNatClampNeg) + a2)) 77 a1.toNatClampNeg ((0 : Int32) &&& 1))) else none) else none)) else none) else none) else none) else none) else (some ((-3 : Int32), w))) else none) else none) else (some ((-12 : Int32), w))) else (some ((-2 : Int32), w))) else (some ((-1 : Int32), w))
theorem hd_X4_mend : yX4_mend.cls = RX4 ∧ yX4_mend.cls ≠ "java/lang/invoke/MethodHandle" ∧ yX4_mend.cls ≠ "java/lang/invoke/VarHandle" ∧ (parseMethodDescriptor yX4_mend.desc).map (fun d => d.parameters.length) = some 2 := by decide +kernel
set_option maxHeartbeats 4000000 in
set_option maxRecDepth 100000 in
theorem met_X4_mend (l : Launch) (G : Gw) (z : Nat) (H0 : Heap)  (w : Wd) (a1 : Int32) (a2 : Int32) (q : Int32 × Wd) (h : f_X4_mend a1 a2 w = some q) : Met l yX4_mend (ws_ yX4_mend cX4_mend 3 (some .int)) ({ frames := 2, cells := 0, slots := 0, locals := 44 } : Room) (pcW G z H0 w [.ref (z + 58), .int a1, .int a2]) (qW G z H0 q.2 (some (.int q.1))) 0 0 (fun q => z ≤ q) := by
  refine mW (by decide) (Nat.le_of_ble_eq_true rfl) ?_
  intro p e s m below meth c ls hx hb hr hml hown hts hlocks hnm hK hR hF hl
  have hown : s.vm.findClass RX4 = some m.cls := hown
  have hl : lv_has ls 3 [(0, .ref (z + 58)), (1, .int a1), (2, .int a2)] := hl
  have hL : lok z [] := lok_nil
  unfold f_X4_mend at h
  generalize s.heap = H at hR ⊢
  generalize ([] : List Loc) = locs at hL ⊢
  refine lv_aload_n hx hb dX4_mend_0 rfl (lv_at hl 0 rfl) ?_
  refine lv_iload_n hx hb dX4_mend_1 rfl (lv_at hl 1 rfl) ?_
  refine c_VP (a := 58) (ci := 4) (q := (RX4, TX4, 80)) (rest := []) (st1 := [.int (bI (f_X4_isCard a1 w))]) hx hb hml hown hts hK hR hF hL hl.1 (met_X4_isCard l G z H0 w a1 _ rfl) (congrArg Prod.fst (hF.2.1 58 (5, 0) rfl)) rfl rfl rfl hd_X4_isCard q1935 q1937 qs46 q104 q1938 ⟨Nat.le_of_ble_eq_true rfl, Nat.le_of_ble_eq_true rfl⟩ ⟨Nat.le_refl 0, Nat.le_refl 0⟩ rfl rfl (Nat.le_of_ble_eq_true rfl) dX4_mend_2 rfl (fun locs hL => ?_)
  refine lv_if_ne (tgt := 10) hx hb dX4_mend_5 (by decide) (fun c1 => ?_) (fun c1 => ?_)
  · rw [if_pos (bI_p c1)] at h
    refine lv_aload_n hx hb dX4_mend_10 rfl (lv_at hl 0 rfl) ?_
    refine lv_iload_n hx hb dX4_mend_11 rfl (lv_at hl 2 rfl) ?_
    refine lv_iconst (v := 0) hx hb dX4_mend_12 (by decide) ?_
    refine lv_bipush (v := 99) hx hb dX4_mend_13 (by decide) ?_
    refine c_VP (a := 58) (ci := 4) (q := (RX4, TX4, 80)) (rest := []) (st1 := [.int (bI (f_X4_in a2 (0 : Int32) (99 : Int32) w))]) hx hb hml hown hts hK hR hF hL hl.1 (met_X4_in l G z H0 w a2 (0 : Int32) (99 : Int32) _ rfl) (congrArg Prod.fst (hF.2.1 58 (5, 0) rfl)) rfl rfl rfl hd_X4_in q1878 q1880 qs41 q104 q1881 ⟨Nat.le_of_ble_eq_true rfl, Nat.le_of_ble_eq_true rfl⟩ ⟨Nat.le_refl 0, Nat.le_refl 0⟩ rfl rfl (Nat.le_of_ble_eq_true rfl) dX4_mend_15 rfl (fun locs hL => ?_)
    refine lv_if_ne (tgt := 24) hx hb dX4_mend_18 (by decide) (fun c2 => ?_) (fun c2 => ?_)
    · rw [if_pos (bI_p c2)] at h
      refine lv_aload_n hx hb dX4_mend_24 rfl (lv_at hl 0 rfl) ?_
      refine lv_iload_n hx hb dX4_mend_25 rfl (lv_at hl 1 rfl) ?_
      obtain ⟨q3, hq4, h⟩ := bnd h
      refine c_VP (a := 58) (ci := 4) (q := (RX4, TX4, 80)) (rest := []) (st1 := [.int q3]) hx hb hml hown hts hK hR hF hL hl.1 (met_X4_kindOf l G z H0 w a1 q3 hq4) (congrArg Prod.fst (hF.2.1 58 (5, 0) rfl)) rfl rfl rfl hd_X4_kindOf q1939 q1941 qs47 q104 q1942 ⟨Nat.le_of_ble_eq_true rfl, Nat.le_of_ble_eq_true rfl⟩ ⟨Nat.le_refl 0, Nat.le_refl 0⟩ rfl rfl (Nat.le_of_ble_eq_true rfl) dX4_mend_26 rfl (fun locs hL => ?_)
      refine lv_iconst (v := 3) hx hb dX4_mend_29 (by decide) ?_
      refine lv_icmp_eq (tgt := 36) hx hb dX4_mend_30 (by decide) (fun c5 => ?_) (fun c5 => ?_)
      · rw [if_pos c5] at h
        refine lv_aload_n hx hb dX4_mend_36 rfl (lv_at hl 0 rfl) ?_
        refine r_get (C := RX4) (T := TX4) (N := 80) hx hb hts ok4 hown hK hR (congrArg Prod.fst (hF.2.1 58 (5, 0) rfl)) rfl 22 (by decide) (hts _ q1655) (fun _ h9 => h9) (v := .ref (z + 75)) (fv_fix hF rfl rfl) dX4_mend_37 ?_
        refine lv_iload_n hx hb dX4_mend_40 rfl (lv_at hl 1 rfl) ?_
        obtain ⟨hb6, h⟩ := grd h
        refine r_iald (v := wI w 75 a1.toNatClampNeg) hx hb hK hR (hF.2.1 75 (200, 50) rfl) hb6 rfl dX4_mend_41 ?_
        refine lv_iload_n hx hb dX4_mend_42 rfl (lv_at hl 2 rfl) ?_
        refine lv_iadd hx hb dX4_mend_43 ?_
        refine lv_aload_n hx hb dX4_mend_44 rfl (lv_at hl 0 rfl) ?_
        refine r_get (C := RX4) (T := TX4) (N := 80) hx hb hts ok4 hown hK hR (congrArg Prod.fst (hF.2.1 58 (5, 0) rfl)) rfl 21 (by decide) (hts _ q1654) (fun _ h9 => h9) (v := .ref (z + 74)) (fv_fix hF rfl rfl) dX4_mend_45 ?_
        refine lv_iload_n hx hb dX4_mend_48 rfl (lv_at hl 1 rfl) ?_
        obtain ⟨hb7, h⟩ := grd h
        refine r_iald (v := wI w 74 a1.toNatClampNeg) hx hb hK hR (hF.2.1 74 (200, 50) rfl) hb7 rfl dX4_mend_49 ?_
        refine lv_icmp_le (tgt := 56) hx hb dX4_mend_50 (by decide) (fun c8 => ?_) (fun c8 => ?_)
        · rw [if_pos c8] at h
          refine lv_aload_n hx hb dX4_mend_56 rfl (lv_at hl 0 rfl) ?_
          refine r_get (C := RX4) (T := TX4) (N := 80) hx hb hts ok4 hown hK hR (congrArg Prod.fst (hF.2.1 58 (5, 0) rfl)) rfl 22 (by decide) (hts _ q1655) (fun _ h9 => h9) (v := .ref (z + 75)) (fv_fix hF rfl rfl) dX4_mend_57 ?_
          refine lv_iload_n hx hb dX4_mend_60 rfl (lv_at hl 1 rfl) ?_
          refine lv_dup2_11 hx hb dX4_mend_61 rfl rfl ?_
          obtain ⟨hb9, h⟩ := grd h
          refine r_iald (v := wI w 75 a1.toNatClampNeg) hx hb hK hR (hF.2.1 75 (200, 50) rfl) hb9 rfl dX4_mend_62 ?_
          refine lv_iload_n hx hb dX4_mend_63 rfl (lv_at hl 2 rfl) ?_
          refine lv_iadd hx hb dX4_mend_64 ?_
          obtain ⟨hb10, h⟩ := grd h
          refine r_iast hx hb hK hR hL (hF.2.1 75 (200, 50) rfl) hb10 dX4_mend_65 (fun H locs hR hL => ?_)
          have hF := hF.sI 75 (a1.toNatClampNeg) ((wI w 75 a1.toNatClampNeg) + a2)
          refine lv_aload_n hx hb dX4_mend_66 rfl (lv_at hl 0 rfl) ?_
          refine r_get (C := RX4) (T := TX4) (N := 80) hx hb hts ok4 hown hK hR (congrArg Prod.fst (hF.2.1 58 (5, 0) rfl)) rfl 24 (by decide) (hts _ q1657) (fun _ h9 => h9) (v := .ref (z + 77)) (fv_fix hF rfl rfl) dX4_mend_67 ?_
          refine lv_iload_n hx hb dX4_mend_70 rfl (lv_at hl 1 rfl) ?_
          refine lv_aload_n hx hb dX4_mend_71 rfl (lv_at hl 0 rfl) ?_
          refine r_get (C := RX4) (T := TX4) (N := 80) hx hb hts ok4 hown hK hR (congrArg Prod.fst (hF.2.1 58 (5, 0) rfl)) rfl 22 (by decide) (hts _ q1655) (fun _ h9 => h9) (v := .ref (z + 75)) (fv_fix hF rfl rfl) dX4_mend_72 ?_
          refine lv_iload_n hx hb dX4_mend_75 rfl (lv_at hl 1 rfl) ?_
          obtain ⟨hb11, h⟩ := grd h
          refine r_iald (v := (wI w 75 a1.toNatClampNeg) + a2) hx hb hK hR (hF.2.1 75 (200, 50) rfl) hb11 (by simp [wI_sI, wL_sL, wI_sL, wL_sI]) dX4_mend_76 ?_
          refine lv_aload_n hx hb dX4_mend_77 rfl (lv_at hl 0 rfl) ?_
          refine r_get (C := RX4) (T := TX4) (N := 80) hx hb hts ok4 hown hK hR (congrArg Prod.fst (hF.2.1 58 (5, 0) rfl)) rfl 21 (by decide) (hts _ q1654) (fun _ h9 => h9) (v := .ref (z + 74)) (fv_fix hF rfl rfl) dX4_mend_78 ?_
          refine lv_iload_n hx hb dX4_mend_81 rfl (lv_at hl 1 rfl) ?_
          obtain ⟨hb12, h⟩ := grd h
          refine r_iald (v := wI w 74 a1.toNatClampNeg) hx hb hK hR (hF.2.1 74 (200, 50) rfl) hb12 rfl dX4_mend_82 ?_
          refine lv_icmp_ne (tgt := 90) hx hb dX4_mend_83 (by decide) (fun c13 => ?_) (fun c13 => ?_)
          · rw [if_neg c13] at h
            refine lv_iconst (v := 0) hx hb dX4_mend_90 (by decide) ?_
            obtain ⟨hb14, h⟩ := grd h
            refine r_zast hx hb hK hR hL (hF.2.1 77 (203, 50) rfl) hb14 dX4_mend_91 (fun H locs hR hL => ?_)
            have hF := hF.sI 77 (a1.toNatClampNeg) ((0 : Int32) &&& 1)
            refine lv_aload_n hx hb dX4_mend_92 rfl (lv_at hl 0 rfl) ?_
            refine r_get (C := RX4) (T := TX4) (N := 80) hx hb hts ok4 hown hK hR (congrArg Prod.fst (hF.2.1 58 (5, 0) rfl)) rfl 22 (by decide) (hts _ q1655) (fun _ h9 => h9) (v := .ref (z + 75)) (fv_fix hF rfl rfl) dX4_mend_93 ?_
            refine lv_iload_n hx hb dX4_mend_96 rfl (lv_at hl 1 rfl) ?_
            obtain ⟨hb15, h⟩ := grd h
            refine r_iald (v := (wI w 75 a1.toNatClampNeg) + a2) hx hb hK hR (hF.2.1 75 (200, 50) rfl) hb15 (by simp [wI_sI, wL_sL, wI_sL, wL_sI]) dX4_mend_97 ?_
            have h := Option.some.inj h
            subst h
            exact W.iret (v := (wI w 75 a1.toNatClampNeg) + a2) hx hb hr (fun t ht _ => ⟨rfl, by rw [ht]; exact hR, hF⟩) hL dX4_mend_98
          · rw [if_pos c13] at h
            refine lv_iconst (v := 1) hx hb dX4_mend_86 (by decide) ?_
            refine lv_goto (tgt := 91) hx hb dX4_mend_87 (by decide) ?_
            obtain ⟨hb16, h⟩ := grd h
            refine r_zast hx hb hK hR hL (hF.2.1 77 (203, 50) rfl) hb16 dX4_mend_91 (fun H locs hR hL => ?_)
            have hF := hF.sI 77 (a1.toNatClampNeg) ((1 : Int32) &&& 1)
            refine lv_aload_n hx hb dX4_mend_92 rfl (lv_at hl 0 rfl) ?_
            refine r_get (C := RX4) (T := TX4) (N := 80) hx hb hts ok4 hown hK hR (congrArg Prod.fst (hF.2.1 58 (5, 0) rfl)) rfl 22 (by decide) (hts _ q1655) (fun _ h9 => h9) (v := .ref (z + 75)) (fv_fix hF rfl rfl) dX4_mend_93 ?_
            refine lv_iload_n hx hb dX4_mend_96 rfl (lv_at hl 1 rfl) ?_
            obtain ⟨hb17, h⟩ := grd h
            refine r_iald (v := (wI w 75 a1.toNatClampNeg) + a2) hx hb hK hR (hF.2.1 75 (200, 50) rfl) hb17 (by simp [wI_sI, wL_sL, wI_sL, wL_sI]) dX4_mend_97 ?_
            have h := Option.some.inj h
            subst h
            exact W.iret (v := (wI w 75 a1.toNatClampNeg) + a2) hx hb hr (fun t ht _ => ⟨rfl, by rw [ht]; exact hR, hF⟩) hL dX4_mend_98
        · rw [if_neg c8] at h
          refine lv_bipush (v := -3) hx hb dX4_mend_53 (by decide) ?_
          have h := Option.some.inj h
          subst h
          exact W.iret (v := (-3 : Int32)) hx hb hr (fun t ht _ => ⟨rfl, by rw [ht]; exact hR, hF⟩) hL dX4_mend_55
      · rw [if_neg c5] at h
        refine lv_bipush (v := -12) hx hb dX4_mend_33 (by decide) ?_
        have h := Option.some.inj h
        subst h
        exact W.iret (v := (-12 : Int32)) hx hb hr (fun t ht _ => ⟨rfl, by rw [ht]; exact hR, hF⟩) hL dX4_mend_35
    · rw [if_neg (bI_n c2)] at h
      refine lv_bipush (v := -2) hx hb dX4_mend_21 (by decide) ?_
      have h := Option.some.inj h
      subst h
      exact W.iret (v := (-2 : Int32)) hx hb hr (fun t ht _ => ⟨rfl, by rw [ht]; exact hR, hF⟩) hL dX4_mend_23
  · rw [if_neg (bI_n c1)] at h
    refine lv_iconst (v := -1) hx hb dX4_mend_8 (by decide) ?_
    have h := Option.some.inj h
    subst h
    exact W.iret (v := (-1 : Int32)) hx hb hr (fun t ht _ => ⟨rfl, by rw [ht]; exact hR, hF⟩) hL dX4_mend_9
def f_X4_kind (a1 : Int32) (w : Wd) : Option (Int32) :=
  if (f_X4_isCard a1 w) then ((f_X4_kindOf a1 w).bind fun q2 => some q2) else (some (-1 : Int32))
theorem hd_X4_kind : yX4_kind.cls = RX4 ∧ yX4_kind.cls ≠ "java/lang/invoke/MethodHandle" ∧ yX4_kind.cls ≠ "java/lang/invoke/VarHandle" ∧ (parseMethodDescriptor yX4_kind.desc).map (fun d => d.parameters.length) = some 1 := by decide +kernel
set_option maxHeartbeats 4000000 in
set_option maxRecDepth 100000 in
theorem met_X4_kind (l : Launch) (G : Gw) (z : Nat) (H0 : Heap)  (w : Wd) (a1 : Int32) (q : Int32) (h : f_X4_kind a1 w = some q) : Met l yX4_kind (ws_ yX4_kind cX4_kind 2 (some .int)) ({ frames := 2, cells := 0, slots := 0, locals := 44 } : Room) (pcW G z H0 w [.ref (z + 58), .int a1]) (qP (some (.int q))) 0 0 (fun q => z ≤ q) := by
  refine mW (by decide) (Nat.le_of_ble_eq_true rfl) ?_
  intro p e s m below meth c ls hx hb hr hml hown hts hlocks hnm hK hR hF hl
  have hown : s.vm.findClass RX4 = some m.cls := hown
  have hl : lv_has ls 2 [(0, .ref (z + 58)), (1, .int a1)] := hl
  have hL : lok z [] := lok_nil
  unfold f_X4_kind at h
  generalize ([] : List Loc) = locs at hL ⊢
  refine lv_aload_n hx hb dX4_kind_0 rfl (lv_at hl 0 rfl) ?_
  refine lv_iload_n hx hb dX4_kind_1 rfl (lv_at hl 1 rfl) ?_
  refine c_VP (a := 58) (ci := 4) (q := (RX4, TX4, 80)) (rest := []) (st1 := [.int (bI (f_X4_isCard a1 w))]) hx hb hml hown hts hK hR hF hL hl.1 (met_X4_isCard l G z H0 w a1 _ rfl) (congrArg Prod.fst (hF.2.1 58 (5, 0) rfl)) rfl rfl rfl hd_X4_isCard q1935 q1937 qs46 q104 q1938 ⟨Nat.le_of_ble_eq_true rfl, Nat.le_of_ble_eq_true rfl⟩ ⟨Nat.le_refl 0, Nat.le_refl 0⟩ rfl rfl (Nat.le_of_ble_eq_true rfl) dX4_kind_2 rfl (fun locs hL => ?_)
  refine lv_if_eq (tgt := 16) hx hb dX4_kind_5 (by decide) (fun c1 => ?_) (fun c1 => ?_)
  · rw [if_neg (bI_n c1)] at h
    refine lv_iconst (v := -1) hx hb dX4_kind_16 (by decide) ?_
    have h := Option.some.inj h
    subst h
    exact W.iret (v := (-1 : Int32)) hx hb hr (fun t ht _ => ⟨rfl, ht⟩) hL dX4_kind_17
  · rw [if_pos (bI_p c1)] at h
    refine lv_aload_n hx hb dX4_kind_8 rfl (lv_at hl 0 rfl) ?_
    refine lv_iload_n hx hb dX4_kind_9 rfl (lv_at hl 1 rfl) ?_
    obtain ⟨q2, hq3, h⟩ := bnd h
    refine c_VP (a := 58) (ci := 4) (q := (RX4, TX4, 80)) (rest := []) (st1 := [.int q2]) hx hb hml hown hts hK hR hF hL hl.1 (met_X4_kindOf l G z H0 w a1 q2 hq3) (congrArg Prod.fst (hF.2.1 58 (5, 0) rfl)) rfl rfl rfl hd_X4_kindOf q1939 q1941 qs47 q104 q1942 ⟨Nat.le_of_ble_eq_true rfl, Nat.le_of_ble_eq_true rfl⟩ ⟨Nat.le_refl 0, Nat.le_refl 0⟩ rfl rfl (Nat.le_of_ble_eq_true rfl) dX4_kind_10 rfl (fun locs hL => ?_)
    refine lv_goto (tgt := 17) hx hb dX4_kind_13 (by decide) ?_
    have h := Option.some.inj h
    subst h
    exact W.iret (v := q2) hx hb hr (fun t ht _ => ⟨rfl, ht⟩) hL dX4_kind_17
def f_X4_body (a1 : Int32) (w : Wd) : Option (Wd) :=
  if (20 : Int32) ≤ (wI w 58 18) then (some (sI w 58 18 ((wI w 58 18) + (1 : Int32)))) else (if inb (wI w 58 18) 20 then (some (sI (sI w 76 ((wI w 58 18).toNatClampNeg) a1) 58 18 ((wI w 58 18) + (1 : Int32)))) else none)
theorem hd_X4_body : yX4_body.cls = RX4 ∧ yX4_body.cls ≠ "java/lang/invoke/MethodHandle" ∧ yX4_body.cls ≠ "java/lang/invoke/VarHandle" ∧ (parseMethodDescriptor yX4_body.desc).map (fun d => d.parameters.length) = some 1 := by decide +kernel
set_option maxHeartbeats 4000000 in
set_option maxRecDepth 100000 in
theorem met_X4_body (l : Launch) (G : Gw) (z : Nat) (H0 : Heap)  (w : Wd) (a1 : Int32) (q : Wd) (h : f_X4_body a1 w = some q) : Met l yX4_body (ws_ yX4_body cX4_body 2 none) ({ frames := 0, cells := 0, slots := 0, locals := 0 } : Room) (pcW G z H0 w [.ref (z + 58), .int a1]) (qW G z H0 q none) 0 0 (fun q => z ≤ q) := by
  refine mW (by decide) (Nat.le_of_ble_eq_true rfl) ?_
  intro p e s m below meth c ls hx hb hr hml hown hts hlocks hnm hK hR hF hl
  have hown : s.vm.findClass RX4 = some m.cls := hown
  have hl : lv_has ls 2 [(0, .ref (z + 58)), (1, .int a1)] := hl
  have hL : lok z [] := lok_nil
  unfold f_X4_body at h
  generalize s.heap = H at hR ⊢
  generalize ([] : List Loc) = locs at hL ⊢
  refine lv_aload_n hx hb dX4_body_0 rfl (lv_at hl 0 rfl) ?_
  refine r_get (C := RX4) (T := TX4) (N := 80) hx hb hts ok4 hown hK hR (congrArg Prod.fst (hF.2.1 58 (5, 0) rfl)) rfl 18 (by decide) (hts _ q1651) (fun _ h9 => h9) (v := .int (wI w 58 18)) rfl dX4_body_1 ?_
  refine lv_bipush (v := 20) hx hb dX4_body_4 (by decide) ?_
  refine lv_icmp_ge (tgt := 19) hx hb dX4_body_6 (by decide) (fun c1 => ?_) (fun c1 => ?_)
  · rw [if_pos c1] at h
    refine lv_aload_n hx hb dX4_body_19 rfl (lv_at hl 0 rfl) ?_
    refine lv_dup hx hb dX4_body_20 rfl ?_
    refine r_get (C := RX4) (T := TX4) (N := 80) hx hb hts ok4 hown hK hR (congrArg Prod.fst (hF.2.1 58 (5, 0) rfl)) rfl 18 (by decide) (hts _ q1651) (fun _ h9 => h9) (v := .int (wI w 58 18)) rfl dX4_body_21 ?_
    refine lv_iconst (v := 1) hx hb dX4_body_24 (by decide) ?_
    refine lv_iadd hx hb dX4_body_25 ?_
    refine r_putI (C := RX4) (T := TX4) (N := 80) hx hb hts ok4 hown hK hR hL (congrArg Prod.fst (hF.2.1 58 (5, 0) rfl)) rfl 18 (by decide) (hts _ q1651) (fun _ h9 => h9) (Or.inl rfl) rfl rfl rfl dX4_body_26 (fun H locs hR hL => ?_)
    have hF := hF.sI 58 18 ((wI w 58 18) + (1 : Int32))
    have h := Option.some.inj h
    subst h
    exact W.vret hx hb hr (fun t ht _ => ⟨rfl, by rw [ht]; exact hR, hF⟩) hL dX4_body_29
  · rw [if_neg c1] at h
    refine lv_aload_n hx hb dX4_body_9 rfl (lv_at hl 0 rfl) ?_
    refine r_get (C := RX4) (T := TX4) (N := 80) hx hb hts ok4 hown hK hR (congrArg Prod.fst (hF.2.1 58 (5, 0) rfl)) rfl 23 (by decide) (hts _ q1656) (fun _ h9 => h9) (v := .ref (z + 76)) (fv_fix hF rfl rfl) dX4_body_10 ?_
    refine lv_aload_n hx hb dX4_body_13 rfl (lv_at hl 0 rfl) ?_
    refine r_get (C := RX4) (T := TX4) (N := 80) hx hb hts ok4 hown hK hR (congrArg Prod.fst (hF.2.1 58 (5, 0) rfl)) rfl 18 (by decide) (hts _ q1651) (fun _ h9 => h9) (v := .int (wI w 58 18)) rfl dX4_body_14 ?_
    refine lv_iload_n hx hb dX4_body_17 rfl (lv_at hl 1 rfl) ?_
    obtain ⟨hb2, h⟩ := grd h
    refine r_iast hx hb hK hR hL (hF.2.1 76 (200, 20) rfl) hb2 dX4_body_18 (fun H locs hR hL => ?_)
    have hF := hF.sI 76 ((wI w 58 18).toNatClampNeg) a1
    refine lv_aload_n hx hb dX4_body_19 rfl (lv_at hl 0 rfl) ?_
    refine lv_dup hx hb dX4_body_20 rfl ?_
    refine r_get (C := RX4) (T := TX4) (N := 80) hx hb hts ok4 hown hK hR (congrArg Prod.fst (hF.2.1 58 (5, 0) rfl)) rfl 18 (by decide) (hts _ q1651) (fun _ h9 => h9) (v := .int (wI w 58 18)) rfl dX4_body_21 ?_
    refine lv_iconst (v := 1) hx hb dX4_body_24 (by decide) ?_
    refine lv_iadd hx hb dX4_body_25 ?_
    refine r_putI (C := RX4) (T := TX4) (N := 80) hx hb hts ok4 hown hK hR hL (congrArg Prod.fst (hF.2.1 58 (5, 0) rfl)) rfl 18 (by decide) (hts _ q1651) (fun _ h9 => h9) (Or.inl rfl) rfl rfl rfl dX4_body_26 (fun H locs hR hL => ?_)
    have hF := hF.sI 58 18 ((wI w 58 18) + (1 : Int32))
    have h := Option.some.inj h
    subst h
    exact W.vret hx hb hr (fun t ht _ => ⟨rfl, by rw [ht]; exact hR, hF⟩) hL dX4_body_29
def f_X4_plainBars (a1 : Int32) (a2 : Int32) (w : Wd) : Option (Int32 × Wd) :=
  (f_X4_body (10 : Int32) w).bind fun q1 => if inb a1 50 then (some (a2 + (wI q1 74 a1.toNatClampNeg), q1)) else none
theorem hd_X4_plainBars : yX4_plainBars.cls = RX4 ∧ yX4_plainBars.cls ≠ "java/lang/invoke/MethodHandle" ∧ yX4_plainBars.cls ≠ "java/lang/invoke/VarHandle" ∧ (parseMethodDescriptor yX4_plainBars.desc).map (fun d => d.parameters.length) = some 2 := by decide +kernel
set_option maxHeartbeats 4000000 in
set_option maxRecDepth 100000 in
theorem met_X4_plainBars (l : Launch) (G : Gw) (z : Nat) (H0 : Heap)  (w : Wd) (a1 : Int32) (a2 : Int32) (q : Int32 × Wd) (h : f_X4_plainBars a1 a2 w = some q) : Met l yX4_plainBars (ws_ yX4_plainBars cX4_plainBars 3 (some .int)) ({ frames := 1, cells := 0, slots := 0, locals := 21 } : Room) (pcW G z H0 w [.ref (z + 58), .int a1, .int a2]) (qW G z H0 q.2 (some (.int q.1))) 0 0 (fun q => z ≤ q) := by
  refine mW (by decide) (Nat.le_of_ble_eq_true rfl) ?_
  intro p e s m below meth c ls hx hb hr hml hown hts hlocks hnm hK hR hF hl
  have hown : s.vm.findClass RX4 = some m.cls := hown
  have hl : lv_has ls 3 [(0, .ref (z + 58)), (1, .int a1), (2, .int a2)] := hl
  have hL : lok z [] := lok_nil
  unfold f_X4_plainBars at h
  generalize s.heap = H at hR ⊢
  generalize ([] : List Loc) = locs at hL ⊢
  refine lv_aload_n hx hb dX4_plainBars_0 rfl (lv_at hl 0 rfl) ?_
  refine lv_bipush (v := 10) hx hb dX4_plainBars_1 (by decide) ?_
  obtain ⟨q1, hq2, h⟩ := bnd h
  refine c_VW (a := 58) (ci := 4) (q := (RX4, TX4, 80)) (rest := []) (st1 := []) hx hb hml hown hts hK hR hF hL hl.1 (met_X4_body l G z H0 w (10 : Int32) q1 hq2) (congrArg Prod.fst (hF.2.1 58 (5, 0) rfl)) rfl rfl rfl hd_X4_body q1955 q1957 qs49 q104 q1958 ⟨Nat.le_of_ble_eq_true rfl, Nat.le_of_ble_eq_true rfl⟩ ⟨Nat.le_refl 0, Nat.le_refl 0⟩ rfl rfl (Nat.le_of_ble_eq_true rfl) dX4_plainBars_3 rfl (fun H locs hR hF hL => ?_)
  refine lv_iload_n hx hb dX4_plainBars_6 rfl (lv_at hl 2 rfl) ?_
  refine lv_aload_n hx hb dX4_plainBars_7 rfl (lv_at hl 0 rfl) ?_
  refine r_get (C := RX4) (T := TX4) (N := 80) hx hb hts ok4 hown hK hR (congrArg Prod.fst (hF.2.1 58 (5, 0) rfl)) rfl 21 (by decide) (hts _ q1654) (fun _ h9 => h9) (v := .ref (z + 74)) (fv_fix hF rfl rfl) dX4_plainBars_8 ?_
  refine lv_iload_n hx hb dX4_plainBars_11 rfl (lv_at hl 1 rfl) ?_
  obtain ⟨hb3, h⟩ := grd h
  refine r_iald (v := wI q1 74 a1.toNatClampNeg) hx hb hK hR (hF.2.1 74 (200, 50) rfl) hb3 rfl dX4_plainBars_12 ?_
  refine lv_iadd hx hb dX4_plainBars_13 ?_
  have h := Option.some.inj h
  subst h
  exact W.iret (v := a2 + (wI q1 74 a1.toNatClampNeg)) hx hb hr (fun t ht _ => ⟨rfl, by rw [ht]; exact hR, hF⟩) hL dX4_plainBars_14
def f_X4_barsOf (a1 : Int32) (a2 : Int32) (a3 : Int32) (w : Wd) : Option (Int32 × Wd) :=
  if a2 = (2 : Int32) then ((f_X4_body (30 : Int32) w).bind fun q14 => (f_X4_plainBars a1 a3 q14).bind fun q16 => some (-q16.1, q16.2)) else (if a2 = (3 : Int32) then ((f_X4_body (41 : Int32) w).bind fun q3 => (f_X4_plainBars a1 (a3 + (1 : Int32)) q3).bind fun q5 => some (q5.1, q5.2)) else (if a2 = (4 : Int32) then ((f_X4_body (41 : Int32) w).bind fun q10 => (f_X4_plainBars a1 (a3 + (1 : Int32)) q10).bind fun q12 => some (q12.1, q12.2)) else ((f_X4_plainBars a1 a3 w).bind fun q8 => some (q8.1, q8.2))))
theorem hd_X4_barsOf : yX4_barsOf.cls = RX4 ∧ yX4_barsOf.cls ≠ "java/lang/invoke/MethodHandle" ∧ yX4_barsOf.cls ≠ "java/lang/invoke/VarHandle" ∧ (parseMethodDescriptor yX4_barsOf.desc).map (fun d => d.parameters.length) = some 3 := by decide +kernel
set_option maxHeartbeats 4000000 in
set_option maxRecDepth 100000 in
theorem met_X4_barsOf (l : Launch) (G : Gw) (z : Nat) (H0 : Heap)  (w : Wd) (a1 : Int32) (a2 : Int32) (a3 : Int32) (q : Int32 × Wd) (h : f_X4_barsOf a1 a2 a3 w = some q) : Met l yX4_barsOf (ws_ yX4_barsOf cX4_barsOf 4 (some .int)) ({ frames := 2, cells := 0, slots := 0, locals := 43 } : Room) (pcW G z H0 w [.ref (z + 58), .int a1, .int a2, .int a3]) (qW G z H0 q.2 (some (.int q.1))) 0 0 (fun q => z ≤ q) := by
  refine mW (by decide) (Nat.le_of_ble_eq_true rfl) ?_
  intro p e s m below meth c ls hx hb hr hml hown hts hlocks hnm hK hR hF hl
  have hown : s.vm.findClass RX4 = some m.cls := hown
  have hl : lv_has ls 4 [(0, .ref (z + 58)), (1, .int a1), (2, .int a2), (3, .int a3)] := hl
  have hL : lok z [] := lok_nil
  unfold f_X4_barsOf at h
  generalize s.heap = H at hR ⊢
  generalize ([] : List Loc) = locs at hL ⊢
  refine lv_iload_n hx hb dX4_barsOf_0 rfl (lv_at hl 2 rfl) ?_
  refine lv_iconst (v := 2) hx hb dX4_barsOf_1 (by decide) ?_
  refine lv_icmp_ne (tgt := 19) hx hb dX4_barsOf_2 (by decide) (fun c1 => ?_) (fun c1 => ?_)
  · rw [if_neg c1] at h
    refine lv_iload_n hx hb dX4_barsOf_19 rfl (lv_at hl 2 rfl) ?_
    refine lv_iconst (v := 3) hx hb dX4_barsOf_20 (by decide) ?_
    refine lv_icmp_eq (tgt := 29) hx hb dX4_barsOf_21 (by decide) (fun c2 => ?_) (fun c2 => ?_)
    · rw [if_pos c2] at h
      refine lv_aload_n hx hb dX4_barsOf_29 rfl (lv_at hl 0 rfl) ?_
      refine lv_bipush (v := 41) hx hb dX4_barsOf_30 (by decide) ?_
      obtain ⟨q3, hq4, h⟩ := bnd h
      refine c_VW (a := 58) (ci := 4) (q := (RX4, TX4, 80)) (rest := []) (st1 := []) hx hb hml hown hts hK hR hF hL hl.1 (met_X4_body l G z H0 w (41 : Int32) q3 hq4) (congrArg Prod.fst (hF.2.1 58 (5, 0) rfl)) rfl rfl rfl hd_X4_body q1955 q1957 qs49 q104 q1958 ⟨Nat.le_of_ble_eq_true rfl, Nat.le_of_ble_eq_true rfl⟩ ⟨Nat.le_refl 0, Nat.le_refl 0⟩ rfl rfl (Nat.le_of_ble_eq_true rfl) dX4_barsOf_32 rfl (fun H locs hR hF hL => ?_)
      refine lv_aload_n hx hb dX4_barsOf_35 rfl (lv_at hl 0 rfl) ?_
      refine lv_iload_n hx hb dX4_barsOf_36 rfl (lv_at hl 1 rfl) ?_
      refine lv_iload_n hx hb dX4_barsOf_37 rfl (lv_at hl 3 rfl) ?_
      refine lv_iconst (v := 1) hx hb dX4_barsOf_38 (by decide) ?_
      refine lv_iadd hx hb dX4_barsOf_39 ?_
      obtain ⟨q5, hq6, h⟩ := bnd h
      refine c_VW (a := 58) (ci := 4) (q := (RX4, TX4, 80)) (rest := []) (st1 := [.int q5.1]) hx hb hml hown hts hK hR hF hL hl.1 (met_X4_plainBars l G z H0 q3 a1 (a3 + (1 : Int32)) q5 hq6) (congrArg Prod.fst (hF.2.1 58 (5, 0) rfl)) rfl rfl rfl hd_X4_plainBars q1959 q1961 qs50 q104 q1962 ⟨Nat.le_of_ble_eq_true rfl, Nat.le_of_ble_eq_true rfl⟩ ⟨Nat.le_refl 0, Nat.le_refl 0⟩ rfl rfl (Nat.le_of_ble_eq_true rfl) dX4_barsOf_40 rfl (fun H locs hR hF hL => ?_)
      have h := Option.some.inj h
      subst h
      exact W.iret (v := q5.1) hx hb hr (fun t ht _ => ⟨rfl, by rw [ht]; exact hR, hF⟩) hL dX4_barsOf_43
    · rw [if_neg c2] at h
      refine lv_iload_n hx hb dX4_barsOf_24 rfl (lv_at hl 2 rfl) ?_
      refine lv_iconst (v := 4) hx hb dX4_barsOf_25 (by decide) ?_
      refine lv_icmp_ne (tgt := 44) hx hb dX4_barsOf_26 (by decide) (fun c7 => ?_) (fun c7 => ?_)
      · rw [if_neg c7] at h
        refine lv_aload_n hx hb dX4_barsOf_44 rfl (lv_at hl 0 rfl) ?_
        refine lv_iload_n hx hb dX4_barsOf_45 rfl (lv_at hl 1 rfl) ?_
        refine lv_iload_n hx hb dX4_barsOf_46 rfl (lv_at hl 3 rfl) ?_
        obtain ⟨q8, hq9, h⟩ := bnd h
        refine c_VW (a := 58) (ci := 4) (q := (RX4, TX4, 80)) (rest := []) (st1 := [.int q8.1]) hx hb hml hown hts hK hR hF hL hl.1 (met_X4_plainBars l G z H0 w a1 a3 q8 hq9) (congrArg Prod.fst (hF.2.1 58 (5, 0) rfl)) rfl rfl rfl hd_X4_plainBars q1959 q1961 qs50 q104 q1962 ⟨Nat.le_of_ble_eq_true rfl, Nat.le_of_ble_eq_true rfl⟩ ⟨Nat.le_refl 0, Nat.le_refl 0⟩ rfl rfl (Nat.le_of_ble_eq_true rfl) dX4_barsOf_47 rfl (fun H locs hR hF hL => ?_)
        have h := Option.some.inj h
        subst h
        exact W.iret (v := q8.1) hx hb hr (fun t ht _ => ⟨rfl, by rw [ht]; exact hR, hF⟩) hL dX4_barsOf_50
      · rw [if_pos c7] at h
        refine lv_aload_n hx hb dX4_barsOf_29 rfl (lv_at hl 0 rfl) ?_
        refine lv_bipush (v := 41) hx hb dX4_barsOf_30 (by decide) ?_
        obtain ⟨q10, hq11, h⟩ := bnd h
        refine c_VW (a := 58) (ci := 4) (q := (RX4, TX4, 80)) (rest := []) (st1 := []) hx hb hml hown hts hK hR hF hL hl.1 (met_X4_body l G z H0 w (41 : Int32) q10 hq11) (congrArg Prod.fst (hF.2.1 58 (5, 0) rfl)) rfl rfl rfl hd_X4_body q1955 q1957 qs49 q104 q1958 ⟨Nat.le_of_ble_eq_true rfl, Nat.le_of_ble_eq_true rfl⟩ ⟨Nat.le_refl 0, Nat.le_refl 0⟩ rfl rfl (Nat.le_of_ble_eq_true rfl) dX4_barsOf_32 rfl (fun H locs hR hF hL => ?_)
        refine lv_aload_n hx hb dX4_barsOf_35 rfl (lv_at hl 0 rfl) ?_
        refine lv_iload_n hx hb dX4_barsOf_36 rfl (lv_at hl 1 rfl) ?_
        refine lv_iload_n hx hb dX4_barsOf_37 rfl (lv_at hl 3 rfl) ?_
        refine lv_iconst (v := 1) hx hb dX4_barsOf_38 (by decide) ?_
        refine lv_iadd hx hb dX4_barsOf_39 ?_
        obtain ⟨q12, hq13, h⟩ := bnd h
        refine c_VW (a := 58) (ci := 4) (q := (RX4, TX4, 80)) (rest := []) (st1 := [.int q12.1]) hx hb hml hown hts hK hR hF hL hl.1 (met_X4_plainBars l G z H0 q10 a1 (a3 + (1 : Int32)) q12 hq13) (congrArg Prod.fst (hF.2.1 58 (5, 0) rfl)) rfl rfl rfl hd_X4_plainBars q1959 q1961 qs50 q104 q1962 ⟨Nat.le_of_ble_eq_true rfl, Nat.le_of_ble_eq_true rfl⟩ ⟨Nat.le_refl 0, Nat.le_refl 0⟩ rfl rfl (Nat.le_of_ble_eq_true rfl) dX4_barsOf_40 rfl (fun H locs hR hF hL => ?_)
        have h := Option.some.inj h
        subst h
        exact W.iret (v := q12.1) hx hb hr (fun t ht _ => ⟨rfl, by rw [ht]; exact hR, hF⟩) hL dX4_barsOf_43
  · rw [if_pos c1] at h
    refine lv_aload_n hx hb dX4_barsOf_5 rfl (lv_at hl 0 rfl) ?_
    refine lv_bipush (v := 30) hx hb dX4_barsOf_6 (by decide) ?_
    obtain ⟨q14, hq15, h⟩ := bnd h
    refine c_VW (a := 58) (ci := 4) (q := (RX4, TX4, 80)) (rest := []) (st1 := []) hx hb hml hown hts hK hR hF hL hl.1 (met_X4_body l G z H0 w (30 : Int32) q14 hq15) (congrArg Prod.fst (hF.2.1 58 (5, 0) rfl)) rfl rfl rfl hd_X4_body q1955 q1957 qs49 q104 q1958 ⟨Nat.le_of_ble_eq_true rfl, Nat.le_of_ble_eq_true rfl⟩ ⟨Nat.le_refl 0, Nat.le_refl 0⟩ rfl rfl (Nat.le_of_ble_eq_true rfl) dX4_barsOf_8 rfl (fun H locs hR hF hL => ?_)
    refine lv_aload_n hx hb dX4_barsOf_11 rfl (lv_at hl 0 rfl) ?_
    refine lv_iload_n hx hb dX4_barsOf_12 rfl (lv_at hl 1 rfl) ?_
    refine lv_iload_n hx hb dX4_barsOf_13 rfl (lv_at hl 3 rfl) ?_
    obtain ⟨q16, hq17, h⟩ := bnd h
    refine c_VW (a := 58) (ci := 4) (q := (RX4, TX4, 80)) (rest := []) (st1 := [.int q16.1]) hx hb hml hown hts hK hR hF hL hl.1 (met_X4_plainBars l G z H0 q14 a1 a3 q16 hq17) (congrArg Prod.fst (hF.2.1 58 (5, 0) rfl)) rfl rfl rfl hd_X4_plainBars q1959 q1961 qs50 q104 q1962 ⟨Nat.le_of_ble_eq_true rfl, Nat.le_of_ble_eq_true rfl⟩ ⟨Nat.le_refl 0, Nat.le_refl 0⟩ rfl rfl (Nat.le_of_ble_eq_true rfl) dX4_barsOf_14 rfl (fun H locs hR hF hL => ?_)
    refine lv_ineg hx hb dX4_barsOf_17 ?_
    have h := Option.some.inj h
    subst h
    exact W.iret (v := -q16.1) hx hb hr (fun t ht _ => ⟨rfl, by rw [ht]; exact hR, hF⟩) hL dX4_barsOf_18
def f_X4_plainHangs (a1 : Int32) (a2 : Int32) (a3 : Int32) (w : Wd) : Option (Int32 × Wd) :=
  (f_X4_body (11 : Int32) w).bind fun q1 => (f_X4_barsOf a1 a2 a3 q1).bind fun q3 => if inb a1 50 then (some (q3.1 - (wI q3.2 73 a1.toNatClampNeg), q3.2)) else none
theorem hd_X4_plainHangs : yX4_plainHangs.cls = RX4 ∧ yX4_plainHangs.cls ≠ "java/lang/invoke/MethodHandle" ∧ yX4_plainHangs.cls ≠ "java/lang/invoke/VarHandle" ∧ (parseMethodDescriptor yX4_plainHangs.desc).map (fun d => d.parameters.length) = some 3 := by decide +kernel
set_option maxHeartbeats 4000000 in
set_option maxRecDepth 100000 in
theorem met_X4_plainHangs (l : Launch) (G : Gw) (z : Nat) (H0 : Heap)  (w : Wd) (a1 : Int32) (a2 : Int32) (a3 : Int32) (q : Int32 × Wd) (h : f_X4_plainHangs a1 a2 a3 w = some q) : Met l yX4_plainHangs (ws_ yX4_plainHangs cX4_plainHangs 4 (some .int)) ({ frames := 3, cells := 0, slots := 0, locals := 66 } : Room) (pcW G z H0 w [.ref (z + 58), .int a1, .int a2, .int a3]) (qW G z H0 q.2 (some (.int q.1))) 0 0 (fun q => z ≤ q) := by
  refine mW (by decide) (Nat.le_of_ble_eq_true rfl) ?_
  intro p e s m below meth c ls hx hb hr hml hown hts hlocks hnm hK hR hF hl
  have hown : s.vm.findClass RX4 = some m.cls := hown
  have hl : lv_has ls 4 [(0, .ref (z + 58)), (1, .int a1), (2, .int a2), (3, .int a3)] := hl
  have hL : lok z [] := lok_nil
  unfold f_X4_plainHangs at h
  generalize s.heap = H at hR ⊢
  generalize ([] : List Loc) = locs at hL ⊢
  refine lv_aload_n hx hb dX4_plainHangs_0 rfl (lv_at hl 0 rfl) ?_
  refine lv_bipush (v := 11) hx hb dX4_plainHangs_1 (by decide) ?_
  obtain ⟨q1, hq2, h⟩ := bnd h
  refine c_VW (a := 58) (ci := 4) (q := (RX4, TX4, 80)) (rest := []) (st1 := []) hx hb hml hown hts hK hR hF hL hl.1 (met_X4_body l G z H0 w (11 : Int32) q1 hq2) (congrArg Prod.fst (hF.2.1 58 (5, 0) rfl)) rfl rfl rfl hd_X4_body q1955 q1957 qs49 q104 q1958 ⟨Nat.le_of_ble_eq_true rfl, Nat.le_of_ble_eq_true rfl⟩ ⟨Nat.le_refl 0, Nat.le_refl 0⟩ rfl rfl (Nat.le_of_ble_eq_true rfl) dX4_plainHangs_3 rfl (fun H locs hR hF hL => ?_)
  refine lv_aload_n hx hb dX4_plainHangs_6 rfl (lv_at hl 0 rfl) ?_
  refine lv_iload_n hx hb dX4_plainHangs_7 rfl (lv_at hl 1 rfl) ?_
  refine lv_iload_n hx hb dX4_plainHangs_8 rfl (lv_at hl 2 rfl) ?_
  refine lv_iload_n hx hb dX4_plainHangs_9 rfl (lv_at hl 3 rfl) ?_
  obtain ⟨q3, hq4, h⟩ := bnd h
  refine c_VW (a := 58) (ci := 4) (q := (RX4, TX4, 80)) (rest := []) (st1 := [.int q3.1]) hx hb hml hown hts hK hR hF hL hl.1 (met_X4_barsOf l G z H0 q1 a1 a2 a3 q3 hq4) (congrArg Prod.fst (hF.2.1 58 (5, 0) rfl)) rfl rfl rfl hd_X4_barsOf q1951 q1953 qs48 q104 q1954 ⟨Nat.le_of_ble_eq_true rfl, Nat.le_of_ble_eq_true rfl⟩ ⟨Nat.le_refl 0, Nat.le_refl 0⟩ rfl rfl (Nat.le_of_ble_eq_true rfl) dX4_plainHangs_10 rfl (fun H locs hR hF hL => ?_)
  refine lv_aload_n hx hb dX4_plainHangs_13 rfl (lv_at hl 0 rfl) ?_
  refine r_get (C := RX4) (T := TX4) (N := 80) hx hb hts ok4 hown hK hR (congrArg Prod.fst (hF.2.1 58 (5, 0) rfl)) rfl 20 (by decide) (hts _ q1653) (fun _ h9 => h9) (v := .ref (z + 73)) (fv_fix hF rfl rfl) dX4_plainHangs_14 ?_
  refine lv_iload_n hx hb dX4_plainHangs_17 rfl (lv_at hl 1 rfl) ?_
  obtain ⟨hb5, h⟩ := grd h
  refine r_iald (v := wI q3.2 73 a1.toNatClampNeg) hx hb hK hR (hF.2.1 73 (200, 50) rfl) hb5 rfl dX4_plainHangs_18 ?_
  refine lv_isub hx hb dX4_plainHangs_19 ?_
  have h := Option.some.inj h
  subst h
  exact W.iret (v := q3.1 - (wI q3.2 73 a1.toNatClampNeg)) hx hb hr (fun t ht _ => ⟨rfl, by rw [ht]; exact hR, hF⟩) hL dX4_plainHangs_20
def f_X4_hangsOf (a1 : Int32) (a2 : Int32) (a3 : Int32) (w : Wd) : Option (Int32 × Wd) :=
  if (f_X4_in a2 (1 : Int32) (4 : Int32) w) then ((f_X4_body (20 : Int32) w).bind fun q9 => (f_X4_plainHangs a1 a2 a3 q9).bind fun q11 => some (q11.1 ^^^ a1, q11.2)) else (if a2 = (5 : Int32) then ((f_X4_body (60 : Int32) w).bind fun q5 => (f_X4_plainHangs a1 a2 (a3 * (3 : Int32)) q5).bind fun q7 => some (q7.1, q7.2)) else ((f_X4_plainHangs a1 a2 a3 w).bind fun q3 => some (q3.1, q3.2)))
theorem hd_X4_hangsOf : yX4_hangsOf.cls = RX4 ∧ yX4_hangsOf.cls ≠ "java/lang/invoke/MethodHandle" ∧ yX4_hangsOf.cls ≠ "java/lang/invoke/VarHandle" ∧ (parseMethodDescriptor yX4_hangsOf.desc).map (fun d => d.parameters.length) = some 3 := by decide +kernel
set_option maxHeartbeats 4000000 in
set_option maxRecDepth 100000 in
theorem met_X4_hangsOf (l : Launch) (G : Gw) (z : Nat) (H0 : Heap)  (w : Wd) (a1 : Int32) (a2 : Int32) (a3 : Int32) (q : Int32 × Wd) (h : f_X4_hangsOf a1 a2 a3 w = some q) : Met l yX4_hangsOf (ws_ yX4_hangsOf cX4_hangsOf 4 (some .int)) ({ frames := 4, cells := 0, slots := 0, locals := 89 } : Room) (pcW G z H0 w [.ref (z + 58), .int a1, .int a2, .int a3]) (qW G z H0 q.2 (some (.int q.1))) 0 0 (fun q => z ≤ q) := by
  refine mW (by decide) (Nat.le_of_ble_eq_true rfl) ?_
  intro p e s m below meth c ls hx hb hr hml hown hts hlocks hnm hK hR hF hl
  have hown : s.vm.findClass RX4 = some m.cls := hown
  have hl : lv_has ls 4 [(0, .ref (z + 58)), (1, .int a1), (2, .int a2), (3, .int a3)] := hl
  have hL : lok z [] := lok_nil
  unfold f_X4_hangsOf at h
  generalize s.heap = H at hR ⊢
  generalize ([] : List Loc) = locs at hL ⊢
  refine lv_aload_n hx hb dX4_hangsOf_0 rfl (lv_at hl 0 rfl) ?_
  refine lv_iload_n hx hb dX4_hangsOf_1 rfl (lv_at hl 2 rfl) ?_
  refine lv_iconst (v := 1) hx hb dX4_hangsOf_2 (by decide) ?_
  refine lv_iconst (v := 4) hx hb dX4_hangsOf_3 (by decide) ?_
  refine c_VP (a := 58) (ci := 4) (q := (RX4, TX4, 80)) (rest := []) (st1 := [.int (bI (f_X4_in a2 (1 : Int32) (4 : Int32) w))]) hx hb hml hown hts hK hR hF hL hl.1 (met_X4_in l G z H0 w a2 (1 : Int32) (4 : Int32) _ rfl) (congrArg Prod.fst (hF.2.1 58 (5, 0) rfl)) rfl rfl rfl hd_X4_in q1878 q1880 qs41 q104 q1881 ⟨Nat.le_of_ble_eq_true rfl, Nat.le_of_ble_eq_true rfl⟩ ⟨Nat.le_refl 0, Nat.le_refl 0⟩ rfl rfl (Nat.le_of_ble_eq_true rfl) dX4_hangsOf_4 rfl (fun locs hL => ?_)
  refine lv_if_eq (tgt := 26) hx hb dX4_hangsOf_7 (by decide) (fun c1 => ?_) (fun c1 => ?_)
  · rw [if_neg (bI_n c1)] at h
    refine lv_iload_n hx hb dX4_hangsOf_26 rfl (lv_at hl 2 rfl) ?_
    refine lv_iconst (v := 5) hx hb dX4_hangsOf_27 (by decide) ?_
    refine lv_icmp_ne (tgt := 47) hx hb dX4_hangsOf_28 (by decide) (fun c2 => ?_) (fun c2 => ?_)
    · rw [if_neg c2] at h
      refine lv_aload_n hx hb dX4_hangsOf_47 rfl (lv_at hl 0 rfl) ?_
      refine lv_iload_n hx hb dX4_hangsOf_48 rfl (lv_at hl 1 rfl) ?_
      refine lv_iload_n hx hb dX4_hangsOf_49 rfl (lv_at hl 2 rfl) ?_
      refine lv_iload_n hx hb dX4_hangsOf_50 rfl (lv_at hl 3 rfl) ?_
      obtain ⟨q3, hq4, h⟩ := bnd h
      refine c_VW (a := 58) (ci := 4) (q := (RX4, TX4, 80)) (rest := []) (st1 := [.int q3.1]) hx hb hml hown hts hK hR hF hL hl.1 (met_X4_plainHangs l G z H0 w a1 a2 a3 q3 hq4) (congrArg Prod.fst (hF.2.1 58 (5, 0) rfl)) rfl rfl rfl hd_X4_plainHangs q1967 q1969 qs52 q104 q1970 ⟨Nat.le_of_ble_eq_true rfl, Nat.le_of_ble_eq_true rfl⟩ ⟨Nat.le_refl 0, Nat.le_refl 0⟩ rfl rfl (Nat.le_of_ble_eq_true rfl) dX4_hangsOf_51 rfl (fun H locs hR hF hL => ?_)
      have h := Option.some.inj h
      subst h
      exact W.iret (v := q3.1) hx hb hr (fun t ht _ => ⟨rfl, by rw [ht]; exact hR, hF⟩) hL dX4_hangsOf_54
    · rw [if_pos c2] at h
      refine lv_aload_n hx hb dX4_hangsOf_31 rfl (lv_at hl 0 rfl) ?_
      refine lv_bipush (v := 60) hx hb dX4_hangsOf_32 (by decide) ?_
      obtain ⟨q5, hq6, h⟩ := bnd h
      refine c_VW (a := 58) (ci := 4) (q := (RX4, TX4, 80)) (rest := []) (st1 := []) hx hb hml hown hts hK hR hF hL hl.1 (met_X4_body l G z H0 w (60 : Int32) q5 hq6) (congrArg Prod.fst (hF.2.1 58 (5, 0) rfl)) rfl rfl rfl hd_X4_body q1955 q1957 qs49 q104 q1958 ⟨Nat.le_of_ble_eq_true rfl, Nat.le_of_ble_eq_true rfl⟩ ⟨Nat.le_refl 0, Nat.le_refl 0⟩ rfl rfl (Nat.le_of_ble_eq_true rfl) dX4_hangsOf_34 rfl (fun H locs hR hF hL => ?_)
      refine lv_aload_n hx hb dX4_hangsOf_37 rfl (lv_at hl 0 rfl) ?_
      refine lv_iload_n hx hb dX4_hangsOf_38 rfl (lv_at hl 1 rfl) ?_
      refine lv_iload_n hx hb dX4_hangsOf_39 rfl (lv_at hl 2 rfl) ?_
      refine lv_iload_n hx hb dX4_hangsOf_40 rfl (lv_at hl 3 rfl) ?_
      refine lv_iconst (v := 3) hx hb dX4_hangsOf_41 (by decide) ?_
      refine lv_imul hx hb dX4_hangsOf_42 ?_
      obtain ⟨q7, hq8, h⟩ := bnd h
      refine c_VW (a := 58) (ci := 4) (q := (RX4, TX4, 80)) (rest := []) (st1 := [.int q7.1]) hx hb hml hown hts hK hR hF hL hl.1 (met_X4_plainHangs l G z H0 q5 a1 a2 (a3 * (3 : Int32)) q7 hq8) (congrArg Prod.fst (hF.2.1 58 (5, 0) rfl)) rfl rfl rfl hd_X4_plainHangs q1967 q1969 qs52 q104 q1970 ⟨Nat.le_of_ble_eq_true rfl, Nat.le_of_ble_eq_true rfl⟩ ⟨Nat.le_refl 0, Nat.le_refl 0⟩ rfl rfl (Nat.le_of_ble_eq_true rfl) dX4_hangsOf_43 rfl (fun H locs hR hF hL => ?_)
      have h := Option.some.inj h
      subst h
      exact W.iret (v := q7.1) hx hb hr (fun t ht _ => ⟨rfl, by rw [ht]; exact hR, hF⟩) hL dX4_hangsOf_46
  · rw [if_pos (bI_p c1)] at h
    refine lv_aload_n hx hb dX4_hangsOf_10 rfl (lv_at hl 0 rfl) ?_
    refine lv_bipush (v := 20) hx hb dX4_hangsOf_11 (by decide) ?_
    obtain ⟨q9, hq10, h⟩ := bnd h
    refine c_VW (a := 58) (ci := 4) (q := (RX4, TX4, 80)) (rest := []) (st1 := []) hx hb hml hown hts hK hR hF hL hl.1 (met_X4_body l G z H0 w (20 : Int32) q9 hq10) (congrArg Prod.fst (hF.2.1 58 (5, 0) rfl)) rfl rfl rfl hd_X4_body q1955 q1957 qs49 q104 q1958 ⟨Nat.le_of_ble_eq_true rfl, Nat.le_of_ble_eq_true rfl⟩ ⟨Nat.le_refl 0, Nat.le_refl 0⟩ rfl rfl (Nat.le_of_ble_eq_true rfl) dX4_hangsOf_13 rfl (fun H locs hR hF hL => ?_)
    refine lv_aload_n hx hb dX4_hangsOf_16 rfl (lv_at hl 0 rfl) ?_
    refine lv_iload_n hx hb dX4_hangsOf_17 rfl (lv_at hl 1 rfl) ?_
    refine lv_iload_n hx hb dX4_hangsOf_18 rfl (lv_at hl 2 rfl) ?_
    refine lv_iload_n hx hb dX4_hangsOf_19 rfl (lv_at hl 3 rfl) ?_
    obtain ⟨q11, hq12, h⟩ := bnd h
    refine c_VW (a := 58) (ci := 4) (q := (RX4, TX4, 80)) (rest := []) (st1 := [.int q11.1]) hx hb hml hown hts hK hR hF hL hl.1 (met_X4_plainHangs l G z H0 q9 a1 a2 a3 q11 hq12) (congrArg Prod.fst (hF.2.1 58 (5, 0) rfl)) rfl rfl rfl hd_X4_plainHangs q1967 q1969 qs52 q104 q1970 ⟨Nat.le_of_ble_eq_true rfl, Nat.le_of_ble_eq_true rfl⟩ ⟨Nat.le_refl 0, Nat.le_refl 0⟩ rfl rfl (Nat.le_of_ble_eq_true rfl) dX4_hangsOf_20 rfl (fun H locs hR hF hL => ?_)
    refine lv_iload_n hx hb dX4_hangsOf_23 rfl (lv_at hl 1 rfl) ?_
    refine lv_ixor hx hb dX4_hangsOf_24 ?_
    have h := Option.some.inj h
    subst h
    exact W.iret (v := q11.1 ^^^ a1) hx hb hr (fun t ht _ => ⟨rfl, by rw [ht]; exact hR, hF⟩) hL dX4_hangsOf_25
def f_X4_plainPasses (a1 : Int32) (a2 : Int32) (a3 : Int32) (w : Wd) : Option (Int32 × Wd) :=
  (f_X4_body (12 : Int32) w).bind fun q1 => (f_X4_hangsOf a1 a2 a3 q1).bind fun q3 => some (q3.1 * (2 : Int32), q3.2)
theorem hd_X4_plainPasses : yX4_plainPasses.cls = RX4 ∧ yX4_plainPasses.cls ≠ "java/lang/invoke/MethodHandle" ∧ yX4_plainPasses.cls ≠ "java/lang/invoke/VarHandle" ∧ (parseMethodDescriptor yX4_plainPasses.desc).map (fun d => d.parameters.length) = some 3 := by decide +kernel
set_option maxHeartbeats 4000000 in
set_option maxRecDepth 100000 in
theorem met_X4_plainPasses (l : Launch) (G : Gw) (z : Nat) (H0 : Heap)  (w : Wd) (a1 : Int32) (a2 : Int32) (a3 : Int32) (q : Int32 × Wd) (h : f_X4_plainPasses a1 a2 a3 w = some q) : Met l yX4_plainPasses (ws_ yX4_plainPasses cX4_plainPasses 4 (some .int)) ({ frames := 5, cells := 0, slots := 0, locals := 112 } : Room) (pcW G z H0 w [.ref (z + 58), .int a1, .int a2, .int a3]) (qW G z H0 q.2 (some (.int q.1))) 0 0 (fun q => z ≤ q) := by
  refine mW (by decide) (Nat.le_of_ble_eq_true rfl) ?_
  intro p e s m below meth c ls hx hb hr hml hown hts hlocks hnm hK hR hF hl
  have hown : s.vm.findClass RX4 = some m.cls := hown
  have hl : lv_has ls 4 [(0, .ref (z + 58)), (1, .int a1), (2, .int a2), (3, .int a3)] := hl
  have hL : lok z [] := lok_nil
  unfold f_X4_plainPasses at h
  generalize s.heap = H at hR ⊢
  generalize ([] : List Loc) = locs at hL ⊢
  refine lv_aload_n hx hb dX4_plainPasses_0 rfl (lv_at hl 0 rfl) ?_
  refine lv_bipush (v := 12) hx hb dX4_plainPasses_1 (by decide) ?_
  obtain ⟨q1, hq2, h⟩ := bnd h
  refine c_VW (a := 58) (ci := 4) (q := (RX4, TX4, 80)) (rest := []) (st1 := []) hx hb hml hown hts hK hR hF hL hl.1 (met_X4_body l G z H0 w (12 : Int32) q1 hq2) (congrArg Prod.fst (hF.2.1 58 (5, 0) rfl)) rfl rfl rfl hd_X4_body q1955 q1957 qs49 q104 q1958 ⟨Nat.le_of_ble_eq_true rfl, Nat.le_of_ble_eq_true rfl⟩ ⟨Nat.le_refl 0, Nat.le_refl 0⟩ rfl rfl (Nat.le_of_ble_eq_true rfl) dX4_plainPasses_3 rfl (fun H locs hR hF hL => ?_)
  refine lv_aload_n hx hb dX4_plainPasses_6 rfl (lv_at hl 0 rfl) ?_
  refine lv_iload_n hx hb dX4_plainPasses_7 rfl (lv_at hl 1 rfl) ?_
  refine lv_iload_n hx hb dX4_plainPasses_8 rfl (lv_at hl 2 rfl) ?_
  refine lv_iload_n hx hb dX4_plainPasses_9 rfl (lv_at hl 3 rfl) ?_
  obtain ⟨q3, hq4, h⟩ := bnd h
  refine c_VW (a := 58) (ci := 4) (q := (RX4, TX4, 80)) (rest := []) (st1 := [.int q3.1]) hx hb hml hown hts hK hR hF hL hl.1 (met_X4_hangsOf l G z H0 q1 a1 a2 a3 q3 hq4) (congrArg Prod.fst (hF.2.1 58 (5, 0) rfl)) rfl rfl rfl hd_X4_hangsOf q1963 q1965 qs51 q104 q1966 ⟨Nat.le_of_ble_eq_true rfl, Nat.le_of_ble_eq_true rfl⟩ ⟨Nat.le_refl 0, Nat.le_refl 0⟩ rfl rfl (Nat.le_of_ble_eq_true rfl) dX4_plainPasses_10 rfl (fun H locs hR hF hL => ?_)
  refine lv_iconst (v := 2) hx hb dX4_plainPasses_13 (by decide) ?_
  refine lv_imul hx hb dX4_plainPasses_14 ?_
  have h := Option.some.inj h
  subst h
  exact W.iret (v := q3.1 * (2 : Int32)) hx hb hr (fun t ht _ => ⟨rfl, by rw [ht]; exact hR, hF⟩) hL dX4_plainPasses_15
def f_X4_struckPasses (a1 : Int32) (a2 : Int32) (a3 : Int32) (w : Wd) : Option (Int32 × Wd) :=
  (f_X4_body (40 : Int32) w).bind fun q1 => (f_X4_plainPasses a1 a2 a3 q1).bind fun q3 => (f_X4_barsOf a1 a2 a3 q3.2).bind fun q5 => some (q3.1 + q5.1, q5.2)
theorem hd_X4_struckPasses : yX4_struckPasses.cls = RX4 ∧ yX4_struckPasses.cls ≠ "java/lang/invoke/MethodHandle" ∧ yX4_struckPasses.cls ≠ "java/lang/invoke/VarHandle" ∧ (parseMethodDescriptor yX4_struckPasses.desc).map (fun d => d.parameters.length) = some 3 := by decide +kernel
set_option maxHeartbeats 4000000 in
set_option maxRecDepth 100000 in
theorem met_X4_struckPasses (l : Launch) (G : Gw) (z : Nat) (H0 : Heap)  (w : Wd) (a1 : Int32) (a2 : Int32) (a3 : Int32) (q : Int32 × Wd) (h : f_X4_struckPasses a1 a2 a3 w = some q) : Met l yX4_struckPasses (ws_ yX4_struckPasses cX4_struckPasses 5 (some .int)) ({ frames := 6, cells := 0, slots := 0, locals := 135 } : Room) (pcW G z H0 w [.ref (z + 58), .int a1, .int a2, .int a3]) (qW G z H0 q.2 (some (.int q.1))) 0 0 (fun q => z ≤ q) := by
  refine mW (by decide) (Nat.le_of_ble_eq_true rfl) ?_
  intro p e s m below meth c ls hx hb hr hml hown hts hlocks hnm hK hR hF hl
  have hown : s.vm.findClass RX4 = some m.cls := hown
  have hl : lv_has ls 5 [(0, .ref (z + 58)), (1, .int a1), (2, .int a2), (3, .int a3)] := hl
  have hL : lok z [] := lok_nil
  unfold f_X4_struckPasses at h
  generalize s.heap = H at hR ⊢
  generalize ([] : List Loc) = locs at hL ⊢
  refine lv_aload_n hx hb dX4_struckPasses_0 rfl (lv_at hl 0 rfl) ?_
  refine lv_bipush (v := 40) hx hb dX4_struckPasses_1 (by decide) ?_
  obtain ⟨q1, hq2, h⟩ := bnd h
  refine c_VW (a := 58) (ci := 4) (q := (RX4, TX4, 80)) (rest := []) (st1 := []) hx hb hml hown hts hK hR hF hL hl.1 (met_X4_body l G z H0 w (40 : Int32) q1 hq2) (congrArg Prod.fst (hF.2.1 58 (5, 0) rfl)) rfl rfl rfl hd_X4_body q1955 q1957 qs49 q104 q1958 ⟨Nat.le_of_ble_eq_true rfl, Nat.le_of_ble_eq_true rfl⟩ ⟨Nat.le_refl 0, Nat.le_refl 0⟩ rfl rfl (Nat.le_of_ble_eq_true rfl) dX4_struckPasses_3 rfl (fun H locs hR hF hL => ?_)
  refine lv_aload_n hx hb dX4_struckPasses_6 rfl (lv_at hl 0 rfl) ?_
  refine lv_iload_n hx hb dX4_struckPasses_7 rfl (lv_at hl 1 rfl) ?_
  refine lv_iload_n hx hb dX4_struckPasses_8 rfl (lv_at hl 2 rfl) ?_
  refine lv_iload_n hx hb dX4_struckPasses_9 rfl (lv_at hl 3 rfl) ?_
  obtain ⟨q3, hq4, h⟩ := bnd h
  refine c_VW (a := 58) (ci := 4) (q := (RX4, TX4, 80)) (rest := []) (st1 := [.int q3.1]) hx hb hml hown hts hK hR hF hL hl.1 (met_X4_plainPasses l G z H0 q1 a1 a2 a3 q3 hq4) (congrArg Prod.fst (hF.2.1 58 (5, 0) rfl)) rfl rfl rfl hd_X4_plainPasses q1979 q1981 qs55 q104 q1982 ⟨Nat.le_of_ble_eq_true rfl, Nat.le_of_ble_eq_true rfl⟩ ⟨Nat.le_refl 0, Nat.le_refl 0⟩ rfl rfl (Nat.le_of_ble_eq_true rfl) dX4_struckPasses_10 rfl (fun H locs hR hF hL => ?_)
  refine lv_istore (lv' := [(4, .int q3.1), (0, .ref (z + 58)), (1, .int a1), (2, .int a2), (3, .int a3)]) hx hb dX4_struckPasses_13 hl (by decide) rfl (fun ls hl => ?_)
  refine lv_iload hx hb dX4_struckPasses_15 (lv_at hl 0 rfl) ?_
  refine lv_aload_n hx hb dX4_struckPasses_17 rfl (lv_at hl 1 rfl) ?_
  refine lv_iload_n hx hb dX4_struckPasses_18 rfl (lv_at hl 2 rfl) ?_
  refine lv_iload_n hx hb dX4_struckPasses_19 rfl (lv_at hl 3 rfl) ?_
  refine lv_iload_n hx hb dX4_struckPasses_20 rfl (lv_at hl 4 rfl) ?_
  obtain ⟨q5, hq6, h⟩ := bnd h
  refine c_VW (a := 58) (ci := 4) (q := (RX4, TX4, 80)) (rest := [.int q3.1]) (st1 := [.int q5.1, .int q3.1]) hx hb hml hown hts hK hR hF hL hl.1 (met_X4_barsOf l G z H0 q3.2 a1 a2 a3 q5 hq6) (congrArg Prod.fst (hF.2.1 58 (5, 0) rfl)) rfl rfl rfl hd_X4_barsOf q1951 q1953 qs48 q104 q1954 ⟨Nat.le_of_ble_eq_true rfl, Nat.le_of_ble_eq_true rfl⟩ ⟨Nat.le_refl 0, Nat.le_refl 0⟩ rfl rfl (Nat.le_of_ble_eq_true rfl) dX4_struckPasses_21 rfl (fun H locs hR hF hL => ?_)
  refine lv_iadd hx hb dX4_struckPasses_24 ?_
  have h := Option.some.inj h
  subst h
  exact W.iret (v := q3.1 + q5.1) hx hb hr (fun t ht _ => ⟨rfl, by rw [ht]; exact hR, hF⟩) hL dX4_struckPasses_25
def f_X4_passesOf (a1 : Int32) (a2 : Int32) (a3 : Int32) (w : Wd) : Option (Int32 × Wd) :=
  if a2 = (3 : Int32) then ((f_X4_struckPasses a1 a2 a3 w).bind fun q18 => some (q18.1, q18.2)) else (if a2 = (4 : Int32) then ((f_X4_body (50 : Int32) w).bind fun q12 => (f_X4_struckPasses a1 a2 a3 q12).bind fun q14 => (f_X4_hangsOf a1 a2 (1 : Int32) q14.2).bind fun q16 => some (q14.1 - q16.1, q16.2)) else (if a2 = (6 : Int32) then ((f_X4_body (70 : Int32) w).bind fun q6 => (f_X4_barsOf a1 a2 a3 q6).bind fun q8 => (f_X4_plainPasses a1 a2 a3 q8.2).bind fun q10 => some (q8.1 ^^^ q10.1, q10.2)) else ((f_X4_plainPasses a1 a2 a3 w).bind fun q4 => some (q4.1, q4.2))))
theorem hd_X4_passesOf : yX4_passesOf.cls = RX4 ∧ yX4_passesOf.cls ≠ "java/lang/invoke/MethodHandle" ∧ yX4_passesOf.cls ≠ "java/lang/invoke/VarHandle" ∧ (parseMethodDescriptor yX4_passesOf.desc).map (fun d => d.parameters.length) = some 3 := by decide +kernel
set_option maxHeartbeats 4000000 in
set_option maxRecDepth 100000 in
theorem met_X4_passesOf (l : Launch) (G : Gw) (z : Nat) (H0 : Heap)  (w : Wd) (a1 : Int32) (a2 : Int32) (a3 : Int32) (q : Int32 × Wd) (h : f_X4_passesOf a1 a2 a3 w = some q) : Met l yX4_passesOf (ws_ yX4_passesOf cX4_passesOf 5 (some .int)) ({ frames := 7, cells := 0, slots := 0, locals := 159 } : Room) (pcW G z H0 w [.ref (z + 58), .int a1, .int a2, .int a3]) (qW G z H0 q.2 (some (.int q.1))) 0 0 (fun q => z ≤ q) := by
  refine mW (by decide) (Nat.le_of_ble_eq_true rfl) ?_
  intro p e s m below meth c ls hx hb hr hml hown hts hlocks hnm hK hR hF hl
  have hown : s.vm.findClass RX4 = some m.cls := hown
  have hl : lv_has ls 5 [(0, .ref (z + 58)), (1, .int a1), (2, .int a2), (3, .int a3)] := hl
  have hL : lok z [] := lok_nil
  unfold f_X4_passesOf at h
  generalize s.heap = H at hR ⊢
  generalize ([] : List Loc) = locs at hL ⊢
  refine lv_iload_n hx hb dX4_passesOf_0 rfl (lv_at hl 2 rfl) ?_
  refine lv_iconst (v := 3) hx hb dX4_passesOf_1 (by decide) ?_
  refine lv_icmp_ne (tgt := 13) hx hb dX4_passesOf_2 (by decide) (fun c1 => ?_) (fun c1 => ?_)
  · rw [if_neg c1] at h
    refine lv_iload_n hx hb dX4_passesOf_13 rfl (lv_at hl 2 rfl) ?_
    refine lv_iconst (v := 4) hx hb dX4_passesOf_14 (by decide) ?_
    refine lv_icmp_ne (tgt := 44) hx hb dX4_passesOf_15 (by decide) (fun c2 => ?_) (fun c2 => ?_)
    · rw [if_neg c2] at h
      refine lv_iload_n hx hb dX4_passesOf_44 rfl (lv_at hl 2 rfl) ?_
      refine lv_bipush (v := 6) hx hb dX4_passesOf_45 (by decide) ?_
      refine lv_icmp_ne (tgt := 76) hx hb dX4_passesOf_47 (by decide) (fun c3 => ?_) (fun c3 => ?_)
      · rw [if_neg c3] at h
        refine lv_aload_n hx hb dX4_passesOf_76 rfl (lv_at hl 0 rfl) ?_
        refine lv_iload_n hx hb dX4_passesOf_77 rfl (lv_at hl 1 rfl) ?_
        refine lv_iload_n hx hb dX4_passesOf_78 rfl (lv_at hl 2 rfl) ?_
        refine lv_iload_n hx hb dX4_passesOf_79 rfl (lv_at hl 3 rfl) ?_
        obtain ⟨q4, hq5, h⟩ := bnd h
        refine c_VW (a := 58) (ci := 4) (q := (RX4, TX4, 80)) (rest := []) (st1 := [.int q4.1]) hx hb hml hown hts hK hR hF hL hl.1 (met_X4_plainPasses l G z H0 w a1 a2 a3 q4 hq5) (congrArg Prod.fst (hF.2.1 58 (5, 0) rfl)) rfl rfl rfl hd_X4_plainPasses q1979 q1981 qs55 q104 q1982 ⟨Nat.le_of_ble_eq_true rfl, Nat.le_of_ble_eq_true rfl⟩ ⟨Nat.le_refl 0, Nat.le_refl 0⟩ rfl rfl (Nat.le_of_ble_eq_true rfl) dX4_passesOf_80 rfl (fun H locs hR hF hL => ?_)
        have h := Option.some.inj h
        subst h
        exact W.iret (v := q4.1) hx hb hr (fun t ht _ => ⟨rfl, by rw [ht]; exact hR, hF⟩) hL dX4_passesOf_83
      · rw [if_pos c3] at h
        refine lv_aload_n hx hb dX4_passesOf_50 rfl (lv_at hl 0 rfl) ?_
        refine lv_bipush (v := 70) hx hb dX4_passesOf_51 (by decide) ?_
        obtain ⟨q6, hq7, h⟩ := bnd h
        refine c_VW (a := 58) (ci := 4) (q := (RX4, TX4, 80)) (rest := []) (st1 := []) hx hb hml hown hts hK hR hF hL hl.1 (met_X4_body l G z H0 w (70 : Int32) q6 hq7) (congrArg Prod.fst (hF.2.1 58 (5, 0) rfl)) rfl rfl rfl hd_X4_body q1955 q1957 qs49 q104 q1958 ⟨Nat.le_of_ble_eq_true rfl, Nat.le_of_ble_eq_true rfl⟩ ⟨Nat.le_refl 0, Nat.le_refl 0⟩ rfl rfl (Nat.le_of_ble_eq_true rfl) dX4_passesOf_53 rfl (fun H locs hR hF hL => ?_)
        refine lv_aload_n hx hb dX4_passesOf_56 rfl (lv_at hl 0 rfl) ?_
        refine lv_iload_n hx hb dX4_passesOf_57 rfl (lv_at hl 1 rfl) ?_
        refine lv_iload_n hx hb dX4_passesOf_58 rfl (lv_at hl 2 rfl) ?_
        refine lv_iload_n hx hb dX4_passesOf_59 rfl (lv_at hl 3 rfl) ?_
        obtain ⟨q8, hq9, h⟩ := bnd h
        refine c_VW (a := 58) (ci := 4) (q := (RX4, TX4, 80)) (rest := []) (st1 := [.int q8.1]) hx hb hml hown hts hK hR hF hL hl.1 (met_X4_barsOf l G z H0 q6 a1 a2 a3 q8 hq9) (congrArg Prod.fst (hF.2.1 58 (5, 0) rfl)) rfl rfl rfl hd_X4_barsOf q1951 q1953 qs48 q104 q1954 ⟨Nat.le_of_ble_eq_true rfl, Nat.le_of_ble_eq_true rfl⟩ ⟨Nat.le_refl 0, Nat.le_refl 0⟩ rfl rfl (Nat.le_of_ble_eq_true rfl) dX4_passesOf_60 rfl (fun H locs hR hF hL => ?_)
        refine lv_istore (lv' := [(4, .int q8.1), (0, .ref (z + 58)), (1, .int a1), (2, .int a2), (3, .int a3)]) hx hb dX4_passesOf_63 hl (by decide) rfl (fun ls hl => ?_)
        refine lv_iload hx hb dX4_passesOf_65 (lv_at hl 0 rfl) ?_
        refine lv_aload_n hx hb dX4_passesOf_67 rfl (lv_at hl 1 rfl) ?_
        refine lv_iload_n hx hb dX4_passesOf_68 rfl (lv_at hl 2 rfl) ?_
        refine lv_iload_n hx hb dX4_passesOf_69 rfl (lv_at hl 3 rfl) ?_
        refine lv_iload_n hx hb dX4_passesOf_70 rfl (lv_at hl 4 rfl) ?_
        obtain ⟨q10, hq11, h⟩ := bnd h
        refine c_VW (a := 58) (ci := 4) (q := (RX4, TX4, 80)) (rest := [.int q8.1]) (st1 := [.int q10.1, .int q8.1]) hx hb hml hown hts hK hR hF hL hl.1 (met_X4_plainPasses l G z H0 q8.2 a1 a2 a3 q10 hq11) (congrArg Prod.fst (hF.2.1 58 (5, 0) rfl)) rfl rfl rfl hd_X4_plainPasses q1979 q1981 qs55 q104 q1982 ⟨Nat.le_of_ble_eq_true rfl, Nat.le_of_ble_eq_true rfl⟩ ⟨Nat.le_refl 0, Nat.le_refl 0⟩ rfl rfl (Nat.le_of_ble_eq_true rfl) dX4_passesOf_71 rfl (fun H locs hR hF hL => ?_)
        refine lv_ixor hx hb dX4_passesOf_74 ?_
        have h := Option.some.inj h
        subst h
        exact W.iret (v := q8.1 ^^^ q10.1) hx hb hr (fun t ht _ => ⟨rfl, by rw [ht]; exact hR, hF⟩) hL dX4_passesOf_75
    · rw [if_pos c2] at h
      refine lv_aload_n hx hb dX4_passesOf_18 rfl (lv_at hl 0 rfl) ?_
      refine lv_bipush (v := 50) hx hb dX4_passesOf_19 (by decide) ?_
      obtain ⟨q12, hq13, h⟩ := bnd h
      refine c_VW (a := 58) (ci := 4) (q := (RX4, TX4, 80)) (rest := []) (st1 := []) hx hb hml hown hts hK hR hF hL hl.1 (met_X4_body l G z H0 w (50 : Int32) q12 hq13) (congrArg Prod.fst (hF.2.1 58 (5, 0) rfl)) rfl rfl rfl hd_X4_body q1955 q1957 qs49 q104 q1958 ⟨Nat.le_of_ble_eq_true rfl, Nat.le_of_ble_eq_true rfl⟩ ⟨Nat.le_refl 0, Nat.le_refl 0⟩ rfl rfl (Nat.le_of_ble_eq_true rfl) dX4_passesOf_21 rfl (fun H locs hR hF hL => ?_)
      refine lv_aload_n hx hb dX4_passesOf_24 rfl (lv_at hl 0 rfl) ?_
      refine lv_iload_n hx hb dX4_passesOf_25 rfl (lv_at hl 1 rfl) ?_
      refine lv_iload_n hx hb dX4_passesOf_26 rfl (lv_at hl 2 rfl) ?_
      refine lv_iload_n hx hb dX4_passesOf_27 rfl (lv_at hl 3 rfl) ?_
      obtain ⟨q14, hq15, h⟩ := bnd h
      refine c_VW (a := 58) (ci := 4) (q := (RX4, TX4, 80)) (rest := []) (st1 := [.int q14.1]) hx hb hml hown hts hK hR hF hL hl.1 (met_X4_struckPasses l G z H0 q12 a1 a2 a3 q14 hq15) (congrArg Prod.fst (hF.2.1 58 (5, 0) rfl)) rfl rfl rfl hd_X4_struckPasses q1975 q1977 qs54 q104 q1978 ⟨Nat.le_of_ble_eq_true rfl, Nat.le_of_ble_eq_true rfl⟩ ⟨Nat.le_refl 0, Nat.le_refl 0⟩ rfl rfl (Nat.le_of_ble_eq_true rfl) dX4_passesOf_28 rfl (fun H locs hR hF hL => ?_)
      refine lv_istore (lv' := [(4, .int q14.1), (0, .ref (z + 58)), (1, .int a1), (2, .int a2), (3, .int a3)]) hx hb dX4_passesOf_31 hl (by decide) rfl (fun ls hl => ?_)
      refine lv_iload hx hb dX4_passesOf_33 (lv_at hl 0 rfl) ?_
      refine lv_aload_n hx hb dX4_passesOf_35 rfl (lv_at hl 1 rfl) ?_
      refine lv_iload_n hx hb dX4_passesOf_36 rfl (lv_at hl 2 rfl) ?_
      refine lv_iload_n hx hb dX4_passesOf_37 rfl (lv_at hl 3 rfl) ?_
      refine lv_iconst (v := 1) hx hb dX4_passesOf_38 (by decide) ?_
      obtain ⟨q16, hq17, h⟩ := bnd h
      refine c_VW (a := 58) (ci := 4) (q := (RX4, TX4, 80)) (rest := [.int q14.1]) (st1 := [.int q16.1, .int q14.1]) hx hb hml hown hts hK hR hF hL hl.1 (met_X4_hangsOf l G z H0 q14.2 a1 a2 (1 : Int32) q16 hq17) (congrArg Prod.fst (hF.2.1 58 (5, 0) rfl)) rfl rfl rfl hd_X4_hangsOf q1963 q1965 qs51 q104 q1966 ⟨Nat.le_of_ble_eq_true rfl, Nat.le_of_ble_eq_true rfl⟩ ⟨Nat.le_refl 0, Nat.le_refl 0⟩ rfl rfl (Nat.le_of_ble_eq_true rfl) dX4_passesOf_39 rfl (fun H locs hR hF hL => ?_)
      refine lv_isub hx hb dX4_passesOf_42 ?_
      have h := Option.some.inj h
      subst h
      exact W.iret (v := q14.1 - q16.1) hx hb hr (fun t ht _ => ⟨rfl, by rw [ht]; exact hR, hF⟩) hL dX4_passesOf_43
  · rw [if_pos c1] at h
    refine lv_aload_n hx hb dX4_passesOf_5 rfl (lv_at hl 0 rfl) ?_
    refine lv_iload_n hx hb dX4_passesOf_6 rfl (lv_at hl 1 rfl) ?_
    refine lv_iload_n hx hb dX4_passesOf_7 rfl (lv_at hl 2 rfl) ?_
    refine lv_iload_n hx hb dX4_passesOf_8 rfl (lv_at hl 3 rfl) ?_
    obtain ⟨q18, hq19, h⟩ := bnd h
    refine c_VW (a := 58) (ci := 4) (q := (RX4, TX4, 80)) (rest := []) (st1 := [.int q18.1]) hx hb hml hown hts hK hR hF hL hl.1 (met_X4_struckPasses l G z H0 w a1 a2 a3 q18 hq19) (congrArg Prod.fst (hF.2.1 58 (5, 0) rfl)) rfl rfl rfl hd_X4_struckPasses q1975 q1977 qs54 q104 q1978 ⟨Nat.le_of_ble_eq_true rfl, Nat.le_of_ble_eq_true rfl⟩ ⟨Nat.le_refl 0, Nat.le_refl 0⟩ rfl rfl (Nat.le_of_ble_eq_true rfl) dX4_passesOf_9 rfl (fun H locs hR hF hL => ?_)
    have h := Option.some.inj h
    subst h
    exact W.iret (v := q18.1) hx hb hr (fun t ht _ => ⟨rfl, by rw [ht]; exact hR, hF⟩) hL dX4_passesOf_12
def f_X4_act (a1 : Int32) (a2 : Int32) (a3 : Int32) (w : Wd) : Option (Int32 × Wd) :=
  if (f_X4_isCard a1 (sI w 58 18 (0 : Int32))) then (if (f_X4_in a2 (0 : Int32) (2 : Int32) (sI w 58 18 (0 : Int32))) then ((f_X4_kindOf a1 (sI w 58 18 (0 : Int32))).bind fun q3 => if a2 = 0 then ((f_X4_barsOf a1 q3 a3 (sI w 58 18 (0 : Int32))).bind fun q11 => some (q11.1, q11.2)) else (if a2 = (1 : Int32) then ((f_X4_hangsOf a1 q3 a3 (sI w 58 18 (0 : Int32))).bind fun q9 => some (q9.1, q9.2)) else ((f_X4_passesOf a1 q3 a3 (sI w 58 18 (0 : Int32))).bind fun q7 => some (q7.1, q7.2)))) else (some ((0 : Int32), sI w 58 18 (0 : Int32)))) else (some ((0 : Int32), sI w 58 18 (0 : Int32)))
theorem hd_X4_act : yX4_act.cls = RX4 ∧ yX4_act.cls ≠ "java/lang/invoke/MethodHandle" ∧ yX4_act.cls ≠ "java/lang/invoke/VarHandle" ∧ (parseMethodDescriptor yX4_act.desc).map (fun d => d.parameters.length) = some 3 := by decide +kernel
set_option maxHeartbeats 4000000 in
set_option maxRecDepth 100000 in
theorem met_X4_act (l : Launch) (G : Gw) (z : Nat) (H0 : Heap)  (w : Wd) (a1 : Int32) (a2 : Int32) (a3 : Int32) (q : Int32 × Wd) (h : f_X4_act a1 a2 a3 w = some q) : Met l yX4_act (ws_ yX4_act cX4_act 5 (some .int)) ({ frames := 8, cells := 0, slots := 0, locals := 183 } : Room) (pcW G z H0 w [.ref (z + 58), .int a1, .int a2, .int a3]) (qW G z H0 q.2 (some (.int q.1))) 0 0 (fun q => z ≤ q) := by
  refine mW (by decide) (Nat.le_of_ble_eq_true rfl) ?_
  intro p e s m below meth c ls hx hb hr hml hown hts hlocks hnm hK hR hF hl
  have hown : s.vm.findClass RX4 = some m.cls := hown
  have hl : lv_has ls 5 [(0, .ref (z + 58)), (1, .int a1), (2, .int a2), (3, .int a3)] := hl
  have hL : lok z [] := lok_nil
  unfold f_X4_act at h
  generalize s.heap = H at hR ⊢
  generalize ([] : List Loc) = locs at hL ⊢
  refine lv_aload_n hx hb dX4_act_0 rfl (lv_at hl 0 rfl) ?_
  refine lv_iconst (v := 0) hx hb dX4_act_1 (by decide) ?_
  refine r_putI (C := RX4) (T := TX4) (N := 80) hx hb hts ok4 hown hK hR hL (congrArg Prod.fst (hF.2.1 58 (5, 0) rfl)) rfl 18 (by decide) (hts _ q1651) (fun _ h9 => h9) (Or.inl rfl) rfl rfl rfl dX4_act_2 (fun H locs hR hL => ?_)
  have hF := hF.sI 58 18 (0 : Int32)
  refine lv_aload_n hx hb dX4_act_5 rfl (lv_at hl 0 rfl) ?_
  refine lv_iload_n hx hb dX4_act_6 rfl (lv_at hl 1 rfl) ?_
  refine c_VP (a := 58) (ci := 4) (q := (RX4, TX4, 80)) (rest := []) (st1 := [.int (bI (f_X4_isCard a1 (sI w 58 18 (0 : Int32))))]) hx hb hml hown hts hK hR hF hL hl.1 (met_X4_isCard l G z H0 (sI w 58 18 (0 : Int32)) a1 _ rfl) (congrArg Prod.fst (hF.2.1 58 (5, 0) rfl)) rfl rfl rfl hd_X4_isCard q1935 q1937 qs46 q104 q1938 ⟨Nat.le_of_ble_eq_true rfl, Nat.le_of_ble_eq_true rfl⟩ ⟨Nat.le_refl 0, Nat.le_refl 0⟩ rfl rfl (Nat.le_of_ble_eq_true rfl) dX4_act_7 rfl (fun locs hL => ?_)
  refine lv_if_eq (tgt := 23) hx hb dX4_act_10 (by decide) (fun c1 => ?_) (fun c1 => ?_)
  · rw [if_neg (bI_n c1)] at h
    refine lv_iconst (v := 0) hx hb dX4_act_23 (by decide) ?_
    have h := Option.some.inj h
    subst h
    exact W.iret (v := (0 : Int32)) hx hb hr (fun t ht _ => ⟨rfl, by rw [ht]; exact hR, hF⟩) hL dX4_act_24
  · rw [if_pos (bI_p c1)] at h
    refine lv_aload_n hx hb dX4_act_13 rfl (lv_at hl 0 rfl) ?_
    refine lv_iload_n hx hb dX4_act_14 rfl (lv_at hl 2 rfl) ?_
    refine lv_iconst (v := 0) hx hb dX4_act_15 (by decide) ?_
    refine lv_iconst (v := 2) hx hb dX4_act_16 (by decide) ?_
    refine c_VP (a := 58) (ci := 4) (q := (RX4, TX4, 80)) (rest := []) (st1 := [.int (bI (f_X4_in a2 (0 : Int32) (2 : Int32) (sI w 58 18 (0 : Int32))))]) hx hb hml hown hts hK hR hF hL hl.1 (met_X4_in l G z H0 (sI w 58 18 (0 : Int32)) a2 (0 : Int32) (2 : Int32) _ rfl) (congrArg Prod.fst (hF.2.1 58 (5, 0) rfl)) rfl rfl rfl hd_X4_in q1878 q1880 qs41 q104 q1881 ⟨Nat.le_of_ble_eq_true rfl, Nat.le_of_ble_eq_true rfl⟩ ⟨Nat.le_refl 0, Nat.le_refl 0⟩ rfl rfl (Nat.le_of_ble_eq_true rfl) dX4_act_17 rfl (fun locs hL => ?_)
    refine lv_if_ne (tgt := 25) hx hb dX4_act_20 (by decide) (fun c2 => ?_) (fun c2 => ?_)
    · rw [if_pos (bI_p c2)] at h
      refine lv_aload_n hx hb dX4_act_25 rfl (lv_at hl 0 rfl) ?_
      refine lv_iload_n hx hb dX4_act_26 rfl (lv_at hl 1 rfl) ?_
      obtain ⟨q3, hq4, h⟩ := bnd h
      refine c_VP (a := 58) (ci := 4) (q := (RX4, TX4, 80)) (rest := []) (st1 := [.int q3]) hx hb hml hown hts hK hR hF hL hl.1 (met_X4_kindOf l G z H0 (sI w 58 18 (0 : Int32)) a1 q3 hq4) (congrArg Prod.fst (hF.2.1 58 (5, 0) rfl)) rfl rfl rfl hd_X4_kindOf q1939 q1941 qs47 q104 q1942 ⟨Nat.le_of_ble_eq_true rfl, Nat.le_of_ble_eq_true rfl⟩ ⟨Nat.le_refl 0, Nat.le_refl 0⟩ rfl rfl (Nat.le_of_ble_eq_true rfl) dX4_act_27 rfl (fun locs hL => ?_)
      refine lv_istore (lv' := [(4, .int q3), (0, .ref (z + 58)), (1, .int a1), (2, .int a2), (3, .int a3)]) hx hb dX4_act_30 hl (by decide) rfl (fun ls hl => ?_)
      refine lv_iload_n hx hb dX4_act_32 rfl (lv_at hl 3 rfl) ?_
      refine lv_if_ne (tgt := 47) hx hb dX4_act_33 (by decide) (fun c5 => ?_) (fun c5 => ?_)
      · rw [if_neg c5] at h
        refine lv_iload_n hx hb dX4_act_47 rfl (lv_at hl 3 rfl) ?_
        refine lv_iconst (v := 1) hx hb dX4_act_48 (by decide) ?_
        refine lv_icmp_ne (tgt := 63) hx hb dX4_act_49 (by decide) (fun c6 => ?_) (fun c6 => ?_)
        · rw [if_neg c6] at h
          refine lv_aload_n hx hb dX4_act_63 rfl (lv_at hl 1 rfl) ?_
          refine lv_iload_n hx hb dX4_act_64 rfl (lv_at hl 2 rfl) ?_
          refine lv_iload hx hb dX4_act_65 (lv_at hl 0 rfl) ?_
          refine lv_iload_n hx hb dX4_act_67 rfl (lv_at hl 4 rfl) ?_
          obtain ⟨q7, hq8, h⟩ := bnd h
          refine c_VW (a := 58) (ci := 4) (q := (RX4, TX4, 80)) (rest := []) (st1 := [.int q7.1]) hx hb hml hown hts hK hR hF hL hl.1 (met_X4_passesOf l G z H0 (sI w 58 18 (0 : Int32)) a1 q3 a3 q7 hq8) (congrArg Prod.fst (hF.2.1 58 (5, 0) rfl)) rfl rfl rfl hd_X4_passesOf q1971 q1973 qs53 q104 q1974 ⟨Nat.le_of_ble_eq_true rfl, Nat.le_of_ble_eq_true rfl⟩ ⟨Nat.le_refl 0, Nat.le_refl 0⟩ rfl rfl (Nat.le_of_ble_eq_true rfl) dX4_act_68 rfl (fun H locs hR hF hL => ?_)
          have h := Option.some.inj h
          subst h
          exact W.iret (v := q7.1) hx hb hr (fun t ht _ => ⟨rfl, by rw [ht]; exact hR, hF⟩) hL dX4_act_71
        · rw [if_pos c6] at h
          refine lv_aload_n hx hb dX4_act_52 rfl (lv_at hl 1 rfl) ?_
          refine lv_iload_n hx hb dX4_act_53 rfl (lv_at hl 2 rfl) ?_
          refine lv_iload hx hb dX4_act_54 (lv_at hl 0 rfl) ?_
          refine lv_iload_n hx hb dX4_act_56 rfl (lv_at hl 4 rfl) ?_
          obtain ⟨q9, hq10, h⟩ := bnd h
          refine c_VW (a := 58) (ci := 4) (q := (RX4, TX4, 80)) (rest := []) (st1 := [.int q9.1]) hx hb hml hown hts hK hR hF hL hl.1 (met_X4_hangsOf l G z H0 (sI w 58 18 (0 : Int32)) a1 q3 a3 q9 hq10) (congrArg Prod.fst (hF.2.1 58 (5, 0) rfl)) rfl rfl rfl hd_X4_hangsOf q1963 q1965 qs51 q104 q1966 ⟨Nat.le_of_ble_eq_true rfl, Nat.le_of_ble_eq_true rfl⟩ ⟨Nat.le_refl 0, Nat.le_refl 0⟩ rfl rfl (Nat.le_of_ble_eq_true rfl) dX4_act_57 rfl (fun H locs hR hF hL => ?_)
          refine lv_goto (tgt := 71) hx hb dX4_act_60 (by decide) ?_
          have h := Option.some.inj h
          subst h
          exact W.iret (v := q9.1) hx hb hr (fun t ht _ => ⟨rfl, by rw [ht]; exact hR, hF⟩) hL dX4_act_71
      · rw [if_pos c5] at h
        refine lv_aload_n hx hb dX4_act_36 rfl (lv_at hl 1 rfl) ?_
        refine lv_iload_n hx hb dX4_act_37 rfl (lv_at hl 2 rfl) ?_
        refine lv_iload hx hb dX4_act_38 (lv_at hl 0 rfl) ?_
        refine lv_iload_n hx hb dX4_act_40 rfl (lv_at hl 4 rfl) ?_
        obtain ⟨q11, hq12, h⟩ := bnd h
        refine c_VW (a := 58) (ci := 4) (q := (RX4, TX4, 80)) (rest := []) (st1 := [.int q11.1]) hx hb hml hown hts hK hR hF hL hl.1 (met_X4_barsOf l G z H0 (sI w 58 18 (0 : Int32)) a1 q3 a3 q11 hq12) (congrArg Prod.fst (hF.2.1 58 (5, 0) rfl)) rfl rfl rfl hd_X4_barsOf q1951 q1953 qs48 q104 q1954 ⟨Nat.le_of_ble_eq_true rfl, Nat.le_of_ble_eq_true rfl⟩ ⟨Nat.le_refl 0, Nat.le_refl 0⟩ rfl rfl (Nat.le_of_ble_eq_true rfl) dX4_act_41 rfl (fun H locs hR hF hL => ?_)
        refine lv_goto (tgt := 71) hx hb dX4_act_44 (by decide) ?_
        have h := Option.some.inj h
        subst h
        exact W.iret (v := q11.1) hx hb hr (fun t ht _ => ⟨rfl, by rw [ht]; exact hR, hF⟩) hL dX4_act_71
    · rw [if_neg (bI_n c2)] at h
      refine lv_iconst (v := 0) hx hb dX4_act_23 (by decide) ?_
      have h := Option.some.inj h
      subst h
      exact W.iret (v := (0 : Int32)) hx hb hr (fun t ht _ => ⟨rfl, by rw [ht]; exact hR, hF⟩) hL dX4_act_24
def f_X4_trace (a1 : Int32) (w : Wd) : Option (Int32) :=
  if (f_X4_in a1 (0 : Int32) (19 : Int32) w) then (if (wI w 58 18) ≤ a1 then (some (-1 : Int32)) else (if inb a1 20 then (some (wI w 76 a1.toNatClampNeg)) else none)) else (some (-1 : Int32))
theorem hd_X4_trace : yX4_trace.cls = RX4 ∧ yX4_trace.cls ≠ "java/lang/invoke/MethodHandle" ∧ yX4_trace.cls ≠ "java/lang/invoke/VarHandle" ∧ (parseMethodDescriptor yX4_trace.desc).map (fun d => d.parameters.length) = some 1 := by decide +kernel
set_option maxHeartbeats 4000000 in
set_option maxRecDepth 100000 in
theorem met_X4_trace (l : Launch) (G : Gw) (z : Nat) (H0 : Heap)  (w : Wd) (a1 : Int32) (q : Int32) (h : f_X4_trace a1 w = some q) : Met l yX4_trace (ws_ yX4_trace cX4_trace 2 (some .int)) ({ frames := 1, cells := 0, slots := 0, locals := 23 } : Room) (pcW G z H0 w [.ref (z + 58), .int a1]) (qP (some (.int q))) 0 0 (fun q => z ≤ q) := by
  refine mW (by decide) (Nat.le_of_ble_eq_true rfl) ?_
  intro p e s m below meth c ls hx hb hr hml hown hts hlocks hnm hK hR hF hl
  have hown : s.vm.findClass RX4 = some m.cls := hown
  have hl : lv_has ls 2 [(0, .ref (z + 58)), (1, .int a1)] := hl
  have hL : lok z [] := lok_nil
  unfold f_X4_trace at h
  generalize ([] : List Loc) = locs at hL ⊢
  refine lv_aload_n hx hb dX4_trace_0 rfl (lv_at hl 0 rfl) ?_
  refine lv_iload_n hx hb dX4_trace_1 rfl (lv_at hl 1 rfl) ?_
  refine lv_iconst (v := 0) hx hb dX4_trace_2 (by decide) ?_
  refine lv_bipush (v := 19) hx hb dX4_trace_3 (by decide) ?_
  refine c_VP (a := 58) (ci := 4) (q := (RX4, TX4, 80)) (rest := []) (st1 := [.int (bI (f_X4_in a1 (0 : Int32) (19 : Int32) w))]) hx hb hml hown hts hK hR hF hL hl.1 (met_X4_in l G z H0 w a1 (0 : Int32) (19 : Int32) _ rfl) (congrArg Prod.fst (hF.2.1 58 (5, 0) rfl)) rfl rfl rfl hd_X4_in q1878 q1880 qs41 q104 q1881 ⟨Nat.le_of_ble_eq_true rfl, Nat.le_of_ble_eq_true rfl⟩ ⟨Nat.le_refl 0, Nat.le_refl 0⟩ rfl rfl (Nat.le_of_ble_eq_true rfl) dX4_trace_5 rfl (fun locs hL => ?_)
  refine lv_if_eq (tgt := 28) hx hb dX4_trace_8 (by decide) (fun c1 => ?_) (fun c1 => ?_)
  · rw [if_neg (bI_n c1)] at h
    refine lv_iconst (v := -1) hx hb dX4_trace_28 (by decide) ?_
    have h := Option.some.inj h
    subst h
    exact W.iret (v := (-1 : Int32)) hx hb hr (fun t ht _ => ⟨rfl, ht⟩) hL dX4_trace_29
  · rw [if_pos (bI_p c1)] at h
    refine lv_iload_n hx hb dX4_trace_11 rfl (lv_at hl 1 rfl) ?_
    refine lv_aload_n hx hb dX4_trace_12 rfl (lv_at hl 0 rfl) ?_
    refine r_get (C := RX4) (T := TX4) (N := 80) hx hb hts ok4 hown hK hR (congrArg Prod.fst (hF.2.1 58 (5, 0) rfl)) rfl 18 (by decide) (hts _ q1651) (fun _ h9 => h9) (v := .int (wI w 58 18)) rfl dX4_trace_13 ?_
    refine lv_icmp_ge (tgt := 28) hx hb dX4_trace_16 (by decide) (fun c2 => ?_) (fun c2 => ?_)
    · rw [if_pos c2] at h
      refine lv_iconst (v := -1) hx hb dX4_trace_28 (by decide) ?_
      have h := Option.some.inj h
      subst h
      exact W.iret (v := (-1 : Int32)) hx hb hr (fun t ht _ => ⟨rfl, ht⟩) hL dX4_trace_29
    · rw [if_neg c2] at h
      refine lv_aload_n hx hb dX4_trace_19 rfl (lv_at hl 0 rfl) ?_
      refine r_get (C := RX4) (T := TX4) (N := 80) hx hb hts ok4 hown hK hR (congrArg Prod.fst (hF.2.1 58 (5, 0) rfl)) rfl 23 (by decide) (hts _ q1656) (fun _ h9 => h9) (v := .ref (z + 76)) (fv_fix hF rfl rfl) dX4_trace_20 ?_
      refine lv_iload_n hx hb dX4_trace_23 rfl (lv_at hl 1 rfl) ?_
      obtain ⟨hb3, h⟩ := grd h
      refine r_iald (v := wI w 76 a1.toNatClampNeg) hx hb hK hR (hF.2.1 76 (200, 20) rfl) hb3 rfl dX4_trace_24 ?_
      refine lv_goto (tgt := 29) hx hb dX4_trace_25 (by decide) ?_
      have h := Option.some.inj h
      subst h
      exact W.iret (v := wI w 76 a1.toNatClampNeg) hx hb hr (fun t ht _ => ⟨rfl, ht⟩) hL dX4_trace_29
def f_X4_taken_J55 (a1 : Int32) (a2 : Int32) (j3 : Int32) (w : Wd) : Option (Int32) :=
  if a2 = (3 : Int32) then (if j3 = (4 : Int32) then (some j3) else (some (-12 : Int32))) else (some (-12 : Int32))
def f_X4_taken (a1 : Int32) (a2 : Int32) (w : Wd) : Option (Int32) :=
  if (f_X4_in a2 (0 : Int32) (6 : Int32) w) then (if (f_X4_isCard a1 w) then ((f_X4_kindOf a1 w).bind fun q3 => if a2 = 0 then (some q3) else (if q3 = a2 then (some q3) else (if a2 = (1 : Int32) then (if (f_X4_in q3 (2 : Int32) (4 : Int32) w) then (some q3) else (f_X4_taken_J55 a1 a2 q3 w)) else (f_X4_taken_J55 a1 a2 q3 w)))) else (some (-11 : Int32))) else (some (-2 : Int32))
theorem hd_X4_taken : yX4_taken.cls = RX4 ∧ yX4_taken.cls ≠ "java/lang/invoke/MethodHandle" ∧ yX4_taken.cls ≠ "java/lang/invoke/VarHandle" ∧ (parseMethodDescriptor yX4_taken.desc).map (fun d => d.parameters.length) = some 2 := by decide +kernel
set_option maxHeartbeats 4000000 in
set_option maxRecDepth 100000 in
theorem met_X4_taken (l : Launch) (G : Gw) (z : Nat) (H0 : Heap)  (w : Wd) (a1 : Int32) (a2 : Int32) (q : Int32) (h : f_X4_taken a1 a2 w = some q) : Met l yX4_taken (ws_ yX4_taken cX4_taken 4 (some .int)) ({ frames := 2, cells := 0, slots := 0, locals := 44 } : Room) (pcW G z H0 w [.ref (z + 58), .int a1, .int a2]) (qP (some (.int q))) 0 0 (fun q => z ≤ q) := by
  refine mW (by decide) (Nat.le_of_ble_eq_true rfl) ?_
  intro p e s m below meth c ls hx hb hr hml hown hts hlocks hnm hK hR hF hl
  have hown : s.vm.findClass RX4 = some m.cls := hown
  have hl : lv_has ls 4 [(0, .ref (z + 58)), (1, .int a1), (2, .int a2)] := hl
  have hL : lok z [] := lok_nil
  unfold f_X4_taken at h
  generalize ([] : List Loc) = locs at hL ⊢
  have hJ55 : ∀ (j3 : Int32) (w : Wd), f_X4_taken_J55 a1 a2 j3 w = some q → Rp G z H0 w s.heap → Fix w → ∀ (locs : List Loc) (ls : Array Slot), lok z locs → lv_has ls 4 [(3, .int j3), (2, .int a2)] → W p l e ({ frames := 2, cells := 0, slots := 0, locals := 44 } : Room) s m ([.ref (z + 58), .int a1, .int a2] : List Value).toArray below meth c s.heap locs 0 0 (MQ below (qP (some (.int q))) ([.ref (z + 58), .int a1, .int a2] : List Value).toArray s 0 0 (fun q => z ≤ q)) (F0 m 55 ls []) := by
    intro j3 w h hR hF locs ls hL hl
    unfold f_X4_taken_J55 at h
    refine lv_iload_n hx hb dX4_taken_55 rfl (lv_at hl 1 rfl) ?_
    refine lv_iconst (v := 3) hx hb dX4_taken_56 (by decide) ?_
    refine lv_icmp_ne (tgt := 69) hx hb dX4_taken_57 (by decide) (fun c8 => ?_) (fun c8 => ?_)
    · rw [if_neg c8] at h
      refine lv_bipush (v := -12) hx hb dX4_taken_69 (by decide) ?_
      have h := Option.some.inj h
      subst h
      exact W.iret (v := (-12 : Int32)) hx hb hr (fun t ht _ => ⟨rfl, ht⟩) hL dX4_taken_71
    · rw [if_pos c8] at h
      refine lv_iload_n hx hb dX4_taken_60 rfl (lv_at hl 0 rfl) ?_
      refine lv_iconst (v := 4) hx hb dX4_taken_61 (by decide) ?_
      refine lv_icmp_ne (tgt := 69) hx hb dX4_taken_62 (by decide) (fun c9 => ?_) (fun c9 => ?_)
      · rw [if_neg c9] at h
        refine lv_bipush (v := -12) hx hb dX4_taken_69 (by decide) ?_
        have h := Option.some.inj h
        subst h
        exact W.iret (v := (-12 : Int32)) hx hb hr (fun t ht _ => ⟨rfl, ht⟩) hL dX4_taken_71
      · rw [if_pos c9] at h
        refine lv_iload_n hx hb dX4_taken_65 rfl (lv_at hl 0 rfl) ?_
        refine lv_goto (tgt := 71) hx hb dX4_taken_66 (by decide) ?_
        have h := Option.some.inj h
        subst h
        exact W.iret (v := j3) hx hb hr (fun t ht _ => ⟨rfl, ht⟩) hL dX4_taken_71
  refine lv_aload_n hx hb dX4_taken_0 rfl (lv_at hl 0 rfl) ?_
  refine lv_iload_n hx hb dX4_taken_1 rfl (lv_at hl 2 rfl) ?_
  refine lv_iconst (v := 0) hx hb dX4_taken_2 (by decide) ?_
  refine lv_bipush (v := 6) hx hb dX4_taken_3 (by decide) ?_
  refine c_VP (a := 58) (ci := 4) (q := (RX4, TX4, 80)) (rest := []) (st1 := [.int (bI (f_X4_in a2 (0 : Int32) (6 : Int32) w))]) hx hb hml hown hts hK hR hF hL hl.1 (met_X4_in l G z H0 w a2 (0 : Int32) (6 : Int32) _ rfl) (congrArg Prod.fst (hF.2.1 58 (5, 0) rfl)) rfl rfl rfl hd_X4_in q1878 q1880 qs41 q104 q1881 ⟨Nat.le_of_ble_eq_true rfl, Nat.le_of_ble_eq_true rfl⟩ ⟨Nat.le_refl 0, Nat.le_refl 0⟩ rfl rfl (Nat.le_of_ble_eq_true rfl) dX4_taken_5 rfl (fun locs hL => ?_)
  refine lv_if_ne (tgt := 14) hx hb dX4_taken_8 (by decide) (fun c1 => ?_) (fun c1 => ?_)
  · rw [if_pos (bI_p c1)] at h
    refine lv_aload_n hx hb dX4_taken_14 rfl (lv_at hl 0 rfl) ?_
    refine lv_iload_n hx hb dX4_taken_15 rfl (lv_at hl 1 rfl) ?_
    refine c_VP (a := 58) (ci := 4) (q := (RX4, TX4, 80)) (rest := []) (st1 := [.int (bI (f_X4_isCard a1 w))]) hx hb hml hown hts hK hR hF hL hl.1 (met_X4_isCard l G z H0 w a1 _ rfl) (congrArg Prod.fst (hF.2.1 58 (5, 0) rfl)) rfl rfl rfl hd_X4_isCard q1935 q1937 qs46 q104 q1938 ⟨Nat.le_of_ble_eq_true rfl, Nat.le_of_ble_eq_true rfl⟩ ⟨Nat.le_refl 0, Nat.le_refl 0⟩ rfl rfl (Nat.le_of_ble_eq_true rfl) dX4_taken_16 rfl (fun locs hL => ?_)
    refine lv_if_ne (tgt := 25) hx hb dX4_taken_19 (by decide) (fun c2 => ?_) (fun c2 => ?_)
    · rw [if_pos (bI_p c2)] at h
      refine lv_aload_n hx hb dX4_taken_25 rfl (lv_at hl 0 rfl) ?_
      refine lv_iload_n hx hb dX4_taken_26 rfl (lv_at hl 1 rfl) ?_
      obtain ⟨q3, hq4, h⟩ := bnd h
      refine c_VP (a := 58) (ci := 4) (q := (RX4, TX4, 80)) (rest := []) (st1 := [.int q3]) hx hb hml hown hts hK hR hF hL hl.1 (met_X4_kindOf l G z H0 w a1 q3 hq4) (congrArg Prod.fst (hF.2.1 58 (5, 0) rfl)) rfl rfl rfl hd_X4_kindOf q1939 q1941 qs47 q104 q1942 ⟨Nat.le_of_ble_eq_true rfl, Nat.le_of_ble_eq_true rfl⟩ ⟨Nat.le_refl 0, Nat.le_refl 0⟩ rfl rfl (Nat.le_of_ble_eq_true rfl) dX4_taken_27 rfl (fun locs hL => ?_)
      refine lv_istore_n (lv' := [(3, .int q3), (0, .ref (z + 58)), (1, .int a1), (2, .int a2)]) hx hb dX4_taken_30 rfl hl (by decide) rfl (fun ls hl => ?_)
      refine lv_iload_n hx hb dX4_taken_31 rfl (lv_at hl 3 rfl) ?_
      refine lv_if_eq (tgt := 65) hx hb dX4_taken_32 (by decide) (fun c5 => ?_) (fun c5 => ?_)
      · rw [if_pos c5] at h
        refine lv_iload_n hx hb dX4_taken_65 rfl (lv_at hl 0 rfl) ?_
        refine lv_goto (tgt := 71) hx hb dX4_taken_66 (by decide) ?_
        have h := Option.some.inj h
        subst h
        exact W.iret (v := q3) hx hb hr (fun t ht _ => ⟨rfl, ht⟩) hL dX4_taken_71
      · rw [if_neg c5] at h
        refine lv_iload_n hx hb dX4_taken_35 rfl (lv_at hl 0 rfl) ?_
        refine lv_iload_n hx hb dX4_taken_36 rfl (lv_at hl 3 rfl) ?_
        refine lv_icmp_eq (tgt := 65) hx hb dX4_taken_37 (by decide) (fun c6 => ?_) (fun c6 => ?_)
        · rw [if_pos c6] at h
          refine lv_iload_n hx hb dX4_taken_65 rfl (lv_at hl 0 rfl) ?_
          refine lv_goto (tgt := 71) hx hb dX4_taken_66 (by decide) ?_
          have h := Option.some.inj h
          subst h
          exact W.iret (v := q3) hx hb hr (fun t ht _ => ⟨rfl, ht⟩) hL dX4_taken_71
        · rw [if_neg c6] at h
          refine lv_iload_n hx hb dX4_taken_40 rfl (lv_at hl 3 rfl) ?_
          refine lv_iconst (v := 1) hx hb dX4_taken_41 (by decide) ?_
          refine lv_icmp_ne (tgt := 55) hx hb dX4_taken_42 (by decide) (fun c7 => ?_) (fun c7 => ?_)
          · rw [if_neg c7] at h
            exact hJ55 q3 w h hR hF locs ls hL (lv_sub hl [0, 3] rfl)
          · rw [if_pos c7] at h
            refine lv_aload_n hx hb dX4_taken_45 rfl (lv_at hl 1 rfl) ?_
            refine lv_iload_n hx hb dX4_taken_46 rfl (lv_at hl 0 rfl) ?_
            refine lv_iconst (v := 2) hx hb dX4_taken_47 (by decide) ?_
            refine lv_iconst (v := 4) hx hb dX4_taken_48 (by decide) ?_
            refine c_VP (a := 58) (ci := 4) (q := (RX4, TX4, 80)) (rest := []) (st1 := [.int (bI (f_X4_in q3 (2 : Int32) (4 : Int32) w))]) hx hb hml hown hts hK hR hF hL hl.1 (met_X4_in l G z H0 w q3 (2 : Int32) (4 : Int32) _ rfl) (congrArg Prod.fst (hF.2.1 58 (5, 0) rfl)) rfl rfl rfl hd_X4_in q1878 q1880 qs41 q104 q1881 ⟨Nat.le_of_ble_eq_true rfl, Nat.le_of_ble_eq_true rfl⟩ ⟨Nat.le_refl 0, Nat.le_refl 0⟩ rfl rfl (Nat.le_of_ble_eq_true rfl) dX4_taken_49 rfl (fun locs hL => ?_)
            refine lv_if_ne (tgt := 65) hx hb dX4_taken_52 (by decide) (fun c10 => ?_) (fun c10 => ?_)
            · rw [if_pos (bI_p c10)] at h
              refine lv_iload_n hx hb dX4_taken_65 rfl (lv_at hl 0 rfl) ?_
              refine lv_goto (tgt := 71) hx hb dX4_taken_66 (by decide) ?_
              have h := Option.some.inj h
              subst h
              exact W.iret (v := q3) hx hb hr (fun t ht _ => ⟨rfl, ht⟩) hL dX4_taken_71
            · rw [if_neg (bI_n c10)] at h
              exact hJ55 q3 w h hR hF locs ls hL (lv_sub hl [0, 3] rfl)
    · rw [if_neg (bI_n c2)] at h
      refine lv_bipush (v := -11) hx hb dX4_taken_22 (by decide) ?_
      have h := Option.some.inj h
      subst h
      exact W.iret (v := (-11 : Int32)) hx hb hr (fun t ht _ => ⟨rfl, ht⟩) hL dX4_taken_24
  · rw [if_neg (bI_n c1)] at h
    refine lv_bipush (v := -2) hx hb dX4_taken_11 (by decide) ?_
    have h := Option.some.inj h
    subst h
    exact W.iret (v := (-2 : Int32)) hx hb hr (fun t ht _ => ⟨rfl, ht⟩) hL dX4_taken_13
def f_X4_feed_L31 (n : Nat) (u1_1 : Int32) (s1 : Int32 × Wd) : Option ((Int32 × Wd) ⊕ ((Int32 × Wd))) :=
  if s1.1 < 0 then (some (.inr (s1.1, s1.2))) else (if inb ((2880 : Int32) + (wI s1.2 58 27)) 3000 then (some (.inl (s1.1 + (-1 : Int32), sI (sI s1.2 80 (((2880 : Int32) + (wI s1.2 58 27)).toNatClampNeg) ((u1_1 >>> (((8 : Int32) * s1.1) &&& 31)).toInt8.toInt32)) 58 27 ((wI s1.2 58 27) + (1 : Int32))))) else none)
def f_X4_feed (n : Nat) (a1 : Int32) (a2 : Int32) (w : Wd) : Option (Int32 × Wd) :=
  if (f_X4_in a2 (0 : Int32) (4 : Int32) w) then (if ((wI w 58 27) + a2) ≤ (120 : Int32) then ((it n (f_X4_feed_L31 n a1) (a2 - (1 : Int32), w)).bind fun q31_71 => some (wI q31_71.2 58 27, q31_71.2)) else (some ((-4 : Int32), w))) else (some ((-2 : Int32), w))
theorem hd_X4_feed : yX4_feed.cls = RX4 ∧ yX4_feed.cls ≠ "java/lang/invoke/MethodHandle" ∧ yX4_feed.cls ≠ "java/lang/invoke/VarHandle" ∧ (parseMethodDescriptor yX4_feed.desc).map (fun d => d.parameters.length) = some 2 := by decide +kernel
set_option maxHeartbeats 4000000 in
set_option maxRecDepth 100000 in
theorem met_X4_feed (l : Launch) (G : Gw) (z : Nat) (H0 : Heap) (n : Nat) (w : Wd) (a1 : Int32) (a2 : Int32) (q : Int32 × Wd) (h : f_X4_feed n a1 a2 w = some q) : Met l yX4_feed (ws_ yX4_feed cX4_feed 4 (some .int)) ({ frames := 1, cells := 0, slots := 0, locals := 23 } : Room) (pcW G z H0 w [.ref (z + 58), .int a1, .int a2]) (qW G z H0 q.2 (some (.int q.1))) 0 0 (fun q => z ≤ q) := by
  refine mW (by decide) (Nat.le_of_ble_eq_true rfl) ?_
  intro p e s m below meth c ls hx hb hr hml hown hts hlocks hnm hK hR hF hl
  have hown : s.vm.findClass RX4 = some m.cls := hown
  have hl : lv_has ls 4 [(0, .ref (z + 58)), (1, .int a1), (2, .int a2)] := hl
  have hL : lok z [] := lok_nil
  unfold f_X4_feed at h
  generalize s.heap = H at hR ⊢
  generalize ([] : List Loc) = locs at hL ⊢
  refine lv_aload_n hx hb dX4_feed_0 rfl (lv_at hl 0 rfl) ?_
  refine lv_iload_n hx hb dX4_feed_1 rfl (lv_at hl 2 rfl) ?_
  refine lv_iconst (v := 0) hx hb dX4_feed_2 (by decide) ?_
  refine lv_iconst (v := 4) hx hb dX4_feed_3 (by decide) ?_
  refine c_VP (a := 58) (ci := 4) (q := (RX4, TX4, 80)) (rest := []) (st1 := [.int (bI (f_X4_in a2 (0 : Int32) (4 : Int32) w))]) hx hb hml hown hts hK hR hF hL hl.1 (met_X4_in l G z H0 w a2 (0 : Int32) (4 : Int32) _ rfl) (congrArg Prod.fst (hF.2.1 58 (5, 0) rfl)) rfl rfl rfl hd_X4_in q1878 q1880 qs41 q104 q1881 ⟨Nat.le_of_ble_eq_true rfl, Nat.le_of_ble_eq_true rfl⟩ ⟨Nat.le_refl 0, Nat.le_refl 0⟩ rfl rfl (Nat.le_of_ble_eq_true rfl) dX4_feed_4 rfl (fun locs hL => ?_)
  refine lv_if_ne (tgt := 13) hx hb dX4_feed_7 (by decide) (fun c1 => ?_) (fun c1 => ?_)
  · rw [if_pos (bI_p c1)] at h
    refine lv_aload_n hx hb dX4_feed_13 rfl (lv_at hl 0 rfl) ?_
    refine r_get (C := RX4) (T := TX4) (N := 80) hx hb hts ok4 hown hK hR (congrArg Prod.fst (hF.2.1 58 (5, 0) rfl)) rfl 27 (by decide) (hts _ q1660) (fun _ h9 => h9) (v := .int (wI w 58 27)) rfl dX4_feed_14 ?_
    refine lv_iload_n hx hb dX4_feed_17 rfl (lv_at hl 2 rfl) ?_
    refine lv_iadd hx hb dX4_feed_18 ?_
    refine lv_bipush (v := 120) hx hb dX4_feed_19 (by decide) ?_
    refine lv_icmp_le (tgt := 27) hx hb dX4_feed_21 (by decide) (fun c2 => ?_) (fun c2 => ?_)
    · rw [if_pos c2] at h
      refine lv_iload_n hx hb dX4_feed_27 rfl (lv_at hl 2 rfl) ?_
      refine lv_iconst (v := 1) hx hb dX4_feed_28 (by decide) ?_
      refine lv_isub hx hb dX4_feed_29 ?_
      refine lv_istore_n (lv' := [(3, .int (a2 - (1 : Int32))), (0, .ref (z + 58)), (1, .int a1), (2, .int a2)]) hx hb dX4_feed_30 rfl hl (by decide) rfl (fun ls hl => ?_)
      have hX31_71 : ∀ (q31_71 : Int32 × Wd), (some (wI q31_71.2 58 27, q31_71.2)) = some q → ∀ (H : Heap) (locs : List Loc) (ls : Array Slot), Rp G z H0 q31_71.2 H → Fix q31_71.2 → lok z locs → lv_has ls 4 [(0, .ref (z + 58))] → W p l e ({ frames := 1, cells := 0, slots := 0, locals := 23 } : Room) s m ([.ref (z + 58), .int a1, .int a2] : List Value).toArray below meth c H locs 0 0 (MQ below (qW G z H0 q.2 (some (.int q.1))) ([.ref (z + 58), .int a1, .int a2] : List Value).toArray s 0 0 (fun q => z ≤ q)) (F0 m 71 ls []) := by
        intro q31_71 h H locs ls hR hF hL hl
        refine lv_aload_n hx hb dX4_feed_71 rfl (lv_at hl 0 rfl) ?_
        refine r_get (C := RX4) (T := TX4) (N := 80) hx hb hts ok4 hown hK hR (congrArg Prod.fst (hF.2.1 58 (5, 0) rfl)) rfl 27 (by decide) (hts _ q1660) (fun _ h9 => h9) (v := .int (wI q31_71.2 58 27)) rfl dX4_feed_72 ?_
        have h := Option.some.inj h
        subst h
        exact W.iret (v := wI q31_71.2 58 27) hx hb hr (fun t ht _ => ⟨rfl, by rw [ht]; exact hR, hF⟩) hL dX4_feed_75
      obtain ⟨t5, hq6, h⟩ := bnd h
      refine it_W (b := f_X4_feed_L31 n a1) (P := fun (s1 : Int32 × Wd) => ∀ (H : Heap) (locs : List Loc) (ls : Array Slot), Rp G z H0 s1.2 H → Fix s1.2 → lok z locs → lv_has ls 4 [(3, .int s1.1), (0, .ref (z + 58)), (1, .int a1)] → W p l e ({ frames := 1, cells := 0, slots := 0, locals := 23 } : Room) s m ([.ref (z + 58), .int a1, .int a2] : List Value).toArray below meth c H locs 0 0 (MQ below (qW G z H0 q.2 (some (.int q.1))) ([.ref (z + 58), .int a1, .int a2] : List Value).toArray s 0 0 (fun q => z ≤ q)) (F0 m 31 ls [])) (K := fun q31_71 => (some (wI q31_71.2 58 27, q31_71.2)) = some q) (fun s1 x1 h hc1 ht1 => ?_) n (a2 - (1 : Int32), w) t5 hq6 h H locs ls hR hF hL (lv_sub hl [0, 1, 2] rfl)
      intro H locs ls hR hF hL hl
      unfold f_X4_feed_L31 at h
      refine lv_iload_n hx hb dX4_feed_31 rfl (lv_at hl 0 rfl) ?_
      refine lv_if_lt (tgt := 71) hx hb dX4_feed_32 (by decide) (fun c3 => ?_) (fun c3 => ?_)
      · rw [if_pos c3] at h
        exact hX31_71 (s1.1, s1.2) (ht1 _ (Option.some.inj h).symm) H locs ls hR hF hL (lv_sub hl [1] rfl)
      · rw [if_neg c3] at h
        refine lv_aload_n hx hb dX4_feed_35 rfl (lv_at hl 1 rfl) ?_
        refine r_get (C := RX4) (T := TX4) (N := 80) hx hb hts ok4 hown hK hR (congrArg Prod.fst (hF.2.1 58 (5, 0) rfl)) rfl 30 (by decide) (hts _ q1663) (fun _ h9 => h9) (v := .ref (z + 80)) (fv_fix hF rfl rfl) dX4_feed_36 ?_
        refine lv_sipush (v := 2880) hx hb dX4_feed_39 (by decide) ?_
        refine lv_aload_n hx hb dX4_feed_42 rfl (lv_at hl 1 rfl) ?_
        refine r_get (C := RX4) (T := TX4) (N := 80) hx hb hts ok4 hown hK hR (congrArg Prod.fst (hF.2.1 58 (5, 0) rfl)) rfl 27 (by decide) (hts _ q1660) (fun _ h9 => h9) (v := .int (wI s1.2 58 27)) rfl dX4_feed_43 ?_
        refine lv_iadd hx hb dX4_feed_46 ?_
        refine lv_iload_n hx hb dX4_feed_47 rfl (lv_at hl 2 rfl) ?_
        refine lv_bipush (v := 8) hx hb dX4_feed_48 (by decide) ?_
        refine lv_iload_n hx hb dX4_feed_50 rfl (lv_at hl 0 rfl) ?_
        refine lv_imul hx hb dX4_feed_51 ?_
        refine lv_ishr hx hb dX4_feed_52 ?_
        refine lv_i2b (v := (a1 >>> (((8 : Int32) * s1.1) &&& 31)).toInt8.toInt32) hx hb dX4_feed_53 rfl ?_
        obtain ⟨hb4, h⟩ := grd h
        refine r_iast hx hb hK hR hL (hF.2.1 80 (200, 3000) rfl) hb4 dX4_feed_54 (fun H locs hR hL => ?_)
        have hF := hF.sI 80 (((2880 : Int32) + (wI s1.2 58 27)).toNatClampNeg) ((a1 >>> (((8 : Int32) * s1.1) &&& 31)).toInt8.toInt32)
        refine lv_aload_n hx hb dX4_feed_55 rfl (lv_at hl 1 rfl) ?_
        refine lv_dup hx hb dX4_feed_56 rfl ?_
        refine r_get (C := RX4) (T := TX4) (N := 80) hx hb hts ok4 hown hK hR (congrArg Prod.fst (hF.2.1 58 (5, 0) rfl)) rfl 27 (by decide) (hts _ q1660) (fun _ h9 => h9) (v := .int (wI s1.2 58 27)) rfl dX4_feed_57 ?_
        refine lv_iconst (v := 1) hx hb dX4_feed_60 (by decide) ?_
        refine lv_iadd hx hb dX4_feed_61 ?_
        refine r_putI (C := RX4) (T := TX4) (N := 80) hx hb hts ok4 hown hK hR hL (congrArg Prod.fst (hF.2.1 58 (5, 0) rfl)) rfl 27 (by decide) (hts _ q1660) (fun _ h9 => h9) (Or.inl rfl) rfl rfl rfl dX4_feed_62 (fun H locs hR hL => ?_)
        have hF := hF.sI 58 27 ((wI s1.2 58 27) + (1 : Int32))
        refine lv_iinc (v := s1.1 + (-1 : Int32)) (lv' := [(3, .int (s1.1 + (-1 : Int32))), (0, .ref (z + 58)), (1, .int a1)]) hx hb dX4_feed_65 hl (k := 0) rfl rfl (by decide) rfl (fun ls hl => ?_)
        refine lv_goto (tgt := 31) hx hb dX4_feed_68 (by decide) ?_
        exact hc1 _ (Option.some.inj h).symm H locs ls hR hF hL (lv_sub hl [0, 1, 2] rfl)
    · rw [if_neg c2] at h
      refine lv_bipush (v := -4) hx hb dX4_feed_24 (by decide) ?_
      have h := Option.some.inj h
      subst h
      exact W.iret (v := (-4 : Int32)) hx hb hr (fun t ht _ => ⟨rfl, by rw [ht]; exact hR, hF⟩) hL dX4_feed_26
  · rw [if_neg (bI_n c1)] at h
    refine lv_bipush (v := -2) hx hb dX4_feed_10 (by decide) ?_
    have h := Option.some.inj h
    subst h
    exact W.iret (v := (-2 : Int32)) hx hb hr (fun t ht _ => ⟨rfl, by rw [ht]; exact hR, hF⟩) hL dX4_feed_12
def f_X4_asks (a1 : Int32) (a2 : Int32) (a3 : Int32) (w : Wd) : Wd :=
  sI (sI (sI (sI (sI (sI (sI w 58 32 a1) 58 33 a2) 58 34 a3) 58 35 (-1 : Int32)) 58 36 (0 : Int32)) 58 41 (0 : Int32)) 58 42 (0 : Int32)
theorem hd_X4_asks : yX4_asks.cls = RX4 ∧ yX4_asks.cls ≠ "java/lang/invoke/MethodHandle" ∧ yX4_asks.cls ≠ "java/lang/invoke/VarHandle" ∧ (parseMethodDescriptor yX4_asks.desc).map (fun d => d.parameters.length) = some 3 := by decide +kernel
set_option maxHeartbeats 4000000 in
set_option maxRecDepth 100000 in
theorem met_X4_asks (l : Launch) (G : Gw) (z : Nat) (H0 : Heap)  (w : Wd) (a1 : Int32) (a2 : Int32) (a3 : Int32) (q : Wd) (h : f_X4_asks a1 a2 a3 w = q) : Met l yX4_asks (ws_ yX4_asks cX4_asks 4 none) ({ frames := 0, cells := 0, slots := 0, locals := 0 } : Room) (pcW G z H0 w [.ref (z + 58), .int a1, .int a2, .int a3]) (qW G z H0 q none) 0 0 (fun q => z ≤ q) := by
  refine mW (by decide) (Nat.le_of_ble_eq_true rfl) ?_
  intro p e s m below meth c ls hx hb hr hml hown hts hlocks hnm hK hR hF hl
  have hown : s.vm.findClass RX4 = some m.cls := hown
  have hl : lv_has ls 4 [(0, .ref (z + 58)), (1, .int a1), (2, .int a2), (3, .int a3)] := hl
  have hL : lok z [] := lok_nil
  unfold f_X4_asks at h
  generalize s.heap = H at hR ⊢
  generalize ([] : List Loc) = locs at hL ⊢
  refine lv_aload_n hx hb dX4_asks_0 rfl (lv_at hl 0 rfl) ?_
  refine lv_iload_n hx hb dX4_asks_1 rfl (lv_at hl 1 rfl) ?_
  refine r_putI (C := RX4) (T := TX4) (N := 80) hx hb hts ok4 hown hK hR hL (congrArg Prod.fst (hF.2.1 58 (5, 0) rfl)) rfl 32 (by decide) (hts _ q1665) (fun _ h9 => h9) (Or.inl rfl) rfl rfl rfl dX4_asks_2 (fun H locs hR hL => ?_)
  have hF := hF.sI 58 32 a1
  refine lv_aload_n hx hb dX4_asks_5 rfl (lv_at hl 0 rfl) ?_
  refine lv_iload_n hx hb dX4_asks_6 rfl (lv_at hl 2 rfl) ?_
  refine r_putI (C := RX4) (T := TX4) (N := 80) hx hb hts ok4 hown hK hR hL (congrArg Prod.fst (hF.2.1 58 (5, 0) rfl)) rfl 33 (by decide) (hts _ q1666) (fun _ h9 => h9) (Or.inl rfl) rfl rfl rfl dX4_asks_7 (fun H locs hR hL => ?_)
  have hF := hF.sI 58 33 a2
  refine lv_aload_n hx hb dX4_asks_10 rfl (lv_at hl 0 rfl) ?_
  refine lv_iload_n hx hb dX4_asks_11 rfl (lv_at hl 3 rfl) ?_
  refine r_putI (C := RX4) (T := TX4) (N := 80) hx hb hts ok4 hown hK hR hL (congrArg Prod.fst (hF.2.1 58 (5, 0) rfl)) rfl 34 (by decide) (hts _ q1667) (fun _ h9 => h9) (Or.inl rfl) rfl rfl rfl dX4_asks_12 (fun H locs hR hL => ?_)
  have hF := hF.sI 58 34 a3
  refine lv_aload_n hx hb dX4_asks_15 rfl (lv_at hl 0 rfl) ?_
  refine lv_iconst (v := -1) hx hb dX4_asks_16 (by decide) ?_
  refine r_putI (C := RX4) (T := TX4) (N := 80) hx hb hts ok4 hown hK hR hL (congrArg Prod.fst (hF.2.1 58 (5, 0) rfl)) rfl 35 (by decide) (hts _ q1668) (fun _ h9 => h9) (Or.inl rfl) rfl rfl rfl dX4_asks_17 (fun H locs hR hL => ?_)
  have hF := hF.sI 58 35 (-1 : Int32)
  refine lv_aload_n hx hb dX4_asks_20 rfl (lv_at hl 0 rfl) ?_
  refine lv_iconst (v := 0) hx hb dX4_asks_21 (by decide) ?_
  refine r_putI (C := RX4) (T := TX4) (N := 80) hx hb hts ok4 hown hK hR hL (congrArg Prod.fst (hF.2.1 58 (5, 0) rfl)) rfl 36 (by decide) (hts _ q1669) (fun _ h9 => h9) (Or.inl rfl) rfl rfl rfl dX4_asks_22 (fun H locs hR hL => ?_)
  have hF := hF.sI 58 36 (0 : Int32)
  refine lv_aload_n hx hb dX4_asks_25 rfl (lv_at hl 0 rfl) ?_
  refine lv_iconst (v := 0) hx hb dX4_asks_26 (by decide) ?_
  refine r_putI (C := RX4) (T := TX4) (N := 80) hx hb hts ok4 hown hK hR hL (congrArg Prod.fst (hF.2.1 58 (5, 0) rfl)) rfl 41 (by decide) (hts _ q1674) (fun _ h9 => h9) (Or.inl rfl) rfl (by decide) (by decide) dX4_asks_27 (fun H locs hR hL => ?_)
  have hF := hF.sI 58 41 (0 : Int32)
  refine lv_aload_n hx hb dX4_asks_30 rfl (lv_at hl 0 rfl) ?_
  refine lv_iconst (v := 0) hx hb dX4_asks_31 (by decide) ?_
  refine r_putI (C := RX4) (T := TX4) (N := 80) hx hb hts ok4 hown hK hR hL (congrArg Prod.fst (hF.2.1 58 (5, 0) rfl)) rfl 42 (by decide) (hts _ q1675) (fun _ h9 => h9) (Or.inl rfl) rfl (by decide) (by decide) dX4_asks_32 (fun H locs hR hL => ?_)
  have hF := hF.sI 58 42 (0 : Int32)
  subst h
  exact W.vret hx hb hr (fun t ht _ => ⟨rfl, by rw [ht]; exact hR, hF⟩) hL dX4_asks_35
def f_X4_next (w : Wd) : Option (Int32) :=
  if (wI w 58 39) ≤ (wI w 58 40) then (some (-1 : Int32)) else (if inb ((wI w 58 38) + (wI w 58 40)) 3000 then (some (wI w 80 (((wI w 58 38) + (wI w 58 40)).toNatClampNeg))) else none)
theorem hd_X4_next : yX4_next.cls = RX4 ∧ yX4_next.cls ≠ "java/lang/invoke/MethodHandle" ∧ yX4_next.cls ≠ "java/lang/invoke/VarHandle" ∧ (parseMethodDescriptor yX4_next.desc).map (fun d => d.parameters.length) = some 0 := by decide +kernel
set_option maxHeartbeats 4000000 in
set_option maxRecDepth 100000 in
theorem met_X4_next (l : Launch) (G : Gw) (z : Nat) (H0 : Heap)  (w : Wd)  (q : Int32) (h : f_X4_next w = some q) : Met l yX4_next (ws_ yX4_next cX4_next 1 (some .int)) ({ frames := 0, cells := 0, slots := 0, locals := 0 } : Room) (pcW G z H0 w [.ref (z + 58)]) (qP (some (.int q))) 0 0 (fun q => z ≤ q) := by
  refine mW (by decide) (Nat.le_of_ble_eq_true rfl) ?_
  intro p e s m below meth c ls hx hb hr hml hown hts hlocks hnm hK hR hF hl
  have hown : s.vm.findClass RX4 = some m.cls := hown
  have hl : lv_has ls 1 [(0, .ref (z + 58))] := hl
  have hL : lok z [] := lok_nil
  unfold f_X4_next at h
  generalize ([] : List Loc) = locs at hL ⊢
  refine lv_aload_n hx hb dX4_next_0 rfl (lv_at hl 0 rfl) ?_
  refine r_get (C := RX4) (T := TX4) (N := 80) hx hb hts ok4 hown hK hR (congrArg Prod.fst (hF.2.1 58 (5, 0) rfl)) rfl 40 (by decide) (hts _ q1673) (fun _ h9 => h9) (v := .int (wI w 58 40)) rfl dX4_next_1 ?_
  refine lv_aload_n hx hb dX4_next_4 rfl (lv_at hl 0 rfl) ?_
  refine r_get (C := RX4) (T := TX4) (N := 80) hx hb hts ok4 hown hK hR (congrArg Prod.fst (hF.2.1 58 (5, 0) rfl)) rfl 39 (by decide) (hts _ q1672) (fun _ h9 => h9) (v := .int (wI w 58 39)) rfl dX4_next_5 ?_
  refine lv_icmp_ge (tgt := 28) hx hb dX4_next_8 (by decide) (fun c1 => ?_) (fun c1 => ?_)
  · rw [if_pos c1] at h
    refine lv_iconst (v := -1) hx hb dX4_next_28 (by decide) ?_
    have h := Option.some.inj h
    subst h
    exact W.iret (v := (-1 : Int32)) hx hb hr (fun t ht _ => ⟨rfl, ht⟩) hL dX4_next_29
  · rw [if_neg c1] at h
    refine lv_aload_n hx hb dX4_next_11 rfl (lv_at hl 0 rfl) ?_
    refine r_get (C := RX4) (T := TX4) (N := 80) hx hb hts ok4 hown hK hR (congrArg Prod.fst (hF.2.1 58 (5, 0) rfl)) rfl 30 (by decide) (hts _ q1663) (fun _ h9 => h9) (v := .ref (z + 80)) (fv_fix hF rfl rfl) dX4_next_12 ?_
    refine lv_aload_n hx hb dX4_next_15 rfl (lv_at hl 0 rfl) ?_
    refine r_get (C := RX4) (T := TX4) (N := 80) hx hb hts ok4 hown hK hR (congrArg Prod.fst (hF.2.1 58 (5, 0) rfl)) rfl 38 (by decide) (hts _ q1671) (fun _ h9 => h9) (v := .int (wI w 58 38)) rfl dX4_next_16 ?_
    refine lv_aload_n hx hb dX4_next_19 rfl (lv_at hl 0 rfl) ?_
    refine r_get (C := RX4) (T := TX4) (N := 80) hx hb hts ok4 hown hK hR (congrArg Prod.fst (hF.2.1 58 (5, 0) rfl)) rfl 40 (by decide) (hts _ q1673) (fun _ h9 => h9) (v := .int (wI w 58 40)) rfl dX4_next_20 ?_
    refine lv_iadd hx hb dX4_next_23 ?_
    obtain ⟨hb2, h⟩ := grd h
    refine r_iald (v := wI w 80 (((wI w 58 38) + (wI w 58 40)).toNatClampNeg)) hx hb hK hR (hF.2.1 80 (200, 3000) rfl) hb2 rfl dX4_next_24 ?_
    refine lv_goto (tgt := 29) hx hb dX4_next_25 (by decide) ?_
    have h := Option.some.inj h
    subst h
    exact W.iret (v := wI w 80 (((wI w 58 38) + (wI w 58 40)).toNatClampNeg)) hx hb hr (fun t ht _ => ⟨rfl, ht⟩) hL dX4_next_29
def f_X4_takes (a1 : Int32) (w : Wd) : Option (Bool × Wd) :=
  (f_X4_next w).bind fun q1 => if q1 = a1 then (some (true, sI w 58 40 ((wI w 58 40) + (1 : Int32)))) else (some (false, w))
theorem hd_X4_takes : yX4_takes.cls = RX4 ∧ yX4_takes.cls ≠ "java/lang/invoke/MethodHandle" ∧ yX4_takes.cls ≠ "java/lang/invoke/VarHandle" ∧ (parseMethodDescriptor yX4_takes.desc).map (fun d => d.parameters.length) = some 1 := by decide +kernel
set_option maxHeartbeats 4000000 in
set_option maxRecDepth 100000 in
theorem met_X4_takes (l : Launch) (G : Gw) (z : Nat) (H0 : Heap)  (w : Wd) (a1 : Int32) (q : Bool × Wd) (h : f_X4_takes a1 w = some q) : Met l yX4_takes (ws_ yX4_takes cX4_takes 2 (some .boolean)) ({ frames := 1, cells := 0, slots := 0, locals := 20 } : Room) (pcW G z H0 w [.ref (z + 58), .int a1]) (qW G z H0 q.2 (some (.int (bI q.1)))) 0 0 (fun q => z ≤ q) := by
  refine mW (by decide) (Nat.le_of_ble_eq_true rfl) ?_
  intro p e s m below meth c ls hx hb hr hml hown hts hlocks hnm hK hR hF hl
  have hown : s.vm.findClass RX4 = some m.cls := hown
  have hl : lv_has ls 2 [(0, .ref (z + 58)), (1, .int a1)] := hl
  have hL : lok z [] := lok_nil
  unfold f_X4_takes at h
  generalize s.heap = H at hR ⊢
  generalize ([] : List Loc) = locs at hL ⊢
  refine lv_aload_n hx hb dX4_takes_0 rfl (lv_at hl 0 rfl) ?_
  obtain ⟨q1, hq2, h⟩ := bnd h
  refine c_VP (a := 58) (ci := 4) (q := (RX4, TX4, 80)) (rest := []) (st1 := [.int q1]) hx hb hml hown hts hK hR hF hL hl.1 (met_X4_next l G z H0 w  q1 hq2) (congrArg Prod.fst (hF.2.1 58 (5, 0) rfl)) rfl rfl rfl hd_X4_next q2015 q2017 qs60 q104 q2018 ⟨Nat.le_of_ble_eq_true rfl, Nat.le_of_ble_eq_true rfl⟩ ⟨Nat.le_refl 0, Nat.le_refl 0⟩ rfl rfl (Nat.le_of_ble_eq_true rfl) dX4_takes_1 rfl (fun locs hL => ?_)
  refine lv_iload_n hx hb dX4_takes_4 rfl (lv_at hl 1 rfl) ?_
  refine lv_icmp_eq (tgt := 10) hx hb dX4_takes_5 (by decide) (fun c3 => ?_) (fun c3 => ?_)
  · rw [if_pos c3] at h
    refine lv_aload_n hx hb dX4_takes_10 rfl (lv_at hl 0 rfl) ?_
    refine lv_dup hx hb dX4_takes_11 rfl ?_
    refine r_get (C := RX4) (T := TX4) (N := 80) hx hb hts ok4 hown hK hR (congrArg Prod.fst (hF.2.1 58 (5, 0) rfl)) rfl 40 (by decide) (hts _ q1673) (fun _ h9 => h9) (v := .int (wI w 58 40)) rfl dX4_takes_12 ?_
    refine lv_iconst (v := 1) hx hb dX4_takes_15 (by decide) ?_
    refine lv_iadd hx hb dX4_takes_16 ?_
    refine r_putI (C := RX4) (T := TX4) (N := 80) hx hb hts ok4 hown hK hR hL (congrArg Prod.fst (hF.2.1 58 (5, 0) rfl)) rfl 40 (by decide) (hts _ q1673) (fun _ h9 => h9) (Or.inl rfl) rfl rfl rfl dX4_takes_17 (fun H locs hR hL => ?_)
    have hF := hF.sI 58 40 ((wI w 58 40) + (1 : Int32))
    refine lv_iconst (v := 1) hx hb dX4_takes_20 (by decide) ?_
    have h := Option.some.inj h
    subst h
    exact W.zret (v := bI true) hx hb hr (bI_nar _) (fun t ht _ => ⟨rfl, by rw [ht]; exact hR, hF⟩) hL dX4_takes_21
  · rw [if_neg c3] at h
    refine lv_iconst (v := 0) hx hb dX4_takes_8 (by decide) ?_
    have h := Option.some.inj h
    subst h
    exact W.zret (v := bI false) hx hb hr (bI_nar _) (fun t ht _ => ⟨rfl, by rw [ht]; exact hR, hF⟩) hL dX4_takes_9
def f_X4_takesWord_L5 (n : Nat) (u1_1 : Int64) (s1 : Int32 × Wd) : Option ((Int32 × Wd) ⊕ ((Int32 × Wd) ⊕ (Int32 × Wd))) :=
  if s1.1 < 0 then (some (.inr (.inl (s1.1, s1.2)))) else ((f_X4_takes ((96 : Int32) + (((u1_1 >>> (((5 : Int32) * s1.1).toInt64 &&& 63)) &&& (31 : Int64)).toInt32)) s1.2).bind fun q2 => if q2.1 then (some (.inl (s1.1 + (-1 : Int32), q2.2))) else (some (.inr (.inr (s1.1, q2.2)))))
def f_X4_takesWord (n : Nat) (a1 : Int64) (a2 : Int32) (w : Wd) : Option (Bool × Wd) :=
  (it n (f_X4_takesWord_L5 n a1) (a2 - (1 : Int32), w)).bind fun t5 => (match t5 with | .inl q5_39 => some (true, q5_39.2) | .inr q5_31 => some (false, q5_31.2))
theorem hd_X4_takesWord : yX4_takesWord.cls = RX4 ∧ yX4_takesWord.cls ≠ "java/lang/invoke/MethodHandle" ∧ yX4_takesWord.cls ≠ "java/lang/invoke/VarHandle" ∧ (parseMethodDescriptor yX4_takesWord.desc).map (fun d => d.parameters.length) = some 2 := by decide +kernel
set_option maxHeartbeats 4000000 in
set_option maxRecDepth 100000 in
theorem met_X4_takesWord (l : Launch) (G : Gw) (z : Nat) (H0 : Heap) (n : Nat) (w : Wd) (a1 : Int64) (a2 : Int32) (q : Bool × Wd) (h : f_X4_takesWord n a1 a2 w = some q) : Met l yX4_takesWord (ws_ yX4_takesWord cX4_takesWord 5 (some .boolean)) ({ frames := 2, cells := 0, slots := 0, locals := 41 } : Room) (pcW G z H0 w [.ref (z + 58), .long a1, .int a2]) (qW G z H0 q.2 (some (.int (bI q.1)))) 0 0 (fun q => z ≤ q) := by
  refine mW (by decide) (Nat.le_of_ble_eq_true rfl) ?_
  intro p e s m below meth c ls hx hb hr hml hown hts hlocks hnm hK hR hF hl
  have hown : s.vm.findClass RX4 = some m.cls := hown
  have hl : lv_has ls 5 [(0, .ref (z + 58)), (1, .long a1), (3, .int a2)] := hl
  have hL : lok z [] := lok_nil
  unfold f_X4_takesWord at h
  generalize s.heap = H at hR ⊢
  generalize ([] : List Loc) = locs at hL ⊢
  refine lv_iload_n hx hb dX4_takesWord_0 rfl (lv_at hl 2 rfl) ?_
  refine lv_iconst (v := 1) hx hb dX4_takesWord_1 (by decide) ?_
  refine lv_isub hx hb dX4_takesWord_2 ?_
  refine lv_istore (lv' := [(4, .int (a2 - (1 : Int32))), (0, .ref (z + 58)), (1, .long a1), (3, .int a2)]) hx hb dX4_takesWord_3 hl (by decide) rfl (fun ls hl => ?_)
  have hX5_39 : ∀ (q5_39 : Int32 × Wd), (some (true, q5_39.2)) = some q → ∀ (H : Heap) (locs : List Loc) (ls : Array Slot), Rp G z H0 q5_39.2 H → Fix q5_39.2 → lok z locs → lv_has ls 5 [] → W p l e ({ frames := 2, cells := 0, slots := 0, locals := 41 } : Room) s m ([.ref (z + 58), .long a1, .int a2] : List Value).toArray below meth c H locs 0 0 (MQ below (qW G z H0 q.2 (some (.int (bI q.1)))) ([.ref (z + 58), .long a1, .int a2] : List Value).toArray s 0 0 (fun q => z ≤ q)) (F0 m 39 ls []) := by
    intro q5_39 h H locs ls hR hF hL hl
    refine lv_iconst (v := 1) hx hb dX4_takesWord_39 (by decide) ?_
    have h := Option.some.inj h
    subst h
    exact W.zret (v := bI true) hx hb hr (bI_nar _) (fun t ht _ => ⟨rfl, by rw [ht]; exact hR, hF⟩) hL dX4_takesWord_40
  have hX5_31 : ∀ (q5_31 : Int32 × Wd), (some (false, q5_31.2)) = some q → ∀ (H : Heap) (locs : List Loc) (ls : Array Slot), Rp G z H0 q5_31.2 H → Fix q5_31.2 → lok z locs → lv_has ls 5 [] → W p l e ({ frames := 2, cells := 0, slots := 0, locals := 41 } : Room) s m ([.ref (z + 58), .long a1, .int a2] : List Value).toArray below meth c H locs 0 0 (MQ below (qW G z H0 q.2 (some (.int (bI q.1)))) ([.ref (z + 58), .long a1, .int a2] : List Value).toArray s 0 0 (fun q => z ≤ q)) (F0 m 31 ls []) := by
    intro q5_31 h H locs ls hR hF hL hl
    refine lv_iconst (v := 0) hx hb dX4_takesWord_31 (by decide) ?_
    have h := Option.some.inj h
    subst h
    exact W.zret (v := bI false) hx hb hr (bI_nar _) (fun t ht _ => ⟨rfl, by rw [ht]; exact hR, hF⟩) hL dX4_takesWord_32
  obtain ⟨t5, hq6, h⟩ := bnd h
  refine it_W (b := f_X4_takesWord_L5 n a1) (P := fun (s1 : Int32 × Wd) => ∀ (H : Heap) (locs : List Loc) (ls : Array Slot), Rp G z H0 s1.2 H → Fix s1.2 → lok z locs → lv_has ls 5 [(4, .int s1.1), (0, .ref (z + 58)), (1, .long a1)] → W p l e ({ frames := 2, cells := 0, slots := 0, locals := 41 } : Room) s m ([.ref (z + 58), .long a1, .int a2] : List Value).toArray below meth c H locs 0 0 (MQ below (qW G z H0 q.2 (some (.int (bI q.1)))) ([.ref (z + 58), .long a1, .int a2] : List Value).toArray s 0 0 (fun q => z ≤ q)) (F0 m 5 ls [])) (K := fun t5 => ((match t5 with | .inl q5_39 => some (true, q5_39.2) | .inr q5_31 => some (false, q5_31.2))) = some q) (fun s1 x1 h hc1 ht1 => ?_) n (a2 - (1 : Int32), w) t5 hq6 h H locs ls hR hF hL (lv_sub hl [0, 1, 2] rfl)
  intro H locs ls hR hF hL hl
  unfold f_X4_takesWord_L5 at h
  refine lv_iload hx hb dX4_takesWord_5 (lv_at hl 0 rfl) ?_
  refine lv_if_lt (tgt := 39) hx hb dX4_takesWord_7 (by decide) (fun c1 => ?_) (fun c1 => ?_)
  · rw [if_pos c1] at h
    exact hX5_39 (s1.1, s1.2) (ht1 _ (Option.some.inj h).symm) H locs ls hR hF hL (lv_sub hl [] rfl)
  · rw [if_neg c1] at h
    refine lv_aload_n hx hb dX4_takesWord_10 rfl (lv_at hl 1 rfl) ?_
    refine lv_bipush (v := 96) hx hb dX4_takesWord_11 (by decide) ?_
    refine lv_lload_n hx hb dX4_takesWord_13 rfl (lv_at hl 2 rfl) ?_
    refine lv_iconst (v := 5) hx hb dX4_takesWord_14 (by decide) ?_
    refine lv_iload hx hb dX4_takesWord_15 (lv_at hl 0 rfl) ?_
    refine lv_imul hx hb dX4_takesWord_17 ?_
    refine lv_lshr (v := a1 >>> (((5 : Int32) * s1.1).toInt64 &&& 63)) hx hb dX4_takesWord_18 rfl ?_
    refine lv_ldc2 (v := 31) hx hb hown (hts _ q2024) dX4_takesWord_19 ?_
    refine lv_land hx hb dX4_takesWord_22 ?_
    refine lv_l2i (v := ((a1 >>> (((5 : Int32) * s1.1).toInt64 &&& 63)) &&& (31 : Int64)).toInt32) hx hb dX4_takesWord_23 rfl ?_
    refine lv_iadd hx hb dX4_takesWord_24 ?_
    obtain ⟨q2, hq3, h⟩ := bnd h
    refine c_VW (a := 58) (ci := 4) (q := (RX4, TX4, 80)) (rest := []) (st1 := [.int (bI q2.1)]) hx hb hml hown hts hK hR hF hL hl.1 (met_X4_takes l G z H0 s1.2 ((96 : Int32) + (((a1 >>> (((5 : Int32) * s1.1).toInt64 &&& 63)) &&& (31 : Int64)).toInt32)) q2 hq3) (congrArg Prod.fst (hF.2.1 58 (5, 0) rfl)) rfl rfl rfl hd_X4_takes q2025 q2027 qs62 q104 q2028 ⟨Nat.le_of_ble_eq_true rfl, Nat.le_of_ble_eq_true rfl⟩ ⟨Nat.le_refl 0, Nat.le_refl 0⟩ rfl rfl (Nat.le_of_ble_eq_true rfl) dX4_takesWord_25 rfl (fun H locs hR hF hL => ?_)
    refine lv_if_ne (tgt := 33) hx hb dX4_takesWord_28 (by decide) (fun c4 => ?_) (fun c4 => ?_)
    · rw [if_pos (bI_p c4)] at h
      refine lv_iinc (v := s1.1 + (-1 : Int32)) (lv' := [(4, .int (s1.1 + (-1 : Int32))), (0, .ref (z + 58)), (1, .long a1)]) hx hb dX4_takesWord_33 hl (k := 0) rfl rfl (by decide) rfl (fun ls hl => ?_)
      refine lv_goto (tgt := 5) hx hb dX4_takesWord_36 (by decide) ?_
      exact hc1 _ (Option.some.inj h).symm H locs ls hR hF hL (lv_sub hl [0, 1, 2] rfl)
    · rw [if_neg (bI_n c4)] at h
      exact hX5_31 (s1.1, q2.2) (ht1 _ (Option.some.inj h).symm) H locs ls hR hF hL (lv_sub hl [] rfl)
def f_X4_isDigit (w : Wd) : Option (Bool) :=
  (f_X4_next w).bind fun q1 => some (f_X4_in q1 (48 : Int32) (57 : Int32) w)
theorem hd_X4_isDigit : yX4_isDigit.cls = RX4 ∧ yX4_isDigit.cls ≠ "java/lang/invoke/MethodHandle" ∧ yX4_isDigit.cls ≠ "java/lang/invoke/VarHandle" ∧ (parseMethodDescriptor yX4_isDigit.desc).map (fun d => d.parameters.length) = some 0 := by decide +kernel
set_option maxHeartbeats 4000000 in
set_option maxRecDepth 100000 in
theorem met_X4_isDigit (l : Launch) (G : Gw) (z : Nat) (H0 : Heap)  (w : Wd)  (q : Bool) (h : f_X4_isDigit w = some q) : Met l yX4_isDigit (ws_ yX4_isDigit cX4_isDigit 1 (some .boolean)) ({ frames := 1, cells := 0, slots := 0, locals := 23 } : Room) (pcW G z H0 w [.ref (z + 58)]) (qP (some (.int (bI q)))) 0 0 (fun q => z ≤ q) := by
  refine mW (by decide) (Nat.le_of_ble_eq_true rfl) ?_
  intro p e s m below meth c ls hx hb hr hml hown hts hlocks hnm hK hR hF hl
  have hown : s.vm.findClass RX4 = some m.cls := hown
  have hl : lv_has ls 1 [(0, .ref (z + 58))] := hl
  have hL : lok z [] := lok_nil
  unfold f_X4_isDigit at h
  generalize ([] : List Loc) = locs at hL ⊢
  refine lv_aload_n hx hb dX4_isDigit_0 rfl (lv_at hl 0 rfl) ?_
  refine lv_aload_n hx hb dX4_isDigit_1 rfl (lv_at hl 0 rfl) ?_
  obtain ⟨q1, hq2, h⟩ := bnd h
  refine c_VP (a := 58) (ci := 4) (q := (RX4, TX4, 80)) (rest := [.ref (z + 58)]) (st1 := [.int q1, .ref (z + 58)]) hx hb hml hown hts hK hR hF hL hl.1 (met_X4_next l G z H0 w  q1 hq2) (congrArg Prod.fst (hF.2.1 58 (5, 0) rfl)) rfl rfl rfl hd_X4_next q2015 q2017 qs60 q104 q2018 ⟨Nat.le_of_ble_eq_true rfl, Nat.le_of_ble_eq_true rfl⟩ ⟨Nat.le_refl 0, Nat.le_refl 0⟩ rfl rfl (Nat.le_of_ble_eq_true rfl) dX4_isDigit_2 rfl (fun locs hL => ?_)
  refine lv_bipush (v := 48) hx hb dX4_isDigit_5 (by decide) ?_
  refine lv_bipush (v := 57) hx hb dX4_isDigit_7 (by decide) ?_
  refine c_VP (a := 58) (ci := 4) (q := (RX4, TX4, 80)) (rest := []) (st1 := [.int (bI (f_X4_in q1 (48 : Int32) (57 : Int32) w))]) hx hb hml hown hts hK hR hF hL hl.1 (met_X4_in l G z H0 w q1 (48 : Int32) (57 : Int32) _ rfl) (congrArg Prod.fst (hF.2.1 58 (5, 0) rfl)) rfl rfl rfl hd_X4_in q1878 q1880 qs41 q104 q1881 ⟨Nat.le_of_ble_eq_true rfl, Nat.le_of_ble_eq_true rfl⟩ ⟨Nat.le_refl 0, Nat.le_refl 0⟩ rfl rfl (Nat.le_of_ble_eq_true rfl) dX4_isDigit_9 rfl (fun locs hL => ?_)
  have h := Option.some.inj h
  subst h
  exact W.zret (v := bI (f_X4_in q1 (48 : Int32) (57 : Int32) w)) hx hb hr (bI_nar _) (fun t ht _ => ⟨rfl, ht⟩) hL dX4_isDigit_12
def f_X4_takesNumber_L16 (n : Nat) (s1 : Int32 × Wd) : Option ((Int32 × Wd) ⊕ ((Int32 × Wd))) :=
  if (4 : Int32) ≤ s1.1 then (some (.inr (s1.1, s1.2))) else ((f_X4_isDigit s1.2).bind fun q5 => if q5 then ((f_X4_next s1.2).bind fun q8 => some (.inl (s1.1 + (1 : Int32), sI (sI s1.2 58 43 ((((10 : Int32) * (wI s1.2 58 43)) + q8) - (48 : Int32))) 58 40 ((wI s1.2 58 40) + (1 : Int32))))) else (some (.inr (s1.1, s1.2))))
def f_X4_takesNumber (n : Nat) (w : Wd) : Option (Bool × Wd) :=
  (f_X4_isDigit w).bind fun q1 => if q1 then ((it n (f_X4_takesNumber_L16 n) ((0 : Int32), sI w 58 43 (0 : Int32))).bind fun q16_63 => some (true, q16_63.2)) else (some (false, w))
theorem hd_X4_takesNumber : yX4_takesNumber.cls = RX4 ∧ yX4_takesNumber.cls ≠ "java/lang/invoke/MethodHandle" ∧ yX4_takesNumber.cls ≠ "java/lang/invoke/VarHandle" ∧ (parseMethodDescriptor yX4_takesNumber.desc).map (fun d => d.parameters.length) = some 0 := by decide +kernel
set_option maxHeartbeats 4000000 in
set_option maxRecDepth 100000 in
theorem met_X4_takesNumber (l : Launch) (G : Gw) (z : Nat) (H0 : Heap) (n : Nat) (w : Wd)  (q : Bool × Wd) (h : f_X4_takesNumber n w = some q) : Met l yX4_takesNumber (ws_ yX4_takesNumber cX4_takesNumber 2 (some .boolean)) ({ frames := 2, cells := 0, slots := 0, locals := 43 } : Room) (pcW G z H0 w [.ref (z + 58)]) (qW G z H0 q.2 (some (.int (bI q.1)))) 0 0 (fun q => z ≤ q) := by
  refine mW (by decide) (Nat.le_of_ble_eq_true rfl) ?_
  intro p e s m below meth c ls hx hb hr hml hown hts hlocks hnm hK hR hF hl
  have hown : s.vm.findClass RX4 = some m.cls := hown
  have hl : lv_has ls 2 [(0, .ref (z + 58))] := hl
  have hL : lok z [] := lok_nil
  unfold f_X4_takesNumber at h
  generalize s.heap = H at hR ⊢
  generalize ([] : List Loc) = locs at hL ⊢
  refine lv_aload_n hx hb dX4_takesNumber_0 rfl (lv_at hl 0 rfl) ?_
  obtain ⟨q1, hq2, h⟩ := bnd h
  refine c_VP (a := 58) (ci := 4) (q := (RX4, TX4, 80)) (rest := []) (st1 := [.int (bI q1)]) hx hb hml hown hts hK hR hF hL hl.1 (met_X4_isDigit l G z H0 w  q1 hq2) (congrArg Prod.fst (hF.2.1 58 (5, 0) rfl)) rfl rfl rfl hd_X4_isDigit q2037 q2039 qs65 q104 q2040 ⟨Nat.le_of_ble_eq_true rfl, Nat.le_of_ble_eq_true rfl⟩ ⟨Nat.le_refl 0, Nat.le_refl 0⟩ rfl rfl (Nat.le_of_ble_eq_true rfl) dX4_takesNumber_1 rfl (fun locs hL => ?_)
  refine lv_if_ne (tgt := 9) hx hb dX4_takesNumber_4 (by decide) (fun c3 => ?_) (fun c3 => ?_)
  · rw [if_pos (bI_p c3)] at h
    refine lv_aload_n hx hb dX4_takesNumber_9 rfl (lv_at hl 0 rfl) ?_
    refine lv_iconst (v := 0) hx hb dX4_takesNumber_10 (by decide) ?_
    refine r_putI (C := RX4) (T := TX4) (N := 80) hx hb hts ok4 hown hK hR hL (congrArg Prod.fst (hF.2.1 58 (5, 0) rfl)) rfl 43 (by decide) (hts _ q1676) (fun _ h9 => h9) (Or.inl rfl) rfl rfl rfl dX4_takesNumber_11 (fun H locs hR hL => ?_)
    have hF := hF.sI 58 43 (0 : Int32)
    refine lv_iconst (v := 0) hx hb dX4_takesNumber_14 (by decide) ?_
    refine lv_istore_n (lv' := [(1, .int (0 : Int32)), (0, .ref (z + 58))]) hx hb dX4_takesNumber_15 rfl hl (by decide) rfl (fun ls hl => ?_)
    have hX16_63 : ∀ (q16_63 : Int32 × Wd), (some (true, q16_63.2)) = some q → ∀ (H : Heap) (locs : List Loc) (ls : Array Slot), Rp G z H0 q16_63.2 H → Fix q16_63.2 → lok z locs → lv_has ls 2 [] → W p l e ({ frames := 2, cells := 0, slots := 0, locals := 43 } : Room) s m ([.ref (z + 58)] : List Value).toArray below meth c H locs 0 0 (MQ below (qW G z H0 q.2 (some (.int (bI q.1)))) ([.ref (z + 58)] : List Value).toArray s 0 0 (fun q => z ≤ q)) (F0 m 63 ls []) := by
      intro q16_63 h H locs ls hR hF hL hl
      refine lv_iconst (v := 1) hx hb dX4_takesNumber_63 (by decide) ?_
      have h := Option.some.inj h
      subst h
      exact W.zret (v := bI true) hx hb hr (bI_nar _) (fun t ht _ => ⟨rfl, by rw [ht]; exact hR, hF⟩) hL dX4_takesNumber_64
    obtain ⟨t10, hq11, h⟩ := bnd h
    refine it_W (b := f_X4_takesNumber_L16 n) (P := fun (s1 : Int32 × Wd) => ∀ (H : Heap) (locs : List Loc) (ls : Array Slot), Rp G z H0 s1.2 H → Fix s1.2 → lok z locs → lv_has ls 2 [(1, .int s1.1), (0, .ref (z + 58))] → W p l e ({ frames := 2, cells := 0, slots := 0, locals := 43 } : Room) s m ([.ref (z + 58)] : List Value).toArray below meth c H locs 0 0 (MQ below (qW G z H0 q.2 (some (.int (bI q.1)))) ([.ref (z + 58)] : List Value).toArray s 0 0 (fun q => z ≤ q)) (F0 m 16 ls [])) (K := fun q16_63 => (some (true, q16_63.2)) = some q) (fun s1 x1 h hc1 ht1 => ?_) n ((0 : Int32), sI w 58 43 (0 : Int32)) t10 hq11 h H locs ls hR hF hL (lv_sub hl [0, 1] rfl)
    intro H locs ls hR hF hL hl
    unfold f_X4_takesNumber_L16 at h
    refine lv_iload_n hx hb dX4_takesNumber_16 rfl (lv_at hl 0 rfl) ?_
    refine lv_iconst (v := 4) hx hb dX4_takesNumber_17 (by decide) ?_
    refine lv_icmp_ge (tgt := 63) hx hb dX4_takesNumber_18 (by decide) (fun c4 => ?_) (fun c4 => ?_)
    · rw [if_pos c4] at h
      exact hX16_63 (s1.1, s1.2) (ht1 _ (Option.some.inj h).symm) H locs ls hR hF hL (lv_sub hl [] rfl)
    · rw [if_neg c4] at h
      refine lv_aload_n hx hb dX4_takesNumber_21 rfl (lv_at hl 1 rfl) ?_
      obtain ⟨q5, hq6, h⟩ := bnd h
      refine c_VP (a := 58) (ci := 4) (q := (RX4, TX4, 80)) (rest := []) (st1 := [.int (bI q5)]) hx hb hml hown hts hK hR hF hL hl.1 (met_X4_isDigit l G z H0 s1.2  q5 hq6) (congrArg Prod.fst (hF.2.1 58 (5, 0) rfl)) rfl rfl rfl hd_X4_isDigit q2037 q2039 qs65 q104 q2040 ⟨Nat.le_of_ble_eq_true rfl, Nat.le_of_ble_eq_true rfl⟩ ⟨Nat.le_refl 0, Nat.le_refl 0⟩ rfl rfl (Nat.le_of_ble_eq_true rfl) dX4_takesNumber_22 rfl (fun locs hL => ?_)
      refine lv_if_eq (tgt := 63) hx hb dX4_takesNumber_25 (by decide) (fun c7 => ?_) (fun c7 => ?_)
      · rw [if_neg (bI_n c7)] at h
        exact hX16_63 (s1.1, s1.2) (ht1 _ (Option.some.inj h).symm) H locs ls hR hF hL (lv_sub hl [] rfl)
      · rw [if_pos (bI_p c7)] at h
        refine lv_aload_n hx hb dX4_takesNumber_28 rfl (lv_at hl 1 rfl) ?_
        refine lv_bipush (v := 10) hx hb dX4_takesNumber_29 (by decide) ?_
        refine lv_aload_n hx hb dX4_takesNumber_31 rfl (lv_at hl 1 rfl) ?_
        refine r_get (C := RX4) (T := TX4) (N := 80) hx hb hts ok4 hown hK hR (congrArg Prod.fst (hF.2.1 58 (5, 0) rfl)) rfl 43 (by decide) (hts _ q1676) (fun _ h9 => h9) (v := .int (wI s1.2 58 43)) rfl dX4_takesNumber_32 ?_
        refine lv_imul hx hb dX4_takesNumber_35 ?_
        refine lv_aload_n hx hb dX4_takesNumber_36 rfl (lv_at hl 1 rfl) ?_
        obtain ⟨q8, hq9, h⟩ := bnd h
        refine c_VP (a := 58) (ci := 4) (q := (RX4, TX4, 80)) (rest := [.int ((10 : Int32) * (wI s1.2 58 43)), .ref (z + 58)]) (st1 := [.int q8, .int ((10 : Int32) * (wI s1.2 58 43)), .ref (z + 58)]) hx hb hml hown hts hK hR hF hL hl.1 (met_X4_next l G z H0 s1.2  q8 hq9) (congrArg Prod.fst (hF.2.1 58 (5, 0) rfl)) rfl rfl rfl hd_X4_next q2015 q2017 qs60 q104 q2018 ⟨Nat.le_of_ble_eq_true rfl, Nat.le_of_ble_eq_true rfl⟩ ⟨Nat.le_refl 0, Nat.le_refl 0⟩ rfl rfl (Nat.le_of_ble_eq_true rfl) dX4_takesNumber_37 rfl (fun locs hL => ?_)
        refine lv_iadd hx hb dX4_takesNumber_40 ?_
        refine lv_bipush (v := 48) hx hb dX4_takesNumber_41 (by decide) ?_
        refine lv_isub hx hb dX4_takesNumber_43 ?_
        refine r_putI (C := RX4) (T := TX4) (N := 80) hx hb hts ok4 hown hK hR hL (congrArg Prod.fst (hF.2.1 58 (5, 0) rfl)) rfl 43 (by decide) (hts _ q1676) (fun _ h9 => h9) (Or.inl rfl) rfl rfl rfl dX4_takesNumber_44 (fun H locs hR hL => ?_)
        have hF := hF.sI 58 43 ((((10 : Int32) * (wI s1.2 58 43)) + q8) - (48 : Int32))
        refine lv_aload_n hx hb dX4_takesNumber_47 rfl (lv_at hl 1 rfl) ?_
        refine lv_dup hx hb dX4_takesNumber_48 rfl ?_
        refine r_get (C := RX4) (T := TX4) (N := 80) hx hb hts ok4 hown hK hR (congrArg Prod.fst (hF.2.1 58 (5, 0) rfl)) rfl 40 (by decide) (hts _ q1673) (fun _ h9 => h9) (v := .int (wI s1.2 58 40)) rfl dX4_takesNumber_49 ?_
        refine lv_iconst (v := 1) hx hb dX4_takesNumber_52 (by decide) ?_
        refine lv_iadd hx hb dX4_takesNumber_53 ?_
        refine r_putI (C := RX4) (T := TX4) (N := 80) hx hb hts ok4 hown hK hR hL (congrArg Prod.fst (hF.2.1 58 (5, 0) rfl)) rfl 40 (by decide) (hts _ q1673) (fun _ h9 => h9) (Or.inl rfl) rfl rfl rfl dX4_takesNumber_54 (fun H locs hR hL => ?_)
        have hF := hF.sI 58 40 ((wI s1.2 58 40) + (1 : Int32))
        refine lv_iinc (v := s1.1 + (1 : Int32)) (lv' := [(1, .int (s1.1 + (1 : Int32))), (0, .ref (z + 58))]) hx hb dX4_takesNumber_57 hl (k := 0) rfl rfl (by decide) rfl (fun ls hl => ?_)
        refine lv_goto (tgt := 16) hx hb dX4_takesNumber_60 (by decide) ?_
        exact hc1 _ (Option.some.inj h).symm H locs ls hR hF hL (lv_sub hl [0, 1] rfl)
  · rw [if_neg (bI_n c3)] at h
    refine lv_iconst (v := 0) hx hb dX4_takesNumber_7 (by decide) ?_
    have h := Option.some.inj h
    subst h
    exact W.zret (v := bI false) hx hb hr (bI_nar _) (fun t ht _ => ⟨rfl, by rw [ht]; exact hR, hF⟩) hL dX4_takesNumber_8
def f_X4_takesOf_J72 (n : Nat) (a1 : Int32) (a2 : Int32) (w : Wd) : Option (Bool × Wd) :=
  if (wI w 58 42) = 0 then (if a2 = 0 then (some (true, sI w 58 42 (1 : Int32))) else (some (true, sI w 58 42 (0 : Int32)))) else (some (true, sI w 58 42 (1 : Int32)))
def f_X4_takesOf (n : Nat) (a1 : Int32) (a2 : Int32) (w : Wd) : Option (Bool × Wd) :=
  (f_X4_takes (32 : Int32) w).bind fun q1 => if q1.1 then ((f_X4_takesNumber n q1.2).bind fun q4 => if q4.1 then (if (wI q4.2 58 32) < 0 then (f_X4_takesOf_J72 n a1 a2 q4.2) else (if a1 = 0 then (if inb (wI q4.2 58 32) 24 then (if inb (wI q4.2 67 ((wI q4.2 58 32).toNatClampNeg)) 16 then (if (wI q4.2 62 ((wI q4.2 67 ((wI q4.2 58 32).toNatClampNeg)).toNatClampNeg)) = (wI q4.2 58 43) then (f_X4_takesOf_J72 n a1 a2 (sI q4.2 58 35 a2)) else (f_X4_takesOf_J72 n a1 a2 q4.2)) else none) else none) else (if inb (wI q4.2 58 32) 24 then (if inb (wI q4.2 67 ((wI q4.2 58 32).toNatClampNeg)) 16 then (if (wI q4.2 63 ((wI q4.2 67 ((wI q4.2 58 32).toNatClampNeg)).toNatClampNeg)) = (wI q4.2 58 43) then (f_X4_takesOf_J72 n a1 a2 (sI q4.2 58 35 a2)) else (f_X4_takesOf_J72 n a1 a2 q4.2)) else none) else none))) else (some (false, q4.2))) else (some (false, q1.2))
theorem hd_X4_takesOf : yX4_takesOf.cls = RX4 ∧ yX4_takesOf.cls ≠ "java/lang/invoke/MethodHandle" ∧ yX4_takesOf.cls ≠ "java/lang/invoke/VarHandle" ∧ (parseMethodDescriptor yX4_takesOf.desc).map (fun d => d.parameters.length) = some 2 := by decide +kernel
set_option maxHeartbeats 4000000 in
set_option maxRecDepth 100000 in
theorem met_X4_takesOf (l : Launch) (G : Gw) (z : Nat) (H0 : Heap) (n : Nat) (w : Wd) (a1 : Int32) (a2 : Int32) (q : Bool × Wd) (h : f_X4_takesOf n a1 a2 w = some q) : Met l yX4_takesOf (ws_ yX4_takesOf cX4_takesOf 3 (some .boolean)) ({ frames := 3, cells := 0, slots := 0, locals := 64 } : Room) (pcW G z H0 w [.ref (z + 58), .int a1, .int a2]) (qW G z H0 q.2 (some (.int (bI q.1)))) 0 0 (fun q => z ≤ q) := by
  refine mW (by decide) (Nat.le_of_ble_eq_true rfl) ?_
  intro p e s m below meth c ls hx hb hr hml hown hts hlocks hnm hK hR hF hl
  have hown : s.vm.findClass RX4 = some m.cls := hown
  have hl : lv_has ls 3 [(0, .ref (z + 58)), (1, .int a1), (2, .int a2)] := hl
  have hL : lok z [] := lok_nil
  unfold f_X4_takesOf at h
  generalize s.heap = H at hR ⊢
  generalize ([] : List Loc) = locs at hL ⊢
  have hJ72 : ∀  (w : Wd), f_X4_takesOf_J72 n a1 a2 w = some q → ∀ (H : Heap) (locs : List Loc) (ls : Array Slot), Rp G z H0 w H → Fix w → lok z locs → lv_has ls 3 [(0, .ref (z + 58)), (2, .int a2)] → W p l e ({ frames := 3, cells := 0, slots := 0, locals := 64 } : Room) s m ([.ref (z + 58), .int a1, .int a2] : List Value).toArray below meth c H locs 0 0 (MQ below (qW G z H0 q.2 (some (.int (bI q.1)))) ([.ref (z + 58), .int a1, .int a2] : List Value).toArray s 0 0 (fun q => z ≤ q)) (F0 m 72 ls []) := by
    intro  w h H locs ls hR hF hL hl
    unfold f_X4_takesOf_J72 at h
    refine lv_aload_n hx hb dX4_takesOf_72 rfl (lv_at hl 0 rfl) ?_
    refine lv_aload_n hx hb dX4_takesOf_73 rfl (lv_at hl 0 rfl) ?_
    refine r_get (C := RX4) (T := TX4) (N := 80) hx hb hts ok4 hown hK hR (congrArg Prod.fst (hF.2.1 58 (5, 0) rfl)) rfl 42 (by decide) (hts _ q1675) (fun _ h9 => h9) (v := .int (wI w 58 42)) rfl dX4_takesOf_74 ?_
    refine lv_if_ne (tgt := 84) hx hb dX4_takesOf_77 (by decide) (fun c8 => ?_) (fun c8 => ?_)
    · rw [if_neg c8] at h
      refine lv_iconst (v := 1) hx hb dX4_takesOf_84 (by decide) ?_
      refine lv_goto (tgt := 89) hx hb dX4_takesOf_85 (by decide) ?_
      refine r_putI (C := RX4) (T := TX4) (N := 80) hx hb hts ok4 hown hK hR hL (congrArg Prod.fst (hF.2.1 58 (5, 0) rfl)) rfl 42 (by decide) (hts _ q1675) (fun _ h9 => h9) (Or.inl rfl) rfl (by decide) (by decide) dX4_takesOf_89 (fun H locs hR hL => ?_)
      have hF := hF.sI 58 42 (1 : Int32)
      refine lv_iconst (v := 1) hx hb dX4_takesOf_92 (by decide) ?_
      have h := Option.some.inj h
      subst h
      exact W.zret (v := bI true) hx hb hr (bI_nar _) (fun t ht _ => ⟨rfl, by rw [ht]; exact hR, hF⟩) hL dX4_takesOf_93
    · rw [if_pos c8] at h
      refine lv_iload_n hx hb dX4_takesOf_80 rfl (lv_at hl 1 rfl) ?_
      refine lv_if_ne (tgt := 88) hx hb dX4_takesOf_81 (by decide) (fun c9 => ?_) (fun c9 => ?_)
      · rw [if_neg c9] at h
        refine lv_iconst (v := 0) hx hb dX4_takesOf_88 (by decide) ?_
        refine r_putI (C := RX4) (T := TX4) (N := 80) hx hb hts ok4 hown hK hR hL (congrArg Prod.fst (hF.2.1 58 (5, 0) rfl)) rfl 42 (by decide) (hts _ q1675) (fun _ h9 => h9) (Or.inl rfl) rfl (by decide) (by decide) dX4_takesOf_89 (fun H locs hR hL => ?_)
        have hF := hF.sI 58 42 (0 : Int32)
        refine lv_iconst (v := 1) hx hb dX4_takesOf_92 (by decide) ?_
        have h := Option.some.inj h
        subst h
        exact W.zret (v := bI true) hx hb hr (bI_nar _) (fun t ht _ => ⟨rfl, by rw [ht]; exact hR, hF⟩) hL dX4_takesOf_93
      · rw [if_pos c9] at h
        refine lv_iconst (v := 1) hx hb dX4_takesOf_84 (by decide) ?_
        refine lv_goto (tgt := 89) hx hb dX4_takesOf_85 (by decide) ?_
        refine r_putI (C := RX4) (T := TX4) (N := 80) hx hb hts ok4 hown hK hR hL (congrArg Prod.fst (hF.2.1 58 (5, 0) rfl)) rfl 42 (by decide) (hts _ q1675) (fun _ h9 => h9) (Or.inl rfl) rfl (by decide) (by decide) dX4_takesOf_89 (fun H locs hR hL => ?_)
        have hF := hF.sI 58 42 (1 : Int32)
        refine lv_iconst (v := 1) hx hb dX4_takesOf_92 (by decide) ?_
        have h := Option.some.inj h
        subst h
        exact W.zret (v := bI true) hx hb hr (bI_nar _) (fun t ht _ => ⟨rfl, by rw [ht]; exact hR, hF⟩) hL dX4_takesOf_93
  refine lv_aload_n hx hb dX4_takesOf_0 rfl (lv_at hl 0 rfl) ?_
  refine lv_bipush (v := 32) hx hb dX4_takesOf_1 (by decide) ?_
  obtain ⟨q1, hq2, h⟩ := bnd h
  refine c_VW (a := 58) (ci := 4) (q := (RX4, TX4, 80)) (rest := []) (st1 := [.int (bI q1.1)]) hx hb hml hown hts hK hR hF hL hl.1 (met_X4_takes l G z H0 w (32 : Int32) q1 hq2) (congrArg Prod.fst (hF.2.1 58 (5, 0) rfl)) rfl rfl rfl hd_X4_takes q2025 q2027 qs62 q104 q2028 ⟨Nat.le_of_ble_eq_true rfl, Nat.le_of_ble_eq_true rfl⟩ ⟨Nat.le_refl 0, Nat.le_refl 0⟩ rfl rfl (Nat.le_of_ble_eq_true rfl) dX4_takesOf_3 rfl (fun H locs hR hF hL => ?_)
  refine lv_if_eq (tgt := 16) hx hb dX4_takesOf_6 (by decide) (fun c3 => ?_) (fun c3 => ?_)
  · rw [if_neg (bI_n c3)] at h
    refine lv_iconst (v := 0) hx hb dX4_takesOf_16 (by decide) ?_
    have h := Option.some.inj h
    subst h
    exact W.zret (v := bI false) hx hb hr (bI_nar _) (fun t ht _ => ⟨rfl, by rw [ht]; exact hR, hF⟩) hL dX4_takesOf_17
  · rw [if_pos (bI_p c3)] at h
    refine lv_aload_n hx hb dX4_takesOf_9 rfl (lv_at hl 0 rfl) ?_
    obtain ⟨q4, hq5, h⟩ := bnd h
    refine c_VW (a := 58) (ci := 4) (q := (RX4, TX4, 80)) (rest := []) (st1 := [.int (bI q4.1)]) hx hb hml hown hts hK hR hF hL hl.1 (met_X4_takesNumber l G z H0 n q1.2  q4 hq5) (congrArg Prod.fst (hF.2.1 58 (5, 0) rfl)) rfl rfl rfl hd_X4_takesNumber q2033 q2035 qs64 q104 q2036 ⟨Nat.le_of_ble_eq_true rfl, Nat.le_of_ble_eq_true rfl⟩ ⟨Nat.le_refl 0, Nat.le_refl 0⟩ rfl rfl (Nat.le_of_ble_eq_true rfl) dX4_takesOf_10 rfl (fun H locs hR hF hL => ?_)
    refine lv_if_ne (tgt := 18) hx hb dX4_takesOf_13 (by decide) (fun c6 => ?_) (fun c6 => ?_)
    · rw [if_pos (bI_p c6)] at h
      refine lv_aload_n hx hb dX4_takesOf_18 rfl (lv_at hl 0 rfl) ?_
      refine r_get (C := RX4) (T := TX4) (N := 80) hx hb hts ok4 hown hK hR (congrArg Prod.fst (hF.2.1 58 (5, 0) rfl)) rfl 32 (by decide) (hts _ q1665) (fun _ h9 => h9) (v := .int (wI q4.2 58 32)) rfl dX4_takesOf_19 ?_
      refine lv_if_lt (tgt := 72) hx hb dX4_takesOf_22 (by decide) (fun c7 => ?_) (fun c7 => ?_)
      · rw [if_pos c7] at h
        exact hJ72  q4.2 h H locs ls hR hF hL (lv_sub hl [0, 2] rfl)
      · rw [if_neg c7] at h
        refine lv_iload_n hx hb dX4_takesOf_25 rfl (lv_at hl 1 rfl) ?_
        refine lv_if_eq (tgt := 46) hx hb dX4_takesOf_26 (by decide) (fun c10 => ?_) (fun c10 => ?_)
        · rw [if_pos c10] at h
          refine lv_aload_n hx hb dX4_takesOf_46 rfl (lv_at hl 0 rfl) ?_
          refine r_get (C := RX4) (T := TX4) (N := 80) hx hb hts ok4 hown hK hR (congrArg Prod.fst (hF.2.1 58 (5, 0) rfl)) rfl 7 (by decide) (hts _ q1640) (fun _ h9 => h9) (v := .ref (z + 62)) (fv_fix hF rfl rfl) dX4_takesOf_47 ?_
          refine lv_aload_n hx hb dX4_takesOf_50 rfl (lv_at hl 0 rfl) ?_
          refine r_get (C := RX4) (T := TX4) (N := 80) hx hb hts ok4 hown hK hR (congrArg Prod.fst (hF.2.1 58 (5, 0) rfl)) rfl 12 (by decide) (hts _ q1645) (fun _ h9 => h9) (v := .ref (z + 67)) (fv_fix hF rfl rfl) dX4_takesOf_51 ?_
          refine lv_aload_n hx hb dX4_takesOf_54 rfl (lv_at hl 0 rfl) ?_
          refine r_get (C := RX4) (T := TX4) (N := 80) hx hb hts ok4 hown hK hR (congrArg Prod.fst (hF.2.1 58 (5, 0) rfl)) rfl 32 (by decide) (hts _ q1665) (fun _ h9 => h9) (v := .int (wI q4.2 58 32)) rfl dX4_takesOf_55 ?_
          obtain ⟨hb11, h⟩ := grd h
          refine r_iald (v := wI q4.2 67 ((wI q4.2 58 32).toNatClampNeg)) hx hb hK hR (hF.2.1 67 (200, 24) rfl) hb11 rfl dX4_takesOf_58 ?_
          obtain ⟨hb12, h⟩ := grd h
          refine r_iald (v := wI q4.2 62 ((wI q4.2 67 ((wI q4.2 58 32).toNatClampNeg)).toNatClampNeg)) hx hb hK hR (hF.2.1 62 (200, 16) rfl) hb12 rfl dX4_takesOf_59 ?_
          refine lv_aload_n hx hb dX4_takesOf_60 rfl (lv_at hl 0 rfl) ?_
          refine r_get (C := RX4) (T := TX4) (N := 80) hx hb hts ok4 hown hK hR (congrArg Prod.fst (hF.2.1 58 (5, 0) rfl)) rfl 43 (by decide) (hts _ q1676) (fun _ h9 => h9) (v := .int (wI q4.2 58 43)) rfl dX4_takesOf_61 ?_
          refine lv_icmp_ne (tgt := 72) hx hb dX4_takesOf_64 (by decide) (fun c13 => ?_) (fun c13 => ?_)
          · rw [if_neg c13] at h
            exact hJ72  q4.2 h H locs ls hR hF hL (lv_sub hl [0, 2] rfl)
          · rw [if_pos c13] at h
            refine lv_aload_n hx hb dX4_takesOf_67 rfl (lv_at hl 0 rfl) ?_
            refine lv_iload_n hx hb dX4_takesOf_68 rfl (lv_at hl 2 rfl) ?_
            refine r_putI (C := RX4) (T := TX4) (N := 80) hx hb hts ok4 hown hK hR hL (congrArg Prod.fst (hF.2.1 58 (5, 0) rfl)) rfl 35 (by decide) (hts _ q1668) (fun _ h9 => h9) (Or.inl rfl) rfl rfl rfl dX4_takesOf_69 (fun H locs hR hL => ?_)
            have hF := hF.sI 58 35 a2
            exact hJ72  (sI q4.2 58 35 a2) h H locs ls hR hF hL (lv_sub hl [0, 2] rfl)
        · rw [if_neg c10] at h
          refine lv_aload_n hx hb dX4_takesOf_29 rfl (lv_at hl 0 rfl) ?_
          refine r_get (C := RX4) (T := TX4) (N := 80) hx hb hts ok4 hown hK hR (congrArg Prod.fst (hF.2.1 58 (5, 0) rfl)) rfl 8 (by decide) (hts _ q1641) (fun _ h9 => h9) (v := .ref (z + 63)) (fv_fix hF rfl rfl) dX4_takesOf_30 ?_
          refine lv_aload_n hx hb dX4_takesOf_33 rfl (lv_at hl 0 rfl) ?_
          refine r_get (C := RX4) (T := TX4) (N := 80) hx hb hts ok4 hown hK hR (congrArg Prod.fst (hF.2.1 58 (5, 0) rfl)) rfl 12 (by decide) (hts _ q1645) (fun _ h9 => h9) (v := .ref (z + 67)) (fv_fix hF rfl rfl) dX4_takesOf_34 ?_
          refine lv_aload_n hx hb dX4_takesOf_37 rfl (lv_at hl 0 rfl) ?_
          refine r_get (C := RX4) (T := TX4) (N := 80) hx hb hts ok4 hown hK hR (congrArg Prod.fst (hF.2.1 58 (5, 0) rfl)) rfl 32 (by decide) (hts _ q1665) (fun _ h9 => h9) (v := .int (wI q4.2 58 32)) rfl dX4_takesOf_38 ?_
          obtain ⟨hb14, h⟩ := grd h
          refine r_iald (v := wI q4.2 67 ((wI q4.2 58 32).toNatClampNeg)) hx hb hK hR (hF.2.1 67 (200, 24) rfl) hb14 rfl dX4_takesOf_41 ?_
          obtain ⟨hb15, h⟩ := grd h
          refine r_iald (v := wI q4.2 63 ((wI q4.2 67 ((wI q4.2 58 32).toNatClampNeg)).toNatClampNeg)) hx hb hK hR (hF.2.1 63 (200, 16) rfl) hb15 rfl dX4_takesOf_42 ?_
          refine lv_goto (tgt := 60) hx hb dX4_takesOf_43 (by decide) ?_
          refine lv_aload_n hx hb dX4_takesOf_60 rfl (lv_at hl 0 rfl) ?_
          refine r_get (C := RX4) (T := TX4) (N := 80) hx hb hts ok4 hown hK hR (congrArg Prod.fst (hF.2.1 58 (5, 0) rfl)) rfl 43 (by decide) (hts _ q1676) (fun _ h9 => h9) (v := .int (wI q4.2 58 43)) rfl dX4_takesOf_61 ?_
          refine lv_icmp_ne (tgt := 72) hx hb dX4_takesOf_64 (by decide) (fun c16 => ?_) (fun c16 => ?_)
          · rw [if_neg c16] at h
            exact hJ72  q4.2 h H locs ls hR hF hL (lv_sub hl [0, 2] rfl)
          · rw [if_pos c16] at h
            refine lv_aload_n hx hb dX4_takesOf_67 rfl (lv_at hl 0 rfl) ?_
            refine lv_iload_n hx hb dX4_takesOf_68 rfl (lv_at hl 2 rfl) ?_
            refine r_putI (C := RX4) (T := TX4) (N := 80) hx hb hts ok4 hown hK hR hL (congrArg Prod.fst (hF.2.1 58 (5, 0) rfl)) rfl 35 (by decide) (hts _ q1668) (fun _ h9 => h9) (Or.inl rfl) rfl rfl rfl dX4_takesOf_69 (fun H locs hR hL => ?_)
            have hF := hF.sI 58 35 a2
            exact hJ72  (sI q4.2 58 35 a2) h H locs ls hR hF hL (lv_sub hl [0, 2] rfl)
    · rw [if_neg (bI_n c6)] at h
      refine lv_iconst (v := 0) hx hb dX4_takesOf_16 (by decide) ?_
      have h := Option.some.inj h
      subst h
      exact W.zret (v := bI false) hx hb hr (bI_nar _) (fun t ht _ => ⟨rfl, by rw [ht]; exact hR, hF⟩) hL dX4_takesOf_17
def f_X4_takesLeave (n : Nat) (w : Wd) : Option (Bool × Wd) :=
  (f_X4_takesWord n (12748485 : Int64) (5 : Int32) (sI w 58 42 (1 : Int32))).bind fun q1 => if q1.1 then ((f_X4_takes (32 : Int32) q1.2).bind fun q4 => if q4.1 then ((f_X4_next q4.2).bind fun q7 => if (f_X4_in q7 (48 : Int32) (53 : Int32) q4.2) then ((f_X4_next q4.2).bind fun q10 => (f_X4_takes (32 : Int32) (sI q4.2 58 40 ((wI q4.2 58 40) + (1 : Int32)))).bind fun q12 => if q12.1 then ((f_X4_takesNumber n q12.2).bind fun q15 => if q15.1 then (if (q10 - (48 : Int32)) = (wI q15.2 58 34) then (if (wI q15.2 58 43) ≤ (wI q15.2 58 36) then (some (true, q15.2)) else (some (true, sI q15.2 58 36 (wI q15.2 58 43)))) else (some (true, q15.2))) else (some (false, q15.2))) else (some (false, q12.2))) else (some (false, q4.2))) else (some (false, q4.2))) else (some (false, q1.2))
theorem hd_X4_takesLeave : yX4_takesLeave.cls = RX4 ∧ yX4_takesLeave.cls ≠ "java/lang/invoke/MethodHandle" ∧ yX4_takesLeave.cls ≠ "java/lang/invoke/VarHandle" ∧ (parseMethodDescriptor yX4_takesLeave.desc).map (fun d => d.parameters.length) = some 0 := by decide +kernel
set_option maxHeartbeats 4000000 in
set_option maxRecDepth 100000 in
theorem met_X4_takesLeave (l : Launch) (G : Gw) (z : Nat) (H0 : Heap) (n : Nat) (w : Wd)  (q : Bool × Wd) (h : f_X4_takesLeave n w = some q) : Met l yX4_takesLeave (ws_ yX4_takesLeave cX4_takesLeave 2 (some .boolean)) ({ frames := 3, cells := 0, slots := 0, locals := 65 } : Room) (pcW G z H0 w [.ref (z + 58)]) (qW G z H0 q.2 (some (.int (bI q.1)))) 0 0 (fun q => z ≤ q) := by
  refine mW (by decide) (Nat.le_of_ble_eq_true rfl) ?_
  intro p e s m below meth c ls hx hb hr hml hown hts hlocks hnm hK hR hF hl
  have hown : s.vm.findClass RX4 = some m.cls := hown
  have hl : lv_has ls 2 [(0, .ref (z + 58))] := hl
  have hL : lok z [] := lok_nil
  unfold f_X4_takesLeave at h
  generalize s.heap = H at hR ⊢
  generalize ([] : List Loc) = locs at hL ⊢
  refine lv_aload_n hx hb dX4_takesLeave_0 rfl (lv_at hl 0 rfl) ?_
  refine lv_iconst (v := 1) hx hb dX4_takesLeave_1 (by decide) ?_
  refine r_putI (C := RX4) (T := TX4) (N := 80) hx hb hts ok4 hown hK hR hL (congrArg Prod.fst (hF.2.1 58 (5, 0) rfl)) rfl 42 (by decide) (hts _ q1675) (fun _ h9 => h9) (Or.inl rfl) rfl (by decide) (by decide) dX4_takesLeave_2 (fun H locs hR hL => ?_)
  have hF := hF.sI 58 42 (1 : Int32)
  refine lv_aload_n hx hb dX4_takesLeave_5 rfl (lv_at hl 0 rfl) ?_
  refine lv_ldc2 (v := 12748485) hx hb hown (hts _ q2047) dX4_takesLeave_6 ?_
  refine lv_iconst (v := 5) hx hb dX4_takesLeave_9 (by decide) ?_
  obtain ⟨q1, hq2, h⟩ := bnd h
  refine c_VW (a := 58) (ci := 4) (q := (RX4, TX4, 80)) (rest := []) (st1 := [.int (bI q1.1)]) hx hb hml hown hts hK hR hF hL hl.1 (met_X4_takesWord l G z H0 n (sI w 58 42 (1 : Int32)) (12748485 : Int64) (5 : Int32) q1 hq2) (congrArg Prod.fst (hF.2.1 58 (5, 0) rfl)) rfl rfl rfl hd_X4_takesWord q2020 q2022 qs61 q104 q2023 ⟨Nat.le_of_ble_eq_true rfl, Nat.le_of_ble_eq_true rfl⟩ ⟨Nat.le_refl 0, Nat.le_refl 0⟩ rfl rfl (Nat.le_of_ble_eq_true rfl) dX4_takesLeave_10 rfl (fun H locs hR hF hL => ?_)
  refine lv_if_eq (tgt := 40) hx hb dX4_takesLeave_13 (by decide) (fun c3 => ?_) (fun c3 => ?_)
  · rw [if_neg (bI_n c3)] at h
    refine lv_iconst (v := 0) hx hb dX4_takesLeave_40 (by decide) ?_
    have h := Option.some.inj h
    subst h
    exact W.zret (v := bI false) hx hb hr (bI_nar _) (fun t ht _ => ⟨rfl, by rw [ht]; exact hR, hF⟩) hL dX4_takesLeave_41
  · rw [if_pos (bI_p c3)] at h
    refine lv_aload_n hx hb dX4_takesLeave_16 rfl (lv_at hl 0 rfl) ?_
    refine lv_bipush (v := 32) hx hb dX4_takesLeave_17 (by decide) ?_
    obtain ⟨q4, hq5, h⟩ := bnd h
    refine c_VW (a := 58) (ci := 4) (q := (RX4, TX4, 80)) (rest := []) (st1 := [.int (bI q4.1)]) hx hb hml hown hts hK hR hF hL hl.1 (met_X4_takes l G z H0 q1.2 (32 : Int32) q4 hq5) (congrArg Prod.fst (hF.2.1 58 (5, 0) rfl)) rfl rfl rfl hd_X4_takes q2025 q2027 qs62 q104 q2028 ⟨Nat.le_of_ble_eq_true rfl, Nat.le_of_ble_eq_true rfl⟩ ⟨Nat.le_refl 0, Nat.le_refl 0⟩ rfl rfl (Nat.le_of_ble_eq_true rfl) dX4_takesLeave_19 rfl (fun H locs hR hF hL => ?_)
    refine lv_if_eq (tgt := 40) hx hb dX4_takesLeave_22 (by decide) (fun c6 => ?_) (fun c6 => ?_)
    · rw [if_neg (bI_n c6)] at h
      refine lv_iconst (v := 0) hx hb dX4_takesLeave_40 (by decide) ?_
      have h := Option.some.inj h
      subst h
      exact W.zret (v := bI false) hx hb hr (bI_nar _) (fun t ht _ => ⟨rfl, by rw [ht]; exact hR, hF⟩) hL dX4_takesLeave_41
    · rw [if_pos (bI_p c6)] at h
      refine lv_aload_n hx hb dX4_takesLeave_25 rfl (lv_at hl 0 rfl) ?_
      refine lv_aload_n hx hb dX4_takesLeave_26 rfl (lv_at hl 0 rfl) ?_
      obtain ⟨q7, hq8, h⟩ := bnd h
      refine c_VP (a := 58) (ci := 4) (q := (RX4, TX4, 80)) (rest := [.ref (z + 58)]) (st1 := [.int q7, .ref (z + 58)]) hx hb hml hown hts hK hR hF hL hl.1 (met_X4_next l G z H0 q4.2  q7 hq8) (congrArg Prod.fst (hF.2.1 58 (5, 0) rfl)) rfl rfl rfl hd_X4_next q2015 q2017 qs60 q104 q2018 ⟨Nat.le_of_ble_eq_true rfl, Nat.le_of_ble_eq_true rfl⟩ ⟨Nat.le_refl 0, Nat.le_refl 0⟩ rfl rfl (Nat.le_of_ble_eq_true rfl) dX4_takesLeave_27 rfl (fun locs hL => ?_)
      refine lv_bipush (v := 48) hx hb dX4_takesLeave_30 (by decide) ?_
      refine lv_bipush (v := 53) hx hb dX4_takesLeave_32 (by decide) ?_
      refine c_VP (a := 58) (ci := 4) (q := (RX4, TX4, 80)) (rest := []) (st1 := [.int (bI (f_X4_in q7 (48 : Int32) (53 : Int32) q4.2))]) hx hb hml hown hts hK hR hF hL hl.1 (met_X4_in l G z H0 q4.2 q7 (48 : Int32) (53 : Int32) _ rfl) (congrArg Prod.fst (hF.2.1 58 (5, 0) rfl)) rfl rfl rfl hd_X4_in q1878 q1880 qs41 q104 q1881 ⟨Nat.le_of_ble_eq_true rfl, Nat.le_of_ble_eq_true rfl⟩ ⟨Nat.le_refl 0, Nat.le_refl 0⟩ rfl rfl (Nat.le_of_ble_eq_true rfl) dX4_takesLeave_34 rfl (fun locs hL => ?_)
      refine lv_if_ne (tgt := 42) hx hb dX4_takesLeave_37 (by decide) (fun c9 => ?_) (fun c9 => ?_)
      · rw [if_pos (bI_p c9)] at h
        refine lv_aload_n hx hb dX4_takesLeave_42 rfl (lv_at hl 0 rfl) ?_
        obtain ⟨q10, hq11, h⟩ := bnd h
        refine c_VP (a := 58) (ci := 4) (q := (RX4, TX4, 80)) (rest := []) (st1 := [.int q10]) hx hb hml hown hts hK hR hF hL hl.1 (met_X4_next l G z H0 q4.2  q10 hq11) (congrArg Prod.fst (hF.2.1 58 (5, 0) rfl)) rfl rfl rfl hd_X4_next q2015 q2017 qs60 q104 q2018 ⟨Nat.le_of_ble_eq_true rfl, Nat.le_of_ble_eq_true rfl⟩ ⟨Nat.le_refl 0, Nat.le_refl 0⟩ rfl rfl (Nat.le_of_ble_eq_true rfl) dX4_takesLeave_43 rfl (fun locs hL => ?_)
        refine lv_bipush (v := 48) hx hb dX4_takesLeave_46 (by decide) ?_
        refine lv_isub hx hb dX4_takesLeave_48 ?_
        refine lv_istore_n (lv' := [(1, .int (q10 - (48 : Int32))), (0, .ref (z + 58))]) hx hb dX4_takesLeave_49 rfl hl (by decide) rfl (fun ls hl => ?_)
        refine lv_aload_n hx hb dX4_takesLeave_50 rfl (lv_at hl 1 rfl) ?_
        refine lv_dup hx hb dX4_takesLeave_51 rfl ?_
        refine r_get (C := RX4) (T := TX4) (N := 80) hx hb hts ok4 hown hK hR (congrArg Prod.fst (hF.2.1 58 (5, 0) rfl)) rfl 40 (by decide) (hts _ q1673) (fun _ h9 => h9) (v := .int (wI q4.2 58 40)) rfl dX4_takesLeave_52 ?_
        refine lv_iconst (v := 1) hx hb dX4_takesLeave_55 (by decide) ?_
        refine lv_iadd hx hb dX4_takesLeave_56 ?_
        refine r_putI (C := RX4) (T := TX4) (N := 80) hx hb hts ok4 hown hK hR hL (congrArg Prod.fst (hF.2.1 58 (5, 0) rfl)) rfl 40 (by decide) (hts _ q1673) (fun _ h9 => h9) (Or.inl rfl) rfl rfl rfl dX4_takesLeave_57 (fun H locs hR hL => ?_)
        have hF := hF.sI 58 40 ((wI q4.2 58 40) + (1 : Int32))
        refine lv_aload_n hx hb dX4_takesLeave_60 rfl (lv_at hl 1 rfl) ?_
        refine lv_bipush (v := 32) hx hb dX4_takesLeave_61 (by decide) ?_
        obtain ⟨q12, hq13, h⟩ := bnd h
        refine c_VW (a := 58) (ci := 4) (q := (RX4, TX4, 80)) (rest := []) (st1 := [.int (bI q12.1)]) hx hb hml hown hts hK hR hF hL hl.1 (met_X4_takes l G z H0 (sI q4.2 58 40 ((wI q4.2 58 40) + (1 : Int32))) (32 : Int32) q12 hq13) (congrArg Prod.fst (hF.2.1 58 (5, 0) rfl)) rfl rfl rfl hd_X4_takes q2025 q2027 qs62 q104 q2028 ⟨Nat.le_of_ble_eq_true rfl, Nat.le_of_ble_eq_true rfl⟩ ⟨Nat.le_refl 0, Nat.le_refl 0⟩ rfl rfl (Nat.le_of_ble_eq_true rfl) dX4_takesLeave_63 rfl (fun H locs hR hF hL => ?_)
        refine lv_if_eq (tgt := 76) hx hb dX4_takesLeave_66 (by decide) (fun c14 => ?_) (fun c14 => ?_)
        · rw [if_neg (bI_n c14)] at h
          refine lv_iconst (v := 0) hx hb dX4_takesLeave_76 (by decide) ?_
          have h := Option.some.inj h
          subst h
          exact W.zret (v := bI false) hx hb hr (bI_nar _) (fun t ht _ => ⟨rfl, by rw [ht]; exact hR, hF⟩) hL dX4_takesLeave_77
        · rw [if_pos (bI_p c14)] at h
          refine lv_aload_n hx hb dX4_takesLeave_69 rfl (lv_at hl 1 rfl) ?_
          obtain ⟨q15, hq16, h⟩ := bnd h
          refine c_VW (a := 58) (ci := 4) (q := (RX4, TX4, 80)) (rest := []) (st1 := [.int (bI q15.1)]) hx hb hml hown hts hK hR hF hL hl.1 (met_X4_takesNumber l G z H0 n q12.2  q15 hq16) (congrArg Prod.fst (hF.2.1 58 (5, 0) rfl)) rfl rfl rfl hd_X4_takesNumber q2033 q2035 qs64 q104 q2036 ⟨Nat.le_of_ble_eq_true rfl, Nat.le_of_ble_eq_true rfl⟩ ⟨Nat.le_refl 0, Nat.le_refl 0⟩ rfl rfl (Nat.le_of_ble_eq_true rfl) dX4_takesLeave_70 rfl (fun H locs hR hF hL => ?_)
          refine lv_if_ne (tgt := 78) hx hb dX4_takesLeave_73 (by decide) (fun c17 => ?_) (fun c17 => ?_)
          · rw [if_pos (bI_p c17)] at h
            refine lv_iload_n hx hb dX4_takesLeave_78 rfl (lv_at hl 0 rfl) ?_
            refine lv_aload_n hx hb dX4_takesLeave_79 rfl (lv_at hl 1 rfl) ?_
            refine r_get (C := RX4) (T := TX4) (N := 80) hx hb hts ok4 hown hK hR (congrArg Prod.fst (hF.2.1 58 (5, 0) rfl)) rfl 34 (by decide) (hts _ q1667) (fun _ h9 => h9) (v := .int (wI q15.2 58 34)) rfl dX4_takesLeave_80 ?_
            refine lv_icmp_ne (tgt := 105) hx hb dX4_takesLeave_83 (by decide) (fun c18 => ?_) (fun c18 => ?_)
            · rw [if_neg c18] at h
              refine lv_iconst (v := 1) hx hb dX4_takesLeave_105 (by decide) ?_
              have h := Option.some.inj h
              subst h
              exact W.zret (v := bI true) hx hb hr (bI_nar _) (fun t ht _ => ⟨rfl, by rw [ht]; exact hR, hF⟩) hL dX4_takesLeave_106
            · rw [if_pos c18] at h
              refine lv_aload_n hx hb dX4_takesLeave_86 rfl (lv_at hl 1 rfl) ?_
              refine r_get (C := RX4) (T := TX4) (N := 80) hx hb hts ok4 hown hK hR (congrArg Prod.fst (hF.2.1 58 (5, 0) rfl)) rfl 43 (by decide) (hts _ q1676) (fun _ h9 => h9) (v := .int (wI q15.2 58 43)) rfl dX4_takesLeave_87 ?_
              refine lv_aload_n hx hb dX4_takesLeave_90 rfl (lv_at hl 1 rfl) ?_
              refine r_get (C := RX4) (T := TX4) (N := 80) hx hb hts ok4 hown hK hR (congrArg Prod.fst (hF.2.1 58 (5, 0) rfl)) rfl 36 (by decide) (hts _ q1669) (fun _ h9 => h9) (v := .int (wI q15.2 58 36)) rfl dX4_takesLeave_91 ?_
              refine lv_icmp_le (tgt := 105) hx hb dX4_takesLeave_94 (by decide) (fun c19 => ?_) (fun c19 => ?_)
              · rw [if_pos c19] at h
                refine lv_iconst (v := 1) hx hb dX4_takesLeave_105 (by decide) ?_
                have h := Option.some.inj h
                subst h
                exact W.zret (v := bI true) hx hb hr (bI_nar _) (fun t ht _ => ⟨rfl, by rw [ht]; exact hR, hF⟩) hL dX4_takesLeave_106
              · rw [if_neg c19] at h
                refine lv_aload_n hx hb dX4_takesLeave_97 rfl (lv_at hl 1 rfl) ?_
                refine lv_aload_n hx hb dX4_takesLeave_98 rfl (lv_at hl 1 rfl) ?_
                refine r_get (C := RX4) (T := TX4) (N := 80) hx hb hts ok4 hown hK hR (congrArg Prod.fst (hF.2.1 58 (5, 0) rfl)) rfl 43 (by decide) (hts _ q1676) (fun _ h9 => h9) (v := .int (wI q15.2 58 43)) rfl dX4_takesLeave_99 ?_
                refine r_putI (C := RX4) (T := TX4) (N := 80) hx hb hts ok4 hown hK hR hL (congrArg Prod.fst (hF.2.1 58 (5, 0) rfl)) rfl 36 (by decide) (hts _ q1669) (fun _ h9 => h9) (Or.inl rfl) rfl rfl rfl dX4_takesLeave_102 (fun H locs hR hL => ?_)
                have hF := hF.sI 58 36 (wI q15.2 58 43)
                refine lv_iconst (v := 1) hx hb dX4_takesLeave_105 (by decide) ?_
                have h := Option.some.inj h
                subst h
                exact W.zret (v := bI true) hx hb hr (bI_nar _) (fun t ht _ => ⟨rfl, by rw [ht]; exact hR, hF⟩) hL dX4_takesLeave_106
          · rw [if_neg (bI_n c17)] at h
            refine lv_iconst (v := 0) hx hb dX4_takesLeave_76 (by decide) ?_
            have h := Option.some.inj h
            subst h
            exact W.zret (v := bI false) hx hb hr (bI_nar _) (fun t ht _ => ⟨rfl, by rw [ht]; exact hR, hF⟩) hL dX4_takesLeave_77
      · rw [if_neg (bI_n c9)] at h
        refine lv_iconst (v := 0) hx hb dX4_takesLeave_40 (by decide) ?_
        have h := Option.some.inj h
        subst h
        exact W.zret (v := bI false) hx hb hr (bI_nar _) (fun t ht _ => ⟨rfl, by rw [ht]; exact hR, hF⟩) hL dX4_takesLeave_41
def f_X4_wordsOf (a1 : Int32) (w : Wd) : Option (Int32) :=
  if 0 ≤ a1 then (if inb (wI w 58 32) 24 then (if inb (((16 : Int32) * (wI w 67 ((wI w 58 32).toNatClampNeg))) + a1) 256 then (some (wI w 66 ((((16 : Int32) * (wI w 67 ((wI w 58 32).toNatClampNeg))) + a1).toNatClampNeg))) else none) else none) else (some (0 : Int32))
theorem hd_X4_wordsOf : yX4_wordsOf.cls = RX4 ∧ yX4_wordsOf.cls ≠ "java/lang/invoke/MethodHandle" ∧ yX4_wordsOf.cls ≠ "java/lang/invoke/VarHandle" ∧ (parseMethodDescriptor yX4_wordsOf.desc).map (fun d => d.parameters.length) = some 1 := by decide +kernel
set_option maxHeartbeats 4000000 in
set_option maxRecDepth 100000 in
theorem met_X4_wordsOf (l : Launch) (G : Gw) (z : Nat) (H0 : Heap)  (w : Wd) (a1 : Int32) (q : Int32) (h : f_X4_wordsOf a1 w = some q) : Met l yX4_wordsOf (ws_ yX4_wordsOf cX4_wordsOf 2 (some .int)) ({ frames := 0, cells := 0, slots := 0, locals := 0 } : Room) (pcW G z H0 w [.ref (z + 58), .int a1]) (qP (some (.int q))) 0 0 (fun q => z ≤ q) := by
  refine mW (by decide) (Nat.le_of_ble_eq_true rfl) ?_
  intro p e s m below meth c ls hx hb hr hml hown hts hlocks hnm hK hR hF hl
  have hown : s.vm.findClass RX4 = some m.cls := hown
  have hl : lv_has ls 2 [(0, .ref (z + 58)), (1, .int a1)] := hl
  have hL : lok z [] := lok_nil
  unfold f_X4_wordsOf at h
  generalize ([] : List Loc) = locs at hL ⊢
  refine lv_iload_n hx hb dX4_wordsOf_0 rfl (lv_at hl 1 rfl) ?_
  refine lv_if_ge (tgt := 8) hx hb dX4_wordsOf_1 (by decide) (fun c1 => ?_) (fun c1 => ?_)
  · rw [if_pos c1] at h
    refine lv_aload_n hx hb dX4_wordsOf_8 rfl (lv_at hl 0 rfl) ?_
    refine r_get (C := RX4) (T := TX4) (N := 80) hx hb hts ok4 hown hK hR (congrArg Prod.fst (hF.2.1 58 (5, 0) rfl)) rfl 11 (by decide) (hts _ q1644) (fun _ h9 => h9) (v := .ref (z + 66)) (fv_fix hF rfl rfl) dX4_wordsOf_9 ?_
    refine lv_bipush (v := 16) hx hb dX4_wordsOf_12 (by decide) ?_
    refine lv_aload_n hx hb dX4_wordsOf_14 rfl (lv_at hl 0 rfl) ?_
    refine r_get (C := RX4) (T := TX4) (N := 80) hx hb hts ok4 hown hK hR (congrArg Prod.fst (hF.2.1 58 (5, 0) rfl)) rfl 12 (by decide) (hts _ q1645) (fun _ h9 => h9) (v := .ref (z + 67)) (fv_fix hF rfl rfl) dX4_wordsOf_15 ?_
    refine lv_aload_n hx hb dX4_wordsOf_18 rfl (lv_at hl 0 rfl) ?_
    refine r_get (C := RX4) (T := TX4) (N := 80) hx hb hts ok4 hown hK hR (congrArg Prod.fst (hF.2.1 58 (5, 0) rfl)) rfl 32 (by decide) (hts _ q1665) (fun _ h9 => h9) (v := .int (wI w 58 32)) rfl dX4_wordsOf_19 ?_
    obtain ⟨hb2, h⟩ := grd h
    refine r_iald (v := wI w 67 ((wI w 58 32).toNatClampNeg)) hx hb hK hR (hF.2.1 67 (200, 24) rfl) hb2 rfl dX4_wordsOf_22 ?_
    refine lv_imul hx hb dX4_wordsOf_23 ?_
    refine lv_iload_n hx hb dX4_wordsOf_24 rfl (lv_at hl 1 rfl) ?_
    refine lv_iadd hx hb dX4_wordsOf_25 ?_
    obtain ⟨hb3, h⟩ := grd h
    refine r_iald (v := wI w 66 ((((16 : Int32) * (wI w 67 ((wI w 58 32).toNatClampNeg))) + a1).toNatClampNeg)) hx hb hK hR (hF.2.1 66 (200, 256) rfl) hb3 rfl dX4_wordsOf_26 ?_
    have h := Option.some.inj h
    subst h
    exact W.iret (v := wI w 66 ((((16 : Int32) * (wI w 67 ((wI w 58 32).toNatClampNeg))) + a1).toNatClampNeg)) hx hb hr (fun t ht _ => ⟨rfl, ht⟩) hL dX4_wordsOf_27
  · rw [if_neg c1] at h
    refine lv_iconst (v := 0) hx hb dX4_wordsOf_4 (by decide) ?_
    refine lv_goto (tgt := 27) hx hb dX4_wordsOf_5 (by decide) ?_
    have h := Option.some.inj h
    subst h
    exact W.iret (v := (0 : Int32)) hx hb hr (fun t ht _ => ⟨rfl, ht⟩) hL dX4_wordsOf_27
def f_X4_nearLine (a1 : Int32) (w : Wd) : Option (Int32) :=
  if (f_X4_in ((wI w 58 33) + a1) (0 : Int32) (15 : Int32) w) then (if inb (wI w 58 32) 24 then (if (((wI w 68 ((wI w 58 32).toNatClampNeg)) >>> (((wI w 58 33) + a1) &&& 31)) &&& (1 : Int32)) = (1 : Int32) then (some ((wI w 58 33) + a1)) else (some (-1 : Int32))) else none) else (some (-1 : Int32))
theorem hd_X4_nearLine : yX4_nearLine.cls = RX4 ∧ yX4_nearLine.cls ≠ "java/lang/invoke/MethodHandle" ∧ yX4_nearLine.cls ≠ "java/lang/invoke/VarHandle" ∧ (parseMethodDescriptor yX4_nearLine.desc).map (fun d => d.parameters.length) = some 1 := by decide +kernel
set_option maxHeartbeats 4000000 in
set_option maxRecDepth 100000 in
theorem met_X4_nearLine (l : Launch) (G : Gw) (z : Nat) (H0 : Heap)  (w : Wd) (a1 : Int32) (q : Int32) (h : f_X4_nearLine a1 w = some q) : Met l yX4_nearLine (ws_ yX4_nearLine cX4_nearLine 3 (some .int)) ({ frames := 1, cells := 0, slots := 0, locals := 23 } : Room) (pcW G z H0 w [.ref (z + 58), .int a1]) (qP (some (.int q))) 0 0 (fun q => z ≤ q) := by
  refine mW (by decide) (Nat.le_of_ble_eq_true rfl) ?_
  intro p e s m below meth c ls hx hb hr hml hown hts hlocks hnm hK hR hF hl
  have hown : s.vm.findClass RX4 = some m.cls := hown
  have hl : lv_has ls 3 [(0, .ref (z + 58)), (1, .int a1)] := hl
  have hL : lok z [] := lok_nil
  unfold f_X4_nearLine at h
  generalize ([] : List Loc) = locs at hL ⊢
  refine lv_aload_n hx hb dX4_nearLine_0 rfl (lv_at hl 0 rfl) ?_
  refine r_get (C := RX4) (T := TX4) (N := 80) hx hb hts ok4 hown hK hR (congrArg Prod.fst (hF.2.1 58 (5, 0) rfl)) rfl 33 (by decide) (hts _ q1666) (fun _ h9 => h9) (v := .int (wI w 58 33)) rfl dX4_nearLine_1 ?_
  refine lv_iload_n hx hb dX4_nearLine_4 rfl (lv_at hl 1 rfl) ?_
  refine lv_iadd hx hb dX4_nearLine_5 ?_
  refine lv_istore_n (lv' := [(2, .int ((wI w 58 33) + a1)), (0, .ref (z + 58)), (1, .int a1)]) hx hb dX4_nearLine_6 rfl hl (by decide) rfl (fun ls hl => ?_)
  refine lv_aload_n hx hb dX4_nearLine_7 rfl (lv_at hl 1 rfl) ?_
  refine lv_iload_n hx hb dX4_nearLine_8 rfl (lv_at hl 0 rfl) ?_
  refine lv_iconst (v := 0) hx hb dX4_nearLine_9 (by decide) ?_
  refine lv_bipush (v := 15) hx hb dX4_nearLine_10 (by decide) ?_
  refine c_VP (a := 58) (ci := 4) (q := (RX4, TX4, 80)) (rest := []) (st1 := [.int (bI (f_X4_in ((wI w 58 33) + a1) (0 : Int32) (15 : Int32) w))]) hx hb hml hown hts hK hR hF hL hl.1 (met_X4_in l G z H0 w ((wI w 58 33) + a1) (0 : Int32) (15 : Int32) _ rfl) (congrArg Prod.fst (hF.2.1 58 (5, 0) rfl)) rfl rfl rfl hd_X4_in q1878 q1880 qs41 q104 q1881 ⟨Nat.le_of_ble_eq_true rfl, Nat.le_of_ble_eq_true rfl⟩ ⟨Nat.le_refl 0, Nat.le_refl 0⟩ rfl rfl (Nat.le_of_ble_eq_true rfl) dX4_nearLine_12 rfl (fun locs hL => ?_)
  refine lv_if_eq (tgt := 39) hx hb dX4_nearLine_15 (by decide) (fun c1 => ?_) (fun c1 => ?_)
  · rw [if_neg (bI_n c1)] at h
    refine lv_iconst (v := -1) hx hb dX4_nearLine_39 (by decide) ?_
    have h := Option.some.inj h
    subst h
    exact W.iret (v := (-1 : Int32)) hx hb hr (fun t ht _ => ⟨rfl, ht⟩) hL dX4_nearLine_40
  · rw [if_pos (bI_p c1)] at h
    refine lv_aload_n hx hb dX4_nearLine_18 rfl (lv_at hl 1 rfl) ?_
    refine r_get (C := RX4) (T := TX4) (N := 80) hx hb hts ok4 hown hK hR (congrArg Prod.fst (hF.2.1 58 (5, 0) rfl)) rfl 13 (by decide) (hts _ q1646) (fun _ h9 => h9) (v := .ref (z + 68)) (fv_fix hF rfl rfl) dX4_nearLine_19 ?_
    refine lv_aload_n hx hb dX4_nearLine_22 rfl (lv_at hl 1 rfl) ?_
    refine r_get (C := RX4) (T := TX4) (N := 80) hx hb hts ok4 hown hK hR (congrArg Prod.fst (hF.2.1 58 (5, 0) rfl)) rfl 32 (by decide) (hts _ q1665) (fun _ h9 => h9) (v := .int (wI w 58 32)) rfl dX4_nearLine_23 ?_
    obtain ⟨hb2, h⟩ := grd h
    refine r_iald (v := wI w 68 ((wI w 58 32).toNatClampNeg)) hx hb hK hR (hF.2.1 68 (200, 24) rfl) hb2 rfl dX4_nearLine_26 ?_
    refine lv_iload_n hx hb dX4_nearLine_27 rfl (lv_at hl 0 rfl) ?_
    refine lv_ishr hx hb dX4_nearLine_28 ?_
    refine lv_iconst (v := 1) hx hb dX4_nearLine_29 (by decide) ?_
    refine lv_iand hx hb dX4_nearLine_30 ?_
    refine lv_iconst (v := 1) hx hb dX4_nearLine_31 (by decide) ?_
    refine lv_icmp_ne (tgt := 39) hx hb dX4_nearLine_32 (by decide) (fun c3 => ?_) (fun c3 => ?_)
    · rw [if_neg c3] at h
      refine lv_iconst (v := -1) hx hb dX4_nearLine_39 (by decide) ?_
      have h := Option.some.inj h
      subst h
      exact W.iret (v := (-1 : Int32)) hx hb hr (fun t ht _ => ⟨rfl, ht⟩) hL dX4_nearLine_40
    · rw [if_pos c3] at h
      refine lv_iload_n hx hb dX4_nearLine_35 rfl (lv_at hl 0 rfl) ?_
      refine lv_goto (tgt := 40) hx hb dX4_nearLine_36 (by decide) ?_
      have h := Option.some.inj h
      subst h
      exact W.iret (v := (wI w 58 33) + a1) hx hb hr (fun t ht _ => ⟨rfl, ht⟩) hL dX4_nearLine_40
def f_X4_ones_L4 (n : Nat) (w : Wd) (s1 : Int32 × Int32) : Option ((Int32 × Int32) ⊕ ((Int32 × Int32))) :=
  if s1.1 = 0 then (some (.inr (s1.1, s1.2))) else (some (.inl (s1.1 &&& (s1.1 - (1 : Int32)), s1.2 + (1 : Int32))))
def f_X4_ones (n : Nat) (a1 : Int32) (w : Wd) : Option (Int32) :=
  (it n (f_X4_ones_L4 n w) (a1, (0 : Int32))).bind fun q4_20 => some q4_20.2
theorem hd_X4_ones : yX4_ones.cls = RX4 ∧ yX4_ones.cls ≠ "java/lang/invoke/MethodHandle" ∧ yX4_ones.cls ≠ "java/lang/invoke/VarHandle" ∧ (parseMethodDescriptor yX4_ones.desc).map (fun d => d.parameters.length) = some 1 := by decide +kernel
set_option maxHeartbeats 4000000 in
set_option maxRecDepth 100000 in
theorem met_X4_ones (l : Launch) (G : Gw) (z : Nat) (H0 : Heap) (n : Nat) (w : Wd) (a1 : Int32) (q : Int32) (h : f_X4_ones n a1 w = some q) : Met l yX4_ones (ws_ yX4_ones cX4_ones 4 (some .int)) ({ frames := 0, cells := 0, slots := 0, locals := 0 } : Room) (pcW G z H0 w [.ref (z + 58), .int a1]) (qP (some (.int q))) 0 0 (fun q => z ≤ q) := by
  refine mW (by decide) (Nat.le_of_ble_eq_true rfl) ?_
  intro p e s m below meth c ls hx hb hr hml hown hts hlocks hnm hK hR hF hl
  have hown : s.vm.findClass RX4 = some m.cls := hown
  have hl : lv_has ls 4 [(0, .ref (z + 58)), (1, .int a1)] := hl
  have hL : lok z [] := lok_nil
  unfold f_X4_ones at h
  generalize ([] : List Loc) = locs at hL ⊢
  refine lv_iconst (v := 0) hx hb dX4_ones_0 (by decide) ?_
  refine lv_istore_n (lv' := [(2, .int (0 : Int32)), (0, .ref (z + 58)), (1, .int a1)]) hx hb dX4_ones_1 rfl hl (by decide) rfl (fun ls hl => ?_)
  refine lv_iload_n hx hb dX4_ones_2 rfl (lv_at hl 2 rfl) ?_
  refine lv_istore_n (lv' := [(3, .int a1), (2, .int (0 : Int32)), (0, .ref (z + 58)), (1, .int a1)]) hx hb dX4_ones_3 rfl hl (by decide) rfl (fun ls hl => ?_)
  have hX4_20 : ∀ (q4_20 : Int32 × Int32), (some q4_20.2) = some q → ∀ (locs : List Loc) (ls : Array Slot), lok z locs → lv_has ls 4 [(2, .int q4_20.2)] → W p l e ({ frames := 0, cells := 0, slots := 0, locals := 0 } : Room) s m ([.ref (z + 58), .int a1] : List Value).toArray below meth c s.heap locs 0 0 (MQ below (qP (some (.int q))) ([.ref (z + 58), .int a1] : List Value).toArray s 0 0 (fun q => z ≤ q)) (F0 m 20 ls []) := by
    intro q4_20 h locs ls hL hl
    refine lv_iload_n hx hb dX4_ones_20 rfl (lv_at hl 0 rfl) ?_
    have h := Option.some.inj h
    subst h
    exact W.iret (v := q4_20.2) hx hb hr (fun t ht _ => ⟨rfl, ht⟩) hL dX4_ones_21
  obtain ⟨t2, hq3, h⟩ := bnd h
  refine it_W (b := f_X4_ones_L4 n w) (P := fun (s1 : Int32 × Int32) => ∀ (locs : List Loc) (ls : Array Slot), lok z locs → lv_has ls 4 [(3, .int s1.1), (2, .int s1.2)] → W p l e ({ frames := 0, cells := 0, slots := 0, locals := 0 } : Room) s m ([.ref (z + 58), .int a1] : List Value).toArray below meth c s.heap locs 0 0 (MQ below (qP (some (.int q))) ([.ref (z + 58), .int a1] : List Value).toArray s 0 0 (fun q => z ≤ q)) (F0 m 4 ls [])) (K := fun q4_20 => (some q4_20.2) = some q) (fun s1 x1 h hc1 ht1 => ?_) n (a1, (0 : Int32)) t2 hq3 h locs ls hL (lv_sub hl [0, 1] rfl)
  intro locs ls hL hl
  unfold f_X4_ones_L4 at h
  refine lv_iload_n hx hb dX4_ones_4 rfl (lv_at hl 0 rfl) ?_
  refine lv_if_eq (tgt := 20) hx hb dX4_ones_5 (by decide) (fun c1 => ?_) (fun c1 => ?_)
  · rw [if_pos c1] at h
    exact hX4_20 (s1.1, s1.2) (ht1 _ (Option.some.inj h).symm) locs ls hL (lv_sub hl [1] rfl)
  · rw [if_neg c1] at h
    refine lv_iinc (v := s1.2 + (1 : Int32)) (lv' := [(2, .int (s1.2 + (1 : Int32))), (3, .int s1.1)]) hx hb dX4_ones_8 hl (k := 1) rfl rfl (by decide) rfl (fun ls hl => ?_)
    refine lv_iload_n hx hb dX4_ones_11 rfl (lv_at hl 1 rfl) ?_
    refine lv_iload_n hx hb dX4_ones_12 rfl (lv_at hl 1 rfl) ?_
    refine lv_iconst (v := 1) hx hb dX4_ones_13 (by decide) ?_
    refine lv_isub hx hb dX4_ones_14 ?_
    refine lv_iand hx hb dX4_ones_15 ?_
    refine lv_istore_n (lv' := [(3, .int (s1.1 &&& (s1.1 - (1 : Int32)))), (2, .int (s1.2 + (1 : Int32)))]) hx hb dX4_ones_16 rfl hl (by decide) rfl (fun ls hl => ?_)
    refine lv_goto (tgt := 4) hx hb dX4_ones_17 (by decide) ?_
    exact hc1 _ (Option.some.inj h).symm locs ls hL (lv_sub hl [0, 1] rfl)
def f_X4_holdsOne (n : Nat) (a1 : Int32) (a2 : Int32) (w : Wd) : Option (Bool) :=
  if (wI w 58 32) < 0 then (some false) else (if 0 ≤ (wI w 58 33) then (if a1 = 97 then (if inb (wI w 58 32) 24 then (if inb (wI w 67 ((wI w 58 32).toNatClampNeg)) 16 then (if (wI w 63 ((wI w 67 ((wI w 58 32).toNatClampNeg)).toNatClampNeg)) = a2 then (some true) else (some false)) else none) else none) else (if a1 = 98 then (if (16 : Int32) ≤ a2 then (some false) else ((f_X4_nearLine (-1 : Int32) w).bind fun q9 => (f_X4_wordsOf q9 w).bind fun q11 => (f_X4_nearLine (1 : Int32) w).bind fun q13 => (f_X4_wordsOf q13 w).bind fun q15 => if (((q11 ||| q15) >>> (a2 &&& 31)) &&& (1 : Int32)) = (1 : Int32) then (some true) else (some false))) else (if a1 = 99 then ((f_X4_wordsOf (wI w 58 33) w).bind fun q19 => (f_X4_ones n q19 w).bind fun q21 => if q21 < a2 then (some false) else (some true)) else (if a1 = 119 then (if (16 : Int32) ≤ a2 then (some false) else ((f_X4_wordsOf (wI w 58 33) w).bind fun q26 => if ((q26 >>> (a2 &&& 31)) &&& (1 : Int32)) = (1 : Int32) then (some true) else (some false))) else (if inb (wI w 58 32) 24 then (if inb (wI w 67 ((wI w 58 32).toNatClampNeg)) 16 then (if (wI w 64 ((wI w 67 ((wI w 58 32).toNatClampNeg)).toNatClampNeg)) < a2 then (some false) else (some true)) else none) else none))))) else (some false))
theorem hd_X4_holdsOne : yX4_holdsOne.cls = RX4 ∧ yX4_holdsOne.cls ≠ "java/lang/invoke/MethodHandle" ∧ yX4_holdsOne.cls ≠ "java/lang/invoke/VarHandle" ∧ (parseMethodDescriptor yX4_holdsOne.desc).map (fun d => d.parameters.length) = some 2 := by decide +kernel
set_option maxHeartbeats 4000000 in
set_option maxRecDepth 100000 in
theorem met_X4_holdsOne (l : Launch) (G : Gw) (z : Nat) (H0 : Heap) (n : Nat) (w : Wd) (a1 : Int32) (a2 : Int32) (q : Bool) (h : f_X4_holdsOne n a1 a2 w = some q) : Met l yX4_holdsOne (ws_ yX4_holdsOne cX4_holdsOne 3 (some .boolean)) ({ frames := 2, cells := 0, slots := 0, locals := 45 } : Room) (pcW G z H0 w [.ref (z + 58), .int a1, .int a2]) (qP (some (.int (bI q)))) 0 0 (fun q => z ≤ q) := by
  refine mW (by decide) (Nat.le_of_ble_eq_true rfl) ?_
  intro p e s m below meth c ls hx hb hr hml hown hts hlocks hnm hK hR hF hl
  have hown : s.vm.findClass RX4 = some m.cls := hown
  have hl : lv_has ls 3 [(0, .ref (z + 58)), (1, .int a1), (2, .int a2)] := hl
  have hL : lok z [] := lok_nil
  unfold f_X4_holdsOne at h
  generalize ([] : List Loc) = locs at hL ⊢
  refine lv_aload_n hx hb dX4_holdsOne_0 rfl (lv_at hl 0 rfl) ?_
  refine r_get (C := RX4) (T := TX4) (N := 80) hx hb hts ok4 hown hK hR (congrArg Prod.fst (hF.2.1 58 (5, 0) rfl)) rfl 32 (by decide) (hts _ q1665) (fun _ h9 => h9) (v := .int (wI w 58 32)) rfl dX4_holdsOne_1 ?_
  refine lv_if_lt (tgt := 14) hx hb dX4_holdsOne_4 (by decide) (fun c1 => ?_) (fun c1 => ?_)
  · rw [if_pos c1] at h
    refine lv_iconst (v := 0) hx hb dX4_holdsOne_14 (by decide) ?_
    have h := Option.some.inj h
    subst h
    exact W.zret (v := bI false) hx hb hr (bI_nar _) (fun t ht _ => ⟨rfl, ht⟩) hL dX4_holdsOne_15
  · rw [if_neg c1] at h
    refine lv_aload_n hx hb dX4_holdsOne_7 rfl (lv_at hl 0 rfl) ?_
    refine r_get (C := RX4) (T := TX4) (N := 80) hx hb hts ok4 hown hK hR (congrArg Prod.fst (hF.2.1 58 (5, 0) rfl)) rfl 33 (by decide) (hts _ q1666) (fun _ h9 => h9) (v := .int (wI w 58 33)) rfl dX4_holdsOne_8 ?_
    refine lv_if_ge (tgt := 16) hx hb dX4_holdsOne_11 (by decide) (fun c2 => ?_) (fun c2 => ?_)
    · rw [if_pos c2] at h
      refine lv_iload_n hx hb dX4_holdsOne_16 rfl (lv_at hl 1 rfl) ?_
      by_cases c3 : a1 = 97
      · rw [if_pos c3] at h
        refine lv_lookup (off := 132) (tgt := 149) hx hb dX4_holdsOne_17 (by decide) (by rw [c3]; decide) (by decide) ?_
        refine lv_aload_n hx hb dX4_holdsOne_149 rfl (lv_at hl 0 rfl) ?_
        refine r_get (C := RX4) (T := TX4) (N := 80) hx hb hts ok4 hown hK hR (congrArg Prod.fst (hF.2.1 58 (5, 0) rfl)) rfl 8 (by decide) (hts _ q1641) (fun _ h9 => h9) (v := .ref (z + 63)) (fv_fix hF rfl rfl) dX4_holdsOne_150 ?_
        refine lv_aload_n hx hb dX4_holdsOne_153 rfl (lv_at hl 0 rfl) ?_
        refine r_get (C := RX4) (T := TX4) (N := 80) hx hb hts ok4 hown hK hR (congrArg Prod.fst (hF.2.1 58 (5, 0) rfl)) rfl 12 (by decide) (hts _ q1645) (fun _ h9 => h9) (v := .ref (z + 67)) (fv_fix hF rfl rfl) dX4_holdsOne_154 ?_
        refine lv_aload_n hx hb dX4_holdsOne_157 rfl (lv_at hl 0 rfl) ?_
        refine r_get (C := RX4) (T := TX4) (N := 80) hx hb hts ok4 hown hK hR (congrArg Prod.fst (hF.2.1 58 (5, 0) rfl)) rfl 32 (by decide) (hts _ q1665) (fun _ h9 => h9) (v := .int (wI w 58 32)) rfl dX4_holdsOne_158 ?_
        obtain ⟨hb4, h⟩ := grd h
        refine r_iald (v := wI w 67 ((wI w 58 32).toNatClampNeg)) hx hb hK hR (hF.2.1 67 (200, 24) rfl) hb4 rfl dX4_holdsOne_161 ?_
        obtain ⟨hb5, h⟩ := grd h
        refine r_iald (v := wI w 63 ((wI w 67 ((wI w 58 32).toNatClampNeg)).toNatClampNeg)) hx hb hK hR (hF.2.1 63 (200, 16) rfl) hb5 rfl dX4_holdsOne_162 ?_
        refine lv_iload_n hx hb dX4_holdsOne_163 rfl (lv_at hl 2 rfl) ?_
        refine lv_icmp_ne (tgt := 171) hx hb dX4_holdsOne_164 (by decide) (fun c6 => ?_) (fun c6 => ?_)
        · rw [if_neg c6] at h
          refine lv_iconst (v := 0) hx hb dX4_holdsOne_171 (by decide) ?_
          have h := Option.some.inj h
          subst h
          exact W.zret (v := bI false) hx hb hr (bI_nar _) (fun t ht _ => ⟨rfl, ht⟩) hL dX4_holdsOne_172
        · rw [if_pos c6] at h
          refine lv_iconst (v := 1) hx hb dX4_holdsOne_167 (by decide) ?_
          refine lv_goto (tgt := 172) hx hb dX4_holdsOne_168 (by decide) ?_
          have h := Option.some.inj h
          subst h
          exact W.zret (v := bI true) hx hb hr (bI_nar _) (fun t ht _ => ⟨rfl, ht⟩) hL dX4_holdsOne_172
      rw [if_neg c3] at h
      by_cases c7 : a1 = 98
      · rw [if_pos c7] at h
        refine lv_lookup (off := 71) (tgt := 88) hx hb dX4_holdsOne_17 (by decide) (by rw [c7]; decide) (by decide) ?_
        refine lv_iload_n hx hb dX4_holdsOne_88 rfl (lv_at hl 2 rfl) ?_
        refine lv_bipush (v := 16) hx hb dX4_holdsOne_89 (by decide) ?_
        refine lv_icmp_ge (tgt := 125) hx hb dX4_holdsOne_91 (by decide) (fun c8 => ?_) (fun c8 => ?_)
        · rw [if_pos c8] at h
          refine lv_iconst (v := 0) hx hb dX4_holdsOne_125 (by decide) ?_
          have h := Option.some.inj h
          subst h
          exact W.zret (v := bI false) hx hb hr (bI_nar _) (fun t ht _ => ⟨rfl, ht⟩) hL dX4_holdsOne_126
        · rw [if_neg c8] at h
          refine lv_aload_n hx hb dX4_holdsOne_94 rfl (lv_at hl 0 rfl) ?_
          refine lv_aload_n hx hb dX4_holdsOne_95 rfl (lv_at hl 0 rfl) ?_
          refine lv_iconst (v := -1) hx hb dX4_holdsOne_96 (by decide) ?_
          obtain ⟨q9, hq10, h⟩ := bnd h
          refine c_VP (a := 58) (ci := 4) (q := (RX4, TX4, 80)) (rest := [.ref (z + 58)]) (st1 := [.int q9, .ref (z + 58)]) hx hb hml hown hts hK hR hF hL hl.1 (met_X4_nearLine l G z H0 w (-1 : Int32) q9 hq10) (congrArg Prod.fst (hF.2.1 58 (5, 0) rfl)) rfl rfl rfl hd_X4_nearLine q2065 q2067 qs71 q104 q2068 ⟨Nat.le_of_ble_eq_true rfl, Nat.le_of_ble_eq_true rfl⟩ ⟨Nat.le_refl 0, Nat.le_refl 0⟩ rfl rfl (Nat.le_of_ble_eq_true rfl) dX4_holdsOne_97 rfl (fun locs hL => ?_)
          obtain ⟨q11, hq12, h⟩ := bnd h
          refine c_VP (a := 58) (ci := 4) (q := (RX4, TX4, 80)) (rest := []) (st1 := [.int q11]) hx hb hml hown hts hK hR hF hL hl.1 (met_X4_wordsOf l G z H0 w q9 q11 hq12) (congrArg Prod.fst (hF.2.1 58 (5, 0) rfl)) rfl rfl rfl hd_X4_wordsOf q2061 q2063 qs70 q104 q2064 ⟨Nat.le_of_ble_eq_true rfl, Nat.le_of_ble_eq_true rfl⟩ ⟨Nat.le_refl 0, Nat.le_refl 0⟩ rfl rfl (Nat.le_of_ble_eq_true rfl) dX4_holdsOne_100 rfl (fun locs hL => ?_)
          refine lv_aload_n hx hb dX4_holdsOne_103 rfl (lv_at hl 0 rfl) ?_
          refine lv_aload_n hx hb dX4_holdsOne_104 rfl (lv_at hl 0 rfl) ?_
          refine lv_iconst (v := 1) hx hb dX4_holdsOne_105 (by decide) ?_
          obtain ⟨q13, hq14, h⟩ := bnd h
          refine c_VP (a := 58) (ci := 4) (q := (RX4, TX4, 80)) (rest := [.ref (z + 58), .int q11]) (st1 := [.int q13, .ref (z + 58), .int q11]) hx hb hml hown hts hK hR hF hL hl.1 (met_X4_nearLine l G z H0 w (1 : Int32) q13 hq14) (congrArg Prod.fst (hF.2.1 58 (5, 0) rfl)) rfl rfl rfl hd_X4_nearLine q2065 q2067 qs71 q104 q2068 ⟨Nat.le_of_ble_eq_true rfl, Nat.le_of_ble_eq_true rfl⟩ ⟨Nat.le_refl 0, Nat.le_refl 0⟩ rfl rfl (Nat.le_of_ble_eq_true rfl) dX4_holdsOne_106 rfl (fun locs hL => ?_)
          obtain ⟨q15, hq16, h⟩ := bnd h
          refine c_VP (a := 58) (ci := 4) (q := (RX4, TX4, 80)) (rest := [.int q11]) (st1 := [.int q15, .int q11]) hx hb hml hown hts hK hR hF hL hl.1 (met_X4_wordsOf l G z H0 w q13 q15 hq16) (congrArg Prod.fst (hF.2.1 58 (5, 0) rfl)) rfl rfl rfl hd_X4_wordsOf q2061 q2063 qs70 q104 q2064 ⟨Nat.le_of_ble_eq_true rfl, Nat.le_of_ble_eq_true rfl⟩ ⟨Nat.le_refl 0, Nat.le_refl 0⟩ rfl rfl (Nat.le_of_ble_eq_true rfl) dX4_holdsOne_109 rfl (fun locs hL => ?_)
          refine lv_ior hx hb dX4_holdsOne_112 ?_
          refine lv_iload_n hx hb dX4_holdsOne_113 rfl (lv_at hl 2 rfl) ?_
          refine lv_ishr hx hb dX4_holdsOne_114 ?_
          refine lv_iconst (v := 1) hx hb dX4_holdsOne_115 (by decide) ?_
          refine lv_iand hx hb dX4_holdsOne_116 ?_
          refine lv_iconst (v := 1) hx hb dX4_holdsOne_117 (by decide) ?_
          refine lv_icmp_ne (tgt := 125) hx hb dX4_holdsOne_118 (by decide) (fun c17 => ?_) (fun c17 => ?_)
          · rw [if_neg c17] at h
            refine lv_iconst (v := 0) hx hb dX4_holdsOne_125 (by decide) ?_
            have h := Option.some.inj h
            subst h
            exact W.zret (v := bI false) hx hb hr (bI_nar _) (fun t ht _ => ⟨rfl, ht⟩) hL dX4_holdsOne_126
          · rw [if_pos c17] at h
            refine lv_iconst (v := 1) hx hb dX4_holdsOne_121 (by decide) ?_
            refine lv_goto (tgt := 126) hx hb dX4_holdsOne_122 (by decide) ?_
            have h := Option.some.inj h
            subst h
            exact W.zret (v := bI true) hx hb hr (bI_nar _) (fun t ht _ => ⟨rfl, ht⟩) hL dX4_holdsOne_126
      rw [if_neg c7] at h
      by_cases c18 : a1 = 99
      · rw [if_pos c18] at h
        refine lv_lookup (off := 110) (tgt := 127) hx hb dX4_holdsOne_17 (by decide) (by rw [c18]; decide) (by decide) ?_
        refine lv_aload_n hx hb dX4_holdsOne_127 rfl (lv_at hl 0 rfl) ?_
        refine lv_aload_n hx hb dX4_holdsOne_128 rfl (lv_at hl 0 rfl) ?_
        refine lv_aload_n hx hb dX4_holdsOne_129 rfl (lv_at hl 0 rfl) ?_
        refine r_get (C := RX4) (T := TX4) (N := 80) hx hb hts ok4 hown hK hR (congrArg Prod.fst (hF.2.1 58 (5, 0) rfl)) rfl 33 (by decide) (hts _ q1666) (fun _ h9 => h9) (v := .int (wI w 58 33)) rfl dX4_holdsOne_130 ?_
        obtain ⟨q19, hq20, h⟩ := bnd h
        refine c_VP (a := 58) (ci := 4) (q := (RX4, TX4, 80)) (rest := [.ref (z + 58)]) (st1 := [.int q19, .ref (z + 58)]) hx hb hml hown hts hK hR hF hL hl.1 (met_X4_wordsOf l G z H0 w (wI w 58 33) q19 hq20) (congrArg Prod.fst (hF.2.1 58 (5, 0) rfl)) rfl rfl rfl hd_X4_wordsOf q2061 q2063 qs70 q104 q2064 ⟨Nat.le_of_ble_eq_true rfl, Nat.le_of_ble_eq_true rfl⟩ ⟨Nat.le_refl 0, Nat.le_refl 0⟩ rfl rfl (Nat.le_of_ble_eq_true rfl) dX4_holdsOne_133 rfl (fun locs hL => ?_)
        obtain ⟨q21, hq22, h⟩ := bnd h
        refine c_VP (a := 58) (ci := 4) (q := (RX4, TX4, 80)) (rest := []) (st1 := [.int q21]) hx hb hml hown hts hK hR hF hL hl.1 (met_X4_ones l G z H0 n w q19 q21 hq22) (congrArg Prod.fst (hF.2.1 58 (5, 0) rfl)) rfl rfl rfl hd_X4_ones q2069 q2071 qs72 q104 q2072 ⟨Nat.le_of_ble_eq_true rfl, Nat.le_of_ble_eq_true rfl⟩ ⟨Nat.le_refl 0, Nat.le_refl 0⟩ rfl rfl (Nat.le_of_ble_eq_true rfl) dX4_holdsOne_136 rfl (fun locs hL => ?_)
        refine lv_iload_n hx hb dX4_holdsOne_139 rfl (lv_at hl 2 rfl) ?_
        refine lv_icmp_lt (tgt := 147) hx hb dX4_holdsOne_140 (by decide) (fun c23 => ?_) (fun c23 => ?_)
        · rw [if_pos c23] at h
          refine lv_iconst (v := 0) hx hb dX4_holdsOne_147 (by decide) ?_
          have h := Option.some.inj h
          subst h
          exact W.zret (v := bI false) hx hb hr (bI_nar _) (fun t ht _ => ⟨rfl, ht⟩) hL dX4_holdsOne_148
        · rw [if_neg c23] at h
          refine lv_iconst (v := 1) hx hb dX4_holdsOne_143 (by decide) ?_
          refine lv_goto (tgt := 148) hx hb dX4_holdsOne_144 (by decide) ?_
          have h := Option.some.inj h
          subst h
          exact W.zret (v := bI true) hx hb hr (bI_nar _) (fun t ht _ => ⟨rfl, ht⟩) hL dX4_holdsOne_148
      rw [if_neg c18] at h
      by_cases c24 : a1 = 119
      · rw [if_pos c24] at h
        refine lv_lookup (off := 43) (tgt := 60) hx hb dX4_holdsOne_17 (by decide) (by rw [c24]; decide) (by decide) ?_
        refine lv_iload_n hx hb dX4_holdsOne_60 rfl (lv_at hl 2 rfl) ?_
        refine lv_bipush (v := 16) hx hb dX4_holdsOne_61 (by decide) ?_
        refine lv_icmp_ge (tgt := 86) hx hb dX4_holdsOne_63 (by decide) (fun c25 => ?_) (fun c25 => ?_)
        · rw [if_pos c25] at h
          refine lv_iconst (v := 0) hx hb dX4_holdsOne_86 (by decide) ?_
          have h := Option.some.inj h
          subst h
          exact W.zret (v := bI false) hx hb hr (bI_nar _) (fun t ht _ => ⟨rfl, ht⟩) hL dX4_holdsOne_87
        · rw [if_neg c25] at h
          refine lv_aload_n hx hb dX4_holdsOne_66 rfl (lv_at hl 0 rfl) ?_
          refine lv_aload_n hx hb dX4_holdsOne_67 rfl (lv_at hl 0 rfl) ?_
          refine r_get (C := RX4) (T := TX4) (N := 80) hx hb hts ok4 hown hK hR (congrArg Prod.fst (hF.2.1 58 (5, 0) rfl)) rfl 33 (by decide) (hts _ q1666) (fun _ h9 => h9) (v := .int (wI w 58 33)) rfl dX4_holdsOne_68 ?_
          obtain ⟨q26, hq27, h⟩ := bnd h
          refine c_VP (a := 58) (ci := 4) (q := (RX4, TX4, 80)) (rest := []) (st1 := [.int q26]) hx hb hml hown hts hK hR hF hL hl.1 (met_X4_wordsOf l G z H0 w (wI w 58 33) q26 hq27) (congrArg Prod.fst (hF.2.1 58 (5, 0) rfl)) rfl rfl rfl hd_X4_wordsOf q2061 q2063 qs70 q104 q2064 ⟨Nat.le_of_ble_eq_true rfl, Nat.le_of_ble_eq_true rfl⟩ ⟨Nat.le_refl 0, Nat.le_refl 0⟩ rfl rfl (Nat.le_of_ble_eq_true rfl) dX4_holdsOne_71 rfl (fun locs hL => ?_)
          refine lv_iload_n hx hb dX4_holdsOne_74 rfl (lv_at hl 2 rfl) ?_
          refine lv_ishr hx hb dX4_holdsOne_75 ?_
          refine lv_iconst (v := 1) hx hb dX4_holdsOne_76 (by decide) ?_
          refine lv_iand hx hb dX4_holdsOne_77 ?_
          refine lv_iconst (v := 1) hx hb dX4_holdsOne_78 (by decide) ?_
          refine lv_icmp_ne (tgt := 86) hx hb dX4_holdsOne_79 (by decide) (fun c28 => ?_) (fun c28 => ?_)
          · rw [if_neg c28] at h
            refine lv_iconst (v := 0) hx hb dX4_holdsOne_86 (by decide) ?_
            have h := Option.some.inj h
            subst h
            exact W.zret (v := bI false) hx hb hr (bI_nar _) (fun t ht _ => ⟨rfl, ht⟩) hL dX4_holdsOne_87
          · rw [if_pos c28] at h
            refine lv_iconst (v := 1) hx hb dX4_holdsOne_82 (by decide) ?_
            refine lv_goto (tgt := 87) hx hb dX4_holdsOne_83 (by decide) ?_
            have h := Option.some.inj h
            subst h
            exact W.zret (v := bI true) hx hb hr (bI_nar _) (fun t ht _ => ⟨rfl, ht⟩) hL dX4_holdsOne_87
      rw [if_neg c24] at h
      refine lv_lookup (off := 156) (tgt := 173) hx hb dX4_holdsOne_17 (by decide) (by show Op.lookupswitch.offset [(97, 132), (98, 71), (99, 110), (119, 43)] _ _ = _; rw [lv_osw c3 (show (97 : Int32).toInt = 97 by decide), lv_osw c7 (show (98 : Int32).toInt = 98 by decide), lv_osw c18 (show (99 : Int32).toInt = 99 by decide), lv_osw c24 (show (119 : Int32).toInt = 119 by decide)]; rfl) (by decide) ?_
      refine lv_aload_n hx hb dX4_holdsOne_173 rfl (lv_at hl 0 rfl) ?_
      refine r_get (C := RX4) (T := TX4) (N := 80) hx hb hts ok4 hown hK hR (congrArg Prod.fst (hF.2.1 58 (5, 0) rfl)) rfl 9 (by decide) (hts _ q1642) (fun _ h9 => h9) (v := .ref (z + 64)) (fv_fix hF rfl rfl) dX4_holdsOne_174 ?_
      refine lv_aload_n hx hb dX4_holdsOne_177 rfl (lv_at hl 0 rfl) ?_
      refine r_get (C := RX4) (T := TX4) (N := 80) hx hb hts ok4 hown hK hR (congrArg Prod.fst (hF.2.1 58 (5, 0) rfl)) rfl 12 (by decide) (hts _ q1645) (fun _ h9 => h9) (v := .ref (z + 67)) (fv_fix hF rfl rfl) dX4_holdsOne_178 ?_
      refine lv_aload_n hx hb dX4_holdsOne_181 rfl (lv_at hl 0 rfl) ?_
      refine r_get (C := RX4) (T := TX4) (N := 80) hx hb hts ok4 hown hK hR (congrArg Prod.fst (hF.2.1 58 (5, 0) rfl)) rfl 32 (by decide) (hts _ q1665) (fun _ h9 => h9) (v := .int (wI w 58 32)) rfl dX4_holdsOne_182 ?_
      obtain ⟨hb29, h⟩ := grd h
      refine r_iald (v := wI w 67 ((wI w 58 32).toNatClampNeg)) hx hb hK hR (hF.2.1 67 (200, 24) rfl) hb29 rfl dX4_holdsOne_185 ?_
      obtain ⟨hb30, h⟩ := grd h
      refine r_iald (v := wI w 64 ((wI w 67 ((wI w 58 32).toNatClampNeg)).toNatClampNeg)) hx hb hK hR (hF.2.1 64 (200, 16) rfl) hb30 rfl dX4_holdsOne_186 ?_
      refine lv_iload_n hx hb dX4_holdsOne_187 rfl (lv_at hl 2 rfl) ?_
      refine lv_icmp_lt (tgt := 195) hx hb dX4_holdsOne_188 (by decide) (fun c31 => ?_) (fun c31 => ?_)
      · rw [if_pos c31] at h
        refine lv_iconst (v := 0) hx hb dX4_holdsOne_195 (by decide) ?_
        have h := Option.some.inj h
        subst h
        exact W.zret (v := bI false) hx hb hr (bI_nar _) (fun t ht _ => ⟨rfl, ht⟩) hL dX4_holdsOne_196
      · rw [if_neg c31] at h
        refine lv_iconst (v := 1) hx hb dX4_holdsOne_191 (by decide) ?_
        refine lv_goto (tgt := 196) hx hb dX4_holdsOne_192 (by decide) ?_
        have h := Option.some.inj h
        subst h
        exact W.zret (v := bI true) hx hb hr (bI_nar _) (fun t ht _ => ⟨rfl, ht⟩) hL dX4_holdsOne_196
    · rw [if_neg c2] at h
      refine lv_iconst (v := 0) hx hb dX4_holdsOne_14 (by decide) ?_
      have h := Option.some.inj h
      subst h
      exact W.zret (v := bI false) hx hb hr (bI_nar _) (fun t ht _ => ⟨rfl, ht⟩) hL dX4_holdsOne_15
def f_X4_push_J58 (n : Nat) (a1 : Int32) (j2 : Int32) (w : Wd) : Option (Wd) :=
  if inb (wI w 58 47) 121 then (some (sI (sI w 83 ((wI w 58 47).toNatClampNeg) (j2 &&& 1)) 58 47 ((wI w 58 47) + (1 : Int32)))) else none
def f_X4_push_J34 (n : Nat) (k0 : Int32) (w : Wd) : Option ((Int32 × Wd) ⊕ ((Int32 × Wd))) :=
  some (.inl (k0, sI (sI w 58 46 ((wI w 58 46) - (1 : Int32))) 58 48 ((wI w 58 48) - (1 : Int32))))
def f_X4_push_L2 (n : Nat) (s1 : Int32 × Wd) : Option ((Int32 × Wd) ⊕ ((Int32 × Wd))) :=
  if (wI s1.2 58 46) ≤ 0 then (some (.inr (s1.1, s1.2))) else (if inb ((wI s1.2 58 46) - (1 : Int32)) 121 then (if (wI s1.2 82 (((wI s1.2 58 46) - (1 : Int32)).toNatClampNeg)) = (33 : Int32) then (if s1.1 = 0 then (f_X4_push_J34 n (1 : Int32) s1.2) else (f_X4_push_J34 n (0 : Int32) s1.2)) else (some (.inr (s1.1, s1.2)))) else none)
def f_X4_push (n : Nat) (a1 : Int32) (w : Wd) : Option (Wd) :=
  (it n (f_X4_push_L2 n) (a1, w)).bind fun q2_58 => f_X4_push_J58 n a1 q2_58.1 q2_58.2
theorem hd_X4_push : yX4_push.cls = RX4 ∧ yX4_push.cls ≠ "java/lang/invoke/MethodHandle" ∧ yX4_push.cls ≠ "java/lang/invoke/VarHandle" ∧ (parseMethodDescriptor yX4_push.desc).map (fun d => d.parameters.length) = some 1 := by decide +kernel
set_option maxHeartbeats 4000000 in
set_option maxRecDepth 100000 in
theorem met_X4_push (l : Launch) (G : Gw) (z : Nat) (H0 : Heap) (n : Nat) (w : Wd) (a1 : Int32) (q : Wd) (h : f_X4_push n a1 w = some q) : Met l yX4_push (ws_ yX4_push cX4_push 3 none) ({ frames := 0, cells := 0, slots := 0, locals := 0 } : Room) (pcW G z H0 w [.ref (z + 58), .int a1]) (qW G z H0 q none) 0 0 (fun q => z ≤ q) := by
  refine mW (by decide) (Nat.le_of_ble_eq_true rfl) ?_
  intro p e s m below meth c ls hx hb hr hml hown hts hlocks hnm hK hR hF hl
  have hown : s.vm.findClass RX4 = some m.cls := hown
  have hl : lv_has ls 3 [(0, .ref (z + 58)), (1, .int a1)] := hl
  have hL : lok z [] := lok_nil
  unfold f_X4_push at h
  generalize s.heap = H at hR ⊢
  generalize ([] : List Loc) = locs at hL ⊢
  have hJ58 : ∀ (j2 : Int32) (w : Wd), f_X4_push_J58 n a1 j2 w = some q → ∀ (H : Heap) (locs : List Loc) (ls : Array Slot), Rp G z H0 w H → Fix w → lok z locs → lv_has ls 3 [(2, .int j2), (0, .ref (z + 58))] → W p l e ({ frames := 0, cells := 0, slots := 0, locals := 0 } : Room) s m ([.ref (z + 58), .int a1] : List Value).toArray below meth c H locs 0 0 (MQ below (qW G z H0 q none) ([.ref (z + 58), .int a1] : List Value).toArray s 0 0 (fun q => z ≤ q)) (F0 m 58 ls []) := by
    intro j2 w h H locs ls hR hF hL hl
    unfold f_X4_push_J58 at h
    refine lv_aload_n hx hb dX4_push_58 rfl (lv_at hl 1 rfl) ?_
    refine r_get (C := RX4) (T := TX4) (N := 80) hx hb hts ok4 hown hK hR (congrArg Prod.fst (hF.2.1 58 (5, 0) rfl)) rfl 45 (by decide) (hts _ q1678) (fun _ h9 => h9) (v := .ref (z + 83)) (fv_fix hF rfl rfl) dX4_push_59 ?_
    refine lv_aload_n hx hb dX4_push_62 rfl (lv_at hl 1 rfl) ?_
    refine r_get (C := RX4) (T := TX4) (N := 80) hx hb hts ok4 hown hK hR (congrArg Prod.fst (hF.2.1 58 (5, 0) rfl)) rfl 47 (by decide) (hts _ q1680) (fun _ h9 => h9) (v := .int (wI w 58 47)) rfl dX4_push_63 ?_
    refine lv_iload_n hx hb dX4_push_66 rfl (lv_at hl 0 rfl) ?_
    obtain ⟨hb1, h⟩ := grd h
    refine r_zast hx hb hK hR hL (hF.2.1 83 (203, 121) rfl) hb1 dX4_push_67 (fun H locs hR hL => ?_)
    have hF := hF.sI 83 ((wI w 58 47).toNatClampNeg) (j2 &&& 1)
    refine lv_aload_n hx hb dX4_push_68 rfl (lv_at hl 1 rfl) ?_
    refine lv_dup hx hb dX4_push_69 rfl ?_
    refine r_get (C := RX4) (T := TX4) (N := 80) hx hb hts ok4 hown hK hR (congrArg Prod.fst (hF.2.1 58 (5, 0) rfl)) rfl 47 (by decide) (hts _ q1680) (fun _ h9 => h9) (v := .int (wI w 58 47)) rfl dX4_push_70 ?_
    refine lv_iconst (v := 1) hx hb dX4_push_73 (by decide) ?_
    refine lv_iadd hx hb dX4_push_74 ?_
    refine r_putI (C := RX4) (T := TX4) (N := 80) hx hb hts ok4 hown hK hR hL (congrArg Prod.fst (hF.2.1 58 (5, 0) rfl)) rfl 47 (by decide) (hts _ q1680) (fun _ h9 => h9) (Or.inl rfl) rfl rfl rfl dX4_push_75 (fun H locs hR hL => ?_)
    have hF := hF.sI 58 47 ((wI w 58 47) + (1 : Int32))
    have h := Option.some.inj h
    subst h
    exact W.vret hx hb hr (fun t ht _ => ⟨rfl, by rw [ht]; exact hR, hF⟩) hL dX4_push_78
  refine lv_iload_n hx hb dX4_push_0 rfl (lv_at hl 1 rfl) ?_
  refine lv_istore_n (lv' := [(2, .int a1), (0, .ref (z + 58)), (1, .int a1)]) hx hb dX4_push_1 rfl hl (by decide) rfl (fun ls hl => ?_)
  have hX2_58 : ∀ (q2_58 : Int32 × Wd), (f_X4_push_J58 n a1 q2_58.1 q2_58.2) = some q → ∀ (H : Heap) (locs : List Loc) (ls : Array Slot), Rp G z H0 q2_58.2 H → Fix q2_58.2 → lok z locs → lv_has ls 3 [(2, .int q2_58.1), (0, .ref (z + 58))] → W p l e ({ frames := 0, cells := 0, slots := 0, locals := 0 } : Room) s m ([.ref (z + 58), .int a1] : List Value).toArray below meth c H locs 0 0 (MQ below (qW G z H0 q none) ([.ref (z + 58), .int a1] : List Value).toArray s 0 0 (fun q => z ≤ q)) (F0 m 58 ls []) := by
    intro q2_58 h H locs ls hR hF hL hl
    exact hJ58 q2_58.1 q2_58.2 h H locs ls hR hF hL (lv_sub hl [0, 1] rfl)
  obtain ⟨t6, hq7, h⟩ := bnd h
  refine it_W (b := f_X4_push_L2 n) (P := fun (s1 : Int32 × Wd) => ∀ (H : Heap) (locs : List Loc) (ls : Array Slot), Rp G z H0 s1.2 H → Fix s1.2 → lok z locs → lv_has ls 3 [(2, .int s1.1), (0, .ref (z + 58))] → W p l e ({ frames := 0, cells := 0, slots := 0, locals := 0 } : Room) s m ([.ref (z + 58), .int a1] : List Value).toArray below meth c H locs 0 0 (MQ below (qW G z H0 q none) ([.ref (z + 58), .int a1] : List Value).toArray s 0 0 (fun q => z ≤ q)) (F0 m 2 ls [])) (K := fun q2_58 => (f_X4_push_J58 n a1 q2_58.1 q2_58.2) = some q) (fun s1 x1 h hc1 ht1 => ?_) n (a1, w) t6 hq7 h H locs ls hR hF hL (lv_sub hl [0, 1] rfl)
  intro H locs ls hR hF hL hl
  unfold f_X4_push_L2 at h
  have hJ34 : ∀ (k0 : Int32) (w : Wd), f_X4_push_J34 n k0 w = some x1 → ∀ (H : Heap) (locs : List Loc) (ls : Array Slot), Rp G z H0 w H → Fix w → lok z locs → lv_has ls 3 [(0, .ref (z + 58))] → W p l e ({ frames := 0, cells := 0, slots := 0, locals := 0 } : Room) s m ([.ref (z + 58), .int a1] : List Value).toArray below meth c H locs 0 0 (MQ below (qW G z H0 q none) ([.ref (z + 58), .int a1] : List Value).toArray s 0 0 (fun q => z ≤ q)) (F0 m 34 ls [.int k0]) := by
    intro k0 w h H locs ls hR hF hL hl
    unfold f_X4_push_J34 at h
    refine lv_istore_n (lv' := [(2, .int k0), (0, .ref (z + 58))]) hx hb dX4_push_34 rfl hl (by decide) rfl (fun ls hl => ?_)
    refine lv_aload_n hx hb dX4_push_35 rfl (lv_at hl 1 rfl) ?_
    refine lv_dup hx hb dX4_push_36 rfl ?_
    refine r_get (C := RX4) (T := TX4) (N := 80) hx hb hts ok4 hown hK hR (congrArg Prod.fst (hF.2.1 58 (5, 0) rfl)) rfl 46 (by decide) (hts _ q1679) (fun _ h9 => h9) (v := .int (wI w 58 46)) rfl dX4_push_37 ?_
    refine lv_iconst (v := 1) hx hb dX4_push_40 (by decide) ?_
    refine lv_isub hx hb dX4_push_41 ?_
    refine r_putI (C := RX4) (T := TX4) (N := 80) hx hb hts ok4 hown hK hR hL (congrArg Prod.fst (hF.2.1 58 (5, 0) rfl)) rfl 46 (by decide) (hts _ q1679) (fun _ h9 => h9) (Or.inl rfl) rfl rfl rfl dX4_push_42 (fun H locs hR hL => ?_)
    have hF := hF.sI 58 46 ((wI w 58 46) - (1 : Int32))
    refine lv_aload_n hx hb dX4_push_45 rfl (lv_at hl 1 rfl) ?_
    refine lv_dup hx hb dX4_push_46 rfl ?_
    refine r_get (C := RX4) (T := TX4) (N := 80) hx hb hts ok4 hown hK hR (congrArg Prod.fst (hF.2.1 58 (5, 0) rfl)) rfl 48 (by decide) (hts _ q1681) (fun _ h9 => h9) (v := .int (wI w 58 48)) rfl dX4_push_47 ?_
    refine lv_iconst (v := 1) hx hb dX4_push_50 (by decide) ?_
    refine lv_isub hx hb dX4_push_51 ?_
    refine r_putI (C := RX4) (T := TX4) (N := 80) hx hb hts ok4 hown hK hR hL (congrArg Prod.fst (hF.2.1 58 (5, 0) rfl)) rfl 48 (by decide) (hts _ q1681) (fun _ h9 => h9) (Or.inl rfl) rfl rfl rfl dX4_push_52 (fun H locs hR hL => ?_)
    have hF := hF.sI 58 48 ((wI w 58 48) - (1 : Int32))
    refine lv_goto (tgt := 2) hx hb dX4_push_55 (by decide) ?_
    exact hc1 _ (Option.some.inj h).symm H locs ls hR hF hL (lv_sub hl [0, 1] rfl)
  refine lv_aload_n hx hb dX4_push_2 rfl (lv_at hl 1 rfl) ?_
  refine r_get (C := RX4) (T := TX4) (N := 80) hx hb hts ok4 hown hK hR (congrArg Prod.fst (hF.2.1 58 (5, 0) rfl)) rfl 46 (by decide) (hts _ q1679) (fun _ h9 => h9) (v := .int (wI s1.2 58 46)) rfl dX4_push_3 ?_
  refine lv_if_le (tgt := 58) hx hb dX4_push_6 (by decide) (fun c2 => ?_) (fun c2 => ?_)
  · rw [if_pos c2] at h
    exact hX2_58 (s1.1, s1.2) (ht1 _ (Option.some.inj h).symm) H locs ls hR hF hL (lv_sub hl [0, 1] rfl)
  · rw [if_neg c2] at h
    refine lv_aload_n hx hb dX4_push_9 rfl (lv_at hl 1 rfl) ?_
    refine r_get (C := RX4) (T := TX4) (N := 80) hx hb hts ok4 hown hK hR (congrArg Prod.fst (hF.2.1 58 (5, 0) rfl)) rfl 44 (by decide) (hts _ q1677) (fun _ h9 => h9) (v := .ref (z + 82)) (fv_fix hF rfl rfl) dX4_push_10 ?_
    refine lv_aload_n hx hb dX4_push_13 rfl (lv_at hl 1 rfl) ?_
    refine r_get (C := RX4) (T := TX4) (N := 80) hx hb hts ok4 hown hK hR (congrArg Prod.fst (hF.2.1 58 (5, 0) rfl)) rfl 46 (by decide) (hts _ q1679) (fun _ h9 => h9) (v := .int (wI s1.2 58 46)) rfl dX4_push_14 ?_
    refine lv_iconst (v := 1) hx hb dX4_push_17 (by decide) ?_
    refine lv_isub hx hb dX4_push_18 ?_
    obtain ⟨hb3, h⟩ := grd h
    refine r_iald (v := wI s1.2 82 (((wI s1.2 58 46) - (1 : Int32)).toNatClampNeg)) hx hb hK hR (hF.2.1 82 (200, 121) rfl) hb3 rfl dX4_push_19 ?_
    refine lv_bipush (v := 33) hx hb dX4_push_20 (by decide) ?_
    refine lv_icmp_ne (tgt := 58) hx hb dX4_push_22 (by decide) (fun c4 => ?_) (fun c4 => ?_)
    · rw [if_neg c4] at h
      exact hX2_58 (s1.1, s1.2) (ht1 _ (Option.some.inj h).symm) H locs ls hR hF hL (lv_sub hl [0, 1] rfl)
    · rw [if_pos c4] at h
      refine lv_iload_n hx hb dX4_push_25 rfl (lv_at hl 0 rfl) ?_
      refine lv_if_ne (tgt := 33) hx hb dX4_push_26 (by decide) (fun c5 => ?_) (fun c5 => ?_)
      · rw [if_neg c5] at h
        refine lv_iconst (v := 0) hx hb dX4_push_33 (by decide) ?_
        exact hJ34 (0 : Int32) s1.2 h H locs ls hR hF hL (lv_sub hl [1] rfl)
      · rw [if_pos c5] at h
        refine lv_iconst (v := 1) hx hb dX4_push_29 (by decide) ?_
        refine lv_goto (tgt := 34) hx hb dX4_push_30 (by decide) ?_
        exact hJ34 (1 : Int32) s1.2 h H locs ls hR hF hL (lv_sub hl [1] rfl)
def f_X4_takesTest_J37 (n : Nat) (j1 : Int32) (w : Wd) : Option (Bool × Wd) :=
  (f_X4_takesNumber n (sI w 58 40 ((wI w 58 40) + (1 : Int32)))).bind fun q4 => if q4.1 then ((f_X4_holdsOne n j1 (wI q4.2 58 43) q4.2).bind fun q7 => (f_X4_push n (bI q7) q4.2).bind fun q9 => some (true, q9)) else (some (false, q4.2))
def f_X4_takesTest (n : Nat) (w : Wd) : Option (Bool × Wd) :=
  (f_X4_next w).bind fun q1 => if q1 = (119 : Int32) then (f_X4_takesTest_J37 n q1 w) else (if q1 = (98 : Int32) then (f_X4_takesTest_J37 n q1 w) else (if q1 = (99 : Int32) then (f_X4_takesTest_J37 n q1 w) else (if q1 = (97 : Int32) then (f_X4_takesTest_J37 n q1 w) else (if q1 = (121 : Int32) then (f_X4_takesTest_J37 n q1 w) else (some (false, w))))))
theorem hd_X4_takesTest : yX4_takesTest.cls = RX4 ∧ yX4_takesTest.cls ≠ "java/lang/invoke/MethodHandle" ∧ yX4_takesTest.cls ≠ "java/lang/invoke/VarHandle" ∧ (parseMethodDescriptor yX4_takesTest.desc).map (fun d => d.parameters.length) = some 0 := by decide +kernel
set_option maxHeartbeats 4000000 in
set_option maxRecDepth 100000 in
theorem met_X4_takesTest (l : Launch) (G : Gw) (z : Nat) (H0 : Heap) (n : Nat) (w : Wd)  (q : Bool × Wd) (h : f_X4_takesTest n w = some q) : Met l yX4_takesTest (ws_ yX4_takesTest cX4_takesTest 2 (some .boolean)) ({ frames := 3, cells := 0, slots := 0, locals := 67 } : Room) (pcW G z H0 w [.ref (z + 58)]) (qW G z H0 q.2 (some (.int (bI q.1)))) 0 0 (fun q => z ≤ q) := by
  refine mW (by decide) (Nat.le_of_ble_eq_true rfl) ?_
  intro p e s m below meth c ls hx hb hr hml hown hts hlocks hnm hK hR hF hl
  have hown : s.vm.findClass RX4 = some m.cls := hown
  have hl : lv_has ls 2 [(0, .ref (z + 58))] := hl
  have hL : lok z [] := lok_nil
  unfold f_X4_takesTest at h
  generalize s.heap = H at hR ⊢
  generalize ([] : List Loc) = locs at hL ⊢
  have hJ37 : ∀ (j1 : Int32) (w : Wd), f_X4_takesTest_J37 n j1 w = some q → ∀ (H : Heap) (locs : List Loc) (ls : Array Slot), Rp G z H0 w H → Fix w → lok z locs → lv_has ls 2 [(1, .int j1), (0, .ref (z + 58))] → W p l e ({ frames := 3, cells := 0, slots := 0, locals := 67 } : Room) s m ([.ref (z + 58)] : List Value).toArray below meth c H locs 0 0 (MQ below (qW G z H0 q.2 (some (.int (bI q.1)))) ([.ref (z + 58)] : List Value).toArray s 0 0 (fun q => z ≤ q)) (F0 m 37 ls []) := by
    intro j1 w h H locs ls hR hF hL hl
    unfold f_X4_takesTest_J37 at h
    refine lv_aload_n hx hb dX4_takesTest_37 rfl (lv_at hl 1 rfl) ?_
    refine lv_dup hx hb dX4_takesTest_38 rfl ?_
    refine r_get (C := RX4) (T := TX4) (N := 80) hx hb hts ok4 hown hK hR (congrArg Prod.fst (hF.2.1 58 (5, 0) rfl)) rfl 40 (by decide) (hts _ q1673) (fun _ h9 => h9) (v := .int (wI w 58 40)) rfl dX4_takesTest_39 ?_
    refine lv_iconst (v := 1) hx hb dX4_takesTest_42 (by decide) ?_
    refine lv_iadd hx hb dX4_takesTest_43 ?_
    refine r_putI (C := RX4) (T := TX4) (N := 80) hx hb hts ok4 hown hK hR hL (congrArg Prod.fst (hF.2.1 58 (5, 0) rfl)) rfl 40 (by decide) (hts _ q1673) (fun _ h9 => h9) (Or.inl rfl) rfl rfl rfl dX4_takesTest_44 (fun H locs hR hL => ?_)
    have hF := hF.sI 58 40 ((wI w 58 40) + (1 : Int32))
    refine lv_aload_n hx hb dX4_takesTest_47 rfl (lv_at hl 1 rfl) ?_
    obtain ⟨q4, hq5, h⟩ := bnd h
    refine c_VW (a := 58) (ci := 4) (q := (RX4, TX4, 80)) (rest := []) (st1 := [.int (bI q4.1)]) hx hb hml hown hts hK hR hF hL hl.1 (met_X4_takesNumber l G z H0 n (sI w 58 40 ((wI w 58 40) + (1 : Int32)))  q4 hq5) (congrArg Prod.fst (hF.2.1 58 (5, 0) rfl)) rfl rfl rfl hd_X4_takesNumber q2033 q2035 qs64 q104 q2036 ⟨Nat.le_of_ble_eq_true rfl, Nat.le_of_ble_eq_true rfl⟩ ⟨Nat.le_refl 0, Nat.le_refl 0⟩ rfl rfl (Nat.le_of_ble_eq_true rfl) dX4_takesTest_48 rfl (fun H locs hR hF hL => ?_)
    refine lv_if_ne (tgt := 56) hx hb dX4_takesTest_51 (by decide) (fun c6 => ?_) (fun c6 => ?_)
    · rw [if_pos (bI_p c6)] at h
      refine lv_aload_n hx hb dX4_takesTest_56 rfl (lv_at hl 1 rfl) ?_
      refine lv_aload_n hx hb dX4_takesTest_57 rfl (lv_at hl 1 rfl) ?_
      refine lv_iload_n hx hb dX4_takesTest_58 rfl (lv_at hl 0 rfl) ?_
      refine lv_aload_n hx hb dX4_takesTest_59 rfl (lv_at hl 1 rfl) ?_
      refine r_get (C := RX4) (T := TX4) (N := 80) hx hb hts ok4 hown hK hR (congrArg Prod.fst (hF.2.1 58 (5, 0) rfl)) rfl 43 (by decide) (hts _ q1676) (fun _ h9 => h9) (v := .int (wI q4.2 58 43)) rfl dX4_takesTest_60 ?_
      obtain ⟨q7, hq8, h⟩ := bnd h
      refine c_VP (a := 58) (ci := 4) (q := (RX4, TX4, 80)) (rest := [.ref (z + 58)]) (st1 := [.int (bI q7), .ref (z + 58)]) hx hb hml hown hts hK hR hF hL hl.1 (met_X4_holdsOne l G z H0 n q4.2 j1 (wI q4.2 58 43) q7 hq8) (congrArg Prod.fst (hF.2.1 58 (5, 0) rfl)) rfl rfl rfl hd_X4_holdsOne q2057 q2059 qs69 q104 q2060 ⟨Nat.le_of_ble_eq_true rfl, Nat.le_of_ble_eq_true rfl⟩ ⟨Nat.le_refl 0, Nat.le_refl 0⟩ rfl rfl (Nat.le_of_ble_eq_true rfl) dX4_takesTest_63 rfl (fun locs hL => ?_)
      obtain ⟨q9, hq10, h⟩ := bnd h
      refine c_VW (a := 58) (ci := 4) (q := (RX4, TX4, 80)) (rest := []) (st1 := []) hx hb hml hown hts hK hR hF hL hl.1 (met_X4_push l G z H0 n q4.2 (bI q7) q9 hq10) (congrArg Prod.fst (hF.2.1 58 (5, 0) rfl)) rfl rfl rfl hd_X4_push q2073 q2075 qs73 q104 q2076 ⟨Nat.le_of_ble_eq_true rfl, Nat.le_of_ble_eq_true rfl⟩ ⟨Nat.le_refl 0, Nat.le_refl 0⟩ rfl rfl (Nat.le_of_ble_eq_true rfl) dX4_takesTest_66 rfl (fun H locs hR hF hL => ?_)
      refine lv_iconst (v := 1) hx hb dX4_takesTest_69 (by decide) ?_
      have h := Option.some.inj h
      subst h
      exact W.zret (v := bI true) hx hb hr (bI_nar _) (fun t ht _ => ⟨rfl, by rw [ht]; exact hR, hF⟩) hL dX4_takesTest_70
    · rw [if_neg (bI_n c6)] at h
      refine lv_iconst (v := 0) hx hb dX4_takesTest_54 (by decide) ?_
      have h := Option.some.inj h
      subst h
      exact W.zret (v := bI false) hx hb hr (bI_nar _) (fun t ht _ => ⟨rfl, by rw [ht]; exact hR, hF⟩) hL dX4_takesTest_55
  refine lv_aload_n hx hb dX4_takesTest_0 rfl (lv_at hl 0 rfl) ?_
  obtain ⟨q1, hq2, h⟩ := bnd h
  refine c_VP (a := 58) (ci := 4) (q := (RX4, TX4, 80)) (rest := []) (st1 := [.int q1]) hx hb hml hown hts hK hR hF hL hl.1 (met_X4_next l G z H0 w  q1 hq2) (congrArg Prod.fst (hF.2.1 58 (5, 0) rfl)) rfl rfl rfl hd_X4_next q2015 q2017 qs60 q104 q2018 ⟨Nat.le_of_ble_eq_true rfl, Nat.le_of_ble_eq_true rfl⟩ ⟨Nat.le_refl 0, Nat.le_refl 0⟩ rfl rfl (Nat.le_of_ble_eq_true rfl) dX4_takesTest_1 rfl (fun locs hL => ?_)
  refine lv_istore_n (lv' := [(1, .int q1), (0, .ref (z + 58))]) hx hb dX4_takesTest_4 rfl hl (by decide) rfl (fun ls hl => ?_)
  refine lv_iload_n hx hb dX4_takesTest_5 rfl (lv_at hl 0 rfl) ?_
  refine lv_bipush (v := 119) hx hb dX4_takesTest_6 (by decide) ?_
  refine lv_icmp_eq (tgt := 37) hx hb dX4_takesTest_8 (by decide) (fun c3 => ?_) (fun c3 => ?_)
  · rw [if_pos c3] at h
    exact hJ37 q1 w h H locs ls hR hF hL (lv_sub hl [0, 1] rfl)
  · rw [if_neg c3] at h
    refine lv_iload_n hx hb dX4_takesTest_11 rfl (lv_at hl 0 rfl) ?_
    refine lv_bipush (v := 98) hx hb dX4_takesTest_12 (by decide) ?_
    refine lv_icmp_eq (tgt := 37) hx hb dX4_takesTest_14 (by decide) (fun c11 => ?_) (fun c11 => ?_)
    · rw [if_pos c11] at h
      exact hJ37 q1 w h H locs ls hR hF hL (lv_sub hl [0, 1] rfl)
    · rw [if_neg c11] at h
      refine lv_iload_n hx hb dX4_takesTest_17 rfl (lv_at hl 0 rfl) ?_
      refine lv_bipush (v := 99) hx hb dX4_takesTest_18 (by decide) ?_
      refine lv_icmp_eq (tgt := 37) hx hb dX4_takesTest_20 (by decide) (fun c12 => ?_) (fun c12 => ?_)
      · rw [if_pos c12] at h
        exact hJ37 q1 w h H locs ls hR hF hL (lv_sub hl [0, 1] rfl)
      · rw [if_neg c12] at h
        refine lv_iload_n hx hb dX4_takesTest_23 rfl (lv_at hl 0 rfl) ?_
        refine lv_bipush (v := 97) hx hb dX4_takesTest_24 (by decide) ?_
        refine lv_icmp_eq (tgt := 37) hx hb dX4_takesTest_26 (by decide) (fun c13 => ?_) (fun c13 => ?_)
        · rw [if_pos c13] at h
          exact hJ37 q1 w h H locs ls hR hF hL (lv_sub hl [0, 1] rfl)
        · rw [if_neg c13] at h
          refine lv_iload_n hx hb dX4_takesTest_29 rfl (lv_at hl 0 rfl) ?_
          refine lv_bipush (v := 121) hx hb dX4_takesTest_30 (by decide) ?_
          refine lv_icmp_eq (tgt := 37) hx hb dX4_takesTest_32 (by decide) (fun c14 => ?_) (fun c14 => ?_)
          · rw [if_pos c14] at h
            exact hJ37 q1 w h H locs ls hR hF hL (lv_sub hl [0, 1] rfl)
          · rw [if_neg c14] at h
            refine lv_iconst (v := 0) hx hb dX4_takesTest_35 (by decide) ?_
            have h := Option.some.inj h
            subst h
            exact W.zret (v := bI false) hx hb hr (bI_nar _) (fun t ht _ => ⟨rfl, by rw [ht]; exact hR, hF⟩) hL dX4_takesTest_36
def f_X4_settle_J45 (n : Nat) (u1_1 : Int32) (w : Wd) : Option ((Wd) ⊕ ((Wd))) :=
  if inb ((wI w 58 46) - (1 : Int32)) 121 then (if (wI w 82 (((wI w 58 46) - (1 : Int32)).toNatClampNeg)) = (38 : Int32) then (if inb (((wI w 58 47) - (1 : Int32)) - (1 : Int32)) 121 then (if (wI w 83 ((((wI w 58 47) - (1 : Int32)) - (1 : Int32)).toNatClampNeg)) = 0 then (if inb (((wI w 58 47) - (1 : Int32)) - (1 : Int32)) 121 then (some (.inl (sI (sI (sI w 58 46 ((wI w 58 46) - (1 : Int32))) 58 47 ((wI w 58 47) - (1 : Int32))) 83 ((((wI w 58 47) - (1 : Int32)) - (1 : Int32)).toNatClampNeg) ((0 : Int32) &&& 1)))) else none) else (if inb ((wI w 58 47) - (1 : Int32)) 121 then (if (wI w 83 (((wI w 58 47) - (1 : Int32)).toNatClampNeg)) = 0 then (if inb (((wI w 58 47) - (1 : Int32)) - (1 : Int32)) 121 then (some (.inl (sI (sI (sI w 58 46 ((wI w 58 46) - (1 : Int32))) 58 47 ((wI w 58 47) - (1 : Int32))) 83 ((((wI w 58 47) - (1 : Int32)) - (1 : Int32)).toNatClampNeg) ((0 : Int32) &&& 1)))) else none) else (if inb (((wI w 58 47) - (1 : Int32)) - (1 : Int32)) 121 then (some (.inl (sI (sI (sI w 58 46 ((wI w 58 46) - (1 : Int32))) 58 47 ((wI w 58 47) - (1 : Int32))) 83 ((((wI w 58 47) - (1 : Int32)) - (1 : Int32)).toNatClampNeg) ((1 : Int32) &&& 1)))) else none)) else none)) else none) else (if inb (((wI w 58 47) - (1 : Int32)) - (1 : Int32)) 121 then (if (wI w 83 ((((wI w 58 47) - (1 : Int32)) - (1 : Int32)).toNatClampNeg)) = 0 then (if inb ((wI w 58 47) - (1 : Int32)) 121 then (if (wI w 83 (((wI w 58 47) - (1 : Int32)).toNatClampNeg)) = 0 then (if inb (((wI w 58 47) - (1 : Int32)) - (1 : Int32)) 121 then (some (.inl (sI (sI (sI w 58 46 ((wI w 58 46) - (1 : Int32))) 58 47 ((wI w 58 47) - (1 : Int32))) 83 ((((wI w 58 47) - (1 : Int32)) - (1 : Int32)).toNatClampNeg) ((0 : Int32) &&& 1)))) else none) else (if inb (((wI w 58 47) - (1 : Int32)) - (1 : Int32)) 121 then (some (.inl (sI (sI (sI w 58 46 ((wI w 58 46) - (1 : Int32))) 58 47 ((wI w 58 47) - (1 : Int32))) 83 ((((wI w 58 47) - (1 : Int32)) - (1 : Int32)).toNatClampNeg) ((1 : Int32) &&& 1)))) else none)) else none) else (if inb (((wI w 58 47) - (1 : Int32)) - (1 : Int32)) 121 then (some (.inl (sI (sI (sI w 58 46 ((wI w 58 46) - (1 : Int32))) 58 47 ((wI w 58 47) - (1 : Int32))) 83 ((((wI w 58 47) - (1 : Int32)) - (1 : Int32)).toNatClampNeg) ((1 : Int32) &&& 1)))) else none)) else none)) else none
def f_X4_settle_L0 (n : Nat) (u1_1 : Int32) (s1 : Wd) : Option ((Wd) ⊕ ((Wd))) :=
  if (wI s1 58 46) ≤ 0 then (some (.inr s1)) else (if inb ((wI s1 58 46) - (1 : Int32)) 121 then (if (wI s1 82 (((wI s1 58 46) - (1 : Int32)).toNatClampNeg)) = (38 : Int32) then (f_X4_settle_J45 n u1_1 s1) else (if inb ((wI s1 58 46) - (1 : Int32)) 121 then (if (wI s1 82 (((wI s1 58 46) - (1 : Int32)).toNatClampNeg)) = (124 : Int32) then (if u1_1 = (38 : Int32) then (some (.inr s1)) else (f_X4_settle_J45 n u1_1 s1)) else (some (.inr s1))) else none)) else none)
def f_X4_settle (n : Nat) (a1 : Int32) (w : Wd) : Option (Wd) :=
  (it n (f_X4_settle_L0 n a1) w).bind fun q0_158 => some q0_158
theorem hd_X4_settle : yX4_settle.cls = RX4 ∧ yX4_settle.cls ≠ "java/lang/invoke/MethodHandle" ∧ yX4_settle.cls ≠ "java/lang/invoke/VarHandle" ∧ (parseMethodDescriptor yX4_settle.desc).map (fun d => d.parameters.length) = some 1 := by decide +kernel
set_option maxHeartbeats 4000000 in
set_option maxRecDepth 100000 in
theorem met_X4_settle (l : Launch) (G : Gw) (z : Nat) (H0 : Heap) (n : Nat) (w : Wd) (a1 : Int32) (q : Wd) (h : f_X4_settle n a1 w = some q) : Met l yX4_settle (ws_ yX4_settle cX4_settle 2 none) ({ frames := 0, cells := 0, slots := 0, locals := 0 } : Room) (pcW G z H0 w [.ref (z + 58), .int a1]) (qW G z H0 q none) 0 0 (fun q => z ≤ q) := by
  refine mW (by decide) (Nat.le_of_ble_eq_true rfl) ?_
  intro p e s m below meth c ls hx hb hr hml hown hts hlocks hnm hK hR hF hl
  have hown : s.vm.findClass RX4 = some m.cls := hown
  have hl : lv_has ls 2 [(0, .ref (z + 58)), (1, .int a1)] := hl
  have hL : lok z [] := lok_nil
  unfold f_X4_settle at h
  generalize s.heap = H at hR ⊢
  generalize ([] : List Loc) = locs at hL ⊢
  have hX0_158 : ∀ (q0_158 : Wd), (some q0_158) = some q → ∀ (H : Heap) (locs : List Loc) (ls : Array Slot), Rp G z H0 q0_158 H → Fix q0_158 → lok z locs → lv_has ls 2 [] → W p l e ({ frames := 0, cells := 0, slots := 0, locals := 0 } : Room) s m ([.ref (z + 58), .int a1] : List Value).toArray below meth c H locs 0 0 (MQ below (qW G z H0 q none) ([.ref (z + 58), .int a1] : List Value).toArray s 0 0 (fun q => z ≤ q)) (F0 m 158 ls []) := by
    intro q0_158 h H locs ls hR hF hL hl
    have h := Option.some.inj h
    subst h
    exact W.vret hx hb hr (fun t ht _ => ⟨rfl, by rw [ht]; exact hR, hF⟩) hL dX4_settle_158
  obtain ⟨t23, hq24, h⟩ := bnd h
  refine it_W (b := f_X4_settle_L0 n a1) (P := fun (s1 : Wd) => ∀ (H : Heap) (locs : List Loc) (ls : Array Slot), Rp G z H0 s1 H → Fix s1 → lok z locs → lv_has ls 2 [(0, .ref (z + 58)), (1, .int a1)] → W p l e ({ frames := 0, cells := 0, slots := 0, locals := 0 } : Room) s m ([.ref (z + 58), .int a1] : List Value).toArray below meth c H locs 0 0 (MQ below (qW G z H0 q none) ([.ref (z + 58), .int a1] : List Value).toArray s 0 0 (fun q => z ≤ q)) (F0 m 0 ls [])) (K := fun q0_158 => (some q0_158) = some q) (fun s1 x1 h hc1 ht1 => ?_) n w t23 hq24 h H locs ls hR hF hL (lv_sub hl [0, 1] rfl)
  intro H locs ls hR hF hL hl
  unfold f_X4_settle_L0 at h
  have hJ45 : ∀  (w : Wd), f_X4_settle_J45 n a1 w = some x1 → ∀ (H : Heap) (locs : List Loc) (ls : Array Slot), Rp G z H0 w H → Fix w → lok z locs → lv_has ls 2 [(0, .ref (z + 58)), (1, .int a1)] → W p l e ({ frames := 0, cells := 0, slots := 0, locals := 0 } : Room) s m ([.ref (z + 58), .int a1] : List Value).toArray below meth c H locs 0 0 (MQ below (qW G z H0 q none) ([.ref (z + 58), .int a1] : List Value).toArray s 0 0 (fun q => z ≤ q)) (F0 m 45 ls []) := by
    intro  w h H locs ls hR hF hL hl
    unfold f_X4_settle_J45 at h
    refine lv_aload_n hx hb dX4_settle_45 rfl (lv_at hl 0 rfl) ?_
    refine lv_dup hx hb dX4_settle_46 rfl ?_
    refine r_get (C := RX4) (T := TX4) (N := 80) hx hb hts ok4 hown hK hR (congrArg Prod.fst (hF.2.1 58 (5, 0) rfl)) rfl 46 (by decide) (hts _ q1679) (fun _ h9 => h9) (v := .int (wI w 58 46)) rfl dX4_settle_47 ?_
    refine lv_iconst (v := 1) hx hb dX4_settle_50 (by decide) ?_
    refine lv_isub hx hb dX4_settle_51 ?_
    refine r_putI (C := RX4) (T := TX4) (N := 80) hx hb hts ok4 hown hK hR hL (congrArg Prod.fst (hF.2.1 58 (5, 0) rfl)) rfl 46 (by decide) (hts _ q1679) (fun _ h9 => h9) (Or.inl rfl) rfl rfl rfl dX4_settle_52 (fun H locs hR hL => ?_)
    have hF := hF.sI 58 46 ((wI w 58 46) - (1 : Int32))
    refine lv_aload_n hx hb dX4_settle_55 rfl (lv_at hl 0 rfl) ?_
    refine lv_dup hx hb dX4_settle_56 rfl ?_
    refine r_get (C := RX4) (T := TX4) (N := 80) hx hb hts ok4 hown hK hR (congrArg Prod.fst (hF.2.1 58 (5, 0) rfl)) rfl 47 (by decide) (hts _ q1680) (fun _ h9 => h9) (v := .int (wI w 58 47)) rfl dX4_settle_57 ?_
    refine lv_iconst (v := 1) hx hb dX4_settle_60 (by decide) ?_
    refine lv_isub hx hb dX4_settle_61 ?_
    refine r_putI (C := RX4) (T := TX4) (N := 80) hx hb hts ok4 hown hK hR hL (congrArg Prod.fst (hF.2.1 58 (5, 0) rfl)) rfl 47 (by decide) (hts _ q1680) (fun _ h9 => h9) (Or.inl rfl) rfl rfl rfl dX4_settle_62 (fun H locs hR hL => ?_)
    have hF := hF.sI 58 47 ((wI w 58 47) - (1 : Int32))
    refine lv_aload_n hx hb dX4_settle_65 rfl (lv_at hl 0 rfl) ?_
    refine r_get (C := RX4) (T := TX4) (N := 80) hx hb hts ok4 hown hK hR (congrArg Prod.fst (hF.2.1 58 (5, 0) rfl)) rfl 45 (by decide) (hts _ q1678) (fun _ h9 => h9) (v := .ref (z + 83)) (fv_fix hF rfl rfl) dX4_settle_66 ?_
    refine lv_aload_n hx hb dX4_settle_69 rfl (lv_at hl 0 rfl) ?_
    refine r_get (C := RX4) (T := TX4) (N := 80) hx hb hts ok4 hown hK hR (congrArg Prod.fst (hF.2.1 58 (5, 0) rfl)) rfl 47 (by decide) (hts _ q1680) (fun _ h9 => h9) (v := .int ((wI w 58 47) - (1 : Int32))) rfl dX4_settle_70 ?_
    refine lv_iconst (v := 1) hx hb dX4_settle_73 (by decide) ?_
    refine lv_isub hx hb dX4_settle_74 ?_
    refine lv_aload_n hx hb dX4_settle_75 rfl (lv_at hl 0 rfl) ?_
    refine r_get (C := RX4) (T := TX4) (N := 80) hx hb hts ok4 hown hK hR (congrArg Prod.fst (hF.2.1 58 (5, 0) rfl)) rfl 44 (by decide) (hts _ q1677) (fun _ h9 => h9) (v := .ref (z + 82)) (fv_fix hF rfl rfl) dX4_settle_76 ?_
    refine lv_aload_n hx hb dX4_settle_79 rfl (lv_at hl 0 rfl) ?_
    refine r_get (C := RX4) (T := TX4) (N := 80) hx hb hts ok4 hown hK hR (congrArg Prod.fst (hF.2.1 58 (5, 0) rfl)) rfl 46 (by decide) (hts _ q1679) (fun _ h9 => h9) (v := .int ((wI w 58 46) - (1 : Int32))) rfl dX4_settle_80 ?_
    obtain ⟨hb4, h⟩ := grd h
    refine r_iald (v := wI w 82 (((wI w 58 46) - (1 : Int32)).toNatClampNeg)) hx hb hK hR (hF.2.1 82 (200, 121) rfl) hb4 rfl dX4_settle_83 ?_
    refine lv_bipush (v := 38) hx hb dX4_settle_84 (by decide) ?_
    refine lv_icmp_ne (tgt := 123) hx hb dX4_settle_86 (by decide) (fun c5 => ?_) (fun c5 => ?_)
    · rw [if_neg c5] at h
      refine lv_aload_n hx hb dX4_settle_123 rfl (lv_at hl 0 rfl) ?_
      refine r_get (C := RX4) (T := TX4) (N := 80) hx hb hts ok4 hown hK hR (congrArg Prod.fst (hF.2.1 58 (5, 0) rfl)) rfl 45 (by decide) (hts _ q1678) (fun _ h9 => h9) (v := .ref (z + 83)) (fv_fix hF rfl rfl) dX4_settle_124 ?_
      refine lv_aload_n hx hb dX4_settle_127 rfl (lv_at hl 0 rfl) ?_
      refine r_get (C := RX4) (T := TX4) (N := 80) hx hb hts ok4 hown hK hR (congrArg Prod.fst (hF.2.1 58 (5, 0) rfl)) rfl 47 (by decide) (hts _ q1680) (fun _ h9 => h9) (v := .int ((wI w 58 47) - (1 : Int32))) rfl dX4_settle_128 ?_
      refine lv_iconst (v := 1) hx hb dX4_settle_131 (by decide) ?_
      refine lv_isub hx hb dX4_settle_132 ?_
      obtain ⟨hb6, h⟩ := grd h
      refine r_zald (v := wI w 83 ((((wI w 58 47) - (1 : Int32)) - (1 : Int32)).toNatClampNeg)) hx hb hK hR (hF.2.1 83 (203, 121) rfl) hb6 rfl dX4_settle_133 ?_
      refine lv_if_ne (tgt := 149) hx hb dX4_settle_134 (by decide) (fun c7 => ?_) (fun c7 => ?_)
      · rw [if_neg c7] at h
        refine lv_iconst (v := 1) hx hb dX4_settle_149 (by decide) ?_
        refine lv_goto (tgt := 154) hx hb dX4_settle_150 (by decide) ?_
        obtain ⟨hb8, h⟩ := grd h
        refine r_zast hx hb hK hR hL (hF.2.1 83 (203, 121) rfl) hb8 dX4_settle_154 (fun H locs hR hL => ?_)
        have hF := hF.sI 83 ((((wI w 58 47) - (1 : Int32)) - (1 : Int32)).toNatClampNeg) ((1 : Int32) &&& 1)
        refine lv_goto (tgt := 0) hx hb dX4_settle_155 (by decide) ?_
        exact hc1 _ (Option.some.inj h).symm H locs ls hR hF hL (lv_sub hl [0, 1] rfl)
      · rw [if_pos c7] at h
        refine lv_aload_n hx hb dX4_settle_137 rfl (lv_at hl 0 rfl) ?_
        refine r_get (C := RX4) (T := TX4) (N := 80) hx hb hts ok4 hown hK hR (congrArg Prod.fst (hF.2.1 58 (5, 0) rfl)) rfl 45 (by decide) (hts _ q1678) (fun _ h9 => h9) (v := .ref (z + 83)) (fv_fix hF rfl rfl) dX4_settle_138 ?_
        refine lv_aload_n hx hb dX4_settle_141 rfl (lv_at hl 0 rfl) ?_
        refine r_get (C := RX4) (T := TX4) (N := 80) hx hb hts ok4 hown hK hR (congrArg Prod.fst (hF.2.1 58 (5, 0) rfl)) rfl 47 (by decide) (hts _ q1680) (fun _ h9 => h9) (v := .int ((wI w 58 47) - (1 : Int32))) rfl dX4_settle_142 ?_
        obtain ⟨hb9, h⟩ := grd h
        refine r_zald (v := wI w 83 (((wI w 58 47) - (1 : Int32)).toNatClampNeg)) hx hb hK hR (hF.2.1 83 (203, 121) rfl) hb9 rfl dX4_settle_145 ?_
        refine lv_if_eq (tgt := 153) hx hb dX4_settle_146 (by decide) (fun c10 => ?_) (fun c10 => ?_)
        · rw [if_pos c10] at h
          refine lv_iconst (v := 0) hx hb dX4_settle_153 (by decide) ?_
          obtain ⟨hb11, h⟩ := grd h
          refine r_zast hx hb hK hR hL (hF.2.1 83 (203, 121) rfl) hb11 dX4_settle_154 (fun H locs hR hL => ?_)
          have hF := hF.sI 83 ((((wI w 58 47) - (1 : Int32)) - (1 : Int32)).toNatClampNeg) ((0 : Int32) &&& 1)
          refine lv_goto (tgt := 0) hx hb dX4_settle_155 (by decide) ?_
          exact hc1 _ (Option.some.inj h).symm H locs ls hR hF hL (lv_sub hl [0, 1] rfl)
        · rw [if_neg c10] at h
          refine lv_iconst (v := 1) hx hb dX4_settle_149 (by decide) ?_
          refine lv_goto (tgt := 154) hx hb dX4_settle_150 (by decide) ?_
          obtain ⟨hb12, h⟩ := grd h
          refine r_zast hx hb hK hR hL (hF.2.1 83 (203, 121) rfl) hb12 dX4_settle_154 (fun H locs hR hL => ?_)
          have hF := hF.sI 83 ((((wI w 58 47) - (1 : Int32)) - (1 : Int32)).toNatClampNeg) ((1 : Int32) &&& 1)
          refine lv_goto (tgt := 0) hx hb dX4_settle_155 (by decide) ?_
          exact hc1 _ (Option.some.inj h).symm H locs ls hR hF hL (lv_sub hl [0, 1] rfl)
    · rw [if_pos c5] at h
      refine lv_aload_n hx hb dX4_settle_89 rfl (lv_at hl 0 rfl) ?_
      refine r_get (C := RX4) (T := TX4) (N := 80) hx hb hts ok4 hown hK hR (congrArg Prod.fst (hF.2.1 58 (5, 0) rfl)) rfl 45 (by decide) (hts _ q1678) (fun _ h9 => h9) (v := .ref (z + 83)) (fv_fix hF rfl rfl) dX4_settle_90 ?_
      refine lv_aload_n hx hb dX4_settle_93 rfl (lv_at hl 0 rfl) ?_
      refine r_get (C := RX4) (T := TX4) (N := 80) hx hb hts ok4 hown hK hR (congrArg Prod.fst (hF.2.1 58 (5, 0) rfl)) rfl 47 (by decide) (hts _ q1680) (fun _ h9 => h9) (v := .int ((wI w 58 47) - (1 : Int32))) rfl dX4_settle_94 ?_
      refine lv_iconst (v := 1) hx hb dX4_settle_97 (by decide) ?_
      refine lv_isub hx hb dX4_settle_98 ?_
      obtain ⟨hb13, h⟩ := grd h
      refine r_zald (v := wI w 83 ((((wI w 58 47) - (1 : Int32)) - (1 : Int32)).toNatClampNeg)) hx hb hK hR (hF.2.1 83 (203, 121) rfl) hb13 rfl dX4_settle_99 ?_
      refine lv_if_eq (tgt := 119) hx hb dX4_settle_100 (by decide) (fun c14 => ?_) (fun c14 => ?_)
      · rw [if_pos c14] at h
        refine lv_iconst (v := 0) hx hb dX4_settle_119 (by decide) ?_
        refine lv_goto (tgt := 154) hx hb dX4_settle_120 (by decide) ?_
        obtain ⟨hb15, h⟩ := grd h
        refine r_zast hx hb hK hR hL (hF.2.1 83 (203, 121) rfl) hb15 dX4_settle_154 (fun H locs hR hL => ?_)
        have hF := hF.sI 83 ((((wI w 58 47) - (1 : Int32)) - (1 : Int32)).toNatClampNeg) ((0 : Int32) &&& 1)
        refine lv_goto (tgt := 0) hx hb dX4_settle_155 (by decide) ?_
        exact hc1 _ (Option.some.inj h).symm H locs ls hR hF hL (lv_sub hl [0, 1] rfl)
      · rw [if_neg c14] at h
        refine lv_aload_n hx hb dX4_settle_103 rfl (lv_at hl 0 rfl) ?_
        refine r_get (C := RX4) (T := TX4) (N := 80) hx hb hts ok4 hown hK hR (congrArg Prod.fst (hF.2.1 58 (5, 0) rfl)) rfl 45 (by decide) (hts _ q1678) (fun _ h9 => h9) (v := .ref (z + 83)) (fv_fix hF rfl rfl) dX4_settle_104 ?_
        refine lv_aload_n hx hb dX4_settle_107 rfl (lv_at hl 0 rfl) ?_
        refine r_get (C := RX4) (T := TX4) (N := 80) hx hb hts ok4 hown hK hR (congrArg Prod.fst (hF.2.1 58 (5, 0) rfl)) rfl 47 (by decide) (hts _ q1680) (fun _ h9 => h9) (v := .int ((wI w 58 47) - (1 : Int32))) rfl dX4_settle_108 ?_
        obtain ⟨hb16, h⟩ := grd h
        refine r_zald (v := wI w 83 (((wI w 58 47) - (1 : Int32)).toNatClampNeg)) hx hb hK hR (hF.2.1 83 (203, 121) rfl) hb16 rfl dX4_settle_111 ?_
        refine lv_if_eq (tgt := 119) hx hb dX4_settle_112 (by decide) (fun c17 => ?_) (fun c17 => ?_)
        · rw [if_pos c17] at h
          refine lv_iconst (v := 0) hx hb dX4_settle_119 (by decide) ?_
          refine lv_goto (tgt := 154) hx hb dX4_settle_120 (by decide) ?_
          obtain ⟨hb18, h⟩ := grd h
          refine r_zast hx hb hK hR hL (hF.2.1 83 (203, 121) rfl) hb18 dX4_settle_154 (fun H locs hR hL => ?_)
          have hF := hF.sI 83 ((((wI w 58 47) - (1 : Int32)) - (1 : Int32)).toNatClampNeg) ((0 : Int32) &&& 1)
          refine lv_goto (tgt := 0) hx hb dX4_settle_155 (by decide) ?_
          exact hc1 _ (Option.some.inj h).symm H locs ls hR hF hL (lv_sub hl [0, 1] rfl)
        · rw [if_neg c17] at h
          refine lv_iconst (v := 1) hx hb dX4_settle_115 (by decide) ?_
          refine lv_goto (tgt := 154) hx hb dX4_settle_116 (by decide) ?_
          obtain ⟨hb19, h⟩ := grd h
          refine r_zast hx hb hK hR hL (hF.2.1 83 (203, 121) rfl) hb19 dX4_settle_154 (fun H locs hR hL => ?_)
          have hF := hF.sI 83 ((((wI w 58 47) - (1 : Int32)) - (1 : Int32)).toNatClampNeg) ((1 : Int32) &&& 1)
          refine lv_goto (tgt := 0) hx hb dX4_settle_155 (by decide) ?_
          exact hc1 _ (Option.some.inj h).symm H locs ls hR hF hL (lv_sub hl [0, 1] rfl)
  refine lv_aload_n hx hb dX4_settle_0 rfl (lv_at hl 0 rfl) ?_
  refine r_get (C := RX4) (T := TX4) (N := 80) hx hb hts ok4 hown hK hR (congrArg Prod.fst (hF.2.1 58 (5, 0) rfl)) rfl 46 (by decide) (hts _ q1679) (fun _ h9 => h9) (v := .int (wI s1 58 46)) rfl dX4_settle_1 ?_
  refine lv_if_le (tgt := 158) hx hb dX4_settle_4 (by decide) (fun c1 => ?_) (fun c1 => ?_)
  · rw [if_pos c1] at h
    exact hX0_158 s1 (ht1 _ (Option.some.inj h).symm) H locs ls hR hF hL (lv_sub hl [] rfl)
  · rw [if_neg c1] at h
    refine lv_aload_n hx hb dX4_settle_7 rfl (lv_at hl 0 rfl) ?_
    refine r_get (C := RX4) (T := TX4) (N := 80) hx hb hts ok4 hown hK hR (congrArg Prod.fst (hF.2.1 58 (5, 0) rfl)) rfl 44 (by decide) (hts _ q1677) (fun _ h9 => h9) (v := .ref (z + 82)) (fv_fix hF rfl rfl) dX4_settle_8 ?_
    refine lv_aload_n hx hb dX4_settle_11 rfl (lv_at hl 0 rfl) ?_
    refine r_get (C := RX4) (T := TX4) (N := 80) hx hb hts ok4 hown hK hR (congrArg Prod.fst (hF.2.1 58 (5, 0) rfl)) rfl 46 (by decide) (hts _ q1679) (fun _ h9 => h9) (v := .int (wI s1 58 46)) rfl dX4_settle_12 ?_
    refine lv_iconst (v := 1) hx hb dX4_settle_15 (by decide) ?_
    refine lv_isub hx hb dX4_settle_16 ?_
    obtain ⟨hb2, h⟩ := grd h
    refine r_iald (v := wI s1 82 (((wI s1 58 46) - (1 : Int32)).toNatClampNeg)) hx hb hK hR (hF.2.1 82 (200, 121) rfl) hb2 rfl dX4_settle_17 ?_
    refine lv_bipush (v := 38) hx hb dX4_settle_18 (by decide) ?_
    refine lv_icmp_eq (tgt := 45) hx hb dX4_settle_20 (by decide) (fun c3 => ?_) (fun c3 => ?_)
    · rw [if_pos c3] at h
      exact hJ45  s1 h H locs ls hR hF hL (lv_sub hl [0, 1] rfl)
    · rw [if_neg c3] at h
      refine lv_aload_n hx hb dX4_settle_23 rfl (lv_at hl 0 rfl) ?_
      refine r_get (C := RX4) (T := TX4) (N := 80) hx hb hts ok4 hown hK hR (congrArg Prod.fst (hF.2.1 58 (5, 0) rfl)) rfl 44 (by decide) (hts _ q1677) (fun _ h9 => h9) (v := .ref (z + 82)) (fv_fix hF rfl rfl) dX4_settle_24 ?_
      refine lv_aload_n hx hb dX4_settle_27 rfl (lv_at hl 0 rfl) ?_
      refine r_get (C := RX4) (T := TX4) (N := 80) hx hb hts ok4 hown hK hR (congrArg Prod.fst (hF.2.1 58 (5, 0) rfl)) rfl 46 (by decide) (hts _ q1679) (fun _ h9 => h9) (v := .int (wI s1 58 46)) rfl dX4_settle_28 ?_
      refine lv_iconst (v := 1) hx hb dX4_settle_31 (by decide) ?_
      refine lv_isub hx hb dX4_settle_32 ?_
      obtain ⟨hb20, h⟩ := grd h
      refine r_iald (v := wI s1 82 (((wI s1 58 46) - (1 : Int32)).toNatClampNeg)) hx hb hK hR (hF.2.1 82 (200, 121) rfl) hb20 rfl dX4_settle_33 ?_
      refine lv_bipush (v := 124) hx hb dX4_settle_34 (by decide) ?_
      refine lv_icmp_ne (tgt := 158) hx hb dX4_settle_36 (by decide) (fun c21 => ?_) (fun c21 => ?_)
      · rw [if_neg c21] at h
        exact hX0_158 s1 (ht1 _ (Option.some.inj h).symm) H locs ls hR hF hL (lv_sub hl [] rfl)
      · rw [if_pos c21] at h
        refine lv_iload_n hx hb dX4_settle_39 rfl (lv_at hl 1 rfl) ?_
        refine lv_bipush (v := 38) hx hb dX4_settle_40 (by decide) ?_
        refine lv_icmp_eq (tgt := 158) hx hb dX4_settle_42 (by decide) (fun c22 => ?_) (fun c22 => ?_)
        · rw [if_pos c22] at h
          exact hX0_158 s1 (ht1 _ (Option.some.inj h).symm) H locs ls hR hF hL (lv_sub hl [] rfl)
        · rw [if_neg c22] at h
          exact hJ45  s1 h H locs ls hR hF hL (lv_sub hl [0, 1] rfl)
def f_X4_takesE_J117 (n : Nat) (j2 : Int32) (w : Wd) : Option ((Int32 × Wd) ⊕ ((Int32 × Wd) ⊕ (Int32 × Wd) ⊕ (Int32 × Wd) ⊕ (Int32 × Wd))) :=
  (f_X4_settle n j2 w).bind fun q8 => if inb (wI q8 58 46) 121 then (some (.inl ((1 : Int32), sI (sI (sI q8 82 ((wI q8 58 46).toNatClampNeg) j2) 58 46 ((wI q8 58 46) + (1 : Int32))) 58 40 ((wI q8 58 40) + (1 : Int32))))) else none
def f_X4_takesE_J38 (n : Nat) (j2 : Int32) (j1 : Int32) (w : Wd) : Option ((Int32 × Wd) ⊕ ((Int32 × Wd) ⊕ (Int32 × Wd) ⊕ (Int32 × Wd) ⊕ (Int32 × Wd))) :=
  if (wI w 58 48) = (5 : Int32) then (some (.inr (.inl (j1, w)))) else (if inb (wI w 58 46) 121 then (some (.inl (j1, sI (sI (sI (sI w 58 48 ((wI w 58 48) + (1 : Int32))) 82 ((wI w 58 46).toNatClampNeg) j2) 58 46 ((wI w 58 46) + (1 : Int32))) 58 40 ((wI w 58 40) + (1 : Int32))))) else none)
def f_X4_takesE_L17 (n : Nat) (s1 : Int32 × Wd) : Option ((Int32 × Wd) ⊕ ((Int32 × Wd) ⊕ (Int32 × Wd) ⊕ (Int32 × Wd) ⊕ (Int32 × Wd))) :=
  (f_X4_next s1.2).bind fun q4 => if s1.1 = 0 then (if q4 = (38 : Int32) then (f_X4_takesE_J117 n q4 s1.2) else (if q4 = (124 : Int32) then (f_X4_takesE_J117 n q4 s1.2) else ((f_X4_settle n (124 : Int32) s1.2).bind fun q12 => if (wI q12 58 46) = 0 then (some (.inr (.inr (.inr (.inl (s1.1, q12)))))) else (if q4 = (41 : Int32) then (if inb ((wI q12 58 47) - (1 : Int32)) 121 then ((f_X4_push n (wI q12 83 (((wI q12 58 47) - (1 : Int32)).toNatClampNeg)) (sI (sI (sI (sI q12 58 46 ((wI q12 58 46) - (1 : Int32))) 58 48 ((wI q12 58 48) - (1 : Int32))) 58 47 ((wI q12 58 47) - (1 : Int32))) 58 40 ((wI q12 58 40) + (1 : Int32)))).bind fun q17 => some (.inl (s1.1, q17))) else none) else (some (.inr (.inr (.inr (.inr (s1.1, q12)))))))))) else (if q4 = (33 : Int32) then (f_X4_takesE_J38 n q4 s1.1 s1.2) else (if q4 = (40 : Int32) then (f_X4_takesE_J38 n q4 s1.1 s1.2) else ((f_X4_takesTest n s1.2).bind fun q23 => if q23.1 then (some (.inl ((0 : Int32), q23.2))) else (some (.inr (.inr (.inl (s1.1, q23.2))))))))
def f_X4_takesE (n : Nat) (w : Wd) : Option (Bool × Wd) :=
  (it n (f_X4_takesE_L17 n) ((1 : Int32), sI (sI (sI w 58 46 (0 : Int32)) 58 47 (0 : Int32)) 58 48 (0 : Int32))).bind fun t17 => (match t17 with | .inl q17_46 => some (false, q17_46.2) | .inr t17_ => (match t17_ with | .inl q17_103 => some (false, q17_103.2) | .inr t17__ => (match t17__ with | .inl q17_170 => if (wI q17_170.2 58 41) = 0 then (if inb (0 : Int32) 121 then (if (wI q17_170.2 83 ((0 : Int32).toNatClampNeg)) = 0 then (some (true, sI q17_170.2 58 41 (0 : Int32))) else (some (true, sI q17_170.2 58 41 (1 : Int32)))) else none) else (some (true, sI q17_170.2 58 41 (1 : Int32))) | .inr q17_179 => some (false, q17_179.2))))
theorem hd_X4_takesE : yX4_takesE.cls = RX4 ∧ yX4_takesE.cls ≠ "java/lang/invoke/MethodHandle" ∧ yX4_takesE.cls ≠ "java/lang/invoke/VarHandle" ∧ (parseMethodDescriptor yX4_takesE.desc).map (fun d => d.parameters.length) = some 0 := by decide +kernel
set_option maxHeartbeats 4000000 in
set_option maxRecDepth 100000 in
theorem met_X4_takesE (l : Launch) (G : Gw) (z : Nat) (H0 : Heap) (n : Nat) (w : Wd)  (q : Bool × Wd) (h : f_X4_takesE n w = some q) : Met l yX4_takesE (ws_ yX4_takesE cX4_takesE 3 (some .boolean)) ({ frames := 4, cells := 0, slots := 0, locals := 88 } : Room) (pcW G z H0 w [.ref (z + 58)]) (qW G z H0 q.2 (some (.int (bI q.1)))) 0 0 (fun q => z ≤ q) := by
  refine mW (by decide) (Nat.le_of_ble_eq_true rfl) ?_
  intro p e s m below meth c ls hx hb hr hml hown hts hlocks hnm hK hR hF hl
  have hown : s.vm.findClass RX4 = some m.cls := hown
  have hl : lv_has ls 3 [(0, .ref (z + 58))] := hl
  have hL : lok z [] := lok_nil
  unfold f_X4_takesE at h
  generalize s.heap = H at hR ⊢
  generalize ([] : List Loc) = locs at hL ⊢
  refine lv_aload_n hx hb dX4_takesE_0 rfl (lv_at hl 0 rfl) ?_
  refine lv_iconst (v := 0) hx hb dX4_takesE_1 (by decide) ?_
  refine r_putI (C := RX4) (T := TX4) (N := 80) hx hb hts ok4 hown hK hR hL (congrArg Prod.fst (hF.2.1 58 (5, 0) rfl)) rfl 46 (by decide) (hts _ q1679) (fun _ h9 => h9) (Or.inl rfl) rfl rfl rfl dX4_takesE_2 (fun H locs hR hL => ?_)
  have hF := hF.sI 58 46 (0 : Int32)
  refine lv_aload_n hx hb dX4_takesE_5 rfl (lv_at hl 0 rfl) ?_
  refine lv_iconst (v := 0) hx hb dX4_takesE_6 (by decide) ?_
  refine r_putI (C := RX4) (T := TX4) (N := 80) hx hb hts ok4 hown hK hR hL (congrArg Prod.fst (hF.2.1 58 (5, 0) rfl)) rfl 47 (by decide) (hts _ q1680) (fun _ h9 => h9) (Or.inl rfl) rfl rfl rfl dX4_takesE_7 (fun H locs hR hL => ?_)
  have hF := hF.sI 58 47 (0 : Int32)
  refine lv_aload_n hx hb dX4_takesE_10 rfl (lv_at hl 0 rfl) ?_
  refine lv_iconst (v := 0) hx hb dX4_takesE_11 (by decide) ?_
  refine r_putI (C := RX4) (T := TX4) (N := 80) hx hb hts ok4 hown hK hR hL (congrArg Prod.fst (hF.2.1 58 (5, 0) rfl)) rfl 48 (by decide) (hts _ q1681) (fun _ h9 => h9) (Or.inl rfl) rfl rfl rfl dX4_takesE_12 (fun H locs hR hL => ?_)
  have hF := hF.sI 58 48 (0 : Int32)
  refine lv_iconst (v := 1) hx hb dX4_takesE_15 (by decide) ?_
  refine lv_istore_n (lv' := [(1, .int (1 : Int32)), (0, .ref (z + 58))]) hx hb dX4_takesE_16 rfl hl (by decide) rfl (fun ls hl => ?_)
  have hX17_46 : ∀ (q17_46 : Int32 × Wd), (some (false, q17_46.2)) = some q → ∀ (H : Heap) (locs : List Loc) (ls : Array Slot), Rp G z H0 q17_46.2 H → Fix q17_46.2 → lok z locs → lv_has ls 3 [] → W p l e ({ frames := 4, cells := 0, slots := 0, locals := 88 } : Room) s m ([.ref (z + 58)] : List Value).toArray below meth c H locs 0 0 (MQ below (qW G z H0 q.2 (some (.int (bI q.1)))) ([.ref (z + 58)] : List Value).toArray s 0 0 (fun q => z ≤ q)) (F0 m 46 ls []) := by
    intro q17_46 h H locs ls hR hF hL hl
    refine lv_iconst (v := 0) hx hb dX4_takesE_46 (by decide) ?_
    have h := Option.some.inj h
    subst h
    exact W.zret (v := bI false) hx hb hr (bI_nar _) (fun t ht _ => ⟨rfl, by rw [ht]; exact hR, hF⟩) hL dX4_takesE_47
  have hX17_103 : ∀ (q17_103 : Int32 × Wd), (some (false, q17_103.2)) = some q → ∀ (H : Heap) (locs : List Loc) (ls : Array Slot), Rp G z H0 q17_103.2 H → Fix q17_103.2 → lok z locs → lv_has ls 3 [] → W p l e ({ frames := 4, cells := 0, slots := 0, locals := 88 } : Room) s m ([.ref (z + 58)] : List Value).toArray below meth c H locs 0 0 (MQ below (qW G z H0 q.2 (some (.int (bI q.1)))) ([.ref (z + 58)] : List Value).toArray s 0 0 (fun q => z ≤ q)) (F0 m 103 ls []) := by
    intro q17_103 h H locs ls hR hF hL hl
    refine lv_iconst (v := 0) hx hb dX4_takesE_103 (by decide) ?_
    have h := Option.some.inj h
    subst h
    exact W.zret (v := bI false) hx hb hr (bI_nar _) (fun t ht _ => ⟨rfl, by rw [ht]; exact hR, hF⟩) hL dX4_takesE_104
  have hX17_170 : ∀ (q17_170 : Int32 × Wd), (if (wI q17_170.2 58 41) = 0 then (if inb (0 : Int32) 121 then (if (wI q17_170.2 83 ((0 : Int32).toNatClampNeg)) = 0 then (some (true, sI q17_170.2 58 41 (0 : Int32))) else (some (true, sI q17_170.2 58 41 (1 : Int32)))) else none) else (some (true, sI q17_170.2 58 41 (1 : Int32)))) = some q → ∀ (H : Heap) (locs : List Loc) (ls : Array Slot), Rp G z H0 q17_170.2 H → Fix q17_170.2 → lok z locs → lv_has ls 3 [(0, .ref (z + 58))] → W p l e ({ frames := 4, cells := 0, slots := 0, locals := 88 } : Room) s m ([.ref (z + 58)] : List Value).toArray below meth c H locs 0 0 (MQ below (qW G z H0 q.2 (some (.int (bI q.1)))) ([.ref (z + 58)] : List Value).toArray s 0 0 (fun q => z ≤ q)) (F0 m 170 ls []) := by
    intro q17_170 h H locs ls hR hF hL hl
    refine lv_goto (tgt := 237) hx hb dX4_takesE_170 (by decide) ?_
    refine lv_aload_n hx hb dX4_takesE_237 rfl (lv_at hl 0 rfl) ?_
    refine lv_aload_n hx hb dX4_takesE_238 rfl (lv_at hl 0 rfl) ?_
    refine r_get (C := RX4) (T := TX4) (N := 80) hx hb hts ok4 hown hK hR (congrArg Prod.fst (hF.2.1 58 (5, 0) rfl)) rfl 41 (by decide) (hts _ q1674) (fun _ h9 => h9) (v := .int (wI q17_170.2 58 41)) rfl dX4_takesE_239 ?_
    refine lv_if_ne (tgt := 254) hx hb dX4_takesE_242 (by decide) (fun c1 => ?_) (fun c1 => ?_)
    · rw [if_neg c1] at h
      refine lv_iconst (v := 1) hx hb dX4_takesE_254 (by decide) ?_
      refine lv_goto (tgt := 259) hx hb dX4_takesE_255 (by decide) ?_
      refine r_putI (C := RX4) (T := TX4) (N := 80) hx hb hts ok4 hown hK hR hL (congrArg Prod.fst (hF.2.1 58 (5, 0) rfl)) rfl 41 (by decide) (hts _ q1674) (fun _ h9 => h9) (Or.inl rfl) rfl (by decide) (by decide) dX4_takesE_259 (fun H locs hR hL => ?_)
      have hF := hF.sI 58 41 (1 : Int32)
      refine lv_iconst (v := 1) hx hb dX4_takesE_262 (by decide) ?_
      have h := Option.some.inj h
      subst h
      exact W.zret (v := bI true) hx hb hr (bI_nar _) (fun t ht _ => ⟨rfl, by rw [ht]; exact hR, hF⟩) hL dX4_takesE_263
    · rw [if_pos c1] at h
      refine lv_aload_n hx hb dX4_takesE_245 rfl (lv_at hl 0 rfl) ?_
      refine r_get (C := RX4) (T := TX4) (N := 80) hx hb hts ok4 hown hK hR (congrArg Prod.fst (hF.2.1 58 (5, 0) rfl)) rfl 45 (by decide) (hts _ q1678) (fun _ h9 => h9) (v := .ref (z + 83)) (fv_fix hF rfl rfl) dX4_takesE_246 ?_
      refine lv_iconst (v := 0) hx hb dX4_takesE_249 (by decide) ?_
      obtain ⟨hb2, h⟩ := grd h
      refine r_zald (v := wI q17_170.2 83 ((0 : Int32).toNatClampNeg)) hx hb hK hR (hF.2.1 83 (203, 121) rfl) hb2 rfl dX4_takesE_250 ?_
      refine lv_if_eq (tgt := 258) hx hb dX4_takesE_251 (by decide) (fun c3 => ?_) (fun c3 => ?_)
      · rw [if_pos c3] at h
        refine lv_iconst (v := 0) hx hb dX4_takesE_258 (by decide) ?_
        refine r_putI (C := RX4) (T := TX4) (N := 80) hx hb hts ok4 hown hK hR hL (congrArg Prod.fst (hF.2.1 58 (5, 0) rfl)) rfl 41 (by decide) (hts _ q1674) (fun _ h9 => h9) (Or.inl rfl) rfl (by decide) (by decide) dX4_takesE_259 (fun H locs hR hL => ?_)
        have hF := hF.sI 58 41 (0 : Int32)
        refine lv_iconst (v := 1) hx hb dX4_takesE_262 (by decide) ?_
        have h := Option.some.inj h
        subst h
        exact W.zret (v := bI true) hx hb hr (bI_nar _) (fun t ht _ => ⟨rfl, by rw [ht]; exact hR, hF⟩) hL dX4_takesE_263
      · rw [if_neg c3] at h
        refine lv_iconst (v := 1) hx hb dX4_takesE_254 (by decide) ?_
        refine lv_goto (tgt := 259) hx hb dX4_takesE_255 (by decide) ?_
        refine r_putI (C := RX4) (T := TX4) (N := 80) hx hb hts ok4 hown hK hR hL (congrArg Prod.fst (hF.2.1 58 (5, 0) rfl)) rfl 41 (by decide) (hts _ q1674) (fun _ h9 => h9) (Or.inl rfl) rfl (by decide) (by decide) dX4_takesE_259 (fun H locs hR hL => ?_)
        have hF := hF.sI 58 41 (1 : Int32)
        refine lv_iconst (v := 1) hx hb dX4_takesE_262 (by decide) ?_
        have h := Option.some.inj h
        subst h
        exact W.zret (v := bI true) hx hb hr (bI_nar _) (fun t ht _ => ⟨rfl, by rw [ht]; exact hR, hF⟩) hL dX4_takesE_263
  have hX17_179 : ∀ (q17_179 : Int32 × Wd), (some (false, q17_179.2)) = some q → ∀ (H : Heap) (locs : List Loc) (ls : Array Slot), Rp G z H0 q17_179.2 H → Fix q17_179.2 → lok z locs → lv_has ls 3 [] → W p l e ({ frames := 4, cells := 0, slots := 0, locals := 88 } : Room) s m ([.ref (z + 58)] : List Value).toArray below meth c H locs 0 0 (MQ below (qW G z H0 q.2 (some (.int (bI q.1)))) ([.ref (z + 58)] : List Value).toArray s 0 0 (fun q => z ≤ q)) (F0 m 179 ls []) := by
    intro q17_179 h H locs ls hR hF hL hl
    refine lv_iconst (v := 0) hx hb dX4_takesE_179 (by decide) ?_
    have h := Option.some.inj h
    subst h
    exact W.zret (v := bI false) hx hb hr (bI_nar _) (fun t ht _ => ⟨rfl, by rw [ht]; exact hR, hF⟩) hL dX4_takesE_180
  obtain ⟨t26, hq27, h⟩ := bnd h
  refine it_W (b := f_X4_takesE_L17 n) (P := fun (s1 : Int32 × Wd) => ∀ (H : Heap) (locs : List Loc) (ls : Array Slot), Rp G z H0 s1.2 H → Fix s1.2 → lok z locs → lv_has ls 3 [(1, .int s1.1), (0, .ref (z + 58))] → W p l e ({ frames := 4, cells := 0, slots := 0, locals := 88 } : Room) s m ([.ref (z + 58)] : List Value).toArray below meth c H locs 0 0 (MQ below (qW G z H0 q.2 (some (.int (bI q.1)))) ([.ref (z + 58)] : List Value).toArray s 0 0 (fun q => z ≤ q)) (F0 m 17 ls [])) (K := fun t17 => ((match t17 with | .inl q17_46 => some (false, q17_46.2) | .inr t17_ => (match t17_ with | .inl q17_103 => some (false, q17_103.2) | .inr t17__ => (match t17__ with | .inl q17_170 => if (wI q17_170.2 58 41) = 0 then (if inb (0 : Int32) 121 then (if (wI q17_170.2 83 ((0 : Int32).toNatClampNeg)) = 0 then (some (true, sI q17_170.2 58 41 (0 : Int32))) else (some (true, sI q17_170.2 58 41 (1 : Int32)))) else none) else (some (true, sI q17_170.2 58 41 (1 : Int32))) | .inr q17_179 => some (false, q17_179.2))))) = some q) (fun s1 x1 h hc1 ht1 => ?_) n ((1 : Int32), sI (sI (sI w 58 46 (0 : Int32)) 58 47 (0 : Int32)) 58 48 (0 : Int32)) t26 hq27 h H locs ls hR hF hL (lv_sub hl [0, 1] rfl)
  intro H locs ls hR hF hL hl
  unfold f_X4_takesE_L17 at h
  have hJ117 : ∀ (j2 : Int32) (w : Wd), f_X4_takesE_J117 n j2 w = some x1 → ∀ (H : Heap) (locs : List Loc) (ls : Array Slot), Rp G z H0 w H → Fix w → lok z locs → lv_has ls 3 [(2, .int j2), (0, .ref (z + 58))] → W p l e ({ frames := 4, cells := 0, slots := 0, locals := 88 } : Room) s m ([.ref (z + 58)] : List Value).toArray below meth c H locs 0 0 (MQ below (qW G z H0 q.2 (some (.int (bI q.1)))) ([.ref (z + 58)] : List Value).toArray s 0 0 (fun q => z ≤ q)) (F0 m 117 ls []) := by
    intro j2 w h H locs ls hR hF hL hl
    unfold f_X4_takesE_J117 at h
    refine lv_aload_n hx hb dX4_takesE_117 rfl (lv_at hl 1 rfl) ?_
    refine lv_iload_n hx hb dX4_takesE_118 rfl (lv_at hl 0 rfl) ?_
    obtain ⟨q8, hq9, h⟩ := bnd h
    refine c_VW (a := 58) (ci := 4) (q := (RX4, TX4, 80)) (rest := []) (st1 := []) hx hb hml hown hts hK hR hF hL hl.1 (met_X4_settle l G z H0 n w j2 q8 hq9) (congrArg Prod.fst (hF.2.1 58 (5, 0) rfl)) rfl rfl rfl hd_X4_settle q2077 q2079 qs74 q104 q2080 ⟨Nat.le_of_ble_eq_true rfl, Nat.le_of_ble_eq_true rfl⟩ ⟨Nat.le_refl 0, Nat.le_refl 0⟩ rfl rfl (Nat.le_of_ble_eq_true rfl) dX4_takesE_119 rfl (fun H locs hR hF hL => ?_)
    refine lv_aload_n hx hb dX4_takesE_122 rfl (lv_at hl 1 rfl) ?_
    refine r_get (C := RX4) (T := TX4) (N := 80) hx hb hts ok4 hown hK hR (congrArg Prod.fst (hF.2.1 58 (5, 0) rfl)) rfl 44 (by decide) (hts _ q1677) (fun _ h9 => h9) (v := .ref (z + 82)) (fv_fix hF rfl rfl) dX4_takesE_123 ?_
    refine lv_aload_n hx hb dX4_takesE_126 rfl (lv_at hl 1 rfl) ?_
    refine r_get (C := RX4) (T := TX4) (N := 80) hx hb hts ok4 hown hK hR (congrArg Prod.fst (hF.2.1 58 (5, 0) rfl)) rfl 46 (by decide) (hts _ q1679) (fun _ h9 => h9) (v := .int (wI q8 58 46)) rfl dX4_takesE_127 ?_
    refine lv_iload_n hx hb dX4_takesE_130 rfl (lv_at hl 0 rfl) ?_
    obtain ⟨hb10, h⟩ := grd h
    refine r_iast hx hb hK hR hL (hF.2.1 82 (200, 121) rfl) hb10 dX4_takesE_131 (fun H locs hR hL => ?_)
    have hF := hF.sI 82 ((wI q8 58 46).toNatClampNeg) j2
    refine lv_aload_n hx hb dX4_takesE_132 rfl (lv_at hl 1 rfl) ?_
    refine lv_dup hx hb dX4_takesE_133 rfl ?_
    refine r_get (C := RX4) (T := TX4) (N := 80) hx hb hts ok4 hown hK hR (congrArg Prod.fst (hF.2.1 58 (5, 0) rfl)) rfl 46 (by decide) (hts _ q1679) (fun _ h9 => h9) (v := .int (wI q8 58 46)) rfl dX4_takesE_134 ?_
    refine lv_iconst (v := 1) hx hb dX4_takesE_137 (by decide) ?_
    refine lv_iadd hx hb dX4_takesE_138 ?_
    refine r_putI (C := RX4) (T := TX4) (N := 80) hx hb hts ok4 hown hK hR hL (congrArg Prod.fst (hF.2.1 58 (5, 0) rfl)) rfl 46 (by decide) (hts _ q1679) (fun _ h9 => h9) (Or.inl rfl) rfl rfl rfl dX4_takesE_139 (fun H locs hR hL => ?_)
    have hF := hF.sI 58 46 ((wI q8 58 46) + (1 : Int32))
    refine lv_iconst (v := 1) hx hb dX4_takesE_142 (by decide) ?_
    refine lv_istore_n (lv' := [(1, .int (1 : Int32)), (2, .int j2), (0, .ref (z + 58))]) hx hb dX4_takesE_143 rfl hl (by decide) rfl (fun ls hl => ?_)
    refine lv_aload_n hx hb dX4_takesE_144 rfl (lv_at hl 2 rfl) ?_
    refine lv_dup hx hb dX4_takesE_145 rfl ?_
    refine r_get (C := RX4) (T := TX4) (N := 80) hx hb hts ok4 hown hK hR (congrArg Prod.fst (hF.2.1 58 (5, 0) rfl)) rfl 40 (by decide) (hts _ q1673) (fun _ h9 => h9) (v := .int (wI q8 58 40)) rfl dX4_takesE_146 ?_
    refine lv_iconst (v := 1) hx hb dX4_takesE_149 (by decide) ?_
    refine lv_iadd hx hb dX4_takesE_150 ?_
    refine r_putI (C := RX4) (T := TX4) (N := 80) hx hb hts ok4 hown hK hR hL (congrArg Prod.fst (hF.2.1 58 (5, 0) rfl)) rfl 40 (by decide) (hts _ q1673) (fun _ h9 => h9) (Or.inl rfl) rfl rfl rfl dX4_takesE_151 (fun H locs hR hL => ?_)
    have hF := hF.sI 58 40 ((wI q8 58 40) + (1 : Int32))
    refine lv_goto (tgt := 17) hx hb dX4_takesE_154 (by decide) ?_
    exact hc1 _ (Option.some.inj h).symm H locs ls hR hF hL (lv_sub hl [0, 2] rfl)
  have hJ38 : ∀ (j2 : Int32) (j1 : Int32) (w : Wd), f_X4_takesE_J38 n j2 j1 w = some x1 → ∀ (H : Heap) (locs : List Loc) (ls : Array Slot), Rp G z H0 w H → Fix w → lok z locs → lv_has ls 3 [(2, .int j2), (1, .int j1), (0, .ref (z + 58))] → W p l e ({ frames := 4, cells := 0, slots := 0, locals := 88 } : Room) s m ([.ref (z + 58)] : List Value).toArray below meth c H locs 0 0 (MQ below (qW G z H0 q.2 (some (.int (bI q.1)))) ([.ref (z + 58)] : List Value).toArray s 0 0 (fun q => z ≤ q)) (F0 m 38 ls []) := by
    intro j2 j1 w h H locs ls hR hF hL hl
    unfold f_X4_takesE_J38 at h
    refine lv_aload_n hx hb dX4_takesE_38 rfl (lv_at hl 2 rfl) ?_
    refine r_get (C := RX4) (T := TX4) (N := 80) hx hb hts ok4 hown hK hR (congrArg Prod.fst (hF.2.1 58 (5, 0) rfl)) rfl 48 (by decide) (hts _ q1681) (fun _ h9 => h9) (v := .int (wI w 58 48)) rfl dX4_takesE_39 ?_
    refine lv_iconst (v := 5) hx hb dX4_takesE_42 (by decide) ?_
    refine lv_icmp_ne (tgt := 48) hx hb dX4_takesE_43 (by decide) (fun c20 => ?_) (fun c20 => ?_)
    · rw [if_neg c20] at h
      refine lv_aload_n hx hb dX4_takesE_48 rfl (lv_at hl 2 rfl) ?_
      refine lv_dup hx hb dX4_takesE_49 rfl ?_
      refine r_get (C := RX4) (T := TX4) (N := 80) hx hb hts ok4 hown hK hR (congrArg Prod.fst (hF.2.1 58 (5, 0) rfl)) rfl 48 (by decide) (hts _ q1681) (fun _ h9 => h9) (v := .int (wI w 58 48)) rfl dX4_takesE_50 ?_
      refine lv_iconst (v := 1) hx hb dX4_takesE_53 (by decide) ?_
      refine lv_iadd hx hb dX4_takesE_54 ?_
      refine r_putI (C := RX4) (T := TX4) (N := 80) hx hb hts ok4 hown hK hR hL (congrArg Prod.fst (hF.2.1 58 (5, 0) rfl)) rfl 48 (by decide) (hts _ q1681) (fun _ h9 => h9) (Or.inl rfl) rfl rfl rfl dX4_takesE_55 (fun H locs hR hL => ?_)
      have hF := hF.sI 58 48 ((wI w 58 48) + (1 : Int32))
      refine lv_aload_n hx hb dX4_takesE_58 rfl (lv_at hl 2 rfl) ?_
      refine r_get (C := RX4) (T := TX4) (N := 80) hx hb hts ok4 hown hK hR (congrArg Prod.fst (hF.2.1 58 (5, 0) rfl)) rfl 44 (by decide) (hts _ q1677) (fun _ h9 => h9) (v := .ref (z + 82)) (fv_fix hF rfl rfl) dX4_takesE_59 ?_
      refine lv_aload_n hx hb dX4_takesE_62 rfl (lv_at hl 2 rfl) ?_
      refine r_get (C := RX4) (T := TX4) (N := 80) hx hb hts ok4 hown hK hR (congrArg Prod.fst (hF.2.1 58 (5, 0) rfl)) rfl 46 (by decide) (hts _ q1679) (fun _ h9 => h9) (v := .int (wI w 58 46)) rfl dX4_takesE_63 ?_
      refine lv_iload_n hx hb dX4_takesE_66 rfl (lv_at hl 0 rfl) ?_
      obtain ⟨hb21, h⟩ := grd h
      refine r_iast hx hb hK hR hL (hF.2.1 82 (200, 121) rfl) hb21 dX4_takesE_67 (fun H locs hR hL => ?_)
      have hF := hF.sI 82 ((wI w 58 46).toNatClampNeg) j2
      refine lv_aload_n hx hb dX4_takesE_68 rfl (lv_at hl 2 rfl) ?_
      refine lv_dup hx hb dX4_takesE_69 rfl ?_
      refine r_get (C := RX4) (T := TX4) (N := 80) hx hb hts ok4 hown hK hR (congrArg Prod.fst (hF.2.1 58 (5, 0) rfl)) rfl 46 (by decide) (hts _ q1679) (fun _ h9 => h9) (v := .int (wI w 58 46)) rfl dX4_takesE_70 ?_
      refine lv_iconst (v := 1) hx hb dX4_takesE_73 (by decide) ?_
      refine lv_iadd hx hb dX4_takesE_74 ?_
      refine r_putI (C := RX4) (T := TX4) (N := 80) hx hb hts ok4 hown hK hR hL (congrArg Prod.fst (hF.2.1 58 (5, 0) rfl)) rfl 46 (by decide) (hts _ q1679) (fun _ h9 => h9) (Or.inl rfl) rfl rfl rfl dX4_takesE_75 (fun H locs hR hL => ?_)
      have hF := hF.sI 58 46 ((wI w 58 46) + (1 : Int32))
      refine lv_aload_n hx hb dX4_takesE_78 rfl (lv_at hl 2 rfl) ?_
      refine lv_dup hx hb dX4_takesE_79 rfl ?_
      refine r_get (C := RX4) (T := TX4) (N := 80) hx hb hts ok4 hown hK hR (congrArg Prod.fst (hF.2.1 58 (5, 0) rfl)) rfl 40 (by decide) (hts _ q1673) (fun _ h9 => h9) (v := .int (wI w 58 40)) rfl dX4_takesE_80 ?_
      refine lv_iconst (v := 1) hx hb dX4_takesE_83 (by decide) ?_
      refine lv_iadd hx hb dX4_takesE_84 ?_
      refine r_putI (C := RX4) (T := TX4) (N := 80) hx hb hts ok4 hown hK hR hL (congrArg Prod.fst (hF.2.1 58 (5, 0) rfl)) rfl 40 (by decide) (hts _ q1673) (fun _ h9 => h9) (Or.inl rfl) rfl rfl rfl dX4_takesE_85 (fun H locs hR hL => ?_)
      have hF := hF.sI 58 40 ((wI w 58 40) + (1 : Int32))
      refine lv_goto (tgt := 17) hx hb dX4_takesE_88 (by decide) ?_
      exact hc1 _ (Option.some.inj h).symm H locs ls hR hF hL (lv_sub hl [1, 2] rfl)
    · rw [if_pos c20] at h
      exact hX17_46 (j1, w) (ht1 _ (Option.some.inj h).symm) H locs ls hR hF hL (lv_sub hl [] rfl)
  refine lv_aload_n hx hb dX4_takesE_17 rfl (lv_at hl 1 rfl) ?_
  obtain ⟨q4, hq5, h⟩ := bnd h
  refine c_VP (a := 58) (ci := 4) (q := (RX4, TX4, 80)) (rest := []) (st1 := [.int q4]) hx hb hml hown hts hK hR hF hL hl.1 (met_X4_next l G z H0 s1.2  q4 hq5) (congrArg Prod.fst (hF.2.1 58 (5, 0) rfl)) rfl rfl rfl hd_X4_next q2015 q2017 qs60 q104 q2018 ⟨Nat.le_of_ble_eq_true rfl, Nat.le_of_ble_eq_true rfl⟩ ⟨Nat.le_refl 0, Nat.le_refl 0⟩ rfl rfl (Nat.le_of_ble_eq_true rfl) dX4_takesE_18 rfl (fun locs hL => ?_)
  refine lv_istore_n (lv' := [(2, .int q4), (1, .int s1.1), (0, .ref (z + 58))]) hx hb dX4_takesE_21 rfl hl (by decide) rfl (fun ls hl => ?_)
  refine lv_iload_n hx hb dX4_takesE_22 rfl (lv_at hl 1 rfl) ?_
  refine lv_if_eq (tgt := 105) hx hb dX4_takesE_23 (by decide) (fun c6 => ?_) (fun c6 => ?_)
  · rw [if_pos c6] at h
    refine lv_iload_n hx hb dX4_takesE_105 rfl (lv_at hl 0 rfl) ?_
    refine lv_bipush (v := 38) hx hb dX4_takesE_106 (by decide) ?_
    refine lv_icmp_eq (tgt := 117) hx hb dX4_takesE_108 (by decide) (fun c7 => ?_) (fun c7 => ?_)
    · rw [if_pos c7] at h
      exact hJ117 q4 s1.2 h H locs ls hR hF hL (lv_sub hl [0, 2] rfl)
    · rw [if_neg c7] at h
      refine lv_iload_n hx hb dX4_takesE_111 rfl (lv_at hl 0 rfl) ?_
      refine lv_bipush (v := 124) hx hb dX4_takesE_112 (by decide) ?_
      refine lv_icmp_ne (tgt := 157) hx hb dX4_takesE_114 (by decide) (fun c11 => ?_) (fun c11 => ?_)
      · rw [if_neg c11] at h
        refine lv_aload_n hx hb dX4_takesE_157 rfl (lv_at hl 2 rfl) ?_
        refine lv_bipush (v := 124) hx hb dX4_takesE_158 (by decide) ?_
        obtain ⟨q12, hq13, h⟩ := bnd h
        refine c_VW (a := 58) (ci := 4) (q := (RX4, TX4, 80)) (rest := []) (st1 := []) hx hb hml hown hts hK hR hF hL hl.1 (met_X4_settle l G z H0 n s1.2 (124 : Int32) q12 hq13) (congrArg Prod.fst (hF.2.1 58 (5, 0) rfl)) rfl rfl rfl hd_X4_settle q2077 q2079 qs74 q104 q2080 ⟨Nat.le_of_ble_eq_true rfl, Nat.le_of_ble_eq_true rfl⟩ ⟨Nat.le_refl 0, Nat.le_refl 0⟩ rfl rfl (Nat.le_of_ble_eq_true rfl) dX4_takesE_160 rfl (fun H locs hR hF hL => ?_)
        refine lv_aload_n hx hb dX4_takesE_163 rfl (lv_at hl 2 rfl) ?_
        refine r_get (C := RX4) (T := TX4) (N := 80) hx hb hts ok4 hown hK hR (congrArg Prod.fst (hF.2.1 58 (5, 0) rfl)) rfl 46 (by decide) (hts _ q1679) (fun _ h9 => h9) (v := .int (wI q12 58 46)) rfl dX4_takesE_164 ?_
        refine lv_if_ne (tgt := 173) hx hb dX4_takesE_167 (by decide) (fun c14 => ?_) (fun c14 => ?_)
        · rw [if_neg c14] at h
          refine lv_iload_n hx hb dX4_takesE_173 rfl (lv_at hl 0 rfl) ?_
          refine lv_bipush (v := 41) hx hb dX4_takesE_174 (by decide) ?_
          refine lv_icmp_eq (tgt := 181) hx hb dX4_takesE_176 (by decide) (fun c15 => ?_) (fun c15 => ?_)
          · rw [if_pos c15] at h
            refine lv_aload_n hx hb dX4_takesE_181 rfl (lv_at hl 2 rfl) ?_
            refine lv_dup hx hb dX4_takesE_182 rfl ?_
            refine r_get (C := RX4) (T := TX4) (N := 80) hx hb hts ok4 hown hK hR (congrArg Prod.fst (hF.2.1 58 (5, 0) rfl)) rfl 46 (by decide) (hts _ q1679) (fun _ h9 => h9) (v := .int (wI q12 58 46)) rfl dX4_takesE_183 ?_
            refine lv_iconst (v := 1) hx hb dX4_takesE_186 (by decide) ?_
            refine lv_isub hx hb dX4_takesE_187 ?_
            refine r_putI (C := RX4) (T := TX4) (N := 80) hx hb hts ok4 hown hK hR hL (congrArg Prod.fst (hF.2.1 58 (5, 0) rfl)) rfl 46 (by decide) (hts _ q1679) (fun _ h9 => h9) (Or.inl rfl) rfl rfl rfl dX4_takesE_188 (fun H locs hR hL => ?_)
            have hF := hF.sI 58 46 ((wI q12 58 46) - (1 : Int32))
            refine lv_aload_n hx hb dX4_takesE_191 rfl (lv_at hl 2 rfl) ?_
            refine lv_dup hx hb dX4_takesE_192 rfl ?_
            refine r_get (C := RX4) (T := TX4) (N := 80) hx hb hts ok4 hown hK hR (congrArg Prod.fst (hF.2.1 58 (5, 0) rfl)) rfl 48 (by decide) (hts _ q1681) (fun _ h9 => h9) (v := .int (wI q12 58 48)) rfl dX4_takesE_193 ?_
            refine lv_iconst (v := 1) hx hb dX4_takesE_196 (by decide) ?_
            refine lv_isub hx hb dX4_takesE_197 ?_
            refine r_putI (C := RX4) (T := TX4) (N := 80) hx hb hts ok4 hown hK hR hL (congrArg Prod.fst (hF.2.1 58 (5, 0) rfl)) rfl 48 (by decide) (hts _ q1681) (fun _ h9 => h9) (Or.inl rfl) rfl rfl rfl dX4_takesE_198 (fun H locs hR hL => ?_)
            have hF := hF.sI 58 48 ((wI q12 58 48) - (1 : Int32))
            refine lv_aload_n hx hb dX4_takesE_201 rfl (lv_at hl 2 rfl) ?_
            refine lv_dup hx hb dX4_takesE_202 rfl ?_
            refine r_get (C := RX4) (T := TX4) (N := 80) hx hb hts ok4 hown hK hR (congrArg Prod.fst (hF.2.1 58 (5, 0) rfl)) rfl 47 (by decide) (hts _ q1680) (fun _ h9 => h9) (v := .int (wI q12 58 47)) rfl dX4_takesE_203 ?_
            refine lv_iconst (v := 1) hx hb dX4_takesE_206 (by decide) ?_
            refine lv_isub hx hb dX4_takesE_207 ?_
            refine r_putI (C := RX4) (T := TX4) (N := 80) hx hb hts ok4 hown hK hR hL (congrArg Prod.fst (hF.2.1 58 (5, 0) rfl)) rfl 47 (by decide) (hts _ q1680) (fun _ h9 => h9) (Or.inl rfl) rfl rfl rfl dX4_takesE_208 (fun H locs hR hL => ?_)
            have hF := hF.sI 58 47 ((wI q12 58 47) - (1 : Int32))
            refine lv_aload_n hx hb dX4_takesE_211 rfl (lv_at hl 2 rfl) ?_
            refine lv_dup hx hb dX4_takesE_212 rfl ?_
            refine r_get (C := RX4) (T := TX4) (N := 80) hx hb hts ok4 hown hK hR (congrArg Prod.fst (hF.2.1 58 (5, 0) rfl)) rfl 40 (by decide) (hts _ q1673) (fun _ h9 => h9) (v := .int (wI q12 58 40)) rfl dX4_takesE_213 ?_
            refine lv_iconst (v := 1) hx hb dX4_takesE_216 (by decide) ?_
            refine lv_iadd hx hb dX4_takesE_217 ?_
            refine r_putI (C := RX4) (T := TX4) (N := 80) hx hb hts ok4 hown hK hR hL (congrArg Prod.fst (hF.2.1 58 (5, 0) rfl)) rfl 40 (by decide) (hts _ q1673) (fun _ h9 => h9) (Or.inl rfl) rfl rfl rfl dX4_takesE_218 (fun H locs hR hL => ?_)
            have hF := hF.sI 58 40 ((wI q12 58 40) + (1 : Int32))
            refine lv_aload_n hx hb dX4_takesE_221 rfl (lv_at hl 2 rfl) ?_
            refine lv_aload_n hx hb dX4_takesE_222 rfl (lv_at hl 2 rfl) ?_
            refine r_get (C := RX4) (T := TX4) (N := 80) hx hb hts ok4 hown hK hR (congrArg Prod.fst (hF.2.1 58 (5, 0) rfl)) rfl 45 (by decide) (hts _ q1678) (fun _ h9 => h9) (v := .ref (z + 83)) (fv_fix hF rfl rfl) dX4_takesE_223 ?_
            refine lv_aload_n hx hb dX4_takesE_226 rfl (lv_at hl 2 rfl) ?_
            refine r_get (C := RX4) (T := TX4) (N := 80) hx hb hts ok4 hown hK hR (congrArg Prod.fst (hF.2.1 58 (5, 0) rfl)) rfl 47 (by decide) (hts _ q1680) (fun _ h9 => h9) (v := .int ((wI q12 58 47) - (1 : Int32))) rfl dX4_takesE_227 ?_
            obtain ⟨hb16, h⟩ := grd h
            refine r_zald (v := wI q12 83 (((wI q12 58 47) - (1 : Int32)).toNatClampNeg)) hx hb hK hR (hF.2.1 83 (203, 121) rfl) hb16 rfl dX4_takesE_230 ?_
            obtain ⟨q17, hq18, h⟩ := bnd h
            refine c_VW (a := 58) (ci := 4) (q := (RX4, TX4, 80)) (rest := []) (st1 := []) hx hb hml hown hts hK hR hF hL hl.1 (met_X4_push l G z H0 n (sI (sI (sI (sI q12 58 46 ((wI q12 58 46) - (1 : Int32))) 58 48 ((wI q12 58 48) - (1 : Int32))) 58 47 ((wI q12 58 47) - (1 : Int32))) 58 40 ((wI q12 58 40) + (1 : Int32))) (wI q12 83 (((wI q12 58 47) - (1 : Int32)).toNatClampNeg)) q17 hq18) (congrArg Prod.fst (hF.2.1 58 (5, 0) rfl)) rfl rfl rfl hd_X4_push q2073 q2075 qs73 q104 q2076 ⟨Nat.le_of_ble_eq_true rfl, Nat.le_of_ble_eq_true rfl⟩ ⟨Nat.le_refl 0, Nat.le_refl 0⟩ rfl rfl (Nat.le_of_ble_eq_true rfl) dX4_takesE_231 rfl (fun H locs hR hF hL => ?_)
            refine lv_goto (tgt := 17) hx hb dX4_takesE_234 (by decide) ?_
            exact hc1 _ (Option.some.inj h).symm H locs ls hR hF hL (lv_sub hl [1, 2] rfl)
          · rw [if_neg c15] at h
            exact hX17_179 (s1.1, q12) (ht1 _ (Option.some.inj h).symm) H locs ls hR hF hL (lv_sub hl [] rfl)
        · rw [if_pos c14] at h
          exact hX17_170 (s1.1, q12) (ht1 _ (Option.some.inj h).symm) H locs ls hR hF hL (lv_sub hl [2] rfl)
      · rw [if_pos c11] at h
        exact hJ117 q4 s1.2 h H locs ls hR hF hL (lv_sub hl [0, 2] rfl)
  · rw [if_neg c6] at h
    refine lv_iload_n hx hb dX4_takesE_26 rfl (lv_at hl 0 rfl) ?_
    refine lv_bipush (v := 33) hx hb dX4_takesE_27 (by decide) ?_
    refine lv_icmp_eq (tgt := 38) hx hb dX4_takesE_29 (by decide) (fun c19 => ?_) (fun c19 => ?_)
    · rw [if_pos c19] at h
      exact hJ38 q4 s1.1 s1.2 h H locs ls hR hF hL (lv_sub hl [0, 1, 2] rfl)
    · rw [if_neg c19] at h
      refine lv_iload_n hx hb dX4_takesE_32 rfl (lv_at hl 0 rfl) ?_
      refine lv_bipush (v := 40) hx hb dX4_takesE_33 (by decide) ?_
      refine lv_icmp_ne (tgt := 91) hx hb dX4_takesE_35 (by decide) (fun c22 => ?_) (fun c22 => ?_)
      · rw [if_neg c22] at h
        refine lv_aload_n hx hb dX4_takesE_91 rfl (lv_at hl 2 rfl) ?_
        obtain ⟨q23, hq24, h⟩ := bnd h
        refine c_VW (a := 58) (ci := 4) (q := (RX4, TX4, 80)) (rest := []) (st1 := [.int (bI q23.1)]) hx hb hml hown hts hK hR hF hL hl.1 (met_X4_takesTest l G z H0 n s1.2  q23 hq24) (congrArg Prod.fst (hF.2.1 58 (5, 0) rfl)) rfl rfl rfl hd_X4_takesTest q2053 q2055 qs68 q104 q2056 ⟨Nat.le_of_ble_eq_true rfl, Nat.le_of_ble_eq_true rfl⟩ ⟨Nat.le_refl 0, Nat.le_refl 0⟩ rfl rfl (Nat.le_of_ble_eq_true rfl) dX4_takesE_92 rfl (fun H locs hR hF hL => ?_)
        refine lv_if_eq (tgt := 103) hx hb dX4_takesE_95 (by decide) (fun c25 => ?_) (fun c25 => ?_)
        · rw [if_neg (bI_n c25)] at h
          exact hX17_103 (s1.1, q23.2) (ht1 _ (Option.some.inj h).symm) H locs ls hR hF hL (lv_sub hl [] rfl)
        · rw [if_pos (bI_p c25)] at h
          refine lv_iconst (v := 0) hx hb dX4_takesE_98 (by decide) ?_
          refine lv_istore_n (lv' := [(1, .int (0 : Int32)), (2, .int q4), (0, .ref (z + 58))]) hx hb dX4_takesE_99 rfl hl (by decide) rfl (fun ls hl => ?_)
          refine lv_goto (tgt := 17) hx hb dX4_takesE_100 (by decide) ?_
          exact hc1 _ (Option.some.inj h).symm H locs ls hR hF hL (lv_sub hl [0, 2] rfl)
      · rw [if_pos c22] at h
        exact hJ38 q4 s1.1 s1.2 h H locs ls hR hF hL (lv_sub hl [0, 1, 2] rfl)
def f_X4_takesClause_J33 (n : Nat) (k0 : Int32) (w : Wd) : Option (Bool × Wd) :=
  (f_X4_next w).bind fun q2 => if q2 = 97 then ((f_X4_takesWord n (56238578 : Int64) (6 : Int32) w).bind fun q5 => if q5.1 then ((f_X4_takesOf n (1 : Int32) (1 : Int32) q5.2).bind fun q8 => if q8.1 then (some (true, q8.2)) else (some (false, q8.2))) else (some (false, q5.2))) else (if q2 = 102 then ((f_X4_takesWord n (215205 : Int64) (4 : Int32) w).bind fun q12 => if q12.1 then ((f_X4_next q12.2).bind fun q15 => if q15 = (97 : Int32) then ((f_X4_takesWord n (56238578 : Int64) (6 : Int32) q12.2).bind fun q20 => if q20.1 then ((f_X4_takesOf n (1 : Int32) (0 : Int32) q20.2).bind fun q23 => if q23.1 then (some (true, q23.2)) else (some (false, q23.2))) else (some (false, q20.2))) else ((f_X4_takesOf n (0 : Int32) (0 : Int32) q12.2).bind fun q18 => some (q18.1, q18.2))) else (some (false, q12.2))) else (if q2 = 108 then (if k0 = (101 : Int32) then ((f_X4_takesLeave n w).bind fun q37 => some (q37.1, q37.2)) else ((f_X4_takesWord n (402885 : Int64) (4 : Int32) w).bind fun q28 => if q28.1 then ((f_X4_takes (32 : Int32) q28.2).bind fun q31 => if q31.1 then ((f_X4_takesE n q31.2).bind fun q34 => if q34.1 then (some (true, q34.2)) else (some (false, q34.2))) else (some (false, q31.2))) else (some (false, q28.2)))) else (if q2 = 116 then ((f_X4_takesWord n (21287301 : Int64) (5 : Int32) w).bind fun q40 => if q40.1 then ((f_X4_takesOf n (0 : Int32) (1 : Int32) q40.2).bind fun q43 => if q43.1 then (some (true, q43.2)) else (some (false, q43.2))) else (some (false, q40.2))) else (some (false, w)))))
def f_X4_takesClause (n : Nat) (w : Wd) : Option (Bool × Wd) :=
  if (wI w 58 39) ≤ ((wI w 58 40) + (1 : Int32)) then (f_X4_takesClause_J33 n (-1 : Int32) w) else (if inb (((wI w 58 38) + (wI w 58 40)) + (1 : Int32)) 3000 then (f_X4_takesClause_J33 n (wI w 80 ((((wI w 58 38) + (wI w 58 40)) + (1 : Int32)).toNatClampNeg)) w) else none)
theorem hd_X4_takesClause : yX4_takesClause.cls = RX4 ∧ yX4_takesClause.cls ≠ "java/lang/invoke/MethodHandle" ∧ yX4_takesClause.cls ≠ "java/lang/invoke/VarHandle" ∧ (parseMethodDescriptor yX4_takesClause.desc).map (fun d => d.parameters.length) = some 0 := by decide +kernel
set_option maxHeartbeats 4000000 in
set_option maxRecDepth 100000 in
theorem met_X4_takesClause (l : Launch) (G : Gw) (z : Nat) (H0 : Heap) (n : Nat) (w : Wd)  (q : Bool × Wd) (h : f_X4_takesClause n w = some q) : Met l yX4_takesClause (ws_ yX4_takesClause cX4_takesClause 2 (some .boolean)) ({ frames := 5, cells := 0, slots := 0, locals := 110 } : Room) (pcW G z H0 w [.ref (z + 58)]) (qW G z H0 q.2 (some (.int (bI q.1)))) 0 0 (fun q => z ≤ q) := by
  refine mW (by decide) (Nat.le_of_ble_eq_true rfl) ?_
  intro p e s m below meth c ls hx hb hr hml hown hts hlocks hnm hK hR hF hl
  have hown : s.vm.findClass RX4 = some m.cls := hown
  have hl : lv_has ls 2 [(0, .ref (z + 58))] := hl
  have hL : lok z [] := lok_nil
  unfold f_X4_takesClause at h
  generalize s.heap = H at hR ⊢
  generalize ([] : List Loc) = locs at hL ⊢
  have hJ33 : ∀ (k0 : Int32) (w : Wd), f_X4_takesClause_J33 n k0 w = some q → ∀ (H : Heap) (locs : List Loc) (ls : Array Slot), Rp G z H0 w H → Fix w → lok z locs → lv_has ls 2 [(0, .ref (z + 58))] → W p l e ({ frames := 5, cells := 0, slots := 0, locals := 110 } : Room) s m ([.ref (z + 58)] : List Value).toArray below meth c H locs 0 0 (MQ below (qW G z H0 q.2 (some (.int (bI q.1)))) ([.ref (z + 58)] : List Value).toArray s 0 0 (fun q => z ≤ q)) (F0 m 33 ls [.int k0]) := by
    intro k0 w h H locs ls hR hF hL hl
    unfold f_X4_takesClause_J33 at h
    refine lv_istore_n (lv' := [(1, .int k0), (0, .ref (z + 58))]) hx hb dX4_takesClause_33 rfl hl (by decide) rfl (fun ls hl => ?_)
    refine lv_aload_n hx hb dX4_takesClause_34 rfl (lv_at hl 1 rfl) ?_
    obtain ⟨q2, hq3, h⟩ := bnd h
    refine c_VP (a := 58) (ci := 4) (q := (RX4, TX4, 80)) (rest := []) (st1 := [.int q2]) hx hb hml hown hts hK hR hF hL hl.1 (met_X4_next l G z H0 w  q2 hq3) (congrArg Prod.fst (hF.2.1 58 (5, 0) rfl)) rfl rfl rfl hd_X4_next q2015 q2017 qs60 q104 q2018 ⟨Nat.le_of_ble_eq_true rfl, Nat.le_of_ble_eq_true rfl⟩ ⟨Nat.le_refl 0, Nat.le_refl 0⟩ rfl rfl (Nat.le_of_ble_eq_true rfl) dX4_takesClause_35 rfl (fun locs hL => ?_)
    by_cases c4 : q2 = 97
    · rw [if_pos c4] at h
      refine lv_lookup (off := 42) (tgt := 80) hx hb dX4_takesClause_38 (by decide) (by rw [c4]; decide) (by decide) ?_
      refine lv_aload_n hx hb dX4_takesClause_80 rfl (lv_at hl 1 rfl) ?_
      refine lv_ldc2 (v := 56238578) hx hb hown (hts _ q2019) dX4_takesClause_81 ?_
      refine lv_bipush (v := 6) hx hb dX4_takesClause_84 (by decide) ?_
      obtain ⟨q5, hq6, h⟩ := bnd h
      refine c_VW (a := 58) (ci := 4) (q := (RX4, TX4, 80)) (rest := []) (st1 := [.int (bI q5.1)]) hx hb hml hown hts hK hR hF hL hl.1 (met_X4_takesWord l G z H0 n w (56238578 : Int64) (6 : Int32) q5 hq6) (congrArg Prod.fst (hF.2.1 58 (5, 0) rfl)) rfl rfl rfl hd_X4_takesWord q2020 q2022 qs61 q104 q2023 ⟨Nat.le_of_ble_eq_true rfl, Nat.le_of_ble_eq_true rfl⟩ ⟨Nat.le_refl 0, Nat.le_refl 0⟩ rfl rfl (Nat.le_of_ble_eq_true rfl) dX4_takesClause_86 rfl (fun H locs hR hF hL => ?_)
      refine lv_if_eq (tgt := 105) hx hb dX4_takesClause_89 (by decide) (fun c7 => ?_) (fun c7 => ?_)
      · rw [if_neg (bI_n c7)] at h
        refine lv_iconst (v := 0) hx hb dX4_takesClause_105 (by decide) ?_
        have h := Option.some.inj h
        subst h
        exact W.zret (v := bI false) hx hb hr (bI_nar _) (fun t ht _ => ⟨rfl, by rw [ht]; exact hR, hF⟩) hL dX4_takesClause_106
      · rw [if_pos (bI_p c7)] at h
        refine lv_aload_n hx hb dX4_takesClause_92 rfl (lv_at hl 1 rfl) ?_
        refine lv_iconst (v := 1) hx hb dX4_takesClause_93 (by decide) ?_
        refine lv_iconst (v := 1) hx hb dX4_takesClause_94 (by decide) ?_
        obtain ⟨q8, hq9, h⟩ := bnd h
        refine c_VW (a := 58) (ci := 4) (q := (RX4, TX4, 80)) (rest := []) (st1 := [.int (bI q8.1)]) hx hb hml hown hts hK hR hF hL hl.1 (met_X4_takesOf l G z H0 n q5.2 (1 : Int32) (1 : Int32) q8 hq9) (congrArg Prod.fst (hF.2.1 58 (5, 0) rfl)) rfl rfl rfl hd_X4_takesOf q2029 q2031 qs63 q104 q2032 ⟨Nat.le_of_ble_eq_true rfl, Nat.le_of_ble_eq_true rfl⟩ ⟨Nat.le_refl 0, Nat.le_refl 0⟩ rfl rfl (Nat.le_of_ble_eq_true rfl) dX4_takesClause_95 rfl (fun H locs hR hF hL => ?_)
        refine lv_if_eq (tgt := 105) hx hb dX4_takesClause_98 (by decide) (fun c10 => ?_) (fun c10 => ?_)
        · rw [if_neg (bI_n c10)] at h
          refine lv_iconst (v := 0) hx hb dX4_takesClause_105 (by decide) ?_
          have h := Option.some.inj h
          subst h
          exact W.zret (v := bI false) hx hb hr (bI_nar _) (fun t ht _ => ⟨rfl, by rw [ht]; exact hR, hF⟩) hL dX4_takesClause_106
        · rw [if_pos (bI_p c10)] at h
          refine lv_iconst (v := 1) hx hb dX4_takesClause_101 (by decide) ?_
          refine lv_goto (tgt := 106) hx hb dX4_takesClause_102 (by decide) ?_
          have h := Option.some.inj h
          subst h
          exact W.zret (v := bI true) hx hb hr (bI_nar _) (fun t ht _ => ⟨rfl, by rw [ht]; exact hR, hF⟩) hL dX4_takesClause_106
    rw [if_neg c4] at h
    by_cases c11 : q2 = 102
    · rw [if_pos c11] at h
      refine lv_lookup (off := 95) (tgt := 133) hx hb dX4_takesClause_38 (by decide) (by rw [c11]; decide) (by decide) ?_
      refine lv_aload_n hx hb dX4_takesClause_133 rfl (lv_at hl 1 rfl) ?_
      refine lv_ldc2 (v := 215205) hx hb hown (hts _ q2042) dX4_takesClause_134 ?_
      refine lv_iconst (v := 4) hx hb dX4_takesClause_137 (by decide) ?_
      obtain ⟨q12, hq13, h⟩ := bnd h
      refine c_VW (a := 58) (ci := 4) (q := (RX4, TX4, 80)) (rest := []) (st1 := [.int (bI q12.1)]) hx hb hml hown hts hK hR hF hL hl.1 (met_X4_takesWord l G z H0 n w (215205 : Int64) (4 : Int32) q12 hq13) (congrArg Prod.fst (hF.2.1 58 (5, 0) rfl)) rfl rfl rfl hd_X4_takesWord q2020 q2022 qs61 q104 q2023 ⟨Nat.le_of_ble_eq_true rfl, Nat.le_of_ble_eq_true rfl⟩ ⟨Nat.le_refl 0, Nat.le_refl 0⟩ rfl rfl (Nat.le_of_ble_eq_true rfl) dX4_takesClause_138 rfl (fun H locs hR hF hL => ?_)
      refine lv_if_ne (tgt := 146) hx hb dX4_takesClause_141 (by decide) (fun c14 => ?_) (fun c14 => ?_)
      · rw [if_pos (bI_p c14)] at h
        refine lv_aload_n hx hb dX4_takesClause_146 rfl (lv_at hl 1 rfl) ?_
        obtain ⟨q15, hq16, h⟩ := bnd h
        refine c_VP (a := 58) (ci := 4) (q := (RX4, TX4, 80)) (rest := []) (st1 := [.int q15]) hx hb hml hown hts hK hR hF hL hl.1 (met_X4_next l G z H0 q12.2  q15 hq16) (congrArg Prod.fst (hF.2.1 58 (5, 0) rfl)) rfl rfl rfl hd_X4_next q2015 q2017 qs60 q104 q2018 ⟨Nat.le_of_ble_eq_true rfl, Nat.le_of_ble_eq_true rfl⟩ ⟨Nat.le_refl 0, Nat.le_refl 0⟩ rfl rfl (Nat.le_of_ble_eq_true rfl) dX4_takesClause_147 rfl (fun locs hL => ?_)
        refine lv_bipush (v := 97) hx hb dX4_takesClause_150 (by decide) ?_
        refine lv_icmp_ne (tgt := 182) hx hb dX4_takesClause_152 (by decide) (fun c17 => ?_) (fun c17 => ?_)
        · rw [if_neg c17] at h
          refine lv_aload_n hx hb dX4_takesClause_182 rfl (lv_at hl 1 rfl) ?_
          refine lv_iconst (v := 0) hx hb dX4_takesClause_183 (by decide) ?_
          refine lv_iconst (v := 0) hx hb dX4_takesClause_184 (by decide) ?_
          obtain ⟨q18, hq19, h⟩ := bnd h
          refine c_VW (a := 58) (ci := 4) (q := (RX4, TX4, 80)) (rest := []) (st1 := [.int (bI q18.1)]) hx hb hml hown hts hK hR hF hL hl.1 (met_X4_takesOf l G z H0 n q12.2 (0 : Int32) (0 : Int32) q18 hq19) (congrArg Prod.fst (hF.2.1 58 (5, 0) rfl)) rfl rfl rfl hd_X4_takesOf q2029 q2031 qs63 q104 q2032 ⟨Nat.le_of_ble_eq_true rfl, Nat.le_of_ble_eq_true rfl⟩ ⟨Nat.le_refl 0, Nat.le_refl 0⟩ rfl rfl (Nat.le_of_ble_eq_true rfl) dX4_takesClause_185 rfl (fun H locs hR hF hL => ?_)
          have h := Option.some.inj h
          subst h
          exact W.zret (v := bI q18.1) hx hb hr (bI_nar _) (fun t ht _ => ⟨rfl, by rw [ht]; exact hR, hF⟩) hL dX4_takesClause_188
        · rw [if_pos c17] at h
          refine lv_aload_n hx hb dX4_takesClause_155 rfl (lv_at hl 1 rfl) ?_
          refine lv_ldc2 (v := 56238578) hx hb hown (hts _ q2019) dX4_takesClause_156 ?_
          refine lv_bipush (v := 6) hx hb dX4_takesClause_159 (by decide) ?_
          obtain ⟨q20, hq21, h⟩ := bnd h
          refine c_VW (a := 58) (ci := 4) (q := (RX4, TX4, 80)) (rest := []) (st1 := [.int (bI q20.1)]) hx hb hml hown hts hK hR hF hL hl.1 (met_X4_takesWord l G z H0 n q12.2 (56238578 : Int64) (6 : Int32) q20 hq21) (congrArg Prod.fst (hF.2.1 58 (5, 0) rfl)) rfl rfl rfl hd_X4_takesWord q2020 q2022 qs61 q104 q2023 ⟨Nat.le_of_ble_eq_true rfl, Nat.le_of_ble_eq_true rfl⟩ ⟨Nat.le_refl 0, Nat.le_refl 0⟩ rfl rfl (Nat.le_of_ble_eq_true rfl) dX4_takesClause_161 rfl (fun H locs hR hF hL => ?_)
          refine lv_if_eq (tgt := 180) hx hb dX4_takesClause_164 (by decide) (fun c22 => ?_) (fun c22 => ?_)
          · rw [if_neg (bI_n c22)] at h
            refine lv_iconst (v := 0) hx hb dX4_takesClause_180 (by decide) ?_
            have h := Option.some.inj h
            subst h
            exact W.zret (v := bI false) hx hb hr (bI_nar _) (fun t ht _ => ⟨rfl, by rw [ht]; exact hR, hF⟩) hL dX4_takesClause_181
          · rw [if_pos (bI_p c22)] at h
            refine lv_aload_n hx hb dX4_takesClause_167 rfl (lv_at hl 1 rfl) ?_
            refine lv_iconst (v := 1) hx hb dX4_takesClause_168 (by decide) ?_
            refine lv_iconst (v := 0) hx hb dX4_takesClause_169 (by decide) ?_
            obtain ⟨q23, hq24, h⟩ := bnd h
            refine c_VW (a := 58) (ci := 4) (q := (RX4, TX4, 80)) (rest := []) (st1 := [.int (bI q23.1)]) hx hb hml hown hts hK hR hF hL hl.1 (met_X4_takesOf l G z H0 n q20.2 (1 : Int32) (0 : Int32) q23 hq24) (congrArg Prod.fst (hF.2.1 58 (5, 0) rfl)) rfl rfl rfl hd_X4_takesOf q2029 q2031 qs63 q104 q2032 ⟨Nat.le_of_ble_eq_true rfl, Nat.le_of_ble_eq_true rfl⟩ ⟨Nat.le_refl 0, Nat.le_refl 0⟩ rfl rfl (Nat.le_of_ble_eq_true rfl) dX4_takesClause_170 rfl (fun H locs hR hF hL => ?_)
            refine lv_if_eq (tgt := 180) hx hb dX4_takesClause_173 (by decide) (fun c25 => ?_) (fun c25 => ?_)
            · rw [if_neg (bI_n c25)] at h
              refine lv_iconst (v := 0) hx hb dX4_takesClause_180 (by decide) ?_
              have h := Option.some.inj h
              subst h
              exact W.zret (v := bI false) hx hb hr (bI_nar _) (fun t ht _ => ⟨rfl, by rw [ht]; exact hR, hF⟩) hL dX4_takesClause_181
            · rw [if_pos (bI_p c25)] at h
              refine lv_iconst (v := 1) hx hb dX4_takesClause_176 (by decide) ?_
              refine lv_goto (tgt := 181) hx hb dX4_takesClause_177 (by decide) ?_
              have h := Option.some.inj h
              subst h
              exact W.zret (v := bI true) hx hb hr (bI_nar _) (fun t ht _ => ⟨rfl, by rw [ht]; exact hR, hF⟩) hL dX4_takesClause_181
      · rw [if_neg (bI_n c14)] at h
        refine lv_iconst (v := 0) hx hb dX4_takesClause_144 (by decide) ?_
        have h := Option.some.inj h
        subst h
        exact W.zret (v := bI false) hx hb hr (bI_nar _) (fun t ht _ => ⟨rfl, by rw [ht]; exact hR, hF⟩) hL dX4_takesClause_145
    rw [if_neg c11] at h
    by_cases c26 : q2 = 108
    · rw [if_pos c26] at h
      refine lv_lookup (off := 151) (tgt := 189) hx hb dX4_takesClause_38 (by decide) (by rw [c26]; decide) (by decide) ?_
      refine lv_iload_n hx hb dX4_takesClause_189 rfl (lv_at hl 0 rfl) ?_
      refine lv_bipush (v := 101) hx hb dX4_takesClause_190 (by decide) ?_
      refine lv_icmp_ne (tgt := 200) hx hb dX4_takesClause_192 (by decide) (fun c27 => ?_) (fun c27 => ?_)
      · rw [if_neg c27] at h
        refine lv_aload_n hx hb dX4_takesClause_200 rfl (lv_at hl 1 rfl) ?_
        refine lv_ldc2 (v := 402885) hx hb hown (hts _ q2048) dX4_takesClause_201 ?_
        refine lv_iconst (v := 4) hx hb dX4_takesClause_204 (by decide) ?_
        obtain ⟨q28, hq29, h⟩ := bnd h
        refine c_VW (a := 58) (ci := 4) (q := (RX4, TX4, 80)) (rest := []) (st1 := [.int (bI q28.1)]) hx hb hml hown hts hK hR hF hL hl.1 (met_X4_takesWord l G z H0 n w (402885 : Int64) (4 : Int32) q28 hq29) (congrArg Prod.fst (hF.2.1 58 (5, 0) rfl)) rfl rfl rfl hd_X4_takesWord q2020 q2022 qs61 q104 q2023 ⟨Nat.le_of_ble_eq_true rfl, Nat.le_of_ble_eq_true rfl⟩ ⟨Nat.le_refl 0, Nat.le_refl 0⟩ rfl rfl (Nat.le_of_ble_eq_true rfl) dX4_takesClause_205 rfl (fun H locs hR hF hL => ?_)
        refine lv_if_eq (tgt := 231) hx hb dX4_takesClause_208 (by decide) (fun c30 => ?_) (fun c30 => ?_)
        · rw [if_neg (bI_n c30)] at h
          refine lv_iconst (v := 0) hx hb dX4_takesClause_231 (by decide) ?_
          have h := Option.some.inj h
          subst h
          exact W.zret (v := bI false) hx hb hr (bI_nar _) (fun t ht _ => ⟨rfl, by rw [ht]; exact hR, hF⟩) hL dX4_takesClause_232
        · rw [if_pos (bI_p c30)] at h
          refine lv_aload_n hx hb dX4_takesClause_211 rfl (lv_at hl 1 rfl) ?_
          refine lv_bipush (v := 32) hx hb dX4_takesClause_212 (by decide) ?_
          obtain ⟨q31, hq32, h⟩ := bnd h
          refine c_VW (a := 58) (ci := 4) (q := (RX4, TX4, 80)) (rest := []) (st1 := [.int (bI q31.1)]) hx hb hml hown hts hK hR hF hL hl.1 (met_X4_takes l G z H0 q28.2 (32 : Int32) q31 hq32) (congrArg Prod.fst (hF.2.1 58 (5, 0) rfl)) rfl rfl rfl hd_X4_takes q2025 q2027 qs62 q104 q2028 ⟨Nat.le_of_ble_eq_true rfl, Nat.le_of_ble_eq_true rfl⟩ ⟨Nat.le_refl 0, Nat.le_refl 0⟩ rfl rfl (Nat.le_of_ble_eq_true rfl) dX4_takesClause_214 rfl (fun H locs hR hF hL => ?_)
          refine lv_if_eq (tgt := 231) hx hb dX4_takesClause_217 (by decide) (fun c33 => ?_) (fun c33 => ?_)
          · rw [if_neg (bI_n c33)] at h
            refine lv_iconst (v := 0) hx hb dX4_takesClause_231 (by decide) ?_
            have h := Option.some.inj h
            subst h
            exact W.zret (v := bI false) hx hb hr (bI_nar _) (fun t ht _ => ⟨rfl, by rw [ht]; exact hR, hF⟩) hL dX4_takesClause_232
          · rw [if_pos (bI_p c33)] at h
            refine lv_aload_n hx hb dX4_takesClause_220 rfl (lv_at hl 1 rfl) ?_
            obtain ⟨q34, hq35, h⟩ := bnd h
            refine c_VW (a := 58) (ci := 4) (q := (RX4, TX4, 80)) (rest := []) (st1 := [.int (bI q34.1)]) hx hb hml hown hts hK hR hF hL hl.1 (met_X4_takesE l G z H0 n q31.2  q34 hq35) (congrArg Prod.fst (hF.2.1 58 (5, 0) rfl)) rfl rfl rfl hd_X4_takesE q2049 q2051 qs67 q104 q2052 ⟨Nat.le_of_ble_eq_true rfl, Nat.le_of_ble_eq_true rfl⟩ ⟨Nat.le_refl 0, Nat.le_refl 0⟩ rfl rfl (Nat.le_of_ble_eq_true rfl) dX4_takesClause_221 rfl (fun H locs hR hF hL => ?_)
            refine lv_if_eq (tgt := 231) hx hb dX4_takesClause_224 (by decide) (fun c36 => ?_) (fun c36 => ?_)
            · rw [if_neg (bI_n c36)] at h
              refine lv_iconst (v := 0) hx hb dX4_takesClause_231 (by decide) ?_
              have h := Option.some.inj h
              subst h
              exact W.zret (v := bI false) hx hb hr (bI_nar _) (fun t ht _ => ⟨rfl, by rw [ht]; exact hR, hF⟩) hL dX4_takesClause_232
            · rw [if_pos (bI_p c36)] at h
              refine lv_iconst (v := 1) hx hb dX4_takesClause_227 (by decide) ?_
              refine lv_goto (tgt := 232) hx hb dX4_takesClause_228 (by decide) ?_
              have h := Option.some.inj h
              subst h
              exact W.zret (v := bI true) hx hb hr (bI_nar _) (fun t ht _ => ⟨rfl, by rw [ht]; exact hR, hF⟩) hL dX4_takesClause_232
      · rw [if_pos c27] at h
        refine lv_aload_n hx hb dX4_takesClause_195 rfl (lv_at hl 1 rfl) ?_
        obtain ⟨q37, hq38, h⟩ := bnd h
        refine c_VW (a := 58) (ci := 4) (q := (RX4, TX4, 80)) (rest := []) (st1 := [.int (bI q37.1)]) hx hb hml hown hts hK hR hF hL hl.1 (met_X4_takesLeave l G z H0 n w  q37 hq38) (congrArg Prod.fst (hF.2.1 58 (5, 0) rfl)) rfl rfl rfl hd_X4_takesLeave q2043 q2045 qs66 q104 q2046 ⟨Nat.le_of_ble_eq_true rfl, Nat.le_of_ble_eq_true rfl⟩ ⟨Nat.le_refl 0, Nat.le_refl 0⟩ rfl rfl (Nat.le_of_ble_eq_true rfl) dX4_takesClause_196 rfl (fun H locs hR hF hL => ?_)
        have h := Option.some.inj h
        subst h
        exact W.zret (v := bI q37.1) hx hb hr (bI_nar _) (fun t ht _ => ⟨rfl, by rw [ht]; exact hR, hF⟩) hL dX4_takesClause_199
    rw [if_neg c26] at h
    by_cases c39 : q2 = 116
    · rw [if_pos c39] at h
      refine lv_lookup (off := 69) (tgt := 107) hx hb dX4_takesClause_38 (by decide) (by rw [c39]; decide) (by decide) ?_
      refine lv_aload_n hx hb dX4_takesClause_107 rfl (lv_at hl 1 rfl) ?_
      refine lv_ldc2 (v := 21287301) hx hb hown (hts _ q2041) dX4_takesClause_108 ?_
      refine lv_iconst (v := 5) hx hb dX4_takesClause_111 (by decide) ?_
      obtain ⟨q40, hq41, h⟩ := bnd h
      refine c_VW (a := 58) (ci := 4) (q := (RX4, TX4, 80)) (rest := []) (st1 := [.int (bI q40.1)]) hx hb hml hown hts hK hR hF hL hl.1 (met_X4_takesWord l G z H0 n w (21287301 : Int64) (5 : Int32) q40 hq41) (congrArg Prod.fst (hF.2.1 58 (5, 0) rfl)) rfl rfl rfl hd_X4_takesWord q2020 q2022 qs61 q104 q2023 ⟨Nat.le_of_ble_eq_true rfl, Nat.le_of_ble_eq_true rfl⟩ ⟨Nat.le_refl 0, Nat.le_refl 0⟩ rfl rfl (Nat.le_of_ble_eq_true rfl) dX4_takesClause_112 rfl (fun H locs hR hF hL => ?_)
      refine lv_if_eq (tgt := 131) hx hb dX4_takesClause_115 (by decide) (fun c42 => ?_) (fun c42 => ?_)
      · rw [if_neg (bI_n c42)] at h
        refine lv_iconst (v := 0) hx hb dX4_takesClause_131 (by decide) ?_
        have h := Option.some.inj h
        subst h
        exact W.zret (v := bI false) hx hb hr (bI_nar _) (fun t ht _ => ⟨rfl, by rw [ht]; exact hR, hF⟩) hL dX4_takesClause_132
      · rw [if_pos (bI_p c42)] at h
        refine lv_aload_n hx hb dX4_takesClause_118 rfl (lv_at hl 1 rfl) ?_
        refine lv_iconst (v := 0) hx hb dX4_takesClause_119 (by decide) ?_
        refine lv_iconst (v := 1) hx hb dX4_takesClause_120 (by decide) ?_
        obtain ⟨q43, hq44, h⟩ := bnd h
        refine c_VW (a := 58) (ci := 4) (q := (RX4, TX4, 80)) (rest := []) (st1 := [.int (bI q43.1)]) hx hb hml hown hts hK hR hF hL hl.1 (met_X4_takesOf l G z H0 n q40.2 (0 : Int32) (1 : Int32) q43 hq44) (congrArg Prod.fst (hF.2.1 58 (5, 0) rfl)) rfl rfl rfl hd_X4_takesOf q2029 q2031 qs63 q104 q2032 ⟨Nat.le_of_ble_eq_true rfl, Nat.le_of_ble_eq_true rfl⟩ ⟨Nat.le_refl 0, Nat.le_refl 0⟩ rfl rfl (Nat.le_of_ble_eq_true rfl) dX4_takesClause_121 rfl (fun H locs hR hF hL => ?_)
        refine lv_if_eq (tgt := 131) hx hb dX4_takesClause_124 (by decide) (fun c45 => ?_) (fun c45 => ?_)
        · rw [if_neg (bI_n c45)] at h
          refine lv_iconst (v := 0) hx hb dX4_takesClause_131 (by decide) ?_
          have h := Option.some.inj h
          subst h
          exact W.zret (v := bI false) hx hb hr (bI_nar _) (fun t ht _ => ⟨rfl, by rw [ht]; exact hR, hF⟩) hL dX4_takesClause_132
        · rw [if_pos (bI_p c45)] at h
          refine lv_iconst (v := 1) hx hb dX4_takesClause_127 (by decide) ?_
          refine lv_goto (tgt := 132) hx hb dX4_takesClause_128 (by decide) ?_
          have h := Option.some.inj h
          subst h
          exact W.zret (v := bI true) hx hb hr (bI_nar _) (fun t ht _ => ⟨rfl, by rw [ht]; exact hR, hF⟩) hL dX4_takesClause_132
    rw [if_neg c39] at h
    refine lv_lookup (off := 195) (tgt := 233) hx hb dX4_takesClause_38 (by decide) (by show Op.lookupswitch.offset [(97, 42), (102, 95), (108, 151), (116, 69)] _ _ = _; rw [lv_osw c4 (show (97 : Int32).toInt = 97 by decide), lv_osw c11 (show (102 : Int32).toInt = 102 by decide), lv_osw c26 (show (108 : Int32).toInt = 108 by decide), lv_osw c39 (show (116 : Int32).toInt = 116 by decide)]; rfl) (by decide) ?_
    refine lv_iconst (v := 0) hx hb dX4_takesClause_233 (by decide) ?_
    have h := Option.some.inj h
    subst h
    exact W.zret (v := bI false) hx hb hr (bI_nar _) (fun t ht _ => ⟨rfl, by rw [ht]; exact hR, hF⟩) hL dX4_takesClause_234
  refine lv_aload_n hx hb dX4_takesClause_0 rfl (lv_at hl 0 rfl) ?_
  refine r_get (C := RX4) (T := TX4) (N := 80) hx hb hts ok4 hown hK hR (congrArg Prod.fst (hF.2.1 58 (5, 0) rfl)) rfl 40 (by decide) (hts _ q1673) (fun _ h9 => h9) (v := .int (wI w 58 40)) rfl dX4_takesClause_1 ?_
  refine lv_iconst (v := 1) hx hb dX4_takesClause_4 (by decide) ?_
  refine lv_iadd hx hb dX4_takesClause_5 ?_
  refine lv_aload_n hx hb dX4_takesClause_6 rfl (lv_at hl 0 rfl) ?_
  refine r_get (C := RX4) (T := TX4) (N := 80) hx hb hts ok4 hown hK hR (congrArg Prod.fst (hF.2.1 58 (5, 0) rfl)) rfl 39 (by decide) (hts _ q1672) (fun _ h9 => h9) (v := .int (wI w 58 39)) rfl dX4_takesClause_7 ?_
  refine lv_icmp_ge (tgt := 32) hx hb dX4_takesClause_10 (by decide) (fun c1 => ?_) (fun c1 => ?_)
  · rw [if_pos c1] at h
    refine lv_iconst (v := -1) hx hb dX4_takesClause_32 (by decide) ?_
    exact hJ33 (-1 : Int32) w h H locs ls hR hF hL (lv_sub hl [0] rfl)
  · rw [if_neg c1] at h
    refine lv_aload_n hx hb dX4_takesClause_13 rfl (lv_at hl 0 rfl) ?_
    refine r_get (C := RX4) (T := TX4) (N := 80) hx hb hts ok4 hown hK hR (congrArg Prod.fst (hF.2.1 58 (5, 0) rfl)) rfl 30 (by decide) (hts _ q1663) (fun _ h9 => h9) (v := .ref (z + 80)) (fv_fix hF rfl rfl) dX4_takesClause_14 ?_
    refine lv_aload_n hx hb dX4_takesClause_17 rfl (lv_at hl 0 rfl) ?_
    refine r_get (C := RX4) (T := TX4) (N := 80) hx hb hts ok4 hown hK hR (congrArg Prod.fst (hF.2.1 58 (5, 0) rfl)) rfl 38 (by decide) (hts _ q1671) (fun _ h9 => h9) (v := .int (wI w 58 38)) rfl dX4_takesClause_18 ?_
    refine lv_aload_n hx hb dX4_takesClause_21 rfl (lv_at hl 0 rfl) ?_
    refine r_get (C := RX4) (T := TX4) (N := 80) hx hb hts ok4 hown hK hR (congrArg Prod.fst (hF.2.1 58 (5, 0) rfl)) rfl 40 (by decide) (hts _ q1673) (fun _ h9 => h9) (v := .int (wI w 58 40)) rfl dX4_takesClause_22 ?_
    refine lv_iadd hx hb dX4_takesClause_25 ?_
    refine lv_iconst (v := 1) hx hb dX4_takesClause_26 (by decide) ?_
    refine lv_iadd hx hb dX4_takesClause_27 ?_
    obtain ⟨hb46, h⟩ := grd h
    refine r_iald (v := wI w 80 ((((wI w 58 38) + (wI w 58 40)) + (1 : Int32)).toNatClampNeg)) hx hb hK hR (hF.2.1 80 (200, 3000) rfl) hb46 rfl dX4_takesClause_28 ?_
    refine lv_goto (tgt := 33) hx hb dX4_takesClause_29 (by decide) ?_
    exact hJ33 (wI w 80 ((((wI w 58 38) + (wI w 58 40)) + (1 : Int32)).toNatClampNeg)) w h H locs ls hR hF hL (lv_sub hl [0] rfl)
def f_X4_goes_L28 (n : Nat) (s1 : Wd) : Option ((Wd) ⊕ ((Wd) ⊕ (Wd) ⊕ (Wd))) :=
  (f_X4_takesClause n s1).bind fun q2 => if q2.1 then (if (wI q2.2 58 40) = (wI q2.2 58 39) then (some (.inr (.inr (.inl (sI q2.2 58 37 ((wI q2.2 58 37) + (1 : Int32))))))) else (if ((wI q2.2 58 37) + (1 : Int32)) = (8 : Int32) then (some (.inr (.inr (.inr (sI q2.2 58 37 ((wI q2.2 58 37) + (1 : Int32))))))) else ((f_X4_takes (59 : Int32) (sI q2.2 58 37 ((wI q2.2 58 37) + (1 : Int32)))).bind fun q7 => if q7.1 then (some (.inl q7.2)) else (some (.inr (.inr (.inr q7.2))))))) else (some (.inr (.inl q2.2)))
def f_X4_goes (n : Nat) (a1 : Int32) (w : Wd) : Option (Bool × Wd) :=
  if inb a1 25 then ((it n (f_X4_goes_L28 n) (sI (sI (sI (sI w 58 38 ((120 : Int32) * a1)) 58 39 (wI w 81 a1.toNatClampNeg)) 58 40 (0 : Int32)) 58 37 (0 : Int32))).bind fun t28 => (match t28 with | .inl q28_35 => some (false, q28_35) | .inr t28_ => (match t28_ with | .inl q28_58 => some (true, q28_58) | .inr q28_78 => some (false, q28_78)))) else none
theorem hd_X4_goes : yX4_goes.cls = RX4 ∧ yX4_goes.cls ≠ "java/lang/invoke/MethodHandle" ∧ yX4_goes.cls ≠ "java/lang/invoke/VarHandle" ∧ (parseMethodDescriptor yX4_goes.desc).map (fun d => d.parameters.length) = some 1 := by decide +kernel
set_option maxHeartbeats 4000000 in
set_option maxRecDepth 100000 in
theorem met_X4_goes (l : Launch) (G : Gw) (z : Nat) (H0 : Heap) (n : Nat) (w : Wd) (a1 : Int32) (q : Bool × Wd) (h : f_X4_goes n a1 w = some q) : Met l yX4_goes (ws_ yX4_goes cX4_goes 2 (some .boolean)) ({ frames := 6, cells := 0, slots := 0, locals := 131 } : Room) (pcW G z H0 w [.ref (z + 58), .int a1]) (qW G z H0 q.2 (some (.int (bI q.1)))) 0 0 (fun q => z ≤ q) := by
  refine mW (by decide) (Nat.le_of_ble_eq_true rfl) ?_
  intro p e s m below meth c ls hx hb hr hml hown hts hlocks hnm hK hR hF hl
  have hown : s.vm.findClass RX4 = some m.cls := hown
  have hl : lv_has ls 2 [(0, .ref (z + 58)), (1, .int a1)] := hl
  have hL : lok z [] := lok_nil
  unfold f_X4_goes at h
  generalize s.heap = H at hR ⊢
  generalize ([] : List Loc) = locs at hL ⊢
  refine lv_aload_n hx hb dX4_goes_0 rfl (lv_at hl 0 rfl) ?_
  refine lv_bipush (v := 120) hx hb dX4_goes_1 (by decide) ?_
  refine lv_iload_n hx hb dX4_goes_3 rfl (lv_at hl 1 rfl) ?_
  refine lv_imul hx hb dX4_goes_4 ?_
  refine r_putI (C := RX4) (T := TX4) (N := 80) hx hb hts ok4 hown hK hR hL (congrArg Prod.fst (hF.2.1 58 (5, 0) rfl)) rfl 38 (by decide) (hts _ q1671) (fun _ h9 => h9) (Or.inl rfl) rfl rfl rfl dX4_goes_5 (fun H locs hR hL => ?_)
  have hF := hF.sI 58 38 ((120 : Int32) * a1)
  refine lv_aload_n hx hb dX4_goes_8 rfl (lv_at hl 0 rfl) ?_
  refine lv_aload_n hx hb dX4_goes_9 rfl (lv_at hl 0 rfl) ?_
  refine r_get (C := RX4) (T := TX4) (N := 80) hx hb hts ok4 hown hK hR (congrArg Prod.fst (hF.2.1 58 (5, 0) rfl)) rfl 31 (by decide) (hts _ q1664) (fun _ h9 => h9) (v := .ref (z + 81)) (fv_fix hF rfl rfl) dX4_goes_10 ?_
  refine lv_iload_n hx hb dX4_goes_13 rfl (lv_at hl 1 rfl) ?_
  obtain ⟨hb1, h⟩ := grd h
  refine r_iald (v := wI w 81 a1.toNatClampNeg) hx hb hK hR (hF.2.1 81 (200, 25) rfl) hb1 rfl dX4_goes_14 ?_
  refine r_putI (C := RX4) (T := TX4) (N := 80) hx hb hts ok4 hown hK hR hL (congrArg Prod.fst (hF.2.1 58 (5, 0) rfl)) rfl 39 (by decide) (hts _ q1672) (fun _ h9 => h9) (Or.inl rfl) rfl rfl rfl dX4_goes_15 (fun H locs hR hL => ?_)
  have hF := hF.sI 58 39 (wI w 81 a1.toNatClampNeg)
  refine lv_aload_n hx hb dX4_goes_18 rfl (lv_at hl 0 rfl) ?_
  refine lv_iconst (v := 0) hx hb dX4_goes_19 (by decide) ?_
  refine r_putI (C := RX4) (T := TX4) (N := 80) hx hb hts ok4 hown hK hR hL (congrArg Prod.fst (hF.2.1 58 (5, 0) rfl)) rfl 40 (by decide) (hts _ q1673) (fun _ h9 => h9) (Or.inl rfl) rfl rfl rfl dX4_goes_20 (fun H locs hR hL => ?_)
  have hF := hF.sI 58 40 (0 : Int32)
  refine lv_aload_n hx hb dX4_goes_23 rfl (lv_at hl 0 rfl) ?_
  refine lv_iconst (v := 0) hx hb dX4_goes_24 (by decide) ?_
  refine r_putI (C := RX4) (T := TX4) (N := 80) hx hb hts ok4 hown hK hR hL (congrArg Prod.fst (hF.2.1 58 (5, 0) rfl)) rfl 37 (by decide) (hts _ q1670) (fun _ h9 => h9) (Or.inl rfl) rfl rfl rfl dX4_goes_25 (fun H locs hR hL => ?_)
  have hF := hF.sI 58 37 (0 : Int32)
  have hX28_35 : ∀ (q28_35 : Wd), (some (false, q28_35)) = some q → ∀ (H : Heap) (locs : List Loc) (ls : Array Slot), Rp G z H0 q28_35 H → Fix q28_35 → lok z locs → lv_has ls 2 [] → W p l e ({ frames := 6, cells := 0, slots := 0, locals := 131 } : Room) s m ([.ref (z + 58), .int a1] : List Value).toArray below meth c H locs 0 0 (MQ below (qW G z H0 q.2 (some (.int (bI q.1)))) ([.ref (z + 58), .int a1] : List Value).toArray s 0 0 (fun q => z ≤ q)) (F0 m 35 ls []) := by
    intro q28_35 h H locs ls hR hF hL hl
    refine lv_iconst (v := 0) hx hb dX4_goes_35 (by decide) ?_
    have h := Option.some.inj h
    subst h
    exact W.zret (v := bI false) hx hb hr (bI_nar _) (fun t ht _ => ⟨rfl, by rw [ht]; exact hR, hF⟩) hL dX4_goes_36
  have hX28_58 : ∀ (q28_58 : Wd), (some (true, q28_58)) = some q → ∀ (H : Heap) (locs : List Loc) (ls : Array Slot), Rp G z H0 q28_58 H → Fix q28_58 → lok z locs → lv_has ls 2 [] → W p l e ({ frames := 6, cells := 0, slots := 0, locals := 131 } : Room) s m ([.ref (z + 58), .int a1] : List Value).toArray below meth c H locs 0 0 (MQ below (qW G z H0 q.2 (some (.int (bI q.1)))) ([.ref (z + 58), .int a1] : List Value).toArray s 0 0 (fun q => z ≤ q)) (F0 m 58 ls []) := by
    intro q28_58 h H locs ls hR hF hL hl
    refine lv_iconst (v := 1) hx hb dX4_goes_58 (by decide) ?_
    have h := Option.some.inj h
    subst h
    exact W.zret (v := bI true) hx hb hr (bI_nar _) (fun t ht _ => ⟨rfl, by rw [ht]; exact hR, hF⟩) hL dX4_goes_59
  have hX28_78 : ∀ (q28_78 : Wd), (some (false, q28_78)) = some q → ∀ (H : Heap) (locs : List Loc) (ls : Array Slot), Rp G z H0 q28_78 H → Fix q28_78 → lok z locs → lv_has ls 2 [] → W p l e ({ frames := 6, cells := 0, slots := 0, locals := 131 } : Room) s m ([.ref (z + 58), .int a1] : List Value).toArray below meth c H locs 0 0 (MQ below (qW G z H0 q.2 (some (.int (bI q.1)))) ([.ref (z + 58), .int a1] : List Value).toArray s 0 0 (fun q => z ≤ q)) (F0 m 78 ls []) := by
    intro q28_78 h H locs ls hR hF hL hl
    refine lv_iconst (v := 0) hx hb dX4_goes_78 (by decide) ?_
    have h := Option.some.inj h
    subst h
    exact W.zret (v := bI false) hx hb hr (bI_nar _) (fun t ht _ => ⟨rfl, by rw [ht]; exact hR, hF⟩) hL dX4_goes_79
  obtain ⟨t10, hq11, h⟩ := bnd h
  refine it_W (b := f_X4_goes_L28 n) (P := fun (s1 : Wd) => ∀ (H : Heap) (locs : List Loc) (ls : Array Slot), Rp G z H0 s1 H → Fix s1 → lok z locs → lv_has ls 2 [(0, .ref (z + 58))] → W p l e ({ frames := 6, cells := 0, slots := 0, locals := 131 } : Room) s m ([.ref (z + 58), .int a1] : List Value).toArray below meth c H locs 0 0 (MQ below (qW G z H0 q.2 (some (.int (bI q.1)))) ([.ref (z + 58), .int a1] : List Value).toArray s 0 0 (fun q => z ≤ q)) (F0 m 28 ls [])) (K := fun t28 => ((match t28 with | .inl q28_35 => some (false, q28_35) | .inr t28_ => (match t28_ with | .inl q28_58 => some (true, q28_58) | .inr q28_78 => some (false, q28_78)))) = some q) (fun s1 x1 h hc1 ht1 => ?_) n (sI (sI (sI (sI w 58 38 ((120 : Int32) * a1)) 58 39 (wI w 81 a1.toNatClampNeg)) 58 40 (0 : Int32)) 58 37 (0 : Int32)) t10 hq11 h H locs ls hR hF hL (lv_sub hl [0] rfl)
  intro H locs ls hR hF hL hl
  unfold f_X4_goes_L28 at h
  refine lv_aload_n hx hb dX4_goes_28 rfl (lv_at hl 0 rfl) ?_
  obtain ⟨q2, hq3, h⟩ := bnd h
  refine c_VW (a := 58) (ci := 4) (q := (RX4, TX4, 80)) (rest := []) (st1 := [.int (bI q2.1)]) hx hb hml hown hts hK hR hF hL hl.1 (met_X4_takesClause l G z H0 n s1  q2 hq3) (congrArg Prod.fst (hF.2.1 58 (5, 0) rfl)) rfl rfl rfl hd_X4_takesClause q2011 q2013 qs59 q104 q2014 ⟨Nat.le_of_ble_eq_true rfl, Nat.le_of_ble_eq_true rfl⟩ ⟨Nat.le_refl 0, Nat.le_refl 0⟩ rfl rfl (Nat.le_of_ble_eq_true rfl) dX4_goes_29 rfl (fun H locs hR hF hL => ?_)
  refine lv_if_ne (tgt := 37) hx hb dX4_goes_32 (by decide) (fun c4 => ?_) (fun c4 => ?_)
  · rw [if_pos (bI_p c4)] at h
    refine lv_aload_n hx hb dX4_goes_37 rfl (lv_at hl 0 rfl) ?_
    refine lv_dup hx hb dX4_goes_38 rfl ?_
    refine r_get (C := RX4) (T := TX4) (N := 80) hx hb hts ok4 hown hK hR (congrArg Prod.fst (hF.2.1 58 (5, 0) rfl)) rfl 37 (by decide) (hts _ q1670) (fun _ h9 => h9) (v := .int (wI q2.2 58 37)) rfl dX4_goes_39 ?_
    refine lv_iconst (v := 1) hx hb dX4_goes_42 (by decide) ?_
    refine lv_iadd hx hb dX4_goes_43 ?_
    refine r_putI (C := RX4) (T := TX4) (N := 80) hx hb hts ok4 hown hK hR hL (congrArg Prod.fst (hF.2.1 58 (5, 0) rfl)) rfl 37 (by decide) (hts _ q1670) (fun _ h9 => h9) (Or.inl rfl) rfl rfl rfl dX4_goes_44 (fun H locs hR hL => ?_)
    have hF := hF.sI 58 37 ((wI q2.2 58 37) + (1 : Int32))
    refine lv_aload_n hx hb dX4_goes_47 rfl (lv_at hl 0 rfl) ?_
    refine r_get (C := RX4) (T := TX4) (N := 80) hx hb hts ok4 hown hK hR (congrArg Prod.fst (hF.2.1 58 (5, 0) rfl)) rfl 40 (by decide) (hts _ q1673) (fun _ h9 => h9) (v := .int (wI q2.2 58 40)) rfl dX4_goes_48 ?_
    refine lv_aload_n hx hb dX4_goes_51 rfl (lv_at hl 0 rfl) ?_
    refine r_get (C := RX4) (T := TX4) (N := 80) hx hb hts ok4 hown hK hR (congrArg Prod.fst (hF.2.1 58 (5, 0) rfl)) rfl 39 (by decide) (hts _ q1672) (fun _ h9 => h9) (v := .int (wI q2.2 58 39)) rfl dX4_goes_52 ?_
    refine lv_icmp_ne (tgt := 60) hx hb dX4_goes_55 (by decide) (fun c5 => ?_) (fun c5 => ?_)
    · rw [if_neg c5] at h
      refine lv_aload_n hx hb dX4_goes_60 rfl (lv_at hl 0 rfl) ?_
      refine r_get (C := RX4) (T := TX4) (N := 80) hx hb hts ok4 hown hK hR (congrArg Prod.fst (hF.2.1 58 (5, 0) rfl)) rfl 37 (by decide) (hts _ q1670) (fun _ h9 => h9) (v := .int ((wI q2.2 58 37) + (1 : Int32))) rfl dX4_goes_61 ?_
      refine lv_bipush (v := 8) hx hb dX4_goes_64 (by decide) ?_
      refine lv_icmp_eq (tgt := 78) hx hb dX4_goes_66 (by decide) (fun c6 => ?_) (fun c6 => ?_)
      · rw [if_pos c6] at h
        exact hX28_78 (sI q2.2 58 37 ((wI q2.2 58 37) + (1 : Int32))) (ht1 _ (Option.some.inj h).symm) H locs ls hR hF hL (lv_sub hl [] rfl)
      · rw [if_neg c6] at h
        refine lv_aload_n hx hb dX4_goes_69 rfl (lv_at hl 0 rfl) ?_
        refine lv_bipush (v := 59) hx hb dX4_goes_70 (by decide) ?_
        obtain ⟨q7, hq8, h⟩ := bnd h
        refine c_VW (a := 58) (ci := 4) (q := (RX4, TX4, 80)) (rest := []) (st1 := [.int (bI q7.1)]) hx hb hml hown hts hK hR hF hL hl.1 (met_X4_takes l G z H0 (sI q2.2 58 37 ((wI q2.2 58 37) + (1 : Int32))) (59 : Int32) q7 hq8) (congrArg Prod.fst (hF.2.1 58 (5, 0) rfl)) rfl rfl rfl hd_X4_takes q2025 q2027 qs62 q104 q2028 ⟨Nat.le_of_ble_eq_true rfl, Nat.le_of_ble_eq_true rfl⟩ ⟨Nat.le_refl 0, Nat.le_refl 0⟩ rfl rfl (Nat.le_of_ble_eq_true rfl) dX4_goes_72 rfl (fun H locs hR hF hL => ?_)
        refine lv_if_ne (tgt := 28) hx hb dX4_goes_75 (by decide) (fun c9 => ?_) (fun c9 => ?_)
        · rw [if_pos (bI_p c9)] at h
          exact hc1 _ (Option.some.inj h).symm H locs ls hR hF hL (lv_sub hl [0] rfl)
        · rw [if_neg (bI_n c9)] at h
          exact hX28_78 q7.2 (ht1 _ (Option.some.inj h).symm) H locs ls hR hF hL (lv_sub hl [] rfl)
    · rw [if_pos c5] at h
      exact hX28_58 (sI q2.2 58 37 ((wI q2.2 58 37) + (1 : Int32))) (ht1 _ (Option.some.inj h).symm) H locs ls hR hF hL (lv_sub hl [] rfl)
  · rw [if_neg (bI_n c4)] at h
    exact hX28_35 q2.2 (ht1 _ (Option.some.inj h).symm) H locs ls hR hF hL (lv_sub hl [] rfl)
def f_X4_isText (n : Nat) (w : Wd) : Option (Bool × Wd) :=
  if inb (24 : Int32) 25 then ((f_X4_goes n (24 : Int32) (f_X4_asks (-1 : Int32) (-1 : Int32) (-1 : Int32) (sI (sI w 81 ((24 : Int32).toNatClampNeg) (wI w 58 27)) 58 27 (0 : Int32)))).bind fun q2 => some (q2.1, q2.2)) else none
theorem hd_X4_isText : yX4_isText.cls = RX4 ∧ yX4_isText.cls ≠ "java/lang/invoke/MethodHandle" ∧ yX4_isText.cls ≠ "java/lang/invoke/VarHandle" ∧ (parseMethodDescriptor yX4_isText.desc).map (fun d => d.parameters.length) = some 0 := by decide +kernel
set_option maxHeartbeats 4000000 in
set_option maxRecDepth 100000 in
theorem met_X4_isText (l : Launch) (G : Gw) (z : Nat) (H0 : Heap) (n : Nat) (w : Wd)  (q : Bool × Wd) (h : f_X4_isText n w = some q) : Met l yX4_isText (ws_ yX4_isText cX4_isText 1 (some .boolean)) ({ frames := 7, cells := 0, slots := 0, locals := 152 } : Room) (pcW G z H0 w [.ref (z + 58)]) (qW G z H0 q.2 (some (.int (bI q.1)))) 0 0 (fun q => z ≤ q) := by
  refine mW (by decide) (Nat.le_of_ble_eq_true rfl) ?_
  intro p e s m below meth c ls hx hb hr hml hown hts hlocks hnm hK hR hF hl
  have hown : s.vm.findClass RX4 = some m.cls := hown
  have hl : lv_has ls 1 [(0, .ref (z + 58))] := hl
  have hL : lok z [] := lok_nil
  unfold f_X4_isText at h
  generalize s.heap = H at hR ⊢
  generalize ([] : List Loc) = locs at hL ⊢
  refine lv_aload_n hx hb dX4_isText_0 rfl (lv_at hl 0 rfl) ?_
  refine r_get (C := RX4) (T := TX4) (N := 80) hx hb hts ok4 hown hK hR (congrArg Prod.fst (hF.2.1 58 (5, 0) rfl)) rfl 31 (by decide) (hts _ q1664) (fun _ h9 => h9) (v := .ref (z + 81)) (fv_fix hF rfl rfl) dX4_isText_1 ?_
  refine lv_bipush (v := 24) hx hb dX4_isText_4 (by decide) ?_
  refine lv_aload_n hx hb dX4_isText_6 rfl (lv_at hl 0 rfl) ?_
  refine r_get (C := RX4) (T := TX4) (N := 80) hx hb hts ok4 hown hK hR (congrArg Prod.fst (hF.2.1 58 (5, 0) rfl)) rfl 27 (by decide) (hts _ q1660) (fun _ h9 => h9) (v := .int (wI w 58 27)) rfl dX4_isText_7 ?_
  obtain ⟨hb1, h⟩ := grd h
  refine r_iast hx hb hK hR hL (hF.2.1 81 (200, 25) rfl) hb1 dX4_isText_10 (fun H locs hR hL => ?_)
  have hF := hF.sI 81 ((24 : Int32).toNatClampNeg) (wI w 58 27)
  refine lv_aload_n hx hb dX4_isText_11 rfl (lv_at hl 0 rfl) ?_
  refine lv_iconst (v := 0) hx hb dX4_isText_12 (by decide) ?_
  refine r_putI (C := RX4) (T := TX4) (N := 80) hx hb hts ok4 hown hK hR hL (congrArg Prod.fst (hF.2.1 58 (5, 0) rfl)) rfl 27 (by decide) (hts _ q1660) (fun _ h9 => h9) (Or.inl rfl) rfl rfl rfl dX4_isText_13 (fun H locs hR hL => ?_)
  have hF := hF.sI 58 27 (0 : Int32)
  refine lv_aload_n hx hb dX4_isText_16 rfl (lv_at hl 0 rfl) ?_
  refine lv_iconst (v := -1) hx hb dX4_isText_17 (by decide) ?_
  refine lv_iconst (v := -1) hx hb dX4_isText_18 (by decide) ?_
  refine lv_iconst (v := -1) hx hb dX4_isText_19 (by decide) ?_
  refine c_VW (a := 58) (ci := 4) (q := (RX4, TX4, 80)) (rest := []) (st1 := []) hx hb hml hown hts hK hR hF hL hl.1 (met_X4_asks l G z H0 (sI (sI w 81 ((24 : Int32).toNatClampNeg) (wI w 58 27)) 58 27 (0 : Int32)) (-1 : Int32) (-1 : Int32) (-1 : Int32) _ rfl) (congrArg Prod.fst (hF.2.1 58 (5, 0) rfl)) rfl rfl rfl hd_X4_asks q2003 q2005 qs57 q104 q2006 ⟨Nat.le_of_ble_eq_true rfl, Nat.le_of_ble_eq_true rfl⟩ ⟨Nat.le_refl 0, Nat.le_refl 0⟩ rfl rfl (Nat.le_of_ble_eq_true rfl) dX4_isText_20 rfl (fun H locs hR hF hL => ?_)
  refine lv_aload_n hx hb dX4_isText_23 rfl (lv_at hl 0 rfl) ?_
  refine lv_bipush (v := 24) hx hb dX4_isText_24 (by decide) ?_
  obtain ⟨q2, hq3, h⟩ := bnd h
  refine c_VW (a := 58) (ci := 4) (q := (RX4, TX4, 80)) (rest := []) (st1 := [.int (bI q2.1)]) hx hb hml hown hts hK hR hF hL hl.1 (met_X4_goes l G z H0 n (f_X4_asks (-1 : Int32) (-1 : Int32) (-1 : Int32) (sI (sI w 81 ((24 : Int32).toNatClampNeg) (wI w 58 27)) 58 27 (0 : Int32))) (24 : Int32) q2 hq3) (congrArg Prod.fst (hF.2.1 58 (5, 0) rfl)) rfl rfl rfl hd_X4_goes q2007 q2009 qs58 q104 q2010 ⟨Nat.le_of_ble_eq_true rfl, Nat.le_of_ble_eq_true rfl⟩ ⟨Nat.le_refl 0, Nat.le_refl 0⟩ rfl rfl (Nat.le_of_ble_eq_true rfl) dX4_isText_26 rfl (fun H locs hR hF hL => ?_)
  have h := Option.some.inj h
  subst h
  exact W.zret (v := bI q2.1) hx hb hr (bI_nar _) (fun t ht _ => ⟨rfl, by rw [ht]; exact hR, hF⟩) hL dX4_isText_29
def f_X4_keeps_L15 (n : Nat) (u1_1 : Int32) (s1 : Int32 × Wd) : Option ((Int32 × Wd) ⊕ ((Int32 × Wd))) :=
  if inb (24 : Int32) 25 then (if (wI s1.2 81 ((24 : Int32).toNatClampNeg)) ≤ s1.1 then (some (.inr (s1.1, s1.2))) else (if inb ((2880 : Int32) + s1.1) 3000 then (if inb (((120 : Int32) * u1_1) + s1.1) 3000 then (some (.inl (s1.1 + (1 : Int32), sI s1.2 80 ((((120 : Int32) * u1_1) + s1.1).toNatClampNeg) (wI s1.2 80 (((2880 : Int32) + s1.1).toNatClampNeg))))) else none) else none)) else none
def f_X4_keeps (n : Nat) (a1 : Int32) (w : Wd) : Option (Wd) :=
  if inb (24 : Int32) 25 then (if inb a1 25 then ((it n (f_X4_keeps_L15 n a1) ((0 : Int32), sI w 81 a1.toNatClampNeg (wI w 81 ((24 : Int32).toNatClampNeg)))).bind fun q15_53 => some q15_53.2) else none) else none
theorem hd_X4_keeps : yX4_keeps.cls = RX4 ∧ yX4_keeps.cls ≠ "java/lang/invoke/MethodHandle" ∧ yX4_keeps.cls ≠ "java/lang/invoke/VarHandle" ∧ (parseMethodDescriptor yX4_keeps.desc).map (fun d => d.parameters.length) = some 1 := by decide +kernel
set_option maxHeartbeats 4000000 in
set_option maxRecDepth 100000 in
theorem met_X4_keeps (l : Launch) (G : Gw) (z : Nat) (H0 : Heap) (n : Nat) (w : Wd) (a1 : Int32) (q : Wd) (h : f_X4_keeps n a1 w = some q) : Met l yX4_keeps (ws_ yX4_keeps cX4_keeps 3 none) ({ frames := 0, cells := 0, slots := 0, locals := 0 } : Room) (pcW G z H0 w [.ref (z + 58), .int a1]) (qW G z H0 q none) 0 0 (fun q => z ≤ q) := by
  refine mW (by decide) (Nat.le_of_ble_eq_true rfl) ?_
  intro p e s m below meth c ls hx hb hr hml hown hts hlocks hnm hK hR hF hl
  have hown : s.vm.findClass RX4 = some m.cls := hown
  have hl : lv_has ls 3 [(0, .ref (z + 58)), (1, .int a1)] := hl
  have hL : lok z [] := lok_nil
  unfold f_X4_keeps at h
  generalize s.heap = H at hR ⊢
  generalize ([] : List Loc) = locs at hL ⊢
  refine lv_aload_n hx hb dX4_keeps_0 rfl (lv_at hl 0 rfl) ?_
  refine r_get (C := RX4) (T := TX4) (N := 80) hx hb hts ok4 hown hK hR (congrArg Prod.fst (hF.2.1 58 (5, 0) rfl)) rfl 31 (by decide) (hts _ q1664) (fun _ h9 => h9) (v := .ref (z + 81)) (fv_fix hF rfl rfl) dX4_keeps_1 ?_
  refine lv_iload_n hx hb dX4_keeps_4 rfl (lv_at hl 1 rfl) ?_
  refine lv_aload_n hx hb dX4_keeps_5 rfl (lv_at hl 0 rfl) ?_
  refine r_get (C := RX4) (T := TX4) (N := 80) hx hb hts ok4 hown hK hR (congrArg Prod.fst (hF.2.1 58 (5, 0) rfl)) rfl 31 (by decide) (hts _ q1664) (fun _ h9 => h9) (v := .ref (z + 81)) (fv_fix hF rfl rfl) dX4_keeps_6 ?_
  refine lv_bipush (v := 24) hx hb dX4_keeps_9 (by decide) ?_
  obtain ⟨hb1, h⟩ := grd h
  refine r_iald (v := wI w 81 ((24 : Int32).toNatClampNeg)) hx hb hK hR (hF.2.1 81 (200, 25) rfl) hb1 rfl dX4_keeps_11 ?_
  obtain ⟨hb2, h⟩ := grd h
  refine r_iast hx hb hK hR hL (hF.2.1 81 (200, 25) rfl) hb2 dX4_keeps_12 (fun H locs hR hL => ?_)
  have hF := hF.sI 81 (a1.toNatClampNeg) (wI w 81 ((24 : Int32).toNatClampNeg))
  refine lv_iconst (v := 0) hx hb dX4_keeps_13 (by decide) ?_
  refine lv_istore_n (lv' := [(2, .int (0 : Int32)), (0, .ref (z + 58)), (1, .int a1)]) hx hb dX4_keeps_14 rfl hl (by decide) rfl (fun ls hl => ?_)
  have hX15_53 : ∀ (q15_53 : Int32 × Wd), (some q15_53.2) = some q → ∀ (H : Heap) (locs : List Loc) (ls : Array Slot), Rp G z H0 q15_53.2 H → Fix q15_53.2 → lok z locs → lv_has ls 3 [] → W p l e ({ frames := 0, cells := 0, slots := 0, locals := 0 } : Room) s m ([.ref (z + 58), .int a1] : List Value).toArray below meth c H locs 0 0 (MQ below (qW G z H0 q none) ([.ref (z + 58), .int a1] : List Value).toArray s 0 0 (fun q => z ≤ q)) (F0 m 53 ls []) := by
    intro q15_53 h H locs ls hR hF hL hl
    have h := Option.some.inj h
    subst h
    exact W.vret hx hb hr (fun t ht _ => ⟨rfl, by rw [ht]; exact hR, hF⟩) hL dX4_keeps_53
  obtain ⟨t7, hq8, h⟩ := bnd h
  refine it_W (b := f_X4_keeps_L15 n a1) (P := fun (s1 : Int32 × Wd) => ∀ (H : Heap) (locs : List Loc) (ls : Array Slot), Rp G z H0 s1.2 H → Fix s1.2 → lok z locs → lv_has ls 3 [(2, .int s1.1), (0, .ref (z + 58)), (1, .int a1)] → W p l e ({ frames := 0, cells := 0, slots := 0, locals := 0 } : Room) s m ([.ref (z + 58), .int a1] : List Value).toArray below meth c H locs 0 0 (MQ below (qW G z H0 q none) ([.ref (z + 58), .int a1] : List Value).toArray s 0 0 (fun q => z ≤ q)) (F0 m 15 ls [])) (K := fun q15_53 => (some q15_53.2) = some q) (fun s1 x1 h hc1 ht1 => ?_) n ((0 : Int32), sI w 81 a1.toNatClampNeg (wI w 81 ((24 : Int32).toNatClampNeg))) t7 hq8 h H locs ls hR hF hL (lv_sub hl [0, 1, 2] rfl)
  intro H locs ls hR hF hL hl
  unfold f_X4_keeps_L15 at h
  refine lv_iload_n hx hb dX4_keeps_15 rfl (lv_at hl 0 rfl) ?_
  refine lv_aload_n hx hb dX4_keeps_16 rfl (lv_at hl 1 rfl) ?_
  refine r_get (C := RX4) (T := TX4) (N := 80) hx hb hts ok4 hown hK hR (congrArg Prod.fst (hF.2.1 58 (5, 0) rfl)) rfl 31 (by decide) (hts _ q1664) (fun _ h9 => h9) (v := .ref (z + 81)) (fv_fix hF rfl rfl) dX4_keeps_17 ?_
  refine lv_bipush (v := 24) hx hb dX4_keeps_20 (by decide) ?_
  obtain ⟨hb3, h⟩ := grd h
  refine r_iald (v := wI s1.2 81 ((24 : Int32).toNatClampNeg)) hx hb hK hR (hF.2.1 81 (200, 25) rfl) hb3 rfl dX4_keeps_22 ?_
  refine lv_icmp_ge (tgt := 53) hx hb dX4_keeps_23 (by decide) (fun c4 => ?_) (fun c4 => ?_)
  · rw [if_pos c4] at h
    exact hX15_53 (s1.1, s1.2) (ht1 _ (Option.some.inj h).symm) H locs ls hR hF hL (lv_sub hl [] rfl)
  · rw [if_neg c4] at h
    refine lv_aload_n hx hb dX4_keeps_26 rfl (lv_at hl 1 rfl) ?_
    refine r_get (C := RX4) (T := TX4) (N := 80) hx hb hts ok4 hown hK hR (congrArg Prod.fst (hF.2.1 58 (5, 0) rfl)) rfl 30 (by decide) (hts _ q1663) (fun _ h9 => h9) (v := .ref (z + 80)) (fv_fix hF rfl rfl) dX4_keeps_27 ?_
    refine lv_bipush (v := 120) hx hb dX4_keeps_30 (by decide) ?_
    refine lv_iload_n hx hb dX4_keeps_32 rfl (lv_at hl 2 rfl) ?_
    refine lv_imul hx hb dX4_keeps_33 ?_
    refine lv_iload_n hx hb dX4_keeps_34 rfl (lv_at hl 0 rfl) ?_
    refine lv_iadd hx hb dX4_keeps_35 ?_
    refine lv_aload_n hx hb dX4_keeps_36 rfl (lv_at hl 1 rfl) ?_
    refine r_get (C := RX4) (T := TX4) (N := 80) hx hb hts ok4 hown hK hR (congrArg Prod.fst (hF.2.1 58 (5, 0) rfl)) rfl 30 (by decide) (hts _ q1663) (fun _ h9 => h9) (v := .ref (z + 80)) (fv_fix hF rfl rfl) dX4_keeps_37 ?_
    refine lv_sipush (v := 2880) hx hb dX4_keeps_40 (by decide) ?_
    refine lv_iload_n hx hb dX4_keeps_43 rfl (lv_at hl 0 rfl) ?_
    refine lv_iadd hx hb dX4_keeps_44 ?_
    obtain ⟨hb5, h⟩ := grd h
    refine r_iald (v := wI s1.2 80 (((2880 : Int32) + s1.1).toNatClampNeg)) hx hb hK hR (hF.2.1 80 (200, 3000) rfl) hb5 rfl dX4_keeps_45 ?_
    obtain ⟨hb6, h⟩ := grd h
    refine r_iast hx hb hK hR hL (hF.2.1 80 (200, 3000) rfl) hb6 dX4_keeps_46 (fun H locs hR hL => ?_)
    have hF := hF.sI 80 ((((120 : Int32) * a1) + s1.1).toNatClampNeg) (wI s1.2 80 (((2880 : Int32) + s1.1).toNatClampNeg))
    refine lv_iinc (v := s1.1 + (1 : Int32)) (lv' := [(2, .int (s1.1 + (1 : Int32))), (0, .ref (z + 58)), (1, .int a1)]) hx hb dX4_keeps_47 hl (k := 0) rfl rfl (by decide) rfl (fun ls hl => ?_)
    refine lv_goto (tgt := 15) hx hb dX4_keeps_50 (by decide) ?_
    exact hc1 _ (Option.some.inj h).symm H locs ls hR hF hL (lv_sub hl [0, 1, 2] rfl)
def f_X4_decree (n : Nat) (w : Wd) : Option (Int32 × Wd) :=
  if (wI w 58 25) = (16 : Int32) then (some ((-4 : Int32), w)) else ((f_X4_isText n w).bind fun q2 => if q2.1 then ((f_X4_keeps n (wI q2.2 58 25) q2.2).bind fun q5 => if inb (wI q5 58 25) 16 then (if inb (wI q5 58 25) 16 then (some (((wI q5 58 25) + (1 : Int32)) - (1 : Int32), sI (sI (sI q5 78 ((wI q5 58 25).toNatClampNeg) (wI q5 58 0)) 79 ((wI q5 58 25).toNatClampNeg) (-1 : Int32)) 58 25 ((wI q5 58 25) + (1 : Int32)))) else none) else none) else (some ((-10 : Int32) - (wI q2.2 58 40), q2.2)))
theorem hd_X4_decree : yX4_decree.cls = RX4 ∧ yX4_decree.cls ≠ "java/lang/invoke/MethodHandle" ∧ yX4_decree.cls ≠ "java/lang/invoke/VarHandle" ∧ (parseMethodDescriptor yX4_decree.desc).map (fun d => d.parameters.length) = some 0 := by decide +kernel
set_option maxHeartbeats 4000000 in
set_option maxRecDepth 100000 in
theorem met_X4_decree (l : Launch) (G : Gw) (z : Nat) (H0 : Heap) (n : Nat) (w : Wd)  (q : Int32 × Wd) (h : f_X4_decree n w = some q) : Met l yX4_decree (ws_ yX4_decree cX4_decree 1 (some .int)) ({ frames := 8, cells := 0, slots := 0, locals := 172 } : Room) (pcW G z H0 w [.ref (z + 58)]) (qW G z H0 q.2 (some (.int q.1))) 0 0 (fun q => z ≤ q) := by
  refine mW (by decide) (Nat.le_of_ble_eq_true rfl) ?_
  intro p e s m below meth c ls hx hb hr hml hown hts hlocks hnm hK hR hF hl
  have hown : s.vm.findClass RX4 = some m.cls := hown
  have hl : lv_has ls 1 [(0, .ref (z + 58))] := hl
  have hL : lok z [] := lok_nil
  unfold f_X4_decree at h
  generalize s.heap = H at hR ⊢
  generalize ([] : List Loc) = locs at hL ⊢
  refine lv_aload_n hx hb dX4_decree_0 rfl (lv_at hl 0 rfl) ?_
  refine r_get (C := RX4) (T := TX4) (N := 80) hx hb hts ok4 hown hK hR (congrArg Prod.fst (hF.2.1 58 (5, 0) rfl)) rfl 25 (by decide) (hts _ q1658) (fun _ h9 => h9) (v := .int (wI w 58 25)) rfl dX4_decree_1 ?_
  refine lv_bipush (v := 16) hx hb dX4_decree_4 (by decide) ?_
  refine lv_icmp_ne (tgt := 12) hx hb dX4_decree_6 (by decide) (fun c1 => ?_) (fun c1 => ?_)
  · rw [if_neg c1] at h
    refine lv_aload_n hx hb dX4_decree_12 rfl (lv_at hl 0 rfl) ?_
    obtain ⟨q2, hq3, h⟩ := bnd h
    refine c_VW (a := 58) (ci := 4) (q := (RX4, TX4, 80)) (rest := []) (st1 := [.int (bI q2.1)]) hx hb hml hown hts hK hR hF hL hl.1 (met_X4_isText l G z H0 n w  q2 hq3) (congrArg Prod.fst (hF.2.1 58 (5, 0) rfl)) rfl rfl rfl hd_X4_isText q1999 q2001 qs56 q104 q2002 ⟨Nat.le_of_ble_eq_true rfl, Nat.le_of_ble_eq_true rfl⟩ ⟨Nat.le_refl 0, Nat.le_refl 0⟩ rfl rfl (Nat.le_of_ble_eq_true rfl) dX4_decree_13 rfl (fun H locs hR hF hL => ?_)
    refine lv_if_ne (tgt := 27) hx hb dX4_decree_16 (by decide) (fun c4 => ?_) (fun c4 => ?_)
    · rw [if_pos (bI_p c4)] at h
      refine lv_aload_n hx hb dX4_decree_27 rfl (lv_at hl 0 rfl) ?_
      refine lv_aload_n hx hb dX4_decree_28 rfl (lv_at hl 0 rfl) ?_
      refine r_get (C := RX4) (T := TX4) (N := 80) hx hb hts ok4 hown hK hR (congrArg Prod.fst (hF.2.1 58 (5, 0) rfl)) rfl 25 (by decide) (hts _ q1658) (fun _ h9 => h9) (v := .int (wI q2.2 58 25)) rfl dX4_decree_29 ?_
      obtain ⟨q5, hq6, h⟩ := bnd h
      refine c_VW (a := 58) (ci := 4) (q := (RX4, TX4, 80)) (rest := []) (st1 := []) hx hb hml hown hts hK hR hF hL hl.1 (met_X4_keeps l G z H0 n q2.2 (wI q2.2 58 25) q5 hq6) (congrArg Prod.fst (hF.2.1 58 (5, 0) rfl)) rfl rfl rfl hd_X4_keeps q2081 q2083 qs75 q104 q2084 ⟨Nat.le_of_ble_eq_true rfl, Nat.le_of_ble_eq_true rfl⟩ ⟨Nat.le_refl 0, Nat.le_refl 0⟩ rfl rfl (Nat.le_of_ble_eq_true rfl) dX4_decree_32 rfl (fun H locs hR hF hL => ?_)
      refine lv_aload_n hx hb dX4_decree_35 rfl (lv_at hl 0 rfl) ?_
      refine r_get (C := RX4) (T := TX4) (N := 80) hx hb hts ok4 hown hK hR (congrArg Prod.fst (hF.2.1 58 (5, 0) rfl)) rfl 28 (by decide) (hts _ q1661) (fun _ h9 => h9) (v := .ref (z + 78)) (fv_fix hF rfl rfl) dX4_decree_36 ?_
      refine lv_aload_n hx hb dX4_decree_39 rfl (lv_at hl 0 rfl) ?_
      refine r_get (C := RX4) (T := TX4) (N := 80) hx hb hts ok4 hown hK hR (congrArg Prod.fst (hF.2.1 58 (5, 0) rfl)) rfl 25 (by decide) (hts _ q1658) (fun _ h9 => h9) (v := .int (wI q5 58 25)) rfl dX4_decree_40 ?_
      refine lv_aload_n hx hb dX4_decree_43 rfl (lv_at hl 0 rfl) ?_
      refine r_get (C := RX4) (T := TX4) (N := 80) hx hb hts ok4 hown hK hR (congrArg Prod.fst (hF.2.1 58 (5, 0) rfl)) rfl 0 (by decide) (hts _ q1633) (fun _ h9 => h9) (v := .int (wI q5 58 0)) rfl dX4_decree_44 ?_
      obtain ⟨hb7, h⟩ := grd h
      refine r_iast hx hb hK hR hL (hF.2.1 78 (200, 16) rfl) hb7 dX4_decree_47 (fun H locs hR hL => ?_)
      have hF := hF.sI 78 ((wI q5 58 25).toNatClampNeg) (wI q5 58 0)
      refine lv_aload_n hx hb dX4_decree_48 rfl (lv_at hl 0 rfl) ?_
      refine r_get (C := RX4) (T := TX4) (N := 80) hx hb hts ok4 hown hK hR (congrArg Prod.fst (hF.2.1 58 (5, 0) rfl)) rfl 29 (by decide) (hts _ q1662) (fun _ h9 => h9) (v := .ref (z + 79)) (fv_fix hF rfl rfl) dX4_decree_49 ?_
      refine lv_aload_n hx hb dX4_decree_52 rfl (lv_at hl 0 rfl) ?_
      refine r_get (C := RX4) (T := TX4) (N := 80) hx hb hts ok4 hown hK hR (congrArg Prod.fst (hF.2.1 58 (5, 0) rfl)) rfl 25 (by decide) (hts _ q1658) (fun _ h9 => h9) (v := .int (wI q5 58 25)) rfl dX4_decree_53 ?_
      refine lv_iconst (v := -1) hx hb dX4_decree_56 (by decide) ?_
      obtain ⟨hb8, h⟩ := grd h
      refine r_iast hx hb hK hR hL (hF.2.1 79 (200, 16) rfl) hb8 dX4_decree_57 (fun H locs hR hL => ?_)
      have hF := hF.sI 79 ((wI q5 58 25).toNatClampNeg) (-1 : Int32)
      refine lv_aload_n hx hb dX4_decree_58 rfl (lv_at hl 0 rfl) ?_
      refine lv_dup hx hb dX4_decree_59 rfl ?_
      refine r_get (C := RX4) (T := TX4) (N := 80) hx hb hts ok4 hown hK hR (congrArg Prod.fst (hF.2.1 58 (5, 0) rfl)) rfl 25 (by decide) (hts _ q1658) (fun _ h9 => h9) (v := .int (wI q5 58 25)) rfl dX4_decree_60 ?_
      refine lv_iconst (v := 1) hx hb dX4_decree_63 (by decide) ?_
      refine lv_iadd hx hb dX4_decree_64 ?_
      refine r_putI (C := RX4) (T := TX4) (N := 80) hx hb hts ok4 hown hK hR hL (congrArg Prod.fst (hF.2.1 58 (5, 0) rfl)) rfl 25 (by decide) (hts _ q1658) (fun _ h9 => h9) (Or.inl rfl) rfl rfl rfl dX4_decree_65 (fun H locs hR hL => ?_)
      have hF := hF.sI 58 25 ((wI q5 58 25) + (1 : Int32))
      refine lv_aload_n hx hb dX4_decree_68 rfl (lv_at hl 0 rfl) ?_
      refine r_get (C := RX4) (T := TX4) (N := 80) hx hb hts ok4 hown hK hR (congrArg Prod.fst (hF.2.1 58 (5, 0) rfl)) rfl 25 (by decide) (hts _ q1658) (fun _ h9 => h9) (v := .int ((wI q5 58 25) + (1 : Int32))) rfl dX4_decree_69 ?_
      refine lv_iconst (v := 1) hx hb dX4_decree_72 (by decide) ?_
      refine lv_isub hx hb dX4_decree_73 ?_
      have h := Option.some.inj h
      subst h
      exact W.iret (v := ((wI q5 58 25) + (1 : Int32)) - (1 : Int32)) hx hb hr (fun t ht _ => ⟨rfl, by rw [ht]; exact hR, hF⟩) hL dX4_decree_74
    · rw [if_neg (bI_n c4)] at h
      refine lv_bipush (v := -10) hx hb dX4_decree_19 (by decide) ?_
      refine lv_aload_n hx hb dX4_decree_21 rfl (lv_at hl 0 rfl) ?_
      refine r_get (C := RX4) (T := TX4) (N := 80) hx hb hts ok4 hown hK hR (congrArg Prod.fst (hF.2.1 58 (5, 0) rfl)) rfl 40 (by decide) (hts _ q1673) (fun _ h9 => h9) (v := .int (wI q2.2 58 40)) rfl dX4_decree_22 ?_
      refine lv_isub hx hb dX4_decree_25 ?_
      have h := Option.some.inj h
      subst h
      exact W.iret (v := (-10 : Int32) - (wI q2.2 58 40)) hx hb hr (fun t ht _ => ⟨rfl, by rw [ht]; exact hR, hF⟩) hL dX4_decree_26
  · rw [if_pos c1] at h
    refine lv_bipush (v := -4) hx hb dX4_decree_9 (by decide) ?_
    have h := Option.some.inj h
    subst h
    exact W.iret (v := (-4 : Int32)) hx hb hr (fun t ht _ => ⟨rfl, by rw [ht]; exact hR, hF⟩) hL dX4_decree_11
def f_X4_revoke (a1 : Int32) (w : Wd) : Option (Int32 × Wd) :=
  if (f_X4_in a1 (0 : Int32) ((wI w 58 25) - (1 : Int32)) w) then (if inb a1 16 then (if (wI w 79 a1.toNatClampNeg) < 0 then (if inb a1 16 then (some ((1 : Int32), sI w 79 a1.toNatClampNeg (wI w 58 0))) else none) else (some ((-3 : Int32), w))) else none) else (some ((-1 : Int32), w))
theorem hd_X4_revoke : yX4_revoke.cls = RX4 ∧ yX4_revoke.cls ≠ "java/lang/invoke/MethodHandle" ∧ yX4_revoke.cls ≠ "java/lang/invoke/VarHandle" ∧ (parseMethodDescriptor yX4_revoke.desc).map (fun d => d.parameters.length) = some 1 := by decide +kernel
set_option maxHeartbeats 4000000 in
set_option maxRecDepth 100000 in
theorem met_X4_revoke (l : Launch) (G : Gw) (z : Nat) (H0 : Heap)  (w : Wd) (a1 : Int32) (q : Int32 × Wd) (h : f_X4_revoke a1 w = some q) : Met l yX4_revoke (ws_ yX4_revoke cX4_revoke 2 (some .int)) ({ frames := 1, cells := 0, slots := 0, locals := 23 } : Room) (pcW G z H0 w [.ref (z + 58), .int a1]) (qW G z H0 q.2 (some (.int q.1))) 0 0 (fun q => z ≤ q) := by
  refine mW (by decide) (Nat.le_of_ble_eq_true rfl) ?_
  intro p e s m below meth c ls hx hb hr hml hown hts hlocks hnm hK hR hF hl
  have hown : s.vm.findClass RX4 = some m.cls := hown
  have hl : lv_has ls 2 [(0, .ref (z + 58)), (1, .int a1)] := hl
  have hL : lok z [] := lok_nil
  unfold f_X4_revoke at h
  generalize s.heap = H at hR ⊢
  generalize ([] : List Loc) = locs at hL ⊢
  refine lv_aload_n hx hb dX4_revoke_0 rfl (lv_at hl 0 rfl) ?_
  refine lv_iload_n hx hb dX4_revoke_1 rfl (lv_at hl 1 rfl) ?_
  refine lv_iconst (v := 0) hx hb dX4_revoke_2 (by decide) ?_
  refine lv_aload_n hx hb dX4_revoke_3 rfl (lv_at hl 0 rfl) ?_
  refine r_get (C := RX4) (T := TX4) (N := 80) hx hb hts ok4 hown hK hR (congrArg Prod.fst (hF.2.1 58 (5, 0) rfl)) rfl 25 (by decide) (hts _ q1658) (fun _ h9 => h9) (v := .int (wI w 58 25)) rfl dX4_revoke_4 ?_
  refine lv_iconst (v := 1) hx hb dX4_revoke_7 (by decide) ?_
  refine lv_isub hx hb dX4_revoke_8 ?_
  refine c_VP (a := 58) (ci := 4) (q := (RX4, TX4, 80)) (rest := []) (st1 := [.int (bI (f_X4_in a1 (0 : Int32) ((wI w 58 25) - (1 : Int32)) w))]) hx hb hml hown hts hK hR hF hL hl.1 (met_X4_in l G z H0 w a1 (0 : Int32) ((wI w 58 25) - (1 : Int32)) _ rfl) (congrArg Prod.fst (hF.2.1 58 (5, 0) rfl)) rfl rfl rfl hd_X4_in q1878 q1880 qs41 q104 q1881 ⟨Nat.le_of_ble_eq_true rfl, Nat.le_of_ble_eq_true rfl⟩ ⟨Nat.le_refl 0, Nat.le_refl 0⟩ rfl rfl (Nat.le_of_ble_eq_true rfl) dX4_revoke_9 rfl (fun locs hL => ?_)
  refine lv_if_ne (tgt := 17) hx hb dX4_revoke_12 (by decide) (fun c1 => ?_) (fun c1 => ?_)
  · rw [if_pos (bI_p c1)] at h
    refine lv_aload_n hx hb dX4_revoke_17 rfl (lv_at hl 0 rfl) ?_
    refine r_get (C := RX4) (T := TX4) (N := 80) hx hb hts ok4 hown hK hR (congrArg Prod.fst (hF.2.1 58 (5, 0) rfl)) rfl 29 (by decide) (hts _ q1662) (fun _ h9 => h9) (v := .ref (z + 79)) (fv_fix hF rfl rfl) dX4_revoke_18 ?_
    refine lv_iload_n hx hb dX4_revoke_21 rfl (lv_at hl 1 rfl) ?_
    obtain ⟨hb2, h⟩ := grd h
    refine r_iald (v := wI w 79 a1.toNatClampNeg) hx hb hK hR (hF.2.1 79 (200, 16) rfl) hb2 rfl dX4_revoke_22 ?_
    refine lv_if_lt (tgt := 29) hx hb dX4_revoke_23 (by decide) (fun c3 => ?_) (fun c3 => ?_)
    · rw [if_pos c3] at h
      refine lv_aload_n hx hb dX4_revoke_29 rfl (lv_at hl 0 rfl) ?_
      refine r_get (C := RX4) (T := TX4) (N := 80) hx hb hts ok4 hown hK hR (congrArg Prod.fst (hF.2.1 58 (5, 0) rfl)) rfl 29 (by decide) (hts _ q1662) (fun _ h9 => h9) (v := .ref (z + 79)) (fv_fix hF rfl rfl) dX4_revoke_30 ?_
      refine lv_iload_n hx hb dX4_revoke_33 rfl (lv_at hl 1 rfl) ?_
      refine lv_aload_n hx hb dX4_revoke_34 rfl (lv_at hl 0 rfl) ?_
      refine r_get (C := RX4) (T := TX4) (N := 80) hx hb hts ok4 hown hK hR (congrArg Prod.fst (hF.2.1 58 (5, 0) rfl)) rfl 0 (by decide) (hts _ q1633) (fun _ h9 => h9) (v := .int (wI w 58 0)) rfl dX4_revoke_35 ?_
      obtain ⟨hb4, h⟩ := grd h
      refine r_iast hx hb hK hR hL (hF.2.1 79 (200, 16) rfl) hb4 dX4_revoke_38 (fun H locs hR hL => ?_)
      have hF := hF.sI 79 (a1.toNatClampNeg) (wI w 58 0)
      refine lv_iconst (v := 1) hx hb dX4_revoke_39 (by decide) ?_
      have h := Option.some.inj h
      subst h
      exact W.iret (v := (1 : Int32)) hx hb hr (fun t ht _ => ⟨rfl, by rw [ht]; exact hR, hF⟩) hL dX4_revoke_40
    · rw [if_neg c3] at h
      refine lv_bipush (v := -3) hx hb dX4_revoke_26 (by decide) ?_
      have h := Option.some.inj h
      subst h
      exact W.iret (v := (-3 : Int32)) hx hb hr (fun t ht _ => ⟨rfl, by rw [ht]; exact hR, hF⟩) hL dX4_revoke_28
  · rw [if_neg (bI_n c1)] at h
    refine lv_iconst (v := -1) hx hb dX4_revoke_15 (by decide) ?_
    have h := Option.some.inj h
    subst h
    exact W.iret (v := (-1 : Int32)) hx hb hr (fun t ht _ => ⟨rfl, by rw [ht]; exact hR, hF⟩) hL dX4_revoke_16
def f_X4_isDay (a1 : Int32) (w : Wd) : Bool :=
  (f_X4_in a1 (0 : Int32) (9999 : Int32) w)
theorem hd_X4_isDay : yX4_isDay.cls = RX4 ∧ yX4_isDay.cls ≠ "java/lang/invoke/MethodHandle" ∧ yX4_isDay.cls ≠ "java/lang/invoke/VarHandle" ∧ (parseMethodDescriptor yX4_isDay.desc).map (fun d => d.parameters.length) = some 1 := by decide +kernel
set_option maxHeartbeats 4000000 in
set_option maxRecDepth 100000 in
theorem met_X4_isDay (l : Launch) (G : Gw) (z : Nat) (H0 : Heap)  (w : Wd) (a1 : Int32) (q : Bool) (h : f_X4_isDay a1 w = q) : Met l yX4_isDay (ws_ yX4_isDay cX4_isDay 2 (some .boolean)) ({ frames := 1, cells := 0, slots := 0, locals := 23 } : Room) (pcW G z H0 w [.ref (z + 58), .int a1]) (qP (some (.int (bI q)))) 0 0 (fun q => z ≤ q) := by
  refine mW (by decide) (Nat.le_of_ble_eq_true rfl) ?_
  intro p e s m below meth c ls hx hb hr hml hown hts hlocks hnm hK hR hF hl
  have hown : s.vm.findClass RX4 = some m.cls := hown
  have hl : lv_has ls 2 [(0, .ref (z + 58)), (1, .int a1)] := hl
  have hL : lok z [] := lok_nil
  unfold f_X4_isDay at h
  generalize ([] : List Loc) = locs at hL ⊢
  refine lv_aload_n hx hb dX4_isDay_0 rfl (lv_at hl 0 rfl) ?_
  refine lv_iload_n hx hb dX4_isDay_1 rfl (lv_at hl 1 rfl) ?_
  refine lv_iconst (v := 0) hx hb dX4_isDay_2 (by decide) ?_
  refine lv_sipush (v := 9999) hx hb dX4_isDay_3 (by decide) ?_
  refine c_VP (a := 58) (ci := 4) (q := (RX4, TX4, 80)) (rest := []) (st1 := [.int (bI (f_X4_in a1 (0 : Int32) (9999 : Int32) w))]) hx hb hml hown hts hK hR hF hL hl.1 (met_X4_in l G z H0 w a1 (0 : Int32) (9999 : Int32) _ rfl) (congrArg Prod.fst (hF.2.1 58 (5, 0) rfl)) rfl rfl rfl hd_X4_in q1878 q1880 qs41 q104 q1881 ⟨Nat.le_of_ble_eq_true rfl, Nat.le_of_ble_eq_true rfl⟩ ⟨Nat.le_refl 0, Nat.le_refl 0⟩ rfl rfl (Nat.le_of_ble_eq_true rfl) dX4_isDay_6 rfl (fun locs hL => ?_)
  subst h
  exact W.zret (v := bI (f_X4_in a1 (0 : Int32) (9999 : Int32) w)) hx hb hr (bI_nar _) (fun t ht _ => ⟨rfl, ht⟩) hL dX4_isDay_9
def f_X4_isKnown (n : Nat) (a1 : Int32) (a2 : Int32) (a3 : Int32) (w : Wd) : Option (Bool × Wd) :=
  (f_X4_farOf n a2 w).bind fun q1 => if (9999 : Int32) ≤ q1.1 then (some (false, q1.2)) else (if inb a1 16 then (if a3 < ((wI q1.2 78 a1.toNatClampNeg) + q1.1) then (some (false, q1.2)) else (if inb a1 16 then (if (wI q1.2 79 a1.toNatClampNeg) < 0 then (some (true, q1.2)) else (if inb a1 16 then (if ((wI q1.2 79 a1.toNatClampNeg) + q1.1) ≤ a3 then (some (false, q1.2)) else (some (true, q1.2))) else none)) else none)) else none)
theorem hd_X4_isKnown : yX4_isKnown.cls = RX4 ∧ yX4_isKnown.cls ≠ "java/lang/invoke/MethodHandle" ∧ yX4_isKnown.cls ≠ "java/lang/invoke/VarHandle" ∧ (parseMethodDescriptor yX4_isKnown.desc).map (fun d => d.parameters.length) = some 3 := by decide +kernel
set_option maxHeartbeats 4000000 in
set_option maxRecDepth 100000 in
theorem met_X4_isKnown (l : Launch) (G : Gw) (z : Nat) (H0 : Heap) (n : Nat) (w : Wd) (a1 : Int32) (a2 : Int32) (a3 : Int32) (q : Bool × Wd) (h : f_X4_isKnown n a1 a2 a3 w = some q) : Met l yX4_isKnown (ws_ yX4_isKnown cX4_isKnown 5 (some .boolean)) ({ frames := 1, cells := 0, slots := 0, locals := 23 } : Room) (pcW G z H0 w [.ref (z + 58), .int a1, .int a2, .int a3]) (qW G z H0 q.2 (some (.int (bI q.1)))) 0 0 (fun q => z ≤ q) := by
  refine mW (by decide) (Nat.le_of_ble_eq_true rfl) ?_
  intro p e s m below meth c ls hx hb hr hml hown hts hlocks hnm hK hR hF hl
  have hown : s.vm.findClass RX4 = some m.cls := hown
  have hl : lv_has ls 5 [(0, .ref (z + 58)), (1, .int a1), (2, .int a2), (3, .int a3)] := hl
  have hL : lok z [] := lok_nil
  unfold f_X4_isKnown at h
  generalize s.heap = H at hR ⊢
  generalize ([] : List Loc) = locs at hL ⊢
  refine lv_aload_n hx hb dX4_isKnown_0 rfl (lv_at hl 0 rfl) ?_
  refine lv_iload_n hx hb dX4_isKnown_1 rfl (lv_at hl 2 rfl) ?_
  obtain ⟨q1, hq2, h⟩ := bnd h
  refine c_VW (a := 58) (ci := 4) (q := (RX4, TX4, 80)) (rest := []) (st1 := [.int q1.1]) hx hb hml hown hts hK hR hF hL hl.1 (met_X4_farOf l G z H0 n w a2 q1 hq2) (congrArg Prod.fst (hF.2.1 58 (5, 0) rfl)) rfl rfl rfl hd_X4_farOf q1894 q1896 qs43 q104 q1897 ⟨Nat.le_of_ble_eq_true rfl, Nat.le_of_ble_eq_true rfl⟩ ⟨Nat.le_refl 0, Nat.le_refl 0⟩ rfl rfl (Nat.le_of_ble_eq_true rfl) dX4_isKnown_2 rfl (fun H locs hR hF hL => ?_)
  refine lv_istore (lv' := [(4, .int q1.1), (0, .ref (z + 58)), (1, .int a1), (2, .int a2), (3, .int a3)]) hx hb dX4_isKnown_5 hl (by decide) rfl (fun ls hl => ?_)
  refine lv_iload hx hb dX4_isKnown_7 (lv_at hl 0 rfl) ?_
  refine lv_sipush (v := 9999) hx hb dX4_isKnown_9 (by decide) ?_
  refine lv_icmp_ge (tgt := 54) hx hb dX4_isKnown_12 (by decide) (fun c3 => ?_) (fun c3 => ?_)
  · rw [if_pos c3] at h
    refine lv_iconst (v := 0) hx hb dX4_isKnown_54 (by decide) ?_
    have h := Option.some.inj h
    subst h
    exact W.zret (v := bI false) hx hb hr (bI_nar _) (fun t ht _ => ⟨rfl, by rw [ht]; exact hR, hF⟩) hL dX4_isKnown_55
  · rw [if_neg c3] at h
    refine lv_iload_n hx hb dX4_isKnown_15 rfl (lv_at hl 4 rfl) ?_
    refine lv_aload_n hx hb dX4_isKnown_16 rfl (lv_at hl 1 rfl) ?_
    refine r_get (C := RX4) (T := TX4) (N := 80) hx hb hts ok4 hown hK hR (congrArg Prod.fst (hF.2.1 58 (5, 0) rfl)) rfl 28 (by decide) (hts _ q1661) (fun _ h9 => h9) (v := .ref (z + 78)) (fv_fix hF rfl rfl) dX4_isKnown_17 ?_
    refine lv_iload_n hx hb dX4_isKnown_20 rfl (lv_at hl 2 rfl) ?_
    obtain ⟨hb4, h⟩ := grd h
    refine r_iald (v := wI q1.2 78 a1.toNatClampNeg) hx hb hK hR (hF.2.1 78 (200, 16) rfl) hb4 rfl dX4_isKnown_21 ?_
    refine lv_iload hx hb dX4_isKnown_22 (lv_at hl 0 rfl) ?_
    refine lv_iadd hx hb dX4_isKnown_24 ?_
    refine lv_icmp_lt (tgt := 54) hx hb dX4_isKnown_25 (by decide) (fun c5 => ?_) (fun c5 => ?_)
    · rw [if_pos c5] at h
      refine lv_iconst (v := 0) hx hb dX4_isKnown_54 (by decide) ?_
      have h := Option.some.inj h
      subst h
      exact W.zret (v := bI false) hx hb hr (bI_nar _) (fun t ht _ => ⟨rfl, by rw [ht]; exact hR, hF⟩) hL dX4_isKnown_55
    · rw [if_neg c5] at h
      refine lv_aload_n hx hb dX4_isKnown_28 rfl (lv_at hl 1 rfl) ?_
      refine r_get (C := RX4) (T := TX4) (N := 80) hx hb hts ok4 hown hK hR (congrArg Prod.fst (hF.2.1 58 (5, 0) rfl)) rfl 29 (by decide) (hts _ q1662) (fun _ h9 => h9) (v := .ref (z + 79)) (fv_fix hF rfl rfl) dX4_isKnown_29 ?_
      refine lv_iload_n hx hb dX4_isKnown_32 rfl (lv_at hl 2 rfl) ?_
      obtain ⟨hb6, h⟩ := grd h
      refine r_iald (v := wI q1.2 79 a1.toNatClampNeg) hx hb hK hR (hF.2.1 79 (200, 16) rfl) hb6 rfl dX4_isKnown_33 ?_
      refine lv_if_lt (tgt := 50) hx hb dX4_isKnown_34 (by decide) (fun c7 => ?_) (fun c7 => ?_)
      · rw [if_pos c7] at h
        refine lv_iconst (v := 1) hx hb dX4_isKnown_50 (by decide) ?_
        refine lv_goto (tgt := 55) hx hb dX4_isKnown_51 (by decide) ?_
        have h := Option.some.inj h
        subst h
        exact W.zret (v := bI true) hx hb hr (bI_nar _) (fun t ht _ => ⟨rfl, by rw [ht]; exact hR, hF⟩) hL dX4_isKnown_55
      · rw [if_neg c7] at h
        refine lv_iload_n hx hb dX4_isKnown_37 rfl (lv_at hl 4 rfl) ?_
        refine lv_aload_n hx hb dX4_isKnown_38 rfl (lv_at hl 1 rfl) ?_
        refine r_get (C := RX4) (T := TX4) (N := 80) hx hb hts ok4 hown hK hR (congrArg Prod.fst (hF.2.1 58 (5, 0) rfl)) rfl 29 (by decide) (hts _ q1662) (fun _ h9 => h9) (v := .ref (z + 79)) (fv_fix hF rfl rfl) dX4_isKnown_39 ?_
        refine lv_iload_n hx hb dX4_isKnown_42 rfl (lv_at hl 2 rfl) ?_
        obtain ⟨hb8, h⟩ := grd h
        refine r_iald (v := wI q1.2 79 a1.toNatClampNeg) hx hb hK hR (hF.2.1 79 (200, 16) rfl) hb8 rfl dX4_isKnown_43 ?_
        refine lv_iload hx hb dX4_isKnown_44 (lv_at hl 0 rfl) ?_
        refine lv_iadd hx hb dX4_isKnown_46 ?_
        refine lv_icmp_ge (tgt := 54) hx hb dX4_isKnown_47 (by decide) (fun c9 => ?_) (fun c9 => ?_)
        · rw [if_pos c9] at h
          refine lv_iconst (v := 0) hx hb dX4_isKnown_54 (by decide) ?_
          have h := Option.some.inj h
          subst h
          exact W.zret (v := bI false) hx hb hr (bI_nar _) (fun t ht _ => ⟨rfl, by rw [ht]; exact hR, hF⟩) hL dX4_isKnown_55
        · rw [if_neg c9] at h
          refine lv_iconst (v := 1) hx hb dX4_isKnown_50 (by decide) ?_
          refine lv_goto (tgt := 55) hx hb dX4_isKnown_51 (by decide) ?_
          have h := Option.some.inj h
          subst h
          exact W.zret (v := bI true) hx hb hr (bI_nar _) (fun t ht _ => ⟨rfl, by rw [ht]; exact hR, hF⟩) hL dX4_isKnown_55
def f_X4_known (n : Nat) (a1 : Int32) (a2 : Int32) (a3 : Int32) (w : Wd) : Option (Int32 × Wd) :=
  if (f_X4_in a1 (0 : Int32) ((wI w 58 25) - (1 : Int32)) w) then (if (f_X4_isTown a2 w) then (if (f_X4_isDay a3 w) then ((f_X4_isKnown n a1 a2 a3 w).bind fun q4 => if q4.1 then (some ((1 : Int32), q4.2)) else (some ((0 : Int32), q4.2))) else (some ((-2 : Int32), w))) else (some ((-1 : Int32), w))) else (some ((-1 : Int32), w))
theorem hd_X4_known : yX4_known.cls = RX4 ∧ yX4_known.cls ≠ "java/lang/invoke/MethodHandle" ∧ yX4_known.cls ≠ "java/lang/invoke/VarHandle" ∧ (parseMethodDescriptor yX4_known.desc).map (fun d => d.parameters.length) = some 3 := by decide +kernel
set_option maxHeartbeats 4000000 in
set_option maxRecDepth 100000 in
theorem met_X4_known (l : Launch) (G : Gw) (z : Nat) (H0 : Heap) (n : Nat) (w : Wd) (a1 : Int32) (a2 : Int32) (a3 : Int32) (q : Int32 × Wd) (h : f_X4_known n a1 a2 a3 w = some q) : Met l yX4_known (ws_ yX4_known cX4_known 4 (some .int)) ({ frames := 2, cells := 0, slots := 0, locals := 47 } : Room) (pcW G z H0 w [.ref (z + 58), .int a1, .int a2, .int a3]) (qW G z H0 q.2 (some (.int q.1))) 0 0 (fun q => z ≤ q) := by
  refine mW (by decide) (Nat.le_of_ble_eq_true rfl) ?_
  intro p e s m below meth c ls hx hb hr hml hown hts hlocks hnm hK hR hF hl
  have hown : s.vm.findClass RX4 = some m.cls := hown
  have hl : lv_has ls 4 [(0, .ref (z + 58)), (1, .int a1), (2, .int a2), (3, .int a3)] := hl
  have hL : lok z [] := lok_nil
  unfold f_X4_known at h
  generalize s.heap = H at hR ⊢
  generalize ([] : List Loc) = locs at hL ⊢
  refine lv_aload_n hx hb dX4_known_0 rfl (lv_at hl 0 rfl) ?_
  refine lv_iload_n hx hb dX4_known_1 rfl (lv_at hl 1 rfl) ?_
  refine lv_iconst (v := 0) hx hb dX4_known_2 (by decide) ?_
  refine lv_aload_n hx hb dX4_known_3 rfl (lv_at hl 0 rfl) ?_
  refine r_get (C := RX4) (T := TX4) (N := 80) hx hb hts ok4 hown hK hR (congrArg Prod.fst (hF.2.1 58 (5, 0) rfl)) rfl 25 (by decide) (hts _ q1658) (fun _ h9 => h9) (v := .int (wI w 58 25)) rfl dX4_known_4 ?_
  refine lv_iconst (v := 1) hx hb dX4_known_7 (by decide) ?_
  refine lv_isub hx hb dX4_known_8 ?_
  refine c_VP (a := 58) (ci := 4) (q := (RX4, TX4, 80)) (rest := []) (st1 := [.int (bI (f_X4_in a1 (0 : Int32) ((wI w 58 25) - (1 : Int32)) w))]) hx hb hml hown hts hK hR hF hL hl.1 (met_X4_in l G z H0 w a1 (0 : Int32) ((wI w 58 25) - (1 : Int32)) _ rfl) (congrArg Prod.fst (hF.2.1 58 (5, 0) rfl)) rfl rfl rfl hd_X4_in q1878 q1880 qs41 q104 q1881 ⟨Nat.le_of_ble_eq_true rfl, Nat.le_of_ble_eq_true rfl⟩ ⟨Nat.le_refl 0, Nat.le_refl 0⟩ rfl rfl (Nat.le_of_ble_eq_true rfl) dX4_known_9 rfl (fun locs hL => ?_)
  refine lv_if_eq (tgt := 23) hx hb dX4_known_12 (by decide) (fun c1 => ?_) (fun c1 => ?_)
  · rw [if_neg (bI_n c1)] at h
    refine lv_iconst (v := -1) hx hb dX4_known_23 (by decide) ?_
    have h := Option.some.inj h
    subst h
    exact W.iret (v := (-1 : Int32)) hx hb hr (fun t ht _ => ⟨rfl, by rw [ht]; exact hR, hF⟩) hL dX4_known_24
  · rw [if_pos (bI_p c1)] at h
    refine lv_aload_n hx hb dX4_known_15 rfl (lv_at hl 0 rfl) ?_
    refine lv_iload_n hx hb dX4_known_16 rfl (lv_at hl 2 rfl) ?_
    refine c_VP (a := 58) (ci := 4) (q := (RX4, TX4, 80)) (rest := []) (st1 := [.int (bI (f_X4_isTown a2 w))]) hx hb hml hown hts hK hR hF hL hl.1 (met_X4_isTown l G z H0 w a2 _ rfl) (congrArg Prod.fst (hF.2.1 58 (5, 0) rfl)) rfl rfl rfl hd_X4_isTown q1886 q1888 qs42 q104 q1889 ⟨Nat.le_of_ble_eq_true rfl, Nat.le_of_ble_eq_true rfl⟩ ⟨Nat.le_refl 0, Nat.le_refl 0⟩ rfl rfl (Nat.le_of_ble_eq_true rfl) dX4_known_17 rfl (fun locs hL => ?_)
    refine lv_if_ne (tgt := 25) hx hb dX4_known_20 (by decide) (fun c2 => ?_) (fun c2 => ?_)
    · rw [if_pos (bI_p c2)] at h
      refine lv_aload_n hx hb dX4_known_25 rfl (lv_at hl 0 rfl) ?_
      refine lv_iload_n hx hb dX4_known_26 rfl (lv_at hl 3 rfl) ?_
      refine c_VP (a := 58) (ci := 4) (q := (RX4, TX4, 80)) (rest := []) (st1 := [.int (bI (f_X4_isDay a3 w))]) hx hb hml hown hts hK hR hF hL hl.1 (met_X4_isDay l G z H0 w a3 _ rfl) (congrArg Prod.fst (hF.2.1 58 (5, 0) rfl)) rfl rfl rfl hd_X4_isDay q2093 q2095 qs76 q104 q2096 ⟨Nat.le_of_ble_eq_true rfl, Nat.le_of_ble_eq_true rfl⟩ ⟨Nat.le_refl 0, Nat.le_refl 0⟩ rfl rfl (Nat.le_of_ble_eq_true rfl) dX4_known_27 rfl (fun locs hL => ?_)
      refine lv_if_ne (tgt := 38) hx hb dX4_known_30 (by decide) (fun c3 => ?_) (fun c3 => ?_)
      · rw [if_pos (bI_p c3)] at h
        refine lv_aload_n hx hb dX4_known_38 rfl (lv_at hl 0 rfl) ?_
        refine lv_iload_n hx hb dX4_known_39 rfl (lv_at hl 1 rfl) ?_
        refine lv_iload_n hx hb dX4_known_40 rfl (lv_at hl 2 rfl) ?_
        refine lv_iload_n hx hb dX4_known_41 rfl (lv_at hl 3 rfl) ?_
        obtain ⟨q4, hq5, h⟩ := bnd h
        refine c_VW (a := 58) (ci := 4) (q := (RX4, TX4, 80)) (rest := []) (st1 := [.int (bI q4.1)]) hx hb hml hown hts hK hR hF hL hl.1 (met_X4_isKnown l G z H0 n w a1 a2 a3 q4 hq5) (congrArg Prod.fst (hF.2.1 58 (5, 0) rfl)) rfl rfl rfl hd_X4_isKnown q2097 q2099 qs77 q104 q2100 ⟨Nat.le_of_ble_eq_true rfl, Nat.le_of_ble_eq_true rfl⟩ ⟨Nat.le_refl 0, Nat.le_refl 0⟩ rfl rfl (Nat.le_of_ble_eq_true rfl) dX4_known_42 rfl (fun H locs hR hF hL => ?_)
        refine lv_if_eq (tgt := 52) hx hb dX4_known_45 (by decide) (fun c6 => ?_) (fun c6 => ?_)
        · rw [if_neg (bI_n c6)] at h
          refine lv_iconst (v := 0) hx hb dX4_known_52 (by decide) ?_
          have h := Option.some.inj h
          subst h
          exact W.iret (v := (0 : Int32)) hx hb hr (fun t ht _ => ⟨rfl, by rw [ht]; exact hR, hF⟩) hL dX4_known_53
        · rw [if_pos (bI_p c6)] at h
          refine lv_iconst (v := 1) hx hb dX4_known_48 (by decide) ?_
          refine lv_goto (tgt := 53) hx hb dX4_known_49 (by decide) ?_
          have h := Option.some.inj h
          subst h
          exact W.iret (v := (1 : Int32)) hx hb hr (fun t ht _ => ⟨rfl, by rw [ht]; exact hR, hF⟩) hL dX4_known_53
      · rw [if_neg (bI_n c3)] at h
        refine lv_bipush (v := -2) hx hb dX4_known_33 (by decide) ?_
        refine lv_goto (tgt := 53) hx hb dX4_known_35 (by decide) ?_
        have h := Option.some.inj h
        subst h
        exact W.iret (v := (-2 : Int32)) hx hb hr (fun t ht _ => ⟨rfl, by rw [ht]; exact hR, hF⟩) hL dX4_known_53
    · rw [if_neg (bI_n c2)] at h
      refine lv_iconst (v := -1) hx hb dX4_known_23 (by decide) ?_
      have h := Option.some.inj h
      subst h
      exact W.iret (v := (-1 : Int32)) hx hb hr (fun t ht _ => ⟨rfl, by rw [ht]; exact hR, hF⟩) hL dX4_known_24
def f_X4_barrer_L12 (n : Nat) (u1_1 : Int32) (u1_2 : Int32) (u1_3 : Int32) (s1 : Int32 × Int32 × Wd) : Option ((Int32 × Int32 × Wd) ⊕ ((Int32 × Int32 × Wd))) :=
  if (wI s1.2.2 58 25) ≤ s1.1 then (some (.inr (s1.1, s1.2.1, s1.2.2))) else ((f_X4_isKnown n s1.1 u1_2 u1_3 s1.2.2).bind fun q2 => if q2.1 then ((f_X4_goes n s1.1 (f_X4_asks u1_1 (-1 : Int32) (-1 : Int32) q2.2)).bind fun q5 => if q5.1 then (if 0 ≤ (wI q5.2 58 35) then (if (wI q5.2 58 35) = (1 : Int32) then (some (.inl (s1.1 + (1 : Int32), s1.1, sI q5.2 58 49 (1 : Int32)))) else (some (.inl (s1.1 + (1 : Int32), s1.1, sI q5.2 58 49 (0 : Int32))))) else (some (.inl (s1.1 + (1 : Int32), s1.2.1, q5.2)))) else (some (.inl (s1.1 + (1 : Int32), s1.2.1, q5.2)))) else (some (.inl (s1.1 + (1 : Int32), s1.2.1, q2.2))))
def f_X4_barrer (n : Nat) (a1 : Int32) (a2 : Int32) (a3 : Int32) (w : Wd) : Option (Int32 × Wd) :=
  (it n (f_X4_barrer_L12 n a1 a2 a3) ((0 : Int32), (-5 : Int32), sI w 58 49 (0 : Int32))).bind fun q12_88 => some (q12_88.2.1, q12_88.2.2)
theorem hd_X4_barrer : yX4_barrer.cls = RX4 ∧ yX4_barrer.cls ≠ "java/lang/invoke/MethodHandle" ∧ yX4_barrer.cls ≠ "java/lang/invoke/VarHandle" ∧ (parseMethodDescriptor yX4_barrer.desc).map (fun d => d.parameters.length) = some 3 := by decide +kernel
set_option maxHeartbeats 4000000 in
set_option maxRecDepth 100000 in
theorem met_X4_barrer (l : Launch) (G : Gw) (z : Nat) (H0 : Heap) (n : Nat) (w : Wd) (a1 : Int32) (a2 : Int32) (a3 : Int32) (q : Int32 × Wd) (h : f_X4_barrer n a1 a2 a3 w = some q) : Met l yX4_barrer (ws_ yX4_barrer cX4_barrer 6 (some .int)) ({ frames := 7, cells := 0, slots := 0, locals := 152 } : Room) (pcW G z H0 w [.ref (z + 58), .int a1, .int a2, .int a3]) (qW G z H0 q.2 (some (.int q.1))) 0 0 (fun q => z ≤ q) := by
  refine mW (by decide) (Nat.le_of_ble_eq_true rfl) ?_
  intro p e s m below meth c ls hx hb hr hml hown hts hlocks hnm hK hR hF hl
  have hown : s.vm.findClass RX4 = some m.cls := hown
  have hl : lv_has ls 6 [(0, .ref (z + 58)), (1, .int a1), (2, .int a2), (3, .int a3)] := hl
  have hL : lok z [] := lok_nil
  unfold f_X4_barrer at h
  generalize s.heap = H at hR ⊢
  generalize ([] : List Loc) = locs at hL ⊢
  refine lv_bipush (v := -5) hx hb dX4_barrer_0 (by decide) ?_
  refine lv_istore (lv' := [(4, .int (-5 : Int32)), (0, .ref (z + 58)), (1, .int a1), (2, .int a2), (3, .int a3)]) hx hb dX4_barrer_2 hl (by decide) rfl (fun ls hl => ?_)
  refine lv_aload_n hx hb dX4_barrer_4 rfl (lv_at hl 1 rfl) ?_
  refine lv_iconst (v := 0) hx hb dX4_barrer_5 (by decide) ?_
  refine r_putI (C := RX4) (T := TX4) (N := 80) hx hb hts ok4 hown hK hR hL (congrArg Prod.fst (hF.2.1 58 (5, 0) rfl)) rfl 49 (by decide) (hts _ q1682) (fun _ h9 => h9) (Or.inl rfl) rfl (by decide) (by decide) dX4_barrer_6 (fun H locs hR hL => ?_)
  have hF := hF.sI 58 49 (0 : Int32)
  refine lv_iconst (v := 0) hx hb dX4_barrer_9 (by decide) ?_
  refine lv_istore (lv' := [(5, .int (0 : Int32)), (4, .int (-5 : Int32)), (0, .ref (z + 58)), (1, .int a1), (2, .int a2), (3, .int a3)]) hx hb dX4_barrer_10 hl (by decide) rfl (fun ls hl => ?_)
  have hX12_88 : ∀ (q12_88 : Int32 × Int32 × Wd), (some (q12_88.2.1, q12_88.2.2)) = some q → ∀ (H : Heap) (locs : List Loc) (ls : Array Slot), Rp G z H0 q12_88.2.2 H → Fix q12_88.2.2 → lok z locs → lv_has ls 6 [(4, .int q12_88.2.1)] → W p l e ({ frames := 7, cells := 0, slots := 0, locals := 152 } : Room) s m ([.ref (z + 58), .int a1, .int a2, .int a3] : List Value).toArray below meth c H locs 0 0 (MQ below (qW G z H0 q.2 (some (.int q.1))) ([.ref (z + 58), .int a1, .int a2, .int a3] : List Value).toArray s 0 0 (fun q => z ≤ q)) (F0 m 88 ls []) := by
    intro q12_88 h H locs ls hR hF hL hl
    refine lv_iload hx hb dX4_barrer_88 (lv_at hl 0 rfl) ?_
    have h := Option.some.inj h
    subst h
    exact W.iret (v := q12_88.2.1) hx hb hr (fun t ht _ => ⟨rfl, by rw [ht]; exact hR, hF⟩) hL dX4_barrer_90
  obtain ⟨t10, hq11, h⟩ := bnd h
  refine it_W (b := f_X4_barrer_L12 n a1 a2 a3) (P := fun (s1 : Int32 × Int32 × Wd) => ∀ (H : Heap) (locs : List Loc) (ls : Array Slot), Rp G z H0 s1.2.2 H → Fix s1.2.2 → lok z locs → lv_has ls 6 [(5, .int s1.1), (4, .int s1.2.1), (0, .ref (z + 58)), (1, .int a1), (2, .int a2), (3, .int a3)] → W p l e ({ frames := 7, cells := 0, slots := 0, locals := 152 } : Room) s m ([.ref (z + 58), .int a1, .int a2, .int a3] : List Value).toArray below meth c H locs 0 0 (MQ below (qW G z H0 q.2 (some (.int q.1))) ([.ref (z + 58), .int a1, .int a2, .int a3] : List Value).toArray s 0 0 (fun q => z ≤ q)) (F0 m 12 ls [])) (K := fun q12_88 => (some (q12_88.2.1, q12_88.2.2)) = some q) (fun s1 x1 h hc1 ht1 => ?_) n ((0 : Int32), (-5 : Int32), sI w 58 49 (0 : Int32)) t10 hq11 h H locs ls hR hF hL (lv_sub hl [0, 1, 2, 3, 4, 5] rfl)
  intro H locs ls hR hF hL hl
  unfold f_X4_barrer_L12 at h
  refine lv_iload hx hb dX4_barrer_12 (lv_at hl 0 rfl) ?_
  refine lv_aload_n hx hb dX4_barrer_14 rfl (lv_at hl 2 rfl) ?_
  refine r_get (C := RX4) (T := TX4) (N := 80) hx hb hts ok4 hown hK hR (congrArg Prod.fst (hF.2.1 58 (5, 0) rfl)) rfl 25 (by decide) (hts _ q1658) (fun _ h9 => h9) (v := .int (wI s1.2.2 58 25)) rfl dX4_barrer_15 ?_
  refine lv_icmp_ge (tgt := 88) hx hb dX4_barrer_18 (by decide) (fun c1 => ?_) (fun c1 => ?_)
  · rw [if_pos c1] at h
    exact hX12_88 (s1.1, s1.2.1, s1.2.2) (ht1 _ (Option.some.inj h).symm) H locs ls hR hF hL (lv_sub hl [1] rfl)
  · rw [if_neg c1] at h
    refine lv_aload_n hx hb dX4_barrer_21 rfl (lv_at hl 2 rfl) ?_
    refine lv_iload hx hb dX4_barrer_22 (lv_at hl 0 rfl) ?_
    refine lv_iload_n hx hb dX4_barrer_24 rfl (lv_at hl 4 rfl) ?_
    refine lv_iload_n hx hb dX4_barrer_25 rfl (lv_at hl 5 rfl) ?_
    obtain ⟨q2, hq3, h⟩ := bnd h
    refine c_VW (a := 58) (ci := 4) (q := (RX4, TX4, 80)) (rest := []) (st1 := [.int (bI q2.1)]) hx hb hml hown hts hK hR hF hL hl.1 (met_X4_isKnown l G z H0 n s1.2.2 s1.1 a2 a3 q2 hq3) (congrArg Prod.fst (hF.2.1 58 (5, 0) rfl)) rfl rfl rfl hd_X4_isKnown q2097 q2099 qs77 q104 q2100 ⟨Nat.le_of_ble_eq_true rfl, Nat.le_of_ble_eq_true rfl⟩ ⟨Nat.le_refl 0, Nat.le_refl 0⟩ rfl rfl (Nat.le_of_ble_eq_true rfl) dX4_barrer_26 rfl (fun H locs hR hF hL => ?_)
    refine lv_if_ne (tgt := 35) hx hb dX4_barrer_29 (by decide) (fun c4 => ?_) (fun c4 => ?_)
    · rw [if_pos (bI_p c4)] at h
      refine lv_aload_n hx hb dX4_barrer_35 rfl (lv_at hl 2 rfl) ?_
      refine lv_iload_n hx hb dX4_barrer_36 rfl (lv_at hl 3 rfl) ?_
      refine lv_iconst (v := -1) hx hb dX4_barrer_37 (by decide) ?_
      refine lv_iconst (v := -1) hx hb dX4_barrer_38 (by decide) ?_
      refine c_VW (a := 58) (ci := 4) (q := (RX4, TX4, 80)) (rest := []) (st1 := []) hx hb hml hown hts hK hR hF hL hl.1 (met_X4_asks l G z H0 q2.2 a1 (-1 : Int32) (-1 : Int32) _ rfl) (congrArg Prod.fst (hF.2.1 58 (5, 0) rfl)) rfl rfl rfl hd_X4_asks q2003 q2005 qs57 q104 q2006 ⟨Nat.le_of_ble_eq_true rfl, Nat.le_of_ble_eq_true rfl⟩ ⟨Nat.le_refl 0, Nat.le_refl 0⟩ rfl rfl (Nat.le_of_ble_eq_true rfl) dX4_barrer_39 rfl (fun H locs hR hF hL => ?_)
      refine lv_aload_n hx hb dX4_barrer_42 rfl (lv_at hl 2 rfl) ?_
      refine lv_iload hx hb dX4_barrer_43 (lv_at hl 0 rfl) ?_
      obtain ⟨q5, hq6, h⟩ := bnd h
      refine c_VW (a := 58) (ci := 4) (q := (RX4, TX4, 80)) (rest := []) (st1 := [.int (bI q5.1)]) hx hb hml hown hts hK hR hF hL hl.1 (met_X4_goes l G z H0 n (f_X4_asks a1 (-1 : Int32) (-1 : Int32) q2.2) s1.1 q5 hq6) (congrArg Prod.fst (hF.2.1 58 (5, 0) rfl)) rfl rfl rfl hd_X4_goes q2007 q2009 qs58 q104 q2010 ⟨Nat.le_of_ble_eq_true rfl, Nat.le_of_ble_eq_true rfl⟩ ⟨Nat.le_refl 0, Nat.le_refl 0⟩ rfl rfl (Nat.le_of_ble_eq_true rfl) dX4_barrer_45 rfl (fun H locs hR hF hL => ?_)
      refine lv_if_eq (tgt := 82) hx hb dX4_barrer_48 (by decide) (fun c7 => ?_) (fun c7 => ?_)
      · rw [if_neg (bI_n c7)] at h
        refine lv_iinc (v := s1.1 + (1 : Int32)) (lv' := [(5, .int (s1.1 + (1 : Int32))), (4, .int s1.2.1), (0, .ref (z + 58)), (1, .int a1), (2, .int a2), (3, .int a3)]) hx hb dX4_barrer_82 hl (k := 0) rfl rfl (by decide) rfl (fun ls hl => ?_)
        refine lv_goto (tgt := 12) hx hb dX4_barrer_85 (by decide) ?_
        exact hc1 _ (Option.some.inj h).symm H locs ls hR hF hL (lv_sub hl [0, 1, 2, 3, 4, 5] rfl)
      · rw [if_pos (bI_p c7)] at h
        refine lv_aload_n hx hb dX4_barrer_51 rfl (lv_at hl 2 rfl) ?_
        refine r_get (C := RX4) (T := TX4) (N := 80) hx hb hts ok4 hown hK hR (congrArg Prod.fst (hF.2.1 58 (5, 0) rfl)) rfl 35 (by decide) (hts _ q1668) (fun _ h9 => h9) (v := .int (wI q5.2 58 35)) rfl dX4_barrer_52 ?_
        refine lv_if_ge (tgt := 61) hx hb dX4_barrer_55 (by decide) (fun c8 => ?_) (fun c8 => ?_)
        · rw [if_pos c8] at h
          refine lv_iload hx hb dX4_barrer_61 (lv_at hl 0 rfl) ?_
          refine lv_istore (lv' := [(4, .int s1.1), (5, .int s1.1), (0, .ref (z + 58)), (1, .int a1), (2, .int a2), (3, .int a3)]) hx hb dX4_barrer_63 hl (by decide) rfl (fun ls hl => ?_)
          refine lv_aload_n hx hb dX4_barrer_65 rfl (lv_at hl 2 rfl) ?_
          refine lv_aload_n hx hb dX4_barrer_66 rfl (lv_at hl 2 rfl) ?_
          refine r_get (C := RX4) (T := TX4) (N := 80) hx hb hts ok4 hown hK hR (congrArg Prod.fst (hF.2.1 58 (5, 0) rfl)) rfl 35 (by decide) (hts _ q1668) (fun _ h9 => h9) (v := .int (wI q5.2 58 35)) rfl dX4_barrer_67 ?_
          refine lv_iconst (v := 1) hx hb dX4_barrer_70 (by decide) ?_
          refine lv_icmp_ne (tgt := 78) hx hb dX4_barrer_71 (by decide) (fun c9 => ?_) (fun c9 => ?_)
          · rw [if_neg c9] at h
            refine lv_iconst (v := 0) hx hb dX4_barrer_78 (by decide) ?_
            refine r_putI (C := RX4) (T := TX4) (N := 80) hx hb hts ok4 hown hK hR hL (congrArg Prod.fst (hF.2.1 58 (5, 0) rfl)) rfl 49 (by decide) (hts _ q1682) (fun _ h9 => h9) (Or.inl rfl) rfl (by decide) (by decide) dX4_barrer_79 (fun H locs hR hL => ?_)
            have hF := hF.sI 58 49 (0 : Int32)
            refine lv_iinc (v := s1.1 + (1 : Int32)) (lv' := [(5, .int (s1.1 + (1 : Int32))), (4, .int s1.1), (0, .ref (z + 58)), (1, .int a1), (2, .int a2), (3, .int a3)]) hx hb dX4_barrer_82 hl (k := 1) rfl rfl (by decide) rfl (fun ls hl => ?_)
            refine lv_goto (tgt := 12) hx hb dX4_barrer_85 (by decide) ?_
            exact hc1 _ (Option.some.inj h).symm H locs ls hR hF hL (lv_sub hl [0, 1, 2, 3, 4, 5] rfl)
          · rw [if_pos c9] at h
            refine lv_iconst (v := 1) hx hb dX4_barrer_74 (by decide) ?_
            refine lv_goto (tgt := 79) hx hb dX4_barrer_75 (by decide) ?_
            refine r_putI (C := RX4) (T := TX4) (N := 80) hx hb hts ok4 hown hK hR hL (congrArg Prod.fst (hF.2.1 58 (5, 0) rfl)) rfl 49 (by decide) (hts _ q1682) (fun _ h9 => h9) (Or.inl rfl) rfl (by decide) (by decide) dX4_barrer_79 (fun H locs hR hL => ?_)
            have hF := hF.sI 58 49 (1 : Int32)
            refine lv_iinc (v := s1.1 + (1 : Int32)) (lv' := [(5, .int (s1.1 + (1 : Int32))), (4, .int s1.1), (0, .ref (z + 58)), (1, .int a1), (2, .int a2), (3, .int a3)]) hx hb dX4_barrer_82 hl (k := 1) rfl rfl (by decide) rfl (fun ls hl => ?_)
            refine lv_goto (tgt := 12) hx hb dX4_barrer_85 (by decide) ?_
            exact hc1 _ (Option.some.inj h).symm H locs ls hR hF hL (lv_sub hl [0, 1, 2, 3, 4, 5] rfl)
        · rw [if_neg c8] at h
          refine lv_goto (tgt := 82) hx hb dX4_barrer_58 (by decide) ?_
          refine lv_iinc (v := s1.1 + (1 : Int32)) (lv' := [(5, .int (s1.1 + (1 : Int32))), (4, .int s1.2.1), (0, .ref (z + 58)), (1, .int a1), (2, .int a2), (3, .int a3)]) hx hb dX4_barrer_82 hl (k := 0) rfl rfl (by decide) rfl (fun ls hl => ?_)
          refine lv_goto (tgt := 12) hx hb dX4_barrer_85 (by decide) ?_
          exact hc1 _ (Option.some.inj h).symm H locs ls hR hF hL (lv_sub hl [0, 1, 2, 3, 4, 5] rfl)
    · rw [if_neg (bI_n c4)] at h
      refine lv_goto (tgt := 82) hx hb dX4_barrer_32 (by decide) ?_
      refine lv_iinc (v := s1.1 + (1 : Int32)) (lv' := [(5, .int (s1.1 + (1 : Int32))), (4, .int s1.2.1), (0, .ref (z + 58)), (1, .int a1), (2, .int a2), (3, .int a3)]) hx hb dX4_barrer_82 hl (k := 0) rfl rfl (by decide) rfl (fun ls hl => ?_)
      refine lv_goto (tgt := 12) hx hb dX4_barrer_85 (by decide) ?_
      exact hc1 _ (Option.some.inj h).symm H locs ls hR hF hL (lv_sub hl [0, 1, 2, 3, 4, 5] rfl)
def f_X4_striker_L3 (n : Nat) (u1_1 : Int32) (u1_2 : Int32) (u1_3 : Int32) (u1_4 : Int32) (s1 : Int32 × Wd) : Option ((Int32 × Wd) ⊕ ((Int32 × Wd) ⊕ (Int32 × Wd))) :=
  if (wI s1.2 58 25) ≤ s1.1 then (some (.inr (.inl (s1.1, s1.2)))) else ((f_X4_isKnown n s1.1 u1_3 u1_4 s1.2).bind fun q2 => if q2.1 then ((f_X4_goes n s1.1 (f_X4_asks u1_1 u1_2 (-1 : Int32) q2.2)).bind fun q5 => if q5.1 then (if (wI q5.2 58 41) = 0 then (some (.inl (s1.1 + (1 : Int32), q5.2))) else (some (.inr (.inr (s1.1, q5.2))))) else (some (.inl (s1.1 + (1 : Int32), q5.2)))) else (some (.inl (s1.1 + (1 : Int32), q2.2))))
def f_X4_striker (n : Nat) (a1 : Int32) (a2 : Int32) (a3 : Int32) (a4 : Int32) (w : Wd) : Option (Int32 × Wd) :=
  (it n (f_X4_striker_L3 n a1 a2 a3 a4) ((0 : Int32), w)).bind fun t3 => (match t3 with | .inl q3_59 => some ((-5 : Int32), q3_59.2) | .inr q3_50 => some (q3_50.1, q3_50.2))
theorem hd_X4_striker : yX4_striker.cls = RX4 ∧ yX4_striker.cls ≠ "java/lang/invoke/MethodHandle" ∧ yX4_striker.cls ≠ "java/lang/invoke/VarHandle" ∧ (parseMethodDescriptor yX4_striker.desc).map (fun d => d.parameters.length) = some 4 := by decide +kernel
set_option maxHeartbeats 4000000 in
set_option maxRecDepth 100000 in
theorem met_X4_striker (l : Launch) (G : Gw) (z : Nat) (H0 : Heap) (n : Nat) (w : Wd) (a1 : Int32) (a2 : Int32) (a3 : Int32) (a4 : Int32) (q : Int32 × Wd) (h : f_X4_striker n a1 a2 a3 a4 w = some q) : Met l yX4_striker (ws_ yX4_striker cX4_striker 6 (some .int)) ({ frames := 7, cells := 0, slots := 0, locals := 152 } : Room) (pcW G z H0 w [.ref (z + 58), .int a1, .int a2, .int a3, .int a4]) (qW G z H0 q.2 (some (.int q.1))) 0 0 (fun q => z ≤ q) := by
  refine mW (by decide) (Nat.le_of_ble_eq_true rfl) ?_
  intro p e s m below meth c ls hx hb hr hml hown hts hlocks hnm hK hR hF hl
  have hown : s.vm.findClass RX4 = some m.cls := hown
  have hl : lv_has ls 6 [(0, .ref (z + 58)), (1, .int a1), (2, .int a2), (3, .int a3), (4, .int a4)] := hl
  have hL : lok z [] := lok_nil
  unfold f_X4_striker at h
  generalize s.heap = H at hR ⊢
  generalize ([] : List Loc) = locs at hL ⊢
  refine lv_iconst (v := 0) hx hb dX4_striker_0 (by decide) ?_
  refine lv_istore (lv' := [(5, .int (0 : Int32)), (0, .ref (z + 58)), (1, .int a1), (2, .int a2), (3, .int a3), (4, .int a4)]) hx hb dX4_striker_1 hl (by decide) rfl (fun ls hl => ?_)
  have hX3_59 : ∀ (q3_59 : Int32 × Wd), (some ((-5 : Int32), q3_59.2)) = some q → ∀ (H : Heap) (locs : List Loc) (ls : Array Slot), Rp G z H0 q3_59.2 H → Fix q3_59.2 → lok z locs → lv_has ls 6 [] → W p l e ({ frames := 7, cells := 0, slots := 0, locals := 152 } : Room) s m ([.ref (z + 58), .int a1, .int a2, .int a3, .int a4] : List Value).toArray below meth c H locs 0 0 (MQ below (qW G z H0 q.2 (some (.int q.1))) ([.ref (z + 58), .int a1, .int a2, .int a3, .int a4] : List Value).toArray s 0 0 (fun q => z ≤ q)) (F0 m 59 ls []) := by
    intro q3_59 h H locs ls hR hF hL hl
    refine lv_bipush (v := -5) hx hb dX4_striker_59 (by decide) ?_
    have h := Option.some.inj h
    subst h
    exact W.iret (v := (-5 : Int32)) hx hb hr (fun t ht _ => ⟨rfl, by rw [ht]; exact hR, hF⟩) hL dX4_striker_61
  have hX3_50 : ∀ (q3_50 : Int32 × Wd), (some (q3_50.1, q3_50.2)) = some q → ∀ (H : Heap) (locs : List Loc) (ls : Array Slot), Rp G z H0 q3_50.2 H → Fix q3_50.2 → lok z locs → lv_has ls 6 [(5, .int q3_50.1)] → W p l e ({ frames := 7, cells := 0, slots := 0, locals := 152 } : Room) s m ([.ref (z + 58), .int a1, .int a2, .int a3, .int a4] : List Value).toArray below meth c H locs 0 0 (MQ below (qW G z H0 q.2 (some (.int q.1))) ([.ref (z + 58), .int a1, .int a2, .int a3, .int a4] : List Value).toArray s 0 0 (fun q => z ≤ q)) (F0 m 50 ls []) := by
    intro q3_50 h H locs ls hR hF hL hl
    refine lv_iload hx hb dX4_striker_50 (lv_at hl 0 rfl) ?_
    have h := Option.some.inj h
    subst h
    exact W.iret (v := q3_50.1) hx hb hr (fun t ht _ => ⟨rfl, by rw [ht]; exact hR, hF⟩) hL dX4_striker_52
  obtain ⟨t9, hq10, h⟩ := bnd h
  refine it_W (b := f_X4_striker_L3 n a1 a2 a3 a4) (P := fun (s1 : Int32 × Wd) => ∀ (H : Heap) (locs : List Loc) (ls : Array Slot), Rp G z H0 s1.2 H → Fix s1.2 → lok z locs → lv_has ls 6 [(5, .int s1.1), (0, .ref (z + 58)), (1, .int a1), (2, .int a2), (3, .int a3), (4, .int a4)] → W p l e ({ frames := 7, cells := 0, slots := 0, locals := 152 } : Room) s m ([.ref (z + 58), .int a1, .int a2, .int a3, .int a4] : List Value).toArray below meth c H locs 0 0 (MQ below (qW G z H0 q.2 (some (.int q.1))) ([.ref (z + 58), .int a1, .int a2, .int a3, .int a4] : List Value).toArray s 0 0 (fun q => z ≤ q)) (F0 m 3 ls [])) (K := fun t3 => ((match t3 with | .inl q3_59 => some ((-5 : Int32), q3_59.2) | .inr q3_50 => some (q3_50.1, q3_50.2))) = some q) (fun s1 x1 h hc1 ht1 => ?_) n ((0 : Int32), w) t9 hq10 h H locs ls hR hF hL (lv_sub hl [0, 1, 2, 3, 4, 5] rfl)
  intro H locs ls hR hF hL hl
  unfold f_X4_striker_L3 at h
  refine lv_iload hx hb dX4_striker_3 (lv_at hl 0 rfl) ?_
  refine lv_aload_n hx hb dX4_striker_5 rfl (lv_at hl 1 rfl) ?_
  refine r_get (C := RX4) (T := TX4) (N := 80) hx hb hts ok4 hown hK hR (congrArg Prod.fst (hF.2.1 58 (5, 0) rfl)) rfl 25 (by decide) (hts _ q1658) (fun _ h9 => h9) (v := .int (wI s1.2 58 25)) rfl dX4_striker_6 ?_
  refine lv_icmp_ge (tgt := 59) hx hb dX4_striker_9 (by decide) (fun c1 => ?_) (fun c1 => ?_)
  · rw [if_pos c1] at h
    exact hX3_59 (s1.1, s1.2) (ht1 _ (Option.some.inj h).symm) H locs ls hR hF hL (lv_sub hl [] rfl)
  · rw [if_neg c1] at h
    refine lv_aload_n hx hb dX4_striker_12 rfl (lv_at hl 1 rfl) ?_
    refine lv_iload hx hb dX4_striker_13 (lv_at hl 0 rfl) ?_
    refine lv_iload_n hx hb dX4_striker_15 rfl (lv_at hl 4 rfl) ?_
    refine lv_iload hx hb dX4_striker_16 (lv_at hl 5 rfl) ?_
    obtain ⟨q2, hq3, h⟩ := bnd h
    refine c_VW (a := 58) (ci := 4) (q := (RX4, TX4, 80)) (rest := []) (st1 := [.int (bI q2.1)]) hx hb hml hown hts hK hR hF hL hl.1 (met_X4_isKnown l G z H0 n s1.2 s1.1 a3 a4 q2 hq3) (congrArg Prod.fst (hF.2.1 58 (5, 0) rfl)) rfl rfl rfl hd_X4_isKnown q2097 q2099 qs77 q104 q2100 ⟨Nat.le_of_ble_eq_true rfl, Nat.le_of_ble_eq_true rfl⟩ ⟨Nat.le_refl 0, Nat.le_refl 0⟩ rfl rfl (Nat.le_of_ble_eq_true rfl) dX4_striker_18 rfl (fun H locs hR hF hL => ?_)
    refine lv_if_ne (tgt := 27) hx hb dX4_striker_21 (by decide) (fun c4 => ?_) (fun c4 => ?_)
    · rw [if_pos (bI_p c4)] at h
      refine lv_aload_n hx hb dX4_striker_27 rfl (lv_at hl 1 rfl) ?_
      refine lv_iload_n hx hb dX4_striker_28 rfl (lv_at hl 2 rfl) ?_
      refine lv_iload_n hx hb dX4_striker_29 rfl (lv_at hl 3 rfl) ?_
      refine lv_iconst (v := -1) hx hb dX4_striker_30 (by decide) ?_
      refine c_VW (a := 58) (ci := 4) (q := (RX4, TX4, 80)) (rest := []) (st1 := []) hx hb hml hown hts hK hR hF hL hl.1 (met_X4_asks l G z H0 q2.2 a1 a2 (-1 : Int32) _ rfl) (congrArg Prod.fst (hF.2.1 58 (5, 0) rfl)) rfl rfl rfl hd_X4_asks q2003 q2005 qs57 q104 q2006 ⟨Nat.le_of_ble_eq_true rfl, Nat.le_of_ble_eq_true rfl⟩ ⟨Nat.le_refl 0, Nat.le_refl 0⟩ rfl rfl (Nat.le_of_ble_eq_true rfl) dX4_striker_31 rfl (fun H locs hR hF hL => ?_)
      refine lv_aload_n hx hb dX4_striker_34 rfl (lv_at hl 1 rfl) ?_
      refine lv_iload hx hb dX4_striker_35 (lv_at hl 0 rfl) ?_
      obtain ⟨q5, hq6, h⟩ := bnd h
      refine c_VW (a := 58) (ci := 4) (q := (RX4, TX4, 80)) (rest := []) (st1 := [.int (bI q5.1)]) hx hb hml hown hts hK hR hF hL hl.1 (met_X4_goes l G z H0 n (f_X4_asks a1 a2 (-1 : Int32) q2.2) s1.1 q5 hq6) (congrArg Prod.fst (hF.2.1 58 (5, 0) rfl)) rfl rfl rfl hd_X4_goes q2007 q2009 qs58 q104 q2010 ⟨Nat.le_of_ble_eq_true rfl, Nat.le_of_ble_eq_true rfl⟩ ⟨Nat.le_refl 0, Nat.le_refl 0⟩ rfl rfl (Nat.le_of_ble_eq_true rfl) dX4_striker_37 rfl (fun H locs hR hF hL => ?_)
      refine lv_if_eq (tgt := 53) hx hb dX4_striker_40 (by decide) (fun c7 => ?_) (fun c7 => ?_)
      · rw [if_neg (bI_n c7)] at h
        refine lv_iinc (v := s1.1 + (1 : Int32)) (lv' := [(5, .int (s1.1 + (1 : Int32))), (0, .ref (z + 58)), (1, .int a1), (2, .int a2), (3, .int a3), (4, .int a4)]) hx hb dX4_striker_53 hl (k := 0) rfl rfl (by decide) rfl (fun ls hl => ?_)
        refine lv_goto (tgt := 3) hx hb dX4_striker_56 (by decide) ?_
        exact hc1 _ (Option.some.inj h).symm H locs ls hR hF hL (lv_sub hl [0, 1, 2, 3, 4, 5] rfl)
      · rw [if_pos (bI_p c7)] at h
        refine lv_aload_n hx hb dX4_striker_43 rfl (lv_at hl 1 rfl) ?_
        refine r_get (C := RX4) (T := TX4) (N := 80) hx hb hts ok4 hown hK hR (congrArg Prod.fst (hF.2.1 58 (5, 0) rfl)) rfl 41 (by decide) (hts _ q1674) (fun _ h9 => h9) (v := .int (wI q5.2 58 41)) rfl dX4_striker_44 ?_
        refine lv_if_eq (tgt := 53) hx hb dX4_striker_47 (by decide) (fun c8 => ?_) (fun c8 => ?_)
        · rw [if_pos c8] at h
          refine lv_iinc (v := s1.1 + (1 : Int32)) (lv' := [(5, .int (s1.1 + (1 : Int32))), (0, .ref (z + 58)), (1, .int a1), (2, .int a2), (3, .int a3), (4, .int a4)]) hx hb dX4_striker_53 hl (k := 0) rfl rfl (by decide) rfl (fun ls hl => ?_)
          refine lv_goto (tgt := 3) hx hb dX4_striker_56 (by decide) ?_
          exact hc1 _ (Option.some.inj h).symm H locs ls hR hF hL (lv_sub hl [0, 1, 2, 3, 4, 5] rfl)
        · rw [if_neg c8] at h
          exact hX3_50 (s1.1, q5.2) (ht1 _ (Option.some.inj h).symm) H locs ls hR hF hL (lv_sub hl [0] rfl)
    · rw [if_neg (bI_n c4)] at h
      refine lv_goto (tgt := 53) hx hb dX4_striker_24 (by decide) ?_
      refine lv_iinc (v := s1.1 + (1 : Int32)) (lv' := [(5, .int (s1.1 + (1 : Int32))), (0, .ref (z + 58)), (1, .int a1), (2, .int a2), (3, .int a3), (4, .int a4)]) hx hb dX4_striker_53 hl (k := 0) rfl rfl (by decide) rfl (fun ls hl => ?_)
      refine lv_goto (tgt := 3) hx hb dX4_striker_56 (by decide) ?_
      exact hc1 _ (Option.some.inj h).symm H locs ls hR hF hL (lv_sub hl [0, 1, 2, 3, 4, 5] rfl)
def f_X4_struckOf_L6 (n : Nat) (u1_1 : Int32) (u1_2 : Int32) (u1_3 : Int32) (s1 : Int32 × Int32 × Wd) : Option ((Int32 × Int32 × Wd) ⊕ ((Int32 × Int32 × Wd))) :=
  if (16 : Int32) ≤ s1.1 then (some (.inr (s1.1, s1.2.1, s1.2.2))) else (if inb u1_1 24 then (if (((wI s1.2.2 68 u1_1.toNatClampNeg) >>> (s1.1 &&& 31)) &&& (1 : Int32)) = (1 : Int32) then ((f_X4_striker n u1_1 s1.1 u1_2 u1_3 s1.2.2).bind fun q4 => if q4.1 < 0 then (some (.inl (s1.1 + (1 : Int32), s1.2.1, q4.2))) else (some (.inl (s1.1 + (1 : Int32), s1.2.1 ||| ((1 : Int32) <<< (s1.1 &&& 31)), q4.2)))) else (some (.inl (s1.1 + (1 : Int32), s1.2.1, s1.2.2)))) else none)
def f_X4_struckOf (n : Nat) (a1 : Int32) (a2 : Int32) (a3 : Int32) (w : Wd) : Option (Int32 × Wd) :=
  (it n (f_X4_struckOf_L6 n a1 a2 a3) ((0 : Int32), (0 : Int32), w)).bind fun q6_55 => some (q6_55.2.1, q6_55.2.2)
theorem hd_X4_struckOf : yX4_struckOf.cls = RX4 ∧ yX4_struckOf.cls ≠ "java/lang/invoke/MethodHandle" ∧ yX4_struckOf.cls ≠ "java/lang/invoke/VarHandle" ∧ (parseMethodDescriptor yX4_struckOf.desc).map (fun d => d.parameters.length) = some 3 := by decide +kernel
set_option maxHeartbeats 4000000 in
set_option maxRecDepth 100000 in
theorem met_X4_struckOf (l : Launch) (G : Gw) (z : Nat) (H0 : Heap) (n : Nat) (w : Wd) (a1 : Int32) (a2 : Int32) (a3 : Int32) (q : Int32 × Wd) (h : f_X4_struckOf n a1 a2 a3 w = some q) : Met l yX4_struckOf (ws_ yX4_struckOf cX4_struckOf 6 (some .int)) ({ frames := 8, cells := 0, slots := 0, locals := 177 } : Room) (pcW G z H0 w [.ref (z + 58), .int a1, .int a2, .int a3]) (qW G z H0 q.2 (some (.int q.1))) 0 0 (fun q => z ≤ q) := by
  refine mW (by decide) (Nat.le_of_ble_eq_true rfl) ?_
  intro p e s m below meth c ls hx hb hr hml hown hts hlocks hnm hK hR hF hl
  have hown : s.vm.findClass RX4 = some m.cls := hown
  have hl : lv_has ls 6 [(0, .ref (z + 58)), (1, .int a1), (2, .int a2), (3, .int a3)] := hl
  have hL : lok z [] := lok_nil
  unfold f_X4_struckOf at h
  generalize s.heap = H at hR ⊢
  generalize ([] : List Loc) = locs at hL ⊢
  refine lv_iconst (v := 0) hx hb dX4_struckOf_0 (by decide) ?_
  refine lv_istore (lv' := [(4, .int (0 : Int32)), (0, .ref (z + 58)), (1, .int a1), (2, .int a2), (3, .int a3)]) hx hb dX4_struckOf_1 hl (by decide) rfl (fun ls hl => ?_)
  refine lv_iconst (v := 0) hx hb dX4_struckOf_3 (by decide) ?_
  refine lv_istore (lv' := [(5, .int (0 : Int32)), (4, .int (0 : Int32)), (0, .ref (z + 58)), (1, .int a1), (2, .int a2), (3, .int a3)]) hx hb dX4_struckOf_4 hl (by decide) rfl (fun ls hl => ?_)
  have hX6_55 : ∀ (q6_55 : Int32 × Int32 × Wd), (some (q6_55.2.1, q6_55.2.2)) = some q → ∀ (H : Heap) (locs : List Loc) (ls : Array Slot), Rp G z H0 q6_55.2.2 H → Fix q6_55.2.2 → lok z locs → lv_has ls 6 [(4, .int q6_55.2.1)] → W p l e ({ frames := 8, cells := 0, slots := 0, locals := 177 } : Room) s m ([.ref (z + 58), .int a1, .int a2, .int a3] : List Value).toArray below meth c H locs 0 0 (MQ below (qW G z H0 q.2 (some (.int q.1))) ([.ref (z + 58), .int a1, .int a2, .int a3] : List Value).toArray s 0 0 (fun q => z ≤ q)) (F0 m 55 ls []) := by
    intro q6_55 h H locs ls hR hF hL hl
    refine lv_iload hx hb dX4_struckOf_55 (lv_at hl 0 rfl) ?_
    have h := Option.some.inj h
    subst h
    exact W.iret (v := q6_55.2.1) hx hb hr (fun t ht _ => ⟨rfl, by rw [ht]; exact hR, hF⟩) hL dX4_struckOf_57
  obtain ⟨t7, hq8, h⟩ := bnd h
  refine it_W (b := f_X4_struckOf_L6 n a1 a2 a3) (P := fun (s1 : Int32 × Int32 × Wd) => ∀ (H : Heap) (locs : List Loc) (ls : Array Slot), Rp G z H0 s1.2.2 H → Fix s1.2.2 → lok z locs → lv_has ls 6 [(5, .int s1.1), (4, .int s1.2.1), (0, .ref (z + 58)), (1, .int a1), (2, .int a2), (3, .int a3)] → W p l e ({ frames := 8, cells := 0, slots := 0, locals := 177 } : Room) s m ([.ref (z + 58), .int a1, .int a2, .int a3] : List Value).toArray below meth c H locs 0 0 (MQ below (qW G z H0 q.2 (some (.int q.1))) ([.ref (z + 58), .int a1, .int a2, .int a3] : List Value).toArray s 0 0 (fun q => z ≤ q)) (F0 m 6 ls [])) (K := fun q6_55 => (some (q6_55.2.1, q6_55.2.2)) = some q) (fun s1 x1 h hc1 ht1 => ?_) n ((0 : Int32), (0 : Int32), w) t7 hq8 h H locs ls hR hF hL (lv_sub hl [0, 1, 2, 3, 4, 5] rfl)
  intro H locs ls hR hF hL hl
  unfold f_X4_struckOf_L6 at h
  refine lv_iload hx hb dX4_struckOf_6 (lv_at hl 0 rfl) ?_
  refine lv_bipush (v := 16) hx hb dX4_struckOf_8 (by decide) ?_
  refine lv_icmp_ge (tgt := 55) hx hb dX4_struckOf_10 (by decide) (fun c1 => ?_) (fun c1 => ?_)
  · rw [if_pos c1] at h
    exact hX6_55 (s1.1, s1.2.1, s1.2.2) (ht1 _ (Option.some.inj h).symm) H locs ls hR hF hL (lv_sub hl [1] rfl)
  · rw [if_neg c1] at h
    refine lv_aload_n hx hb dX4_struckOf_13 rfl (lv_at hl 2 rfl) ?_
    refine r_get (C := RX4) (T := TX4) (N := 80) hx hb hts ok4 hown hK hR (congrArg Prod.fst (hF.2.1 58 (5, 0) rfl)) rfl 13 (by decide) (hts _ q1646) (fun _ h9 => h9) (v := .ref (z + 68)) (fv_fix hF rfl rfl) dX4_struckOf_14 ?_
    refine lv_iload_n hx hb dX4_struckOf_17 rfl (lv_at hl 3 rfl) ?_
    obtain ⟨hb2, h⟩ := grd h
    refine r_iald (v := wI s1.2.2 68 a1.toNatClampNeg) hx hb hK hR (hF.2.1 68 (200, 24) rfl) hb2 rfl dX4_struckOf_18 ?_
    refine lv_iload hx hb dX4_struckOf_19 (lv_at hl 0 rfl) ?_
    refine lv_ishr hx hb dX4_struckOf_21 ?_
    refine lv_iconst (v := 1) hx hb dX4_struckOf_22 (by decide) ?_
    refine lv_iand hx hb dX4_struckOf_23 ?_
    refine lv_iconst (v := 1) hx hb dX4_struckOf_24 (by decide) ?_
    refine lv_icmp_ne (tgt := 49) hx hb dX4_struckOf_25 (by decide) (fun c3 => ?_) (fun c3 => ?_)
    · rw [if_neg c3] at h
      refine lv_iinc (v := s1.1 + (1 : Int32)) (lv' := [(5, .int (s1.1 + (1 : Int32))), (4, .int s1.2.1), (0, .ref (z + 58)), (1, .int a1), (2, .int a2), (3, .int a3)]) hx hb dX4_struckOf_49 hl (k := 0) rfl rfl (by decide) rfl (fun ls hl => ?_)
      refine lv_goto (tgt := 6) hx hb dX4_struckOf_52 (by decide) ?_
      exact hc1 _ (Option.some.inj h).symm H locs ls hR hF hL (lv_sub hl [0, 1, 2, 3, 4, 5] rfl)
    · rw [if_pos c3] at h
      refine lv_aload_n hx hb dX4_struckOf_28 rfl (lv_at hl 2 rfl) ?_
      refine lv_iload_n hx hb dX4_struckOf_29 rfl (lv_at hl 3 rfl) ?_
      refine lv_iload hx hb dX4_struckOf_30 (lv_at hl 0 rfl) ?_
      refine lv_iload_n hx hb dX4_struckOf_32 rfl (lv_at hl 4 rfl) ?_
      refine lv_iload_n hx hb dX4_struckOf_33 rfl (lv_at hl 5 rfl) ?_
      obtain ⟨q4, hq5, h⟩ := bnd h
      refine c_VW (a := 58) (ci := 4) (q := (RX4, TX4, 80)) (rest := []) (st1 := [.int q4.1]) hx hb hml hown hts hK hR hF hL hl.1 (met_X4_striker l G z H0 n s1.2.2 a1 s1.1 a2 a3 q4 hq5) (congrArg Prod.fst (hF.2.1 58 (5, 0) rfl)) rfl rfl rfl hd_X4_striker q2113 q2115 qs80 q104 q2116 ⟨Nat.le_of_ble_eq_true rfl, Nat.le_of_ble_eq_true rfl⟩ ⟨Nat.le_refl 0, Nat.le_refl 0⟩ rfl rfl (Nat.le_of_ble_eq_true rfl) dX4_struckOf_34 rfl (fun H locs hR hF hL => ?_)
      refine lv_if_lt (tgt := 49) hx hb dX4_struckOf_37 (by decide) (fun c6 => ?_) (fun c6 => ?_)
      · rw [if_pos c6] at h
        refine lv_iinc (v := s1.1 + (1 : Int32)) (lv' := [(5, .int (s1.1 + (1 : Int32))), (4, .int s1.2.1), (0, .ref (z + 58)), (1, .int a1), (2, .int a2), (3, .int a3)]) hx hb dX4_struckOf_49 hl (k := 0) rfl rfl (by decide) rfl (fun ls hl => ?_)
        refine lv_goto (tgt := 6) hx hb dX4_struckOf_52 (by decide) ?_
        exact hc1 _ (Option.some.inj h).symm H locs ls hR hF hL (lv_sub hl [0, 1, 2, 3, 4, 5] rfl)
      · rw [if_neg c6] at h
        refine lv_iload hx hb dX4_struckOf_40 (lv_at hl 1 rfl) ?_
        refine lv_iconst (v := 1) hx hb dX4_struckOf_42 (by decide) ?_
        refine lv_iload hx hb dX4_struckOf_43 (lv_at hl 0 rfl) ?_
        refine lv_ishl hx hb dX4_struckOf_45 ?_
        refine lv_ior hx hb dX4_struckOf_46 ?_
        refine lv_istore (lv' := [(4, .int (s1.2.1 ||| ((1 : Int32) <<< (s1.1 &&& 31)))), (5, .int s1.1), (0, .ref (z + 58)), (1, .int a1), (2, .int a2), (3, .int a3)]) hx hb dX4_struckOf_47 hl (by decide) rfl (fun ls hl => ?_)
        refine lv_iinc (v := s1.1 + (1 : Int32)) (lv' := [(5, .int (s1.1 + (1 : Int32))), (4, .int (s1.2.1 ||| ((1 : Int32) <<< (s1.1 &&& 31)))), (0, .ref (z + 58)), (1, .int a1), (2, .int a2), (3, .int a3)]) hx hb dX4_struckOf_49 hl (k := 1) rfl rfl (by decide) rfl (fun ls hl => ?_)
        refine lv_goto (tgt := 6) hx hb dX4_struckOf_52 (by decide) ?_
        exact hc1 _ (Option.some.inj h).symm H locs ls hR hF hL (lv_sub hl [0, 1, 2, 3, 4, 5] rfl)
def f_X4_isBarred (n : Nat) (a1 : Int32) (a2 : Int32) (a3 : Int32) (w : Wd) : Option (Bool × Wd) :=
  (f_X4_barrer n a1 a2 a3 w).bind fun q1 => if q1.1 < 0 then (some (false, q1.2)) else (if (wI q1.2 58 49) = 0 then (some (false, q1.2)) else (some (true, q1.2)))
theorem hd_X4_isBarred : yX4_isBarred.cls = RX4 ∧ yX4_isBarred.cls ≠ "java/lang/invoke/MethodHandle" ∧ yX4_isBarred.cls ≠ "java/lang/invoke/VarHandle" ∧ (parseMethodDescriptor yX4_isBarred.desc).map (fun d => d.parameters.length) = some 3 := by decide +kernel
set_option maxHeartbeats 4000000 in
set_option maxRecDepth 100000 in
theorem met_X4_isBarred (l : Launch) (G : Gw) (z : Nat) (H0 : Heap) (n : Nat) (w : Wd) (a1 : Int32) (a2 : Int32) (a3 : Int32) (q : Bool × Wd) (h : f_X4_isBarred n a1 a2 a3 w = some q) : Met l yX4_isBarred (ws_ yX4_isBarred cX4_isBarred 4 (some .boolean)) ({ frames := 8, cells := 0, slots := 0, locals := 177 } : Room) (pcW G z H0 w [.ref (z + 58), .int a1, .int a2, .int a3]) (qW G z H0 q.2 (some (.int (bI q.1)))) 0 0 (fun q => z ≤ q) := by
  refine mW (by decide) (Nat.le_of_ble_eq_true rfl) ?_
  intro p e s m below meth c ls hx hb hr hml hown hts hlocks hnm hK hR hF hl
  have hown : s.vm.findClass RX4 = some m.cls := hown
  have hl : lv_has ls 4 [(0, .ref (z + 58)), (1, .int a1), (2, .int a2), (3, .int a3)] := hl
  have hL : lok z [] := lok_nil
  unfold f_X4_isBarred at h
  generalize s.heap = H at hR ⊢
  generalize ([] : List Loc) = locs at hL ⊢
  refine lv_aload_n hx hb dX4_isBarred_0 rfl (lv_at hl 0 rfl) ?_
  refine lv_iload_n hx hb dX4_isBarred_1 rfl (lv_at hl 1 rfl) ?_
  refine lv_iload_n hx hb dX4_isBarred_2 rfl (lv_at hl 2 rfl) ?_
  refine lv_iload_n hx hb dX4_isBarred_3 rfl (lv_at hl 3 rfl) ?_
  obtain ⟨q1, hq2, h⟩ := bnd h
  refine c_VW (a := 58) (ci := 4) (q := (RX4, TX4, 80)) (rest := []) (st1 := [.int q1.1]) hx hb hml hown hts hK hR hF hL hl.1 (met_X4_barrer l G z H0 n w a1 a2 a3 q1 hq2) (congrArg Prod.fst (hF.2.1 58 (5, 0) rfl)) rfl rfl rfl hd_X4_barrer q2105 q2107 qs78 q104 q2108 ⟨Nat.le_of_ble_eq_true rfl, Nat.le_of_ble_eq_true rfl⟩ ⟨Nat.le_refl 0, Nat.le_refl 0⟩ rfl rfl (Nat.le_of_ble_eq_true rfl) dX4_isBarred_4 rfl (fun H locs hR hF hL => ?_)
  refine lv_if_lt (tgt := 21) hx hb dX4_isBarred_7 (by decide) (fun c3 => ?_) (fun c3 => ?_)
  · rw [if_pos c3] at h
    refine lv_iconst (v := 0) hx hb dX4_isBarred_21 (by decide) ?_
    have h := Option.some.inj h
    subst h
    exact W.zret (v := bI false) hx hb hr (bI_nar _) (fun t ht _ => ⟨rfl, by rw [ht]; exact hR, hF⟩) hL dX4_isBarred_22
  · rw [if_neg c3] at h
    refine lv_aload_n hx hb dX4_isBarred_10 rfl (lv_at hl 0 rfl) ?_
    refine r_get (C := RX4) (T := TX4) (N := 80) hx hb hts ok4 hown hK hR (congrArg Prod.fst (hF.2.1 58 (5, 0) rfl)) rfl 49 (by decide) (hts _ q1682) (fun _ h9 => h9) (v := .int (wI q1.2 58 49)) rfl dX4_isBarred_11 ?_
    refine lv_if_eq (tgt := 21) hx hb dX4_isBarred_14 (by decide) (fun c4 => ?_) (fun c4 => ?_)
    · rw [if_pos c4] at h
      refine lv_iconst (v := 0) hx hb dX4_isBarred_21 (by decide) ?_
      have h := Option.some.inj h
      subst h
      exact W.zret (v := bI false) hx hb hr (bI_nar _) (fun t ht _ => ⟨rfl, by rw [ht]; exact hR, hF⟩) hL dX4_isBarred_22
    · rw [if_neg c4] at h
      refine lv_iconst (v := 1) hx hb dX4_isBarred_17 (by decide) ?_
      refine lv_goto (tgt := 22) hx hb dX4_isBarred_18 (by decide) ?_
      have h := Option.some.inj h
      subst h
      exact W.zret (v := bI true) hx hb hr (bI_nar _) (fun t ht _ => ⟨rfl, by rw [ht]; exact hR, hF⟩) hL dX4_isBarred_22
def f_X4_holds (n : Nat) (a1 : Int32) (a2 : Int32) (a3 : Int32) (a4 : Int32) (w : Wd) : Option (Int32 × Wd) :=
  if (f_X4_isEdition a1 w) then (if (f_X4_isTown a2 w) then (if (f_X4_in a4 (0 : Int32) (3 : Int32) w) then (if (f_X4_isDay a3 w) then (if a4 = (1 : Int32) then ((f_X4_barrer n a1 a2 a3 w).bind fun q17 => some (q17.1, q17.2)) else (if a4 = (2 : Int32) then ((f_X4_struckOf n a1 a2 a3 w).bind fun q15 => some (q15.1, q15.2)) else ((f_X4_isBarred n a1 a2 a3 w).bind fun q7 => if a4 = 0 then (if q7.1 then (some ((1 : Int32), q7.2)) else (some ((0 : Int32), q7.2))) else (if q7.1 then (some ((0 : Int32), q7.2)) else (if inb a1 24 then ((f_X4_struckOf n a1 a2 a3 q7.2).bind fun q12 => some ((wI q7.2 68 a1.toNatClampNeg) &&& (q12.1 ^^^ (-1 : Int32)), q12.2)) else none))))) else (some ((-2 : Int32), w))) else (some ((-1 : Int32), w))) else (some ((-1 : Int32), w))) else (some ((-1 : Int32), w))
theorem hd_X4_holds : yX4_holds.cls = RX4 ∧ yX4_holds.cls ≠ "java/lang/invoke/MethodHandle" ∧ yX4_holds.cls ≠ "java/lang/invoke/VarHandle" ∧ (parseMethodDescriptor yX4_holds.desc).map (fun d => d.parameters.length) = some 4 := by decide +kernel
set_option maxHeartbeats 4000000 in
set_option maxRecDepth 100000 in
theorem met_X4_holds (l : Launch) (G : Gw) (z : Nat) (H0 : Heap) (n : Nat) (w : Wd) (a1 : Int32) (a2 : Int32) (a3 : Int32) (a4 : Int32) (q : Int32 × Wd) (h : f_X4_holds n a1 a2 a3 a4 w = some q) : Met l yX4_holds (ws_ yX4_holds cX4_holds 6 (some .int)) ({ frames := 9, cells := 0, slots := 0, locals := 202 } : Room) (pcW G z H0 w [.ref (z + 58), .int a1, .int a2, .int a3, .int a4]) (qW G z H0 q.2 (some (.int q.1))) 0 0 (fun q => z ≤ q) := by
  refine mW (by decide) (Nat.le_of_ble_eq_true rfl) ?_
  intro p e s m below meth c ls hx hb hr hml hown hts hlocks hnm hK hR hF hl
  have hown : s.vm.findClass RX4 = some m.cls := hown
  have hl : lv_has ls 6 [(0, .ref (z + 58)), (1, .int a1), (2, .int a2), (3, .int a3), (4, .int a4)] := hl
  have hL : lok z [] := lok_nil
  unfold f_X4_holds at h
  generalize s.heap = H at hR ⊢
  generalize ([] : List Loc) = locs at hL ⊢
  refine lv_aload_n hx hb dX4_holds_0 rfl (lv_at hl 0 rfl) ?_
  refine lv_iload_n hx hb dX4_holds_1 rfl (lv_at hl 1 rfl) ?_
  refine c_VP (a := 58) (ci := 4) (q := (RX4, TX4, 80)) (rest := []) (st1 := [.int (bI (f_X4_isEdition a1 w))]) hx hb hml hown hts hK hR hF hL hl.1 (met_X4_isEdition l G z H0 w a1 _ rfl) (congrArg Prod.fst (hF.2.1 58 (5, 0) rfl)) rfl rfl rfl hd_X4_isEdition q1919 q1921 qs45 q104 q1922 ⟨Nat.le_of_ble_eq_true rfl, Nat.le_of_ble_eq_true rfl⟩ ⟨Nat.le_refl 0, Nat.le_refl 0⟩ rfl rfl (Nat.le_of_ble_eq_true rfl) dX4_holds_2 rfl (fun locs hL => ?_)
  refine lv_if_eq (tgt := 27) hx hb dX4_holds_5 (by decide) (fun c1 => ?_) (fun c1 => ?_)
  · rw [if_neg (bI_n c1)] at h
    refine lv_iconst (v := -1) hx hb dX4_holds_27 (by decide) ?_
    have h := Option.some.inj h
    subst h
    exact W.iret (v := (-1 : Int32)) hx hb hr (fun t ht _ => ⟨rfl, by rw [ht]; exact hR, hF⟩) hL dX4_holds_28
  · rw [if_pos (bI_p c1)] at h
    refine lv_aload_n hx hb dX4_holds_8 rfl (lv_at hl 0 rfl) ?_
    refine lv_iload_n hx hb dX4_holds_9 rfl (lv_at hl 2 rfl) ?_
    refine c_VP (a := 58) (ci := 4) (q := (RX4, TX4, 80)) (rest := []) (st1 := [.int (bI (f_X4_isTown a2 w))]) hx hb hml hown hts hK hR hF hL hl.1 (met_X4_isTown l G z H0 w a2 _ rfl) (congrArg Prod.fst (hF.2.1 58 (5, 0) rfl)) rfl rfl rfl hd_X4_isTown q1886 q1888 qs42 q104 q1889 ⟨Nat.le_of_ble_eq_true rfl, Nat.le_of_ble_eq_true rfl⟩ ⟨Nat.le_refl 0, Nat.le_refl 0⟩ rfl rfl (Nat.le_of_ble_eq_true rfl) dX4_holds_10 rfl (fun locs hL => ?_)
    refine lv_if_eq (tgt := 27) hx hb dX4_holds_13 (by decide) (fun c2 => ?_) (fun c2 => ?_)
    · rw [if_neg (bI_n c2)] at h
      refine lv_iconst (v := -1) hx hb dX4_holds_27 (by decide) ?_
      have h := Option.some.inj h
      subst h
      exact W.iret (v := (-1 : Int32)) hx hb hr (fun t ht _ => ⟨rfl, by rw [ht]; exact hR, hF⟩) hL dX4_holds_28
    · rw [if_pos (bI_p c2)] at h
      refine lv_aload_n hx hb dX4_holds_16 rfl (lv_at hl 0 rfl) ?_
      refine lv_iload hx hb dX4_holds_17 (lv_at hl 4 rfl) ?_
      refine lv_iconst (v := 0) hx hb dX4_holds_19 (by decide) ?_
      refine lv_iconst (v := 3) hx hb dX4_holds_20 (by decide) ?_
      refine c_VP (a := 58) (ci := 4) (q := (RX4, TX4, 80)) (rest := []) (st1 := [.int (bI (f_X4_in a4 (0 : Int32) (3 : Int32) w))]) hx hb hml hown hts hK hR hF hL hl.1 (met_X4_in l G z H0 w a4 (0 : Int32) (3 : Int32) _ rfl) (congrArg Prod.fst (hF.2.1 58 (5, 0) rfl)) rfl rfl rfl hd_X4_in q1878 q1880 qs41 q104 q1881 ⟨Nat.le_of_ble_eq_true rfl, Nat.le_of_ble_eq_true rfl⟩ ⟨Nat.le_refl 0, Nat.le_refl 0⟩ rfl rfl (Nat.le_of_ble_eq_true rfl) dX4_holds_21 rfl (fun locs hL => ?_)
      refine lv_if_ne (tgt := 29) hx hb dX4_holds_24 (by decide) (fun c3 => ?_) (fun c3 => ?_)
      · rw [if_pos (bI_p c3)] at h
        refine lv_aload_n hx hb dX4_holds_29 rfl (lv_at hl 0 rfl) ?_
        refine lv_iload_n hx hb dX4_holds_30 rfl (lv_at hl 3 rfl) ?_
        refine c_VP (a := 58) (ci := 4) (q := (RX4, TX4, 80)) (rest := []) (st1 := [.int (bI (f_X4_isDay a3 w))]) hx hb hml hown hts hK hR hF hL hl.1 (met_X4_isDay l G z H0 w a3 _ rfl) (congrArg Prod.fst (hF.2.1 58 (5, 0) rfl)) rfl rfl rfl hd_X4_isDay q2093 q2095 qs76 q104 q2096 ⟨Nat.le_of_ble_eq_true rfl, Nat.le_of_ble_eq_true rfl⟩ ⟨Nat.le_refl 0, Nat.le_refl 0⟩ rfl rfl (Nat.le_of_ble_eq_true rfl) dX4_holds_31 rfl (fun locs hL => ?_)
        refine lv_if_ne (tgt := 40) hx hb dX4_holds_34 (by decide) (fun c4 => ?_) (fun c4 => ?_)
        · rw [if_pos (bI_p c4)] at h
          refine lv_iload hx hb dX4_holds_40 (lv_at hl 4 rfl) ?_
          refine lv_iconst (v := 1) hx hb dX4_holds_42 (by decide) ?_
          refine lv_icmp_ne (tgt := 54) hx hb dX4_holds_43 (by decide) (fun c5 => ?_) (fun c5 => ?_)
          · rw [if_neg c5] at h
            refine lv_iload hx hb dX4_holds_54 (lv_at hl 4 rfl) ?_
            refine lv_iconst (v := 2) hx hb dX4_holds_56 (by decide) ?_
            refine lv_icmp_ne (tgt := 68) hx hb dX4_holds_57 (by decide) (fun c6 => ?_) (fun c6 => ?_)
            · rw [if_neg c6] at h
              refine lv_aload_n hx hb dX4_holds_68 rfl (lv_at hl 0 rfl) ?_
              refine lv_iload_n hx hb dX4_holds_69 rfl (lv_at hl 1 rfl) ?_
              refine lv_iload_n hx hb dX4_holds_70 rfl (lv_at hl 2 rfl) ?_
              refine lv_iload_n hx hb dX4_holds_71 rfl (lv_at hl 3 rfl) ?_
              obtain ⟨q7, hq8, h⟩ := bnd h
              refine c_VW (a := 58) (ci := 4) (q := (RX4, TX4, 80)) (rest := []) (st1 := [.int (bI q7.1)]) hx hb hml hown hts hK hR hF hL hl.1 (met_X4_isBarred l G z H0 n w a1 a2 a3 q7 hq8) (congrArg Prod.fst (hF.2.1 58 (5, 0) rfl)) rfl rfl rfl hd_X4_isBarred q2117 q2119 qs81 q104 q2120 ⟨Nat.le_of_ble_eq_true rfl, Nat.le_of_ble_eq_true rfl⟩ ⟨Nat.le_refl 0, Nat.le_refl 0⟩ rfl rfl (Nat.le_of_ble_eq_true rfl) dX4_holds_72 rfl (fun H locs hR hF hL => ?_)
              refine lv_istore (lv' := [(5, .int (bI q7.1)), (0, .ref (z + 58)), (1, .int a1), (2, .int a2), (3, .int a3), (4, .int a4)]) hx hb dX4_holds_75 hl (by decide) rfl (fun ls hl => ?_)
              refine lv_iload hx hb dX4_holds_77 (lv_at hl 5 rfl) ?_
              refine lv_if_ne (tgt := 95) hx hb dX4_holds_79 (by decide) (fun c9 => ?_) (fun c9 => ?_)
              · rw [if_neg c9] at h
                refine lv_iload hx hb dX4_holds_95 (lv_at hl 0 rfl) ?_
                refine lv_if_eq (tgt := 104) hx hb dX4_holds_97 (by decide) (fun c10 => ?_) (fun c10 => ?_)
                · rw [if_neg (bI_n c10)] at h
                  refine lv_aload_n hx hb dX4_holds_104 rfl (lv_at hl 1 rfl) ?_
                  refine r_get (C := RX4) (T := TX4) (N := 80) hx hb hts ok4 hown hK hR (congrArg Prod.fst (hF.2.1 58 (5, 0) rfl)) rfl 13 (by decide) (hts _ q1646) (fun _ h9 => h9) (v := .ref (z + 68)) (fv_fix hF rfl rfl) dX4_holds_105 ?_
                  refine lv_iload_n hx hb dX4_holds_108 rfl (lv_at hl 2 rfl) ?_
                  obtain ⟨hb11, h⟩ := grd h
                  refine r_iald (v := wI q7.2 68 a1.toNatClampNeg) hx hb hK hR (hF.2.1 68 (200, 24) rfl) hb11 rfl dX4_holds_109 ?_
                  refine lv_aload_n hx hb dX4_holds_110 rfl (lv_at hl 1 rfl) ?_
                  refine lv_iload_n hx hb dX4_holds_111 rfl (lv_at hl 2 rfl) ?_
                  refine lv_iload_n hx hb dX4_holds_112 rfl (lv_at hl 3 rfl) ?_
                  refine lv_iload_n hx hb dX4_holds_113 rfl (lv_at hl 4 rfl) ?_
                  obtain ⟨q12, hq13, h⟩ := bnd h
                  refine c_VW (a := 58) (ci := 4) (q := (RX4, TX4, 80)) (rest := [.int (wI q7.2 68 a1.toNatClampNeg)]) (st1 := [.int q12.1, .int (wI q7.2 68 a1.toNatClampNeg)]) hx hb hml hown hts hK hR hF hL hl.1 (met_X4_struckOf l G z H0 n q7.2 a1 a2 a3 q12 hq13) (congrArg Prod.fst (hF.2.1 58 (5, 0) rfl)) rfl rfl rfl hd_X4_struckOf q2109 q2111 qs79 q104 q2112 ⟨Nat.le_of_ble_eq_true rfl, Nat.le_of_ble_eq_true rfl⟩ ⟨Nat.le_refl 0, Nat.le_refl 0⟩ rfl rfl (Nat.le_of_ble_eq_true rfl) dX4_holds_114 rfl (fun H locs hR hF hL => ?_)
                  refine lv_iconst (v := -1) hx hb dX4_holds_117 (by decide) ?_
                  refine lv_ixor hx hb dX4_holds_118 ?_
                  refine lv_iand hx hb dX4_holds_119 ?_
                  have h := Option.some.inj h
                  subst h
                  exact W.iret (v := (wI q7.2 68 a1.toNatClampNeg) &&& (q12.1 ^^^ (-1 : Int32))) hx hb hr (fun t ht _ => ⟨rfl, by rw [ht]; exact hR, hF⟩) hL dX4_holds_120
                · rw [if_pos (bI_p c10)] at h
                  refine lv_iconst (v := 0) hx hb dX4_holds_100 (by decide) ?_
                  refine lv_goto (tgt := 120) hx hb dX4_holds_101 (by decide) ?_
                  have h := Option.some.inj h
                  subst h
                  exact W.iret (v := (0 : Int32)) hx hb hr (fun t ht _ => ⟨rfl, by rw [ht]; exact hR, hF⟩) hL dX4_holds_120
              · rw [if_pos c9] at h
                refine lv_iload hx hb dX4_holds_82 (lv_at hl 0 rfl) ?_
                refine lv_if_eq (tgt := 91) hx hb dX4_holds_84 (by decide) (fun c14 => ?_) (fun c14 => ?_)
                · rw [if_neg (bI_n c14)] at h
                  refine lv_iconst (v := 0) hx hb dX4_holds_91 (by decide) ?_
                  refine lv_goto (tgt := 120) hx hb dX4_holds_92 (by decide) ?_
                  have h := Option.some.inj h
                  subst h
                  exact W.iret (v := (0 : Int32)) hx hb hr (fun t ht _ => ⟨rfl, by rw [ht]; exact hR, hF⟩) hL dX4_holds_120
                · rw [if_pos (bI_p c14)] at h
                  refine lv_iconst (v := 1) hx hb dX4_holds_87 (by decide) ?_
                  refine lv_goto (tgt := 120) hx hb dX4_holds_88 (by decide) ?_
                  have h := Option.some.inj h
                  subst h
                  exact W.iret (v := (1 : Int32)) hx hb hr (fun t ht _ => ⟨rfl, by rw [ht]; exact hR, hF⟩) hL dX4_holds_120
            · rw [if_pos c6] at h
              refine lv_aload_n hx hb dX4_holds_60 rfl (lv_at hl 0 rfl) ?_
              refine lv_iload_n hx hb dX4_holds_61 rfl (lv_at hl 1 rfl) ?_
              refine lv_iload_n hx hb dX4_holds_62 rfl (lv_at hl 2 rfl) ?_
              refine lv_iload_n hx hb dX4_holds_63 rfl (lv_at hl 3 rfl) ?_
              obtain ⟨q15, hq16, h⟩ := bnd h
              refine c_VW (a := 58) (ci := 4) (q := (RX4, TX4, 80)) (rest := []) (st1 := [.int q15.1]) hx hb hml hown hts hK hR hF hL hl.1 (met_X4_struckOf l G z H0 n w a1 a2 a3 q15 hq16) (congrArg Prod.fst (hF.2.1 58 (5, 0) rfl)) rfl rfl rfl hd_X4_struckOf q2109 q2111 qs79 q104 q2112 ⟨Nat.le_of_ble_eq_true rfl, Nat.le_of_ble_eq_true rfl⟩ ⟨Nat.le_refl 0, Nat.le_refl 0⟩ rfl rfl (Nat.le_of_ble_eq_true rfl) dX4_holds_64 rfl (fun H locs hR hF hL => ?_)
              have h := Option.some.inj h
              subst h
              exact W.iret (v := q15.1) hx hb hr (fun t ht _ => ⟨rfl, by rw [ht]; exact hR, hF⟩) hL dX4_holds_67
          · rw [if_pos c5] at h
            refine lv_aload_n hx hb dX4_holds_46 rfl (lv_at hl 0 rfl) ?_
            refine lv_iload_n hx hb dX4_holds_47 rfl (lv_at hl 1 rfl) ?_
            refine lv_iload_n hx hb dX4_holds_48 rfl (lv_at hl 2 rfl) ?_
            refine lv_iload_n hx hb dX4_holds_49 rfl (lv_at hl 3 rfl) ?_
            obtain ⟨q17, hq18, h⟩ := bnd h
            refine c_VW (a := 58) (ci := 4) (q := (RX4, TX4, 80)) (rest := []) (st1 := [.int q17.1]) hx hb hml hown hts hK hR hF hL hl.1 (met_X4_barrer l G z H0 n w a1 a2 a3 q17 hq18) (congrArg Prod.fst (hF.2.1 58 (5, 0) rfl)) rfl rfl rfl hd_X4_barrer q2105 q2107 qs78 q104 q2108 ⟨Nat.le_of_ble_eq_true rfl, Nat.le_of_ble_eq_true rfl⟩ ⟨Nat.le_refl 0, Nat.le_refl 0⟩ rfl rfl (Nat.le_of_ble_eq_true rfl) dX4_holds_50 rfl (fun H locs hR hF hL => ?_)
            have h := Option.some.inj h
            subst h
            exact W.iret (v := q17.1) hx hb hr (fun t ht _ => ⟨rfl, by rw [ht]; exact hR, hF⟩) hL dX4_holds_53
        · rw [if_neg (bI_n c4)] at h
          refine lv_bipush (v := -2) hx hb dX4_holds_37 (by decide) ?_
          have h := Option.some.inj h
          subst h
          exact W.iret (v := (-2 : Int32)) hx hb hr (fun t ht _ => ⟨rfl, by rw [ht]; exact hR, hF⟩) hL dX4_holds_39
      · rw [if_neg (bI_n c3)] at h
        refine lv_iconst (v := -1) hx hb dX4_holds_27 (by decide) ?_
        have h := Option.some.inj h
        subst h
        exact W.iret (v := (-1 : Int32)) hx hb hr (fun t ht _ => ⟨rfl, by rw [ht]; exact hR, hF⟩) hL dX4_holds_28
def f_X4_hasLine (a1 : Int32) (a2 : Int32) (w : Wd) : Option (Bool) :=
  if (f_X4_isEdition a1 w) then (if (f_X4_in a2 (0 : Int32) (15 : Int32) w) then (if inb a1 24 then (if (((wI w 68 a1.toNatClampNeg) >>> (a2 &&& 31)) &&& (1 : Int32)) = (1 : Int32) then (some true) else (some false)) else none) else (some false)) else (some false)
theorem hd_X4_hasLine : yX4_hasLine.cls = RX4 ∧ yX4_hasLine.cls ≠ "java/lang/invoke/MethodHandle" ∧ yX4_hasLine.cls ≠ "java/lang/invoke/VarHandle" ∧ (parseMethodDescriptor yX4_hasLine.desc).map (fun d => d.parameters.length) = some 2 := by decide +kernel
set_option maxHeartbeats 4000000 in
set_option maxRecDepth 100000 in
theorem met_X4_hasLine (l : Launch) (G : Gw) (z : Nat) (H0 : Heap)  (w : Wd) (a1 : Int32) (a2 : Int32) (q : Bool) (h : f_X4_hasLine a1 a2 w = some q) : Met l yX4_hasLine (ws_ yX4_hasLine cX4_hasLine 3 (some .boolean)) ({ frames := 2, cells := 0, slots := 0, locals := 44 } : Room) (pcW G z H0 w [.ref (z + 58), .int a1, .int a2]) (qP (some (.int (bI q)))) 0 0 (fun q => z ≤ q) := by
  refine mW (by decide) (Nat.le_of_ble_eq_true rfl) ?_
  intro p e s m below meth c ls hx hb hr hml hown hts hlocks hnm hK hR hF hl
  have hown : s.vm.findClass RX4 = some m.cls := hown
  have hl : lv_has ls 3 [(0, .ref (z + 58)), (1, .int a1), (2, .int a2)] := hl
  have hL : lok z [] := lok_nil
  unfold f_X4_hasLine at h
  generalize ([] : List Loc) = locs at hL ⊢
  refine lv_aload_n hx hb dX4_hasLine_0 rfl (lv_at hl 0 rfl) ?_
  refine lv_iload_n hx hb dX4_hasLine_1 rfl (lv_at hl 1 rfl) ?_
  refine c_VP (a := 58) (ci := 4) (q := (RX4, TX4, 80)) (rest := []) (st1 := [.int (bI (f_X4_isEdition a1 w))]) hx hb hml hown hts hK hR hF hL hl.1 (met_X4_isEdition l G z H0 w a1 _ rfl) (congrArg Prod.fst (hF.2.1 58 (5, 0) rfl)) rfl rfl rfl hd_X4_isEdition q1919 q1921 qs45 q104 q1922 ⟨Nat.le_of_ble_eq_true rfl, Nat.le_of_ble_eq_true rfl⟩ ⟨Nat.le_refl 0, Nat.le_refl 0⟩ rfl rfl (Nat.le_of_ble_eq_true rfl) dX4_hasLine_2 rfl (fun locs hL => ?_)
  refine lv_if_eq (tgt := 37) hx hb dX4_hasLine_5 (by decide) (fun c1 => ?_) (fun c1 => ?_)
  · rw [if_neg (bI_n c1)] at h
    refine lv_iconst (v := 0) hx hb dX4_hasLine_37 (by decide) ?_
    have h := Option.some.inj h
    subst h
    exact W.zret (v := bI false) hx hb hr (bI_nar _) (fun t ht _ => ⟨rfl, ht⟩) hL dX4_hasLine_38
  · rw [if_pos (bI_p c1)] at h
    refine lv_aload_n hx hb dX4_hasLine_8 rfl (lv_at hl 0 rfl) ?_
    refine lv_iload_n hx hb dX4_hasLine_9 rfl (lv_at hl 2 rfl) ?_
    refine lv_iconst (v := 0) hx hb dX4_hasLine_10 (by decide) ?_
    refine lv_bipush (v := 15) hx hb dX4_hasLine_11 (by decide) ?_
    refine c_VP (a := 58) (ci := 4) (q := (RX4, TX4, 80)) (rest := []) (st1 := [.int (bI (f_X4_in a2 (0 : Int32) (15 : Int32) w))]) hx hb hml hown hts hK hR hF hL hl.1 (met_X4_in l G z H0 w a2 (0 : Int32) (15 : Int32) _ rfl) (congrArg Prod.fst (hF.2.1 58 (5, 0) rfl)) rfl rfl rfl hd_X4_in q1878 q1880 qs41 q104 q1881 ⟨Nat.le_of_ble_eq_true rfl, Nat.le_of_ble_eq_true rfl⟩ ⟨Nat.le_refl 0, Nat.le_refl 0⟩ rfl rfl (Nat.le_of_ble_eq_true rfl) dX4_hasLine_13 rfl (fun locs hL => ?_)
    refine lv_if_eq (tgt := 37) hx hb dX4_hasLine_16 (by decide) (fun c2 => ?_) (fun c2 => ?_)
    · rw [if_neg (bI_n c2)] at h
      refine lv_iconst (v := 0) hx hb dX4_hasLine_37 (by decide) ?_
      have h := Option.some.inj h
      subst h
      exact W.zret (v := bI false) hx hb hr (bI_nar _) (fun t ht _ => ⟨rfl, ht⟩) hL dX4_hasLine_38
    · rw [if_pos (bI_p c2)] at h
      refine lv_aload_n hx hb dX4_hasLine_19 rfl (lv_at hl 0 rfl) ?_
      refine r_get (C := RX4) (T := TX4) (N := 80) hx hb hts ok4 hown hK hR (congrArg Prod.fst (hF.2.1 58 (5, 0) rfl)) rfl 13 (by decide) (hts _ q1646) (fun _ h9 => h9) (v := .ref (z + 68)) (fv_fix hF rfl rfl) dX4_hasLine_20 ?_
      refine lv_iload_n hx hb dX4_hasLine_23 rfl (lv_at hl 1 rfl) ?_
      obtain ⟨hb3, h⟩ := grd h
      refine r_iald (v := wI w 68 a1.toNatClampNeg) hx hb hK hR (hF.2.1 68 (200, 24) rfl) hb3 rfl dX4_hasLine_24 ?_
      refine lv_iload_n hx hb dX4_hasLine_25 rfl (lv_at hl 2 rfl) ?_
      refine lv_ishr hx hb dX4_hasLine_26 ?_
      refine lv_iconst (v := 1) hx hb dX4_hasLine_27 (by decide) ?_
      refine lv_iand hx hb dX4_hasLine_28 ?_
      refine lv_iconst (v := 1) hx hb dX4_hasLine_29 (by decide) ?_
      refine lv_icmp_ne (tgt := 37) hx hb dX4_hasLine_30 (by decide) (fun c4 => ?_) (fun c4 => ?_)
      · rw [if_neg c4] at h
        refine lv_iconst (v := 0) hx hb dX4_hasLine_37 (by decide) ?_
        have h := Option.some.inj h
        subst h
        exact W.zret (v := bI false) hx hb hr (bI_nar _) (fun t ht _ => ⟨rfl, ht⟩) hL dX4_hasLine_38
      · rw [if_pos c4] at h
        refine lv_iconst (v := 1) hx hb dX4_hasLine_33 (by decide) ?_
        refine lv_goto (tgt := 38) hx hb dX4_hasLine_34 (by decide) ?_
        have h := Option.some.inj h
        subst h
        exact W.zret (v := bI true) hx hb hr (bI_nar _) (fun t ht _ => ⟨rfl, ht⟩) hL dX4_hasLine_38
def f_X4_why (n : Nat) (a1 : Int32) (a2 : Int32) (a3 : Int32) (a4 : Int32) (w : Wd) : Option (Int32 × Wd) :=
  (f_X4_hasLine a1 a2 w).bind fun q1 => if q1 then (if (f_X4_isTown a3 w) then (if (f_X4_isDay a4 w) then ((f_X4_striker n a1 a2 a3 a4 w).bind fun q6 => some (q6.1, q6.2)) else (some ((-2 : Int32), w))) else (some ((-1 : Int32), w))) else (some ((-1 : Int32), w))
theorem hd_X4_why : yX4_why.cls = RX4 ∧ yX4_why.cls ≠ "java/lang/invoke/MethodHandle" ∧ yX4_why.cls ≠ "java/lang/invoke/VarHandle" ∧ (parseMethodDescriptor yX4_why.desc).map (fun d => d.parameters.length) = some 4 := by decide +kernel
set_option maxHeartbeats 4000000 in
set_option maxRecDepth 100000 in
theorem met_X4_why (l : Launch) (G : Gw) (z : Nat) (H0 : Heap) (n : Nat) (w : Wd) (a1 : Int32) (a2 : Int32) (a3 : Int32) (a4 : Int32) (q : Int32 × Wd) (h : f_X4_why n a1 a2 a3 a4 w = some q) : Met l yX4_why (ws_ yX4_why cX4_why 5 (some .int)) ({ frames := 8, cells := 0, slots := 0, locals := 177 } : Room) (pcW G z H0 w [.ref (z + 58), .int a1, .int a2, .int a3, .int a4]) (qW G z H0 q.2 (some (.int q.1))) 0 0 (fun q => z ≤ q) := by
  refine mW (by decide) (Nat.le_of_ble_eq_true rfl) ?_
  intro p e s m below meth c ls hx hb hr hml hown hts hlocks hnm hK hR hF hl
  have hown : s.vm.findClass RX4 = some m.cls := hown
  have hl : lv_has ls 5 [(0, .ref (z + 58)), (1, .int a1), (2, .int a2), (3, .int a3), (4, .int a4)] := hl
  have hL : lok z [] := lok_nil
  unfold f_X4_why at h
  generalize s.heap = H at hR ⊢
  generalize ([] : List Loc) = locs at hL ⊢
  refine lv_aload_n hx hb dX4_why_0 rfl (lv_at hl 0 rfl) ?_
  refine lv_iload_n hx hb dX4_why_1 rfl (lv_at hl 1 rfl) ?_
  refine lv_iload_n hx hb dX4_why_2 rfl (lv_at hl 2 rfl) ?_
  obtain ⟨q1, hq2, h⟩ := bnd h
  refine c_VP (a := 58) (ci := 4) (q := (RX4, TX4, 80)) (rest := []) (st1 := [.int (bI q1)]) hx hb hml hown hts hK hR hF hL hl.1 (met_X4_hasLine l G z H0 w a1 a2 q1 hq2) (congrArg Prod.fst (hF.2.1 58 (5, 0) rfl)) rfl rfl rfl hd_X4_hasLine q2125 q2127 qs82 q104 q2128 ⟨Nat.le_of_ble_eq_true rfl, Nat.le_of_ble_eq_true rfl⟩ ⟨Nat.le_refl 0, Nat.le_refl 0⟩ rfl rfl (Nat.le_of_ble_eq_true rfl) dX4_why_3 rfl (fun locs hL => ?_)
  refine lv_if_eq (tgt := 17) hx hb dX4_why_6 (by decide) (fun c3 => ?_) (fun c3 => ?_)
  · rw [if_neg (bI_n c3)] at h
    refine lv_iconst (v := -1) hx hb dX4_why_17 (by decide) ?_
    have h := Option.some.inj h
    subst h
    exact W.iret (v := (-1 : Int32)) hx hb hr (fun t ht _ => ⟨rfl, by rw [ht]; exact hR, hF⟩) hL dX4_why_18
  · rw [if_pos (bI_p c3)] at h
    refine lv_aload_n hx hb dX4_why_9 rfl (lv_at hl 0 rfl) ?_
    refine lv_iload_n hx hb dX4_why_10 rfl (lv_at hl 3 rfl) ?_
    refine c_VP (a := 58) (ci := 4) (q := (RX4, TX4, 80)) (rest := []) (st1 := [.int (bI (f_X4_isTown a3 w))]) hx hb hml hown hts hK hR hF hL hl.1 (met_X4_isTown l G z H0 w a3 _ rfl) (congrArg Prod.fst (hF.2.1 58 (5, 0) rfl)) rfl rfl rfl hd_X4_isTown q1886 q1888 qs42 q104 q1889 ⟨Nat.le_of_ble_eq_true rfl, Nat.le_of_ble_eq_true rfl⟩ ⟨Nat.le_refl 0, Nat.le_refl 0⟩ rfl rfl (Nat.le_of_ble_eq_true rfl) dX4_why_11 rfl (fun locs hL => ?_)
    refine lv_if_ne (tgt := 19) hx hb dX4_why_14 (by decide) (fun c4 => ?_) (fun c4 => ?_)
    · rw [if_pos (bI_p c4)] at h
      refine lv_aload_n hx hb dX4_why_19 rfl (lv_at hl 0 rfl) ?_
      refine lv_iload hx hb dX4_why_20 (lv_at hl 4 rfl) ?_
      refine c_VP (a := 58) (ci := 4) (q := (RX4, TX4, 80)) (rest := []) (st1 := [.int (bI (f_X4_isDay a4 w))]) hx hb hml hown hts hK hR hF hL hl.1 (met_X4_isDay l G z H0 w a4 _ rfl) (congrArg Prod.fst (hF.2.1 58 (5, 0) rfl)) rfl rfl rfl hd_X4_isDay q2093 q2095 qs76 q104 q2096 ⟨Nat.le_of_ble_eq_true rfl, Nat.le_of_ble_eq_true rfl⟩ ⟨Nat.le_refl 0, Nat.le_refl 0⟩ rfl rfl (Nat.le_of_ble_eq_true rfl) dX4_why_22 rfl (fun locs hL => ?_)
      refine lv_if_eq (tgt := 40) hx hb dX4_why_25 (by decide) (fun c5 => ?_) (fun c5 => ?_)
      · rw [if_neg (bI_n c5)] at h
        refine lv_bipush (v := -2) hx hb dX4_why_40 (by decide) ?_
        have h := Option.some.inj h
        subst h
        exact W.iret (v := (-2 : Int32)) hx hb hr (fun t ht _ => ⟨rfl, by rw [ht]; exact hR, hF⟩) hL dX4_why_42
      · rw [if_pos (bI_p c5)] at h
        refine lv_aload_n hx hb dX4_why_28 rfl (lv_at hl 0 rfl) ?_
        refine lv_iload_n hx hb dX4_why_29 rfl (lv_at hl 1 rfl) ?_
        refine lv_iload_n hx hb dX4_why_30 rfl (lv_at hl 2 rfl) ?_
        refine lv_iload_n hx hb dX4_why_31 rfl (lv_at hl 3 rfl) ?_
        refine lv_iload hx hb dX4_why_32 (lv_at hl 4 rfl) ?_
        obtain ⟨q6, hq7, h⟩ := bnd h
        refine c_VW (a := 58) (ci := 4) (q := (RX4, TX4, 80)) (rest := []) (st1 := [.int q6.1]) hx hb hml hown hts hK hR hF hL hl.1 (met_X4_striker l G z H0 n w a1 a2 a3 a4 q6 hq7) (congrArg Prod.fst (hF.2.1 58 (5, 0) rfl)) rfl rfl rfl hd_X4_striker q2113 q2115 qs80 q104 q2116 ⟨Nat.le_of_ble_eq_true rfl, Nat.le_of_ble_eq_true rfl⟩ ⟨Nat.le_refl 0, Nat.le_refl 0⟩ rfl rfl (Nat.le_of_ble_eq_true rfl) dX4_why_34 rfl (fun H locs hR hF hL => ?_)
        refine lv_goto (tgt := 42) hx hb dX4_why_37 (by decide) ?_
        have h := Option.some.inj h
        subst h
        exact W.iret (v := q6.1) hx hb hr (fun t ht _ => ⟨rfl, by rw [ht]; exact hR, hF⟩) hL dX4_why_42
    · rw [if_neg (bI_n c4)] at h
      refine lv_iconst (v := -1) hx hb dX4_why_17 (by decide) ?_
      have h := Option.some.inj h
      subst h
      exact W.iret (v := (-1 : Int32)) hx hb hr (fun t ht _ => ⟨rfl, by rw [ht]; exact hR, hF⟩) hL dX4_why_18
def f_X4_isPerson (a1 : Int32) (w : Wd) : Bool :=
  (f_X4_in a1 (0 : Int32) ((wI w 58 1) - (1 : Int32)) w)
theorem hd_X4_isPerson : yX4_isPerson.cls = RX4 ∧ yX4_isPerson.cls ≠ "java/lang/invoke/MethodHandle" ∧ yX4_isPerson.cls ≠ "java/lang/invoke/VarHandle" ∧ (parseMethodDescriptor yX4_isPerson.desc).map (fun d => d.parameters.length) = some 1 := by decide +kernel
set_option maxHeartbeats 4000000 in
set_option maxRecDepth 100000 in
theorem met_X4_isPerson (l : Launch) (G : Gw) (z : Nat) (H0 : Heap)  (w : Wd) (a1 : Int32) (q : Bool) (h : f_X4_isPerson a1 w = q) : Met l yX4_isPerson (ws_ yX4_isPerson cX4_isPerson 2 (some .boolean)) ({ frames := 1, cells := 0, slots := 0, locals := 23 } : Room) (pcW G z H0 w [.ref (z + 58), .int a1]) (qP (some (.int (bI q)))) 0 0 (fun q => z ≤ q) := by
  refine mW (by decide) (Nat.le_of_ble_eq_true rfl) ?_
  intro p e s m below meth c ls hx hb hr hml hown hts hlocks hnm hK hR hF hl
  have hown : s.vm.findClass RX4 = some m.cls := hown
  have hl : lv_has ls 2 [(0, .ref (z + 58)), (1, .int a1)] := hl
  have hL : lok z [] := lok_nil
  unfold f_X4_isPerson at h
  generalize ([] : List Loc) = locs at hL ⊢
  refine lv_aload_n hx hb dX4_isPerson_0 rfl (lv_at hl 0 rfl) ?_
  refine lv_iload_n hx hb dX4_isPerson_1 rfl (lv_at hl 1 rfl) ?_
  refine lv_iconst (v := 0) hx hb dX4_isPerson_2 (by decide) ?_
  refine lv_aload_n hx hb dX4_isPerson_3 rfl (lv_at hl 0 rfl) ?_
  refine r_get (C := RX4) (T := TX4) (N := 80) hx hb hts ok4 hown hK hR (congrArg Prod.fst (hF.2.1 58 (5, 0) rfl)) rfl 1 (by decide) (hts _ q1634) (fun _ h9 => h9) (v := .int (wI w 58 1)) rfl dX4_isPerson_4 ?_
  refine lv_iconst (v := 1) hx hb dX4_isPerson_7 (by decide) ?_
  refine lv_isub hx hb dX4_isPerson_8 ?_
  refine c_VP (a := 58) (ci := 4) (q := (RX4, TX4, 80)) (rest := []) (st1 := [.int (bI (f_X4_in a1 (0 : Int32) ((wI w 58 1) - (1 : Int32)) w))]) hx hb hml hown hts hK hR hF hL hl.1 (met_X4_in l G z H0 w a1 (0 : Int32) ((wI w 58 1) - (1 : Int32)) _ rfl) (congrArg Prod.fst (hF.2.1 58 (5, 0) rfl)) rfl rfl rfl hd_X4_in q1878 q1880 qs41 q104 q1881 ⟨Nat.le_of_ble_eq_true rfl, Nat.le_of_ble_eq_true rfl⟩ ⟨Nat.le_refl 0, Nat.le_refl 0⟩ rfl rfl (Nat.le_of_ble_eq_true rfl) dX4_isPerson_9 rfl (fun locs hL => ?_)
  subst h
  exact W.zret (v := bI (f_X4_in a1 (0 : Int32) ((wI w 58 1) - (1 : Int32)) w)) hx hb hr (bI_nar _) (fun t ht _ => ⟨rfl, ht⟩) hL dX4_isPerson_12
def f_X4_leave (a1 : Int32) (a2 : Int32) (a3 : Int32) (a4 : Int32) (w : Wd) : Option (Int32 × Wd) :=
  if (f_X4_isPerson a1 w) then (if (f_X4_isBook a2 w) then (if (f_X4_isDay a3 w) then (if (f_X4_isDay a4 w) then (if a3 ≤ a4 then (if (wI w 58 50) = (30 : Int32) then (some ((-4 : Int32), w)) else (if inb (wI w 58 50) 30 then (if inb (wI w 58 50) 30 then (if inb (wI w 58 50) 30 then (if inb (wI w 58 50) 30 then (some (((wI w 58 50) + (1 : Int32)) - (1 : Int32), sI (sI (sI (sI (sI w 84 ((wI w 58 50).toNatClampNeg) a1) 85 ((wI w 58 50).toNatClampNeg) a2) 86 ((wI w 58 50).toNatClampNeg) a3) 87 ((wI w 58 50).toNatClampNeg) a4) 58 50 ((wI w 58 50) + (1 : Int32)))) else none) else none) else none) else none)) else (some ((-2 : Int32), w))) else (some ((-2 : Int32), w))) else (some ((-2 : Int32), w))) else (some ((-1 : Int32), w))) else (some ((-1 : Int32), w))
theorem hd_X4_leave : yX4_leave.cls = RX4 ∧ yX4_leave.cls ≠ "java/lang/invoke/MethodHandle" ∧ yX4_leave.cls ≠ "java/lang/invoke/VarHandle" ∧ (parseMethodDescriptor yX4_leave.desc).map (fun d => d.parameters.length) = some 4 := by decide +kernel
set_option maxHeartbeats 4000000 in
set_option maxRecDepth 100000 in
theorem met_X4_leave (l : Launch) (G : Gw) (z : Nat) (H0 : Heap)  (w : Wd) (a1 : Int32) (a2 : Int32) (a3 : Int32) (a4 : Int32) (q : Int32 × Wd) (h : f_X4_leave a1 a2 a3 a4 w = some q) : Met l yX4_leave (ws_ yX4_leave cX4_leave 5 (some .int)) ({ frames := 2, cells := 0, slots := 0, locals := 44 } : Room) (pcW G z H0 w [.ref (z + 58), .int a1, .int a2, .int a3, .int a4]) (qW G z H0 q.2 (some (.int q.1))) 0 0 (fun q => z ≤ q) := by
  refine mW (by decide) (Nat.le_of_ble_eq_true rfl) ?_
  intro p e s m below meth c ls hx hb hr hml hown hts hlocks hnm hK hR hF hl
  have hown : s.vm.findClass RX4 = some m.cls := hown
  have hl : lv_has ls 5 [(0, .ref (z + 58)), (1, .int a1), (2, .int a2), (3, .int a3), (4, .int a4)] := hl
  have hL : lok z [] := lok_nil
  unfold f_X4_leave at h
  generalize s.heap = H at hR ⊢
  generalize ([] : List Loc) = locs at hL ⊢
  refine lv_aload_n hx hb dX4_leave_0 rfl (lv_at hl 0 rfl) ?_
  refine lv_iload_n hx hb dX4_leave_1 rfl (lv_at hl 1 rfl) ?_
  refine c_VP (a := 58) (ci := 4) (q := (RX4, TX4, 80)) (rest := []) (st1 := [.int (bI (f_X4_isPerson a1 w))]) hx hb hml hown hts hK hR hF hL hl.1 (met_X4_isPerson l G z H0 w a1 _ rfl) (congrArg Prod.fst (hF.2.1 58 (5, 0) rfl)) rfl rfl rfl hd_X4_isPerson q2133 q2135 qs83 q104 q2136 ⟨Nat.le_of_ble_eq_true rfl, Nat.le_of_ble_eq_true rfl⟩ ⟨Nat.le_refl 0, Nat.le_refl 0⟩ rfl rfl (Nat.le_of_ble_eq_true rfl) dX4_leave_2 rfl (fun locs hL => ?_)
  refine lv_if_eq (tgt := 16) hx hb dX4_leave_5 (by decide) (fun c1 => ?_) (fun c1 => ?_)
  · rw [if_neg (bI_n c1)] at h
    refine lv_iconst (v := -1) hx hb dX4_leave_16 (by decide) ?_
    have h := Option.some.inj h
    subst h
    exact W.iret (v := (-1 : Int32)) hx hb hr (fun t ht _ => ⟨rfl, by rw [ht]; exact hR, hF⟩) hL dX4_leave_17
  · rw [if_pos (bI_p c1)] at h
    refine lv_aload_n hx hb dX4_leave_8 rfl (lv_at hl 0 rfl) ?_
    refine lv_iload_n hx hb dX4_leave_9 rfl (lv_at hl 2 rfl) ?_
    refine c_VP (a := 58) (ci := 4) (q := (RX4, TX4, 80)) (rest := []) (st1 := [.int (bI (f_X4_isBook a2 w))]) hx hb hml hown hts hK hR hF hL hl.1 (met_X4_isBook l G z H0 w a2 _ rfl) (congrArg Prod.fst (hF.2.1 58 (5, 0) rfl)) rfl rfl rfl hd_X4_isBook q1910 q1912 qs44 q104 q1913 ⟨Nat.le_of_ble_eq_true rfl, Nat.le_of_ble_eq_true rfl⟩ ⟨Nat.le_refl 0, Nat.le_refl 0⟩ rfl rfl (Nat.le_of_ble_eq_true rfl) dX4_leave_10 rfl (fun locs hL => ?_)
    refine lv_if_ne (tgt := 18) hx hb dX4_leave_13 (by decide) (fun c2 => ?_) (fun c2 => ?_)
    · rw [if_pos (bI_p c2)] at h
      refine lv_aload_n hx hb dX4_leave_18 rfl (lv_at hl 0 rfl) ?_
      refine lv_iload_n hx hb dX4_leave_19 rfl (lv_at hl 3 rfl) ?_
      refine c_VP (a := 58) (ci := 4) (q := (RX4, TX4, 80)) (rest := []) (st1 := [.int (bI (f_X4_isDay a3 w))]) hx hb hml hown hts hK hR hF hL hl.1 (met_X4_isDay l G z H0 w a3 _ rfl) (congrArg Prod.fst (hF.2.1 58 (5, 0) rfl)) rfl rfl rfl hd_X4_isDay q2093 q2095 qs76 q104 q2096 ⟨Nat.le_of_ble_eq_true rfl, Nat.le_of_ble_eq_true rfl⟩ ⟨Nat.le_refl 0, Nat.le_refl 0⟩ rfl rfl (Nat.le_of_ble_eq_true rfl) dX4_leave_20 rfl (fun locs hL => ?_)
      refine lv_if_eq (tgt := 41) hx hb dX4_leave_23 (by decide) (fun c3 => ?_) (fun c3 => ?_)
      · rw [if_neg (bI_n c3)] at h
        refine lv_bipush (v := -2) hx hb dX4_leave_41 (by decide) ?_
        have h := Option.some.inj h
        subst h
        exact W.iret (v := (-2 : Int32)) hx hb hr (fun t ht _ => ⟨rfl, by rw [ht]; exact hR, hF⟩) hL dX4_leave_43
      · rw [if_pos (bI_p c3)] at h
        refine lv_aload_n hx hb dX4_leave_26 rfl (lv_at hl 0 rfl) ?_
        refine lv_iload hx hb dX4_leave_27 (lv_at hl 4 rfl) ?_
        refine c_VP (a := 58) (ci := 4) (q := (RX4, TX4, 80)) (rest := []) (st1 := [.int (bI (f_X4_isDay a4 w))]) hx hb hml hown hts hK hR hF hL hl.1 (met_X4_isDay l G z H0 w a4 _ rfl) (congrArg Prod.fst (hF.2.1 58 (5, 0) rfl)) rfl rfl rfl hd_X4_isDay q2093 q2095 qs76 q104 q2096 ⟨Nat.le_of_ble_eq_true rfl, Nat.le_of_ble_eq_true rfl⟩ ⟨Nat.le_refl 0, Nat.le_refl 0⟩ rfl rfl (Nat.le_of_ble_eq_true rfl) dX4_leave_29 rfl (fun locs hL => ?_)
        refine lv_if_eq (tgt := 41) hx hb dX4_leave_32 (by decide) (fun c4 => ?_) (fun c4 => ?_)
        · rw [if_neg (bI_n c4)] at h
          refine lv_bipush (v := -2) hx hb dX4_leave_41 (by decide) ?_
          have h := Option.some.inj h
          subst h
          exact W.iret (v := (-2 : Int32)) hx hb hr (fun t ht _ => ⟨rfl, by rw [ht]; exact hR, hF⟩) hL dX4_leave_43
        · rw [if_pos (bI_p c4)] at h
          refine lv_iload_n hx hb dX4_leave_35 rfl (lv_at hl 3 rfl) ?_
          refine lv_iload hx hb dX4_leave_36 (lv_at hl 4 rfl) ?_
          refine lv_icmp_le (tgt := 44) hx hb dX4_leave_38 (by decide) (fun c5 => ?_) (fun c5 => ?_)
          · rw [if_pos c5] at h
            refine lv_aload_n hx hb dX4_leave_44 rfl (lv_at hl 0 rfl) ?_
            refine r_get (C := RX4) (T := TX4) (N := 80) hx hb hts ok4 hown hK hR (congrArg Prod.fst (hF.2.1 58 (5, 0) rfl)) rfl 50 (by decide) (hts _ q1683) (fun _ h9 => h9) (v := .int (wI w 58 50)) rfl dX4_leave_45 ?_
            refine lv_bipush (v := 30) hx hb dX4_leave_48 (by decide) ?_
            refine lv_icmp_ne (tgt := 56) hx hb dX4_leave_50 (by decide) (fun c6 => ?_) (fun c6 => ?_)
            · rw [if_neg c6] at h
              refine lv_aload_n hx hb dX4_leave_56 rfl (lv_at hl 0 rfl) ?_
              refine r_get (C := RX4) (T := TX4) (N := 80) hx hb hts ok4 hown hK hR (congrArg Prod.fst (hF.2.1 58 (5, 0) rfl)) rfl 51 (by decide) (hts _ q1684) (fun _ h9 => h9) (v := .ref (z + 84)) (fv_fix hF rfl rfl) dX4_leave_57 ?_
              refine lv_aload_n hx hb dX4_leave_60 rfl (lv_at hl 0 rfl) ?_
              refine r_get (C := RX4) (T := TX4) (N := 80) hx hb hts ok4 hown hK hR (congrArg Prod.fst (hF.2.1 58 (5, 0) rfl)) rfl 50 (by decide) (hts _ q1683) (fun _ h9 => h9) (v := .int (wI w 58 50)) rfl dX4_leave_61 ?_
              refine lv_iload_n hx hb dX4_leave_64 rfl (lv_at hl 1 rfl) ?_
              obtain ⟨hb7, h⟩ := grd h
              refine r_iast hx hb hK hR hL (hF.2.1 84 (200, 30) rfl) hb7 dX4_leave_65 (fun H locs hR hL => ?_)
              have hF := hF.sI 84 ((wI w 58 50).toNatClampNeg) a1
              refine lv_aload_n hx hb dX4_leave_66 rfl (lv_at hl 0 rfl) ?_
              refine r_get (C := RX4) (T := TX4) (N := 80) hx hb hts ok4 hown hK hR (congrArg Prod.fst (hF.2.1 58 (5, 0) rfl)) rfl 52 (by decide) (hts _ q1685) (fun _ h9 => h9) (v := .ref (z + 85)) (fv_fix hF rfl rfl) dX4_leave_67 ?_
              refine lv_aload_n hx hb dX4_leave_70 rfl (lv_at hl 0 rfl) ?_
              refine r_get (C := RX4) (T := TX4) (N := 80) hx hb hts ok4 hown hK hR (congrArg Prod.fst (hF.2.1 58 (5, 0) rfl)) rfl 50 (by decide) (hts _ q1683) (fun _ h9 => h9) (v := .int (wI w 58 50)) rfl dX4_leave_71 ?_
              refine lv_iload_n hx hb dX4_leave_74 rfl (lv_at hl 2 rfl) ?_
              obtain ⟨hb8, h⟩ := grd h
              refine r_iast hx hb hK hR hL (hF.2.1 85 (200, 30) rfl) hb8 dX4_leave_75 (fun H locs hR hL => ?_)
              have hF := hF.sI 85 ((wI w 58 50).toNatClampNeg) a2
              refine lv_aload_n hx hb dX4_leave_76 rfl (lv_at hl 0 rfl) ?_
              refine r_get (C := RX4) (T := TX4) (N := 80) hx hb hts ok4 hown hK hR (congrArg Prod.fst (hF.2.1 58 (5, 0) rfl)) rfl 53 (by decide) (hts _ q1686) (fun _ h9 => h9) (v := .ref (z + 86)) (fv_fix hF rfl rfl) dX4_leave_77 ?_
              refine lv_aload_n hx hb dX4_leave_80 rfl (lv_at hl 0 rfl) ?_
              refine r_get (C := RX4) (T := TX4) (N := 80) hx hb hts ok4 hown hK hR (congrArg Prod.fst (hF.2.1 58 (5, 0) rfl)) rfl 50 (by decide) (hts _ q1683) (fun _ h9 => h9) (v := .int (wI w 58 50)) rfl dX4_leave_81 ?_
              refine lv_iload_n hx hb dX4_leave_84 rfl (lv_at hl 3 rfl) ?_
              obtain ⟨hb9, h⟩ := grd h
              refine r_iast hx hb hK hR hL (hF.2.1 86 (200, 30) rfl) hb9 dX4_leave_85 (fun H locs hR hL => ?_)
              have hF := hF.sI 86 ((wI w 58 50).toNatClampNeg) a3
              refine lv_aload_n hx hb dX4_leave_86 rfl (lv_at hl 0 rfl) ?_
              refine r_get (C := RX4) (T := TX4) (N := 80) hx hb hts ok4 hown hK hR (congrArg Prod.fst (hF.2.1 58 (5, 0) rfl)) rfl 54 (by decide) (hts _ q1687) (fun _ h9 => h9) (v := .ref (z + 87)) (fv_fix hF rfl rfl) dX4_leave_87 ?_
              refine lv_aload_n hx hb dX4_leave_90 rfl (lv_at hl 0 rfl) ?_
              refine r_get (C := RX4) (T := TX4) (N := 80) hx hb hts ok4 hown hK hR (congrArg Prod.fst (hF.2.1 58 (5, 0) rfl)) rfl 50 (by decide) (hts _ q1683) (fun _ h9 => h9) (v := .int (wI w 58 50)) rfl dX4_leave_91 ?_
              refine lv_iload hx hb dX4_leave_94 (lv_at hl 4 rfl) ?_
              obtain ⟨hb10, h⟩ := grd h
              refine r_iast hx hb hK hR hL (hF.2.1 87 (200, 30) rfl) hb10 dX4_leave_96 (fun H locs hR hL => ?_)
              have hF := hF.sI 87 ((wI w 58 50).toNatClampNeg) a4
              refine lv_aload_n hx hb dX4_leave_97 rfl (lv_at hl 0 rfl) ?_
              refine lv_dup hx hb dX4_leave_98 rfl ?_
              refine r_get (C := RX4) (T := TX4) (N := 80) hx hb hts ok4 hown hK hR (congrArg Prod.fst (hF.2.1 58 (5, 0) rfl)) rfl 50 (by decide) (hts _ q1683) (fun _ h9 => h9) (v := .int (wI w 58 50)) rfl dX4_leave_99 ?_
              refine lv_iconst (v := 1) hx hb dX4_leave_102 (by decide) ?_
              refine lv_iadd hx hb dX4_leave_103 ?_
              refine r_putI (C := RX4) (T := TX4) (N := 80) hx hb hts ok4 hown hK hR hL (congrArg Prod.fst (hF.2.1 58 (5, 0) rfl)) rfl 50 (by decide) (hts _ q1683) (fun _ h9 => h9) (Or.inl rfl) rfl rfl rfl dX4_leave_104 (fun H locs hR hL => ?_)
              have hF := hF.sI 58 50 ((wI w 58 50) + (1 : Int32))
              refine lv_aload_n hx hb dX4_leave_107 rfl (lv_at hl 0 rfl) ?_
              refine r_get (C := RX4) (T := TX4) (N := 80) hx hb hts ok4 hown hK hR (congrArg Prod.fst (hF.2.1 58 (5, 0) rfl)) rfl 50 (by decide) (hts _ q1683) (fun _ h9 => h9) (v := .int ((wI w 58 50) + (1 : Int32))) rfl dX4_leave_108 ?_
              refine lv_iconst (v := 1) hx hb dX4_leave_111 (by decide) ?_
              refine lv_isub hx hb dX4_leave_112 ?_
              have h := Option.some.inj h
              subst h
              exact W.iret (v := ((wI w 58 50) + (1 : Int32)) - (1 : Int32)) hx hb hr (fun t ht _ => ⟨rfl, by rw [ht]; exact hR, hF⟩) hL dX4_leave_113
            · rw [if_pos c6] at h
              refine lv_bipush (v := -4) hx hb dX4_leave_53 (by decide) ?_
              have h := Option.some.inj h
              subst h
              exact W.iret (v := (-4 : Int32)) hx hb hr (fun t ht _ => ⟨rfl, by rw [ht]; exact hR, hF⟩) hL dX4_leave_55
          · rw [if_neg c5] at h
            refine lv_bipush (v := -2) hx hb dX4_leave_41 (by decide) ?_
            have h := Option.some.inj h
            subst h
            exact W.iret (v := (-2 : Int32)) hx hb hr (fun t ht _ => ⟨rfl, by rw [ht]; exact hR, hF⟩) hL dX4_leave_43
    · rw [if_neg (bI_n c2)] at h
      refine lv_iconst (v := -1) hx hb dX4_leave_16 (by decide) ?_
      have h := Option.some.inj h
      subst h
      exact W.iret (v := (-1 : Int32)) hx hb hr (fun t ht _ => ⟨rfl, by rw [ht]; exact hR, hF⟩) hL dX4_leave_17
def f_X4_reads_L122 (n : Nat) (u1_4 : Int32) (u1_1 : Int32) (u1_3 : Int32) (s1 : Int32 × Wd) : Option ((Int32 × Wd) ⊕ ((Int32 × Wd) ⊕ (Int32 × Wd))) :=
  if (wI s1.2 58 25) ≤ s1.1 then (some (.inr (.inl (s1.1, s1.2)))) else ((f_X4_isKnown n s1.1 u1_4 u1_3 s1.2).bind fun q9 => if q9.1 then (if inb u1_1 16 then ((f_X4_goes n s1.1 (f_X4_asks (-1 : Int32) (-1 : Int32) (wI q9.2 61 u1_1.toNatClampNeg) q9.2)).bind fun q13 => if q13.1 then (if inb s1.1 16 then ((f_X4_farOf n u1_4 q13.2).bind fun q17 => if (((wI q13.2 78 s1.1.toNatClampNeg) + q17.1) + (wI q17.2 58 36)) ≤ u1_3 then (some (.inl (s1.1 + (1 : Int32), q17.2))) else (some (.inr (.inr (s1.1, q17.2))))) else none) else (some (.inl (s1.1 + (1 : Int32), q13.2)))) else none) else (some (.inl (s1.1 + (1 : Int32), q9.2))))
def f_X4_reads_L53 (n : Nat) (u1_4 : Int32) (u1_1 : Int32) (u1_2 : Int32) (u1_3 : Int32) (w : Wd) (s1 : Int32) : Option ((Int32) ⊕ ((Int32) ⊕ (Int32))) :=
  if (wI w 58 50) ≤ s1 then (some (.inr (.inl s1))) else (if inb s1 30 then (if (wI w 84 s1.toNatClampNeg) = u1_1 then (if inb s1 30 then (if inb u1_2 24 then (if (wI w 85 s1.toNatClampNeg) = (wI w 67 u1_2.toNatClampNeg) then (if inb s1 30 then (if inb s1 30 then (if (f_X4_in u1_3 (wI w 86 s1.toNatClampNeg) (wI w 87 s1.toNatClampNeg) w) then (some (.inr (.inr s1))) else (some (.inl (s1 + (1 : Int32))))) else none) else none) else (some (.inl (s1 + (1 : Int32))))) else none) else none) else (some (.inl (s1 + (1 : Int32))))) else none)
def f_X4_reads (n : Nat) (a1 : Int32) (a2 : Int32) (a3 : Int32) (w : Wd) : Option (Int32 × Wd) :=
  if (f_X4_isPerson a1 w) then (if (f_X4_isEdition a2 w) then (if (f_X4_isDay a3 w) then (if inb a1 16 then ((f_X4_isBarred n a2 (wI w 60 a1.toNatClampNeg) a3 w).bind fun q5 => if q5.1 then ((it n (f_X4_reads_L53 n (wI w 60 a1.toNatClampNeg) a1 a2 a3 q5.2) (0 : Int32)).bind fun t53 => (match t53 with | .inl q53_119 => (it n (f_X4_reads_L122 n (wI w 60 a1.toNatClampNeg) a1 a3) ((0 : Int32), q5.2)).bind fun t122 => (match t122 with | .inl q122_198 => some ((0 : Int32), q122_198.2) | .inr q122_190 => some ((3 : Int32), q122_190.2)) | .inr q53_111 => some ((2 : Int32), q5.2))) else (some ((1 : Int32), q5.2))) else none) else (some ((-2 : Int32), w))) else (some ((-1 : Int32), w))) else (some ((-1 : Int32), w))
theorem hd_X4_reads : yX4_reads.cls = RX4 ∧ yX4_reads.cls ≠ "java/lang/invoke/MethodHandle" ∧ yX4_reads.cls ≠ "java/lang/invoke/VarHandle" ∧ (parseMethodDescriptor yX4_reads.desc).map (fun d => d.parameters.length) = some 3 := by decide +kernel
set_option maxHeartbeats 4000000 in
set_option maxRecDepth 100000 in
theorem met_X4_reads (l : Launch) (G : Gw) (z : Nat) (H0 : Heap) (n : Nat) (w : Wd) (a1 : Int32) (a2 : Int32) (a3 : Int32) (q : Int32 × Wd) (h : f_X4_reads n a1 a2 a3 w = some q) : Met l yX4_reads (ws_ yX4_reads cX4_reads 6 (some .int)) ({ frames := 9, cells := 0, slots := 0, locals := 200 } : Room) (pcW G z H0 w [.ref (z + 58), .int a1, .int a2, .int a3]) (qW G z H0 q.2 (some (.int q.1))) 0 0 (fun q => z ≤ q) := by
  refine mW (by decide) (Nat.le_of_ble_eq_true rfl) ?_
  intro p e s m below meth c ls hx hb hr hml hown hts hlocks hnm hK hR hF hl
  have hown : s.vm.findClass RX4 = some m.cls := hown
  have hl : lv_has ls 6 [(0, .ref (z + 58)), (1, .int a1), (2, .int a2), (3, .int a3)] := hl
  have hL : lok z [] := lok_nil
  unfold f_X4_reads at h
  generalize s.heap = H at hR ⊢
  generalize ([] : List Loc) = locs at hL ⊢
  refine lv_aload_n hx hb dX4_reads_0 rfl (lv_at hl 0 rfl) ?_
  refine lv_iload_n hx hb dX4_reads_1 rfl (lv_at hl 1 rfl) ?_
  refine c_VP (a := 58) (ci := 4) (q := (RX4, TX4, 80)) (rest := []) (st1 := [.int (bI (f_X4_isPerson a1 w))]) hx hb hml hown hts hK hR hF hL hl.1 (met_X4_isPerson l G z H0 w a1 _ rfl) (congrArg Prod.fst (hF.2.1 58 (5, 0) rfl)) rfl rfl rfl hd_X4_isPerson q2133 q2135 qs83 q104 q2136 ⟨Nat.le_of_ble_eq_true rfl, Nat.le_of_ble_eq_true rfl⟩ ⟨Nat.le_refl 0, Nat.le_refl 0⟩ rfl rfl (Nat.le_of_ble_eq_true rfl) dX4_reads_2 rfl (fun locs hL => ?_)
  refine lv_if_eq (tgt := 16) hx hb dX4_reads_5 (by decide) (fun c1 => ?_) (fun c1 => ?_)
  · rw [if_neg (bI_n c1)] at h
    refine lv_iconst (v := -1) hx hb dX4_reads_16 (by decide) ?_
    have h := Option.some.inj h
    subst h
    exact W.iret (v := (-1 : Int32)) hx hb hr (fun t ht _ => ⟨rfl, by rw [ht]; exact hR, hF⟩) hL dX4_reads_17
  · rw [if_pos (bI_p c1)] at h
    refine lv_aload_n hx hb dX4_reads_8 rfl (lv_at hl 0 rfl) ?_
    refine lv_iload_n hx hb dX4_reads_9 rfl (lv_at hl 2 rfl) ?_
    refine c_VP (a := 58) (ci := 4) (q := (RX4, TX4, 80)) (rest := []) (st1 := [.int (bI (f_X4_isEdition a2 w))]) hx hb hml hown hts hK hR hF hL hl.1 (met_X4_isEdition l G z H0 w a2 _ rfl) (congrArg Prod.fst (hF.2.1 58 (5, 0) rfl)) rfl rfl rfl hd_X4_isEdition q1919 q1921 qs45 q104 q1922 ⟨Nat.le_of_ble_eq_true rfl, Nat.le_of_ble_eq_true rfl⟩ ⟨Nat.le_refl 0, Nat.le_refl 0⟩ rfl rfl (Nat.le_of_ble_eq_true rfl) dX4_reads_10 rfl (fun locs hL => ?_)
    refine lv_if_ne (tgt := 18) hx hb dX4_reads_13 (by decide) (fun c2 => ?_) (fun c2 => ?_)
    · rw [if_pos (bI_p c2)] at h
      refine lv_aload_n hx hb dX4_reads_18 rfl (lv_at hl 0 rfl) ?_
      refine lv_iload_n hx hb dX4_reads_19 rfl (lv_at hl 3 rfl) ?_
      refine c_VP (a := 58) (ci := 4) (q := (RX4, TX4, 80)) (rest := []) (st1 := [.int (bI (f_X4_isDay a3 w))]) hx hb hml hown hts hK hR hF hL hl.1 (met_X4_isDay l G z H0 w a3 _ rfl) (congrArg Prod.fst (hF.2.1 58 (5, 0) rfl)) rfl rfl rfl hd_X4_isDay q2093 q2095 qs76 q104 q2096 ⟨Nat.le_of_ble_eq_true rfl, Nat.le_of_ble_eq_true rfl⟩ ⟨Nat.le_refl 0, Nat.le_refl 0⟩ rfl rfl (Nat.le_of_ble_eq_true rfl) dX4_reads_20 rfl (fun locs hL => ?_)
      refine lv_if_ne (tgt := 29) hx hb dX4_reads_23 (by decide) (fun c3 => ?_) (fun c3 => ?_)
      · rw [if_pos (bI_p c3)] at h
        refine lv_aload_n hx hb dX4_reads_29 rfl (lv_at hl 0 rfl) ?_
        refine r_get (C := RX4) (T := TX4) (N := 80) hx hb hts ok4 hown hK hR (congrArg Prod.fst (hF.2.1 58 (5, 0) rfl)) rfl 5 (by decide) (hts _ q1638) (fun _ h9 => h9) (v := .ref (z + 60)) (fv_fix hF rfl rfl) dX4_reads_30 ?_
        refine lv_iload_n hx hb dX4_reads_33 rfl (lv_at hl 1 rfl) ?_
        obtain ⟨hb4, h⟩ := grd h
        refine r_iald (v := wI w 60 a1.toNatClampNeg) hx hb hK hR (hF.2.1 60 (200, 16) rfl) hb4 rfl dX4_reads_34 ?_
        refine lv_istore (lv' := [(4, .int (wI w 60 a1.toNatClampNeg)), (0, .ref (z + 58)), (1, .int a1), (2, .int a2), (3, .int a3)]) hx hb dX4_reads_35 hl (by decide) rfl (fun ls hl => ?_)
        refine lv_aload_n hx hb dX4_reads_37 rfl (lv_at hl 1 rfl) ?_
        refine lv_iload_n hx hb dX4_reads_38 rfl (lv_at hl 3 rfl) ?_
        refine lv_iload hx hb dX4_reads_39 (lv_at hl 0 rfl) ?_
        refine lv_iload_n hx hb dX4_reads_41 rfl (lv_at hl 4 rfl) ?_
        obtain ⟨q5, hq6, h⟩ := bnd h
        refine c_VW (a := 58) (ci := 4) (q := (RX4, TX4, 80)) (rest := []) (st1 := [.int (bI q5.1)]) hx hb hml hown hts hK hR hF hL hl.1 (met_X4_isBarred l G z H0 n w a2 (wI w 60 a1.toNatClampNeg) a3 q5 hq6) (congrArg Prod.fst (hF.2.1 58 (5, 0) rfl)) rfl rfl rfl hd_X4_isBarred q2117 q2119 qs81 q104 q2120 ⟨Nat.le_of_ble_eq_true rfl, Nat.le_of_ble_eq_true rfl⟩ ⟨Nat.le_refl 0, Nat.le_refl 0⟩ rfl rfl (Nat.le_of_ble_eq_true rfl) dX4_reads_42 rfl (fun H locs hR hF hL => ?_)
        refine lv_if_ne (tgt := 50) hx hb dX4_reads_45 (by decide) (fun c7 => ?_) (fun c7 => ?_)
        · rw [if_pos (bI_p c7)] at h
          refine lv_iconst (v := 0) hx hb dX4_reads_50 (by decide) ?_
          refine lv_istore (lv' := [(5, .int (0 : Int32)), (4, .int (wI w 60 a1.toNatClampNeg)), (0, .ref (z + 58)), (1, .int a1), (2, .int a2), (3, .int a3)]) hx hb dX4_reads_51 hl (by decide) rfl (fun ls hl => ?_)
          have hX53_119 : ∀ (q53_119 : Int32), ((it n (f_X4_reads_L122 n (wI w 60 a1.toNatClampNeg) a1 a3) ((0 : Int32), q5.2)).bind fun t122 => (match t122 with | .inl q122_198 => some ((0 : Int32), q122_198.2) | .inr q122_190 => some ((3 : Int32), q122_190.2))) = some q → ∀ (locs : List Loc) (ls : Array Slot), lok z locs → lv_has ls 6 [(4, .int (wI w 60 a1.toNatClampNeg)), (0, .ref (z + 58)), (1, .int a1), (3, .int a3)] → W p l e ({ frames := 9, cells := 0, slots := 0, locals := 200 } : Room) s m ([.ref (z + 58), .int a1, .int a2, .int a3] : List Value).toArray below meth c H locs 0 0 (MQ below (qW G z H0 q.2 (some (.int q.1))) ([.ref (z + 58), .int a1, .int a2, .int a3] : List Value).toArray s 0 0 (fun q => z ≤ q)) (F0 m 119 ls []) := by
            intro q53_119 h locs ls hL hl
            refine lv_iconst (v := 0) hx hb dX4_reads_119 (by decide) ?_
            refine lv_istore (lv' := [(5, .int (0 : Int32)), (4, .int (wI w 60 a1.toNatClampNeg)), (0, .ref (z + 58)), (1, .int a1), (3, .int a3)]) hx hb dX4_reads_120 hl (by decide) rfl (fun ls hl => ?_)
            have hX122_198 : ∀ (q122_198 : Int32 × Wd), (some ((0 : Int32), q122_198.2)) = some q → ∀ (H : Heap) (locs : List Loc) (ls : Array Slot), Rp G z H0 q122_198.2 H → Fix q122_198.2 → lok z locs → lv_has ls 6 [] → W p l e ({ frames := 9, cells := 0, slots := 0, locals := 200 } : Room) s m ([.ref (z + 58), .int a1, .int a2, .int a3] : List Value).toArray below meth c H locs 0 0 (MQ below (qW G z H0 q.2 (some (.int q.1))) ([.ref (z + 58), .int a1, .int a2, .int a3] : List Value).toArray s 0 0 (fun q => z ≤ q)) (F0 m 198 ls []) := by
              intro q122_198 h H locs ls hR hF hL hl
              refine lv_iconst (v := 0) hx hb dX4_reads_198 (by decide) ?_
              have h := Option.some.inj h
              subst h
              exact W.iret (v := (0 : Int32)) hx hb hr (fun t ht _ => ⟨rfl, by rw [ht]; exact hR, hF⟩) hL dX4_reads_199
            have hX122_190 : ∀ (q122_190 : Int32 × Wd), (some ((3 : Int32), q122_190.2)) = some q → ∀ (H : Heap) (locs : List Loc) (ls : Array Slot), Rp G z H0 q122_190.2 H → Fix q122_190.2 → lok z locs → lv_has ls 6 [] → W p l e ({ frames := 9, cells := 0, slots := 0, locals := 200 } : Room) s m ([.ref (z + 58), .int a1, .int a2, .int a3] : List Value).toArray below meth c H locs 0 0 (MQ below (qW G z H0 q.2 (some (.int q.1))) ([.ref (z + 58), .int a1, .int a2, .int a3] : List Value).toArray s 0 0 (fun q => z ≤ q)) (F0 m 190 ls []) := by
              intro q122_190 h H locs ls hR hF hL hl
              refine lv_iconst (v := 3) hx hb dX4_reads_190 (by decide) ?_
              have h := Option.some.inj h
              subst h
              exact W.iret (v := (3 : Int32)) hx hb hr (fun t ht _ => ⟨rfl, by rw [ht]; exact hR, hF⟩) hL dX4_reads_191
            obtain ⟨t20, hq21, h⟩ := bnd h
            refine it_W (b := f_X4_reads_L122 n (wI w 60 a1.toNatClampNeg) a1 a3) (P := fun (s1 : Int32 × Wd) => ∀ (H : Heap) (locs : List Loc) (ls : Array Slot), Rp G z H0 s1.2 H → Fix s1.2 → lok z locs → lv_has ls 6 [(5, .int s1.1), (4, .int (wI w 60 a1.toNatClampNeg)), (0, .ref (z + 58)), (1, .int a1), (3, .int a3)] → W p l e ({ frames := 9, cells := 0, slots := 0, locals := 200 } : Room) s m ([.ref (z + 58), .int a1, .int a2, .int a3] : List Value).toArray below meth c H locs 0 0 (MQ below (qW G z H0 q.2 (some (.int q.1))) ([.ref (z + 58), .int a1, .int a2, .int a3] : List Value).toArray s 0 0 (fun q => z ≤ q)) (F0 m 122 ls [])) (K := fun t122 => ((match t122 with | .inl q122_198 => some ((0 : Int32), q122_198.2) | .inr q122_190 => some ((3 : Int32), q122_190.2))) = some q) (fun s1 x1 h hc1 ht1 => ?_) n ((0 : Int32), q5.2) t20 hq21 h H locs ls hR hF hL (lv_sub hl [0, 1, 2, 3, 4] rfl)
            intro H locs ls hR hF hL hl
            unfold f_X4_reads_L122 at h
            refine lv_iload hx hb dX4_reads_122 (lv_at hl 0 rfl) ?_
            refine lv_aload_n hx hb dX4_reads_124 rfl (lv_at hl 2 rfl) ?_
            refine r_get (C := RX4) (T := TX4) (N := 80) hx hb hts ok4 hown hK hR (congrArg Prod.fst (hF.2.1 58 (5, 0) rfl)) rfl 25 (by decide) (hts _ q1658) (fun _ h9 => h9) (v := .int (wI s1.2 58 25)) rfl dX4_reads_125 ?_
            refine lv_icmp_ge (tgt := 198) hx hb dX4_reads_128 (by decide) (fun c8 => ?_) (fun c8 => ?_)
            · rw [if_pos c8] at h
              exact hX122_198 (s1.1, s1.2) (ht1 _ (Option.some.inj h).symm) H locs ls hR hF hL (lv_sub hl [] rfl)
            · rw [if_neg c8] at h
              refine lv_aload_n hx hb dX4_reads_131 rfl (lv_at hl 2 rfl) ?_
              refine lv_iload hx hb dX4_reads_132 (lv_at hl 0 rfl) ?_
              refine lv_iload hx hb dX4_reads_134 (lv_at hl 1 rfl) ?_
              refine lv_iload_n hx hb dX4_reads_136 rfl (lv_at hl 4 rfl) ?_
              obtain ⟨q9, hq10, h⟩ := bnd h
              refine c_VW (a := 58) (ci := 4) (q := (RX4, TX4, 80)) (rest := []) (st1 := [.int (bI q9.1)]) hx hb hml hown hts hK hR hF hL hl.1 (met_X4_isKnown l G z H0 n s1.2 s1.1 (wI w 60 a1.toNatClampNeg) a3 q9 hq10) (congrArg Prod.fst (hF.2.1 58 (5, 0) rfl)) rfl rfl rfl hd_X4_isKnown q2097 q2099 qs77 q104 q2100 ⟨Nat.le_of_ble_eq_true rfl, Nat.le_of_ble_eq_true rfl⟩ ⟨Nat.le_refl 0, Nat.le_refl 0⟩ rfl rfl (Nat.le_of_ble_eq_true rfl) dX4_reads_137 rfl (fun H locs hR hF hL => ?_)
              refine lv_if_ne (tgt := 146) hx hb dX4_reads_140 (by decide) (fun c11 => ?_) (fun c11 => ?_)
              · rw [if_pos (bI_p c11)] at h
                refine lv_aload_n hx hb dX4_reads_146 rfl (lv_at hl 2 rfl) ?_
                refine lv_iconst (v := -1) hx hb dX4_reads_147 (by decide) ?_
                refine lv_iconst (v := -1) hx hb dX4_reads_148 (by decide) ?_
                refine lv_aload_n hx hb dX4_reads_149 rfl (lv_at hl 2 rfl) ?_
                refine r_get (C := RX4) (T := TX4) (N := 80) hx hb hts ok4 hown hK hR (congrArg Prod.fst (hF.2.1 58 (5, 0) rfl)) rfl 6 (by decide) (hts _ q1639) (fun _ h9 => h9) (v := .ref (z + 61)) (fv_fix hF rfl rfl) dX4_reads_150 ?_
                refine lv_iload_n hx hb dX4_reads_153 rfl (lv_at hl 3 rfl) ?_
                obtain ⟨hb12, h⟩ := grd h
                refine r_iald (v := wI q9.2 61 a1.toNatClampNeg) hx hb hK hR (hF.2.1 61 (200, 16) rfl) hb12 rfl dX4_reads_154 ?_
                refine c_VW (a := 58) (ci := 4) (q := (RX4, TX4, 80)) (rest := []) (st1 := []) hx hb hml hown hts hK hR hF hL hl.1 (met_X4_asks l G z H0 q9.2 (-1 : Int32) (-1 : Int32) (wI q9.2 61 a1.toNatClampNeg) _ rfl) (congrArg Prod.fst (hF.2.1 58 (5, 0) rfl)) rfl rfl rfl hd_X4_asks q2003 q2005 qs57 q104 q2006 ⟨Nat.le_of_ble_eq_true rfl, Nat.le_of_ble_eq_true rfl⟩ ⟨Nat.le_refl 0, Nat.le_refl 0⟩ rfl rfl (Nat.le_of_ble_eq_true rfl) dX4_reads_155 rfl (fun H locs hR hF hL => ?_)
                refine lv_aload_n hx hb dX4_reads_158 rfl (lv_at hl 2 rfl) ?_
                refine lv_iload hx hb dX4_reads_159 (lv_at hl 0 rfl) ?_
                obtain ⟨q13, hq14, h⟩ := bnd h
                refine c_VW (a := 58) (ci := 4) (q := (RX4, TX4, 80)) (rest := []) (st1 := [.int (bI q13.1)]) hx hb hml hown hts hK hR hF hL hl.1 (met_X4_goes l G z H0 n (f_X4_asks (-1 : Int32) (-1 : Int32) (wI q9.2 61 a1.toNatClampNeg) q9.2) s1.1 q13 hq14) (congrArg Prod.fst (hF.2.1 58 (5, 0) rfl)) rfl rfl rfl hd_X4_goes q2007 q2009 qs58 q104 q2010 ⟨Nat.le_of_ble_eq_true rfl, Nat.le_of_ble_eq_true rfl⟩ ⟨Nat.le_refl 0, Nat.le_refl 0⟩ rfl rfl (Nat.le_of_ble_eq_true rfl) dX4_reads_161 rfl (fun H locs hR hF hL => ?_)
                refine lv_if_eq (tgt := 192) hx hb dX4_reads_164 (by decide) (fun c15 => ?_) (fun c15 => ?_)
                · rw [if_neg (bI_n c15)] at h
                  refine lv_iinc (v := s1.1 + (1 : Int32)) (lv' := [(5, .int (s1.1 + (1 : Int32))), (4, .int (wI w 60 a1.toNatClampNeg)), (0, .ref (z + 58)), (1, .int a1), (3, .int a3)]) hx hb dX4_reads_192 hl (k := 0) rfl rfl (by decide) rfl (fun ls hl => ?_)
                  refine lv_goto (tgt := 122) hx hb dX4_reads_195 (by decide) ?_
                  exact hc1 _ (Option.some.inj h).symm H locs ls hR hF hL (lv_sub hl [0, 1, 2, 3, 4] rfl)
                · rw [if_pos (bI_p c15)] at h
                  refine lv_iload_n hx hb dX4_reads_167 rfl (lv_at hl 4 rfl) ?_
                  refine lv_aload_n hx hb dX4_reads_168 rfl (lv_at hl 2 rfl) ?_
                  refine r_get (C := RX4) (T := TX4) (N := 80) hx hb hts ok4 hown hK hR (congrArg Prod.fst (hF.2.1 58 (5, 0) rfl)) rfl 28 (by decide) (hts _ q1661) (fun _ h9 => h9) (v := .ref (z + 78)) (fv_fix hF rfl rfl) dX4_reads_169 ?_
                  refine lv_iload hx hb dX4_reads_172 (lv_at hl 0 rfl) ?_
                  obtain ⟨hb16, h⟩ := grd h
                  refine r_iald (v := wI q13.2 78 s1.1.toNatClampNeg) hx hb hK hR (hF.2.1 78 (200, 16) rfl) hb16 rfl dX4_reads_174 ?_
                  refine lv_aload_n hx hb dX4_reads_175 rfl (lv_at hl 2 rfl) ?_
                  refine lv_iload hx hb dX4_reads_176 (lv_at hl 1 rfl) ?_
                  obtain ⟨q17, hq18, h⟩ := bnd h
                  refine c_VW (a := 58) (ci := 4) (q := (RX4, TX4, 80)) (rest := [.int (wI q13.2 78 s1.1.toNatClampNeg), .int a3]) (st1 := [.int q17.1, .int (wI q13.2 78 s1.1.toNatClampNeg), .int a3]) hx hb hml hown hts hK hR hF hL hl.1 (met_X4_farOf l G z H0 n q13.2 (wI w 60 a1.toNatClampNeg) q17 hq18) (congrArg Prod.fst (hF.2.1 58 (5, 0) rfl)) rfl rfl rfl hd_X4_farOf q1894 q1896 qs43 q104 q1897 ⟨Nat.le_of_ble_eq_true rfl, Nat.le_of_ble_eq_true rfl⟩ ⟨Nat.le_refl 0, Nat.le_refl 0⟩ rfl rfl (Nat.le_of_ble_eq_true rfl) dX4_reads_178 rfl (fun H locs hR hF hL => ?_)
                  refine lv_iadd hx hb dX4_reads_181 ?_
                  refine lv_aload_n hx hb dX4_reads_182 rfl (lv_at hl 2 rfl) ?_
                  refine r_get (C := RX4) (T := TX4) (N := 80) hx hb hts ok4 hown hK hR (congrArg Prod.fst (hF.2.1 58 (5, 0) rfl)) rfl 36 (by decide) (hts _ q1669) (fun _ h9 => h9) (v := .int (wI q17.2 58 36)) rfl dX4_reads_183 ?_
                  refine lv_iadd hx hb dX4_reads_186 ?_
                  refine lv_icmp_ge (tgt := 192) hx hb dX4_reads_187 (by decide) (fun c19 => ?_) (fun c19 => ?_)
                  · rw [if_pos c19] at h
                    refine lv_iinc (v := s1.1 + (1 : Int32)) (lv' := [(5, .int (s1.1 + (1 : Int32))), (4, .int (wI w 60 a1.toNatClampNeg)), (0, .ref (z + 58)), (1, .int a1), (3, .int a3)]) hx hb dX4_reads_192 hl (k := 0) rfl rfl (by decide) rfl (fun ls hl => ?_)
                    refine lv_goto (tgt := 122) hx hb dX4_reads_195 (by decide) ?_
                    exact hc1 _ (Option.some.inj h).symm H locs ls hR hF hL (lv_sub hl [0, 1, 2, 3, 4] rfl)
                  · rw [if_neg c19] at h
                    exact hX122_190 (s1.1, q17.2) (ht1 _ (Option.some.inj h).symm) H locs ls hR hF hL (lv_sub hl [] rfl)
              · rw [if_neg (bI_n c11)] at h
                refine lv_goto (tgt := 192) hx hb dX4_reads_143 (by decide) ?_
                refine lv_iinc (v := s1.1 + (1 : Int32)) (lv' := [(5, .int (s1.1 + (1 : Int32))), (4, .int (wI w 60 a1.toNatClampNeg)), (0, .ref (z + 58)), (1, .int a1), (3, .int a3)]) hx hb dX4_reads_192 hl (k := 0) rfl rfl (by decide) rfl (fun ls hl => ?_)
                refine lv_goto (tgt := 122) hx hb dX4_reads_195 (by decide) ?_
                exact hc1 _ (Option.some.inj h).symm H locs ls hR hF hL (lv_sub hl [0, 1, 2, 3, 4] rfl)
          have hX53_111 : ∀ (q53_111 : Int32), (some ((2 : Int32), q5.2)) = some q → ∀ (locs : List Loc) (ls : Array Slot), lok z locs → lv_has ls 6 [] → W p l e ({ frames := 9, cells := 0, slots := 0, locals := 200 } : Room) s m ([.ref (z + 58), .int a1, .int a2, .int a3] : List Value).toArray below meth c H locs 0 0 (MQ below (qW G z H0 q.2 (some (.int q.1))) ([.ref (z + 58), .int a1, .int a2, .int a3] : List Value).toArray s 0 0 (fun q => z ≤ q)) (F0 m 111 ls []) := by
            intro q53_111 h locs ls hL hl
            refine lv_iconst (v := 2) hx hb dX4_reads_111 (by decide) ?_
            have h := Option.some.inj h
            subst h
            exact W.iret (v := (2 : Int32)) hx hb hr (fun t ht _ => ⟨rfl, by rw [ht]; exact hR, hF⟩) hL dX4_reads_112
          obtain ⟨t31, hq32, h⟩ := bnd h
          refine it_W (b := f_X4_reads_L53 n (wI w 60 a1.toNatClampNeg) a1 a2 a3 q5.2) (P := fun (s1 : Int32) => ∀ (locs : List Loc) (ls : Array Slot), lok z locs → lv_has ls 6 [(5, .int s1), (4, .int (wI w 60 a1.toNatClampNeg)), (0, .ref (z + 58)), (1, .int a1), (2, .int a2), (3, .int a3)] → W p l e ({ frames := 9, cells := 0, slots := 0, locals := 200 } : Room) s m ([.ref (z + 58), .int a1, .int a2, .int a3] : List Value).toArray below meth c H locs 0 0 (MQ below (qW G z H0 q.2 (some (.int q.1))) ([.ref (z + 58), .int a1, .int a2, .int a3] : List Value).toArray s 0 0 (fun q => z ≤ q)) (F0 m 53 ls [])) (K := fun t53 => ((match t53 with | .inl q53_119 => (it n (f_X4_reads_L122 n (wI w 60 a1.toNatClampNeg) a1 a3) ((0 : Int32), q5.2)).bind fun t122 => (match t122 with | .inl q122_198 => some ((0 : Int32), q122_198.2) | .inr q122_190 => some ((3 : Int32), q122_190.2)) | .inr q53_111 => some ((2 : Int32), q5.2))) = some q) (fun s1 x1 h hc1 ht1 => ?_) n (0 : Int32) t31 hq32 h locs ls hL (lv_sub hl [0, 1, 2, 3, 4, 5] rfl)
          intro locs ls hL hl
          unfold f_X4_reads_L53 at h
          refine lv_iload hx hb dX4_reads_53 (lv_at hl 0 rfl) ?_
          refine lv_aload_n hx hb dX4_reads_55 rfl (lv_at hl 2 rfl) ?_
          refine r_get (C := RX4) (T := TX4) (N := 80) hx hb hts ok4 hown hK hR (congrArg Prod.fst (hF.2.1 58 (5, 0) rfl)) rfl 50 (by decide) (hts _ q1683) (fun _ h9 => h9) (v := .int (wI q5.2 58 50)) rfl dX4_reads_56 ?_
          refine lv_icmp_ge (tgt := 119) hx hb dX4_reads_59 (by decide) (fun c22 => ?_) (fun c22 => ?_)
          · rw [if_pos c22] at h
            exact hX53_119 s1 (ht1 _ (Option.some.inj h).symm) locs ls hL (lv_sub hl [1, 2, 3, 5] rfl)
          · rw [if_neg c22] at h
            refine lv_aload_n hx hb dX4_reads_62 rfl (lv_at hl 2 rfl) ?_
            refine r_get (C := RX4) (T := TX4) (N := 80) hx hb hts ok4 hown hK hR (congrArg Prod.fst (hF.2.1 58 (5, 0) rfl)) rfl 51 (by decide) (hts _ q1684) (fun _ h9 => h9) (v := .ref (z + 84)) (fv_fix hF rfl rfl) dX4_reads_63 ?_
            refine lv_iload hx hb dX4_reads_66 (lv_at hl 0 rfl) ?_
            obtain ⟨hb23, h⟩ := grd h
            refine r_iald (v := wI q5.2 84 s1.toNatClampNeg) hx hb hK hR (hF.2.1 84 (200, 30) rfl) hb23 rfl dX4_reads_68 ?_
            refine lv_iload_n hx hb dX4_reads_69 rfl (lv_at hl 3 rfl) ?_
            refine lv_icmp_ne (tgt := 113) hx hb dX4_reads_70 (by decide) (fun c24 => ?_) (fun c24 => ?_)
            · rw [if_neg c24] at h
              refine lv_iinc (v := s1 + (1 : Int32)) (lv' := [(5, .int (s1 + (1 : Int32))), (4, .int (wI w 60 a1.toNatClampNeg)), (0, .ref (z + 58)), (1, .int a1), (2, .int a2), (3, .int a3)]) hx hb dX4_reads_113 hl (k := 0) rfl rfl (by decide) rfl (fun ls hl => ?_)
              refine lv_goto (tgt := 53) hx hb dX4_reads_116 (by decide) ?_
              exact hc1 _ (Option.some.inj h).symm locs ls hL (lv_sub hl [0, 1, 2, 3, 4, 5] rfl)
            · rw [if_pos c24] at h
              refine lv_aload_n hx hb dX4_reads_73 rfl (lv_at hl 2 rfl) ?_
              refine r_get (C := RX4) (T := TX4) (N := 80) hx hb hts ok4 hown hK hR (congrArg Prod.fst (hF.2.1 58 (5, 0) rfl)) rfl 52 (by decide) (hts _ q1685) (fun _ h9 => h9) (v := .ref (z + 85)) (fv_fix hF rfl rfl) dX4_reads_74 ?_
              refine lv_iload hx hb dX4_reads_77 (lv_at hl 0 rfl) ?_
              obtain ⟨hb25, h⟩ := grd h
              refine r_iald (v := wI q5.2 85 s1.toNatClampNeg) hx hb hK hR (hF.2.1 85 (200, 30) rfl) hb25 rfl dX4_reads_79 ?_
              refine lv_aload_n hx hb dX4_reads_80 rfl (lv_at hl 2 rfl) ?_
              refine r_get (C := RX4) (T := TX4) (N := 80) hx hb hts ok4 hown hK hR (congrArg Prod.fst (hF.2.1 58 (5, 0) rfl)) rfl 12 (by decide) (hts _ q1645) (fun _ h9 => h9) (v := .ref (z + 67)) (fv_fix hF rfl rfl) dX4_reads_81 ?_
              refine lv_iload_n hx hb dX4_reads_84 rfl (lv_at hl 4 rfl) ?_
              obtain ⟨hb26, h⟩ := grd h
              refine r_iald (v := wI q5.2 67 a2.toNatClampNeg) hx hb hK hR (hF.2.1 67 (200, 24) rfl) hb26 rfl dX4_reads_85 ?_
              refine lv_icmp_ne (tgt := 113) hx hb dX4_reads_86 (by decide) (fun c27 => ?_) (fun c27 => ?_)
              · rw [if_neg c27] at h
                refine lv_iinc (v := s1 + (1 : Int32)) (lv' := [(5, .int (s1 + (1 : Int32))), (4, .int (wI w 60 a1.toNatClampNeg)), (0, .ref (z + 58)), (1, .int a1), (2, .int a2), (3, .int a3)]) hx hb dX4_reads_113 hl (k := 0) rfl rfl (by decide) rfl (fun ls hl => ?_)
                refine lv_goto (tgt := 53) hx hb dX4_reads_116 (by decide) ?_
                exact hc1 _ (Option.some.inj h).symm locs ls hL (lv_sub hl [0, 1, 2, 3, 4, 5] rfl)
              · rw [if_pos c27] at h
                refine lv_aload_n hx hb dX4_reads_89 rfl (lv_at hl 2 rfl) ?_
                refine lv_iload_n hx hb dX4_reads_90 rfl (lv_at hl 5 rfl) ?_
                refine lv_aload_n hx hb dX4_reads_91 rfl (lv_at hl 2 rfl) ?_
                refine r_get (C := RX4) (T := TX4) (N := 80) hx hb hts ok4 hown hK hR (congrArg Prod.fst (hF.2.1 58 (5, 0) rfl)) rfl 53 (by decide) (hts _ q1686) (fun _ h9 => h9) (v := .ref (z + 86)) (fv_fix hF rfl rfl) dX4_reads_92 ?_
                refine lv_iload hx hb dX4_reads_95 (lv_at hl 0 rfl) ?_
                obtain ⟨hb28, h⟩ := grd h
                refine r_iald (v := wI q5.2 86 s1.toNatClampNeg) hx hb hK hR (hF.2.1 86 (200, 30) rfl) hb28 rfl dX4_reads_97 ?_
                refine lv_aload_n hx hb dX4_reads_98 rfl (lv_at hl 2 rfl) ?_
                refine r_get (C := RX4) (T := TX4) (N := 80) hx hb hts ok4 hown hK hR (congrArg Prod.fst (hF.2.1 58 (5, 0) rfl)) rfl 54 (by decide) (hts _ q1687) (fun _ h9 => h9) (v := .ref (z + 87)) (fv_fix hF rfl rfl) dX4_reads_99 ?_
                refine lv_iload hx hb dX4_reads_102 (lv_at hl 0 rfl) ?_
                obtain ⟨hb29, h⟩ := grd h
                refine r_iald (v := wI q5.2 87 s1.toNatClampNeg) hx hb hK hR (hF.2.1 87 (200, 30) rfl) hb29 rfl dX4_reads_104 ?_
                refine c_VP (a := 58) (ci := 4) (q := (RX4, TX4, 80)) (rest := []) (st1 := [.int (bI (f_X4_in a3 (wI q5.2 86 s1.toNatClampNeg) (wI q5.2 87 s1.toNatClampNeg) q5.2))]) hx hb hml hown hts hK hR hF hL hl.1 (met_X4_in l G z H0 q5.2 a3 (wI q5.2 86 s1.toNatClampNeg) (wI q5.2 87 s1.toNatClampNeg) _ rfl) (congrArg Prod.fst (hF.2.1 58 (5, 0) rfl)) rfl rfl rfl hd_X4_in q1878 q1880 qs41 q104 q1881 ⟨Nat.le_of_ble_eq_true rfl, Nat.le_of_ble_eq_true rfl⟩ ⟨Nat.le_refl 0, Nat.le_refl 0⟩ rfl rfl (Nat.le_of_ble_eq_true rfl) dX4_reads_105 rfl (fun locs hL => ?_)
                refine lv_if_eq (tgt := 113) hx hb dX4_reads_108 (by decide) (fun c30 => ?_) (fun c30 => ?_)
                · rw [if_neg (bI_n c30)] at h
                  refine lv_iinc (v := s1 + (1 : Int32)) (lv' := [(5, .int (s1 + (1 : Int32))), (4, .int (wI w 60 a1.toNatClampNeg)), (0, .ref (z + 58)), (1, .int a1), (2, .int a2), (3, .int a3)]) hx hb dX4_reads_113 hl (k := 0) rfl rfl (by decide) rfl (fun ls hl => ?_)
                  refine lv_goto (tgt := 53) hx hb dX4_reads_116 (by decide) ?_
                  exact hc1 _ (Option.some.inj h).symm locs ls hL (lv_sub hl [0, 1, 2, 3, 4, 5] rfl)
                · rw [if_pos (bI_p c30)] at h
                  exact hX53_111 s1 (ht1 _ (Option.some.inj h).symm) locs ls hL (lv_sub hl [] rfl)
        · rw [if_neg (bI_n c7)] at h
          refine lv_iconst (v := 1) hx hb dX4_reads_48 (by decide) ?_
          have h := Option.some.inj h
          subst h
          exact W.iret (v := (1 : Int32)) hx hb hr (fun t ht _ => ⟨rfl, by rw [ht]; exact hR, hF⟩) hL dX4_reads_49
      · rw [if_neg (bI_n c3)] at h
        refine lv_bipush (v := -2) hx hb dX4_reads_26 (by decide) ?_
        have h := Option.some.inj h
        subst h
        exact W.iret (v := (-2 : Int32)) hx hb hr (fun t ht _ => ⟨rfl, by rw [ht]; exact hR, hF⟩) hL dX4_reads_28
    · rw [if_neg (bI_n c2)] at h
      refine lv_iconst (v := -1) hx hb dX4_reads_16 (by decide) ?_
      have h := Option.some.inj h
      subst h
      exact W.iret (v := (-1 : Int32)) hx hb hr (fun t ht _ => ⟨rfl, by rw [ht]; exact hR, hF⟩) hL dX4_reads_17
def f_X4_isSlip (a1 : Int32) (w : Wd) : Bool :=
  (f_X4_in a1 (0 : Int32) ((wI w 58 55) - (1 : Int32)) w)
theorem hd_X4_isSlip : yX4_isSlip.cls = RX4 ∧ yX4_isSlip.cls ≠ "java/lang/invoke/MethodHandle" ∧ yX4_isSlip.cls ≠ "java/lang/invoke/VarHandle" ∧ (parseMethodDescriptor yX4_isSlip.desc).map (fun d => d.parameters.length) = some 1 := by decide +kernel
set_option maxHeartbeats 4000000 in
set_option maxRecDepth 100000 in
theorem met_X4_isSlip (l : Launch) (G : Gw) (z : Nat) (H0 : Heap)  (w : Wd) (a1 : Int32) (q : Bool) (h : f_X4_isSlip a1 w = q) : Met l yX4_isSlip (ws_ yX4_isSlip cX4_isSlip 2 (some .boolean)) ({ frames := 1, cells := 0, slots := 0, locals := 23 } : Room) (pcW G z H0 w [.ref (z + 58), .int a1]) (qP (some (.int (bI q)))) 0 0 (fun q => z ≤ q) := by
  refine mW (by decide) (Nat.le_of_ble_eq_true rfl) ?_
  intro p e s m below meth c ls hx hb hr hml hown hts hlocks hnm hK hR hF hl
  have hown : s.vm.findClass RX4 = some m.cls := hown
  have hl : lv_has ls 2 [(0, .ref (z + 58)), (1, .int a1)] := hl
  have hL : lok z [] := lok_nil
  unfold f_X4_isSlip at h
  generalize ([] : List Loc) = locs at hL ⊢
  refine lv_aload_n hx hb dX4_isSlip_0 rfl (lv_at hl 0 rfl) ?_
  refine lv_iload_n hx hb dX4_isSlip_1 rfl (lv_at hl 1 rfl) ?_
  refine lv_iconst (v := 0) hx hb dX4_isSlip_2 (by decide) ?_
  refine lv_aload_n hx hb dX4_isSlip_3 rfl (lv_at hl 0 rfl) ?_
  refine r_get (C := RX4) (T := TX4) (N := 80) hx hb hts ok4 hown hK hR (congrArg Prod.fst (hF.2.1 58 (5, 0) rfl)) rfl 55 (by decide) (hts _ q1688) (fun _ h9 => h9) (v := .int (wI w 58 55)) rfl dX4_isSlip_4 ?_
  refine lv_iconst (v := 1) hx hb dX4_isSlip_7 (by decide) ?_
  refine lv_isub hx hb dX4_isSlip_8 ?_
  refine c_VP (a := 58) (ci := 4) (q := (RX4, TX4, 80)) (rest := []) (st1 := [.int (bI (f_X4_in a1 (0 : Int32) ((wI w 58 55) - (1 : Int32)) w))]) hx hb hml hown hts hK hR hF hL hl.1 (met_X4_in l G z H0 w a1 (0 : Int32) ((wI w 58 55) - (1 : Int32)) _ rfl) (congrArg Prod.fst (hF.2.1 58 (5, 0) rfl)) rfl rfl rfl hd_X4_in q1878 q1880 qs41 q104 q1881 ⟨Nat.le_of_ble_eq_true rfl, Nat.le_of_ble_eq_true rfl⟩ ⟨Nat.le_refl 0, Nat.le_refl 0⟩ rfl rfl (Nat.le_of_ble_eq_true rfl) dX4_isSlip_9 rfl (fun locs hL => ?_)
  subst h
  exact W.zret (v := bI (f_X4_in a1 (0 : Int32) ((wI w 58 55) - (1 : Int32)) w)) hx hb hr (bI_nar _) (fun t ht _ => ⟨rfl, ht⟩) hL dX4_isSlip_12
def f_X4_slip_J17 (a1 : Int32) (a2 : Int32) (a3 : Int32) (a4 : Int32) (w : Wd) : Option (Int32 × Wd) :=
  if (f_X4_in a1 (-1 : Int32) (99 : Int32) w) then (if (f_X4_in a2 (-1 : Int32) (19 : Int32) w) then (if (f_X4_in a3 (-1 : Int32) (2000 : Int32) w) then (if (wI w 58 55) = (40 : Int32) then (some ((-4 : Int32), w)) else (if inb (wI w 58 55) 40 then (if inb (wI w 58 55) 40 then (if inb (wI w 58 55) 40 then (if inb (wI w 58 55) 40 then (some (((wI w 58 55) + (1 : Int32)) - (1 : Int32), sI (sI (sI (sI (sI w 88 ((wI w 58 55).toNatClampNeg) a1) 89 ((wI w 58 55).toNatClampNeg) a2) 90 ((wI w 58 55).toNatClampNeg) a3) 91 ((wI w 58 55).toNatClampNeg) a4) 58 55 ((wI w 58 55) + (1 : Int32)))) else none) else none) else none) else none)) else (some ((-2 : Int32), w))) else (some ((-2 : Int32), w))) else (some ((-2 : Int32), w))
def f_X4_slip (a1 : Int32) (a2 : Int32) (a3 : Int32) (a4 : Int32) (w : Wd) : Option (Int32 × Wd) :=
  if a4 = (-1 : Int32) then (f_X4_slip_J17 a1 a2 a3 a4 w) else (if (f_X4_isSlip a4 w) then (f_X4_slip_J17 a1 a2 a3 a4 w) else (some ((-1 : Int32), w)))
theorem hd_X4_slip : yX4_slip.cls = RX4 ∧ yX4_slip.cls ≠ "java/lang/invoke/MethodHandle" ∧ yX4_slip.cls ≠ "java/lang/invoke/VarHandle" ∧ (parseMethodDescriptor yX4_slip.desc).map (fun d => d.parameters.length) = some 4 := by decide +kernel
set_option maxHeartbeats 4000000 in
set_option maxRecDepth 100000 in
theorem met_X4_slip (l : Launch) (G : Gw) (z : Nat) (H0 : Heap)  (w : Wd) (a1 : Int32) (a2 : Int32) (a3 : Int32) (a4 : Int32) (q : Int32 × Wd) (h : f_X4_slip a1 a2 a3 a4 w = some q) : Met l yX4_slip (ws_ yX4_slip cX4_slip 5 (some .int)) ({ frames := 2, cells := 0, slots := 0, locals := 44 } : Room) (pcW G z H0 w [.ref (z + 58), .int a1, .int a2, .int a3, .int a4]) (qW G z H0 q.2 (some (.int q.1))) 0 0 (fun q => z ≤ q) := by
  refine mW (by decide) (Nat.le_of_ble_eq_true rfl) ?_
  intro p e s m below meth c ls hx hb hr hml hown hts hlocks hnm hK hR hF hl
  have hown : s.vm.findClass RX4 = some m.cls := hown
  have hl : lv_has ls 5 [(0, .ref (z + 58)), (1, .int a1), (2, .int a2), (3, .int a3), (4, .int a4)] := hl
  have hL : lok z [] := lok_nil
  unfold f_X4_slip at h
  generalize s.heap = H at hR ⊢
  generalize ([] : List Loc) = locs at hL ⊢
  have hJ17 : ∀  (w : Wd), f_X4_slip_J17 a1 a2 a3 a4 w = some q → ∀ (H : Heap) (locs : List Loc) (ls : Array Slot), Rp G z H0 w H → Fix w → lok z locs → lv_has ls 5 [(0, .ref (z + 58)), (1, .int a1), (2, .int a2), (3, .int a3), (4, .int a4)] → W p l e ({ frames := 2, cells := 0, slots := 0, locals := 44 } : Room) s m ([.ref (z + 58), .int a1, .int a2, .int a3, .int a4] : List Value).toArray below meth c H locs 0 0 (MQ below (qW G z H0 q.2 (some (.int q.1))) ([.ref (z + 58), .int a1, .int a2, .int a3, .int a4] : List Value).toArray s 0 0 (fun q => z ≤ q)) (F0 m 17 ls []) := by
    intro  w h H locs ls hR hF hL hl
    unfold f_X4_slip_J17 at h
    refine lv_aload_n hx hb dX4_slip_17 rfl (lv_at hl 0 rfl) ?_
    refine lv_iload_n hx hb dX4_slip_18 rfl (lv_at hl 1 rfl) ?_
    refine lv_iconst (v := -1) hx hb dX4_slip_19 (by decide) ?_
    refine lv_bipush (v := 99) hx hb dX4_slip_20 (by decide) ?_
    refine c_VP (a := 58) (ci := 4) (q := (RX4, TX4, 80)) (rest := []) (st1 := [.int (bI (f_X4_in a1 (-1 : Int32) (99 : Int32) w))]) hx hb hml hown hts hK hR hF hL hl.1 (met_X4_in l G z H0 w a1 (-1 : Int32) (99 : Int32) _ rfl) (congrArg Prod.fst (hF.2.1 58 (5, 0) rfl)) rfl rfl rfl hd_X4_in q1878 q1880 qs41 q104 q1881 ⟨Nat.le_of_ble_eq_true rfl, Nat.le_of_ble_eq_true rfl⟩ ⟨Nat.le_refl 0, Nat.le_refl 0⟩ rfl rfl (Nat.le_of_ble_eq_true rfl) dX4_slip_22 rfl (fun locs hL => ?_)
    refine lv_if_eq (tgt := 51) hx hb dX4_slip_25 (by decide) (fun c2 => ?_) (fun c2 => ?_)
    · rw [if_neg (bI_n c2)] at h
      refine lv_bipush (v := -2) hx hb dX4_slip_51 (by decide) ?_
      have h := Option.some.inj h
      subst h
      exact W.iret (v := (-2 : Int32)) hx hb hr (fun t ht _ => ⟨rfl, by rw [ht]; exact hR, hF⟩) hL dX4_slip_53
    · rw [if_pos (bI_p c2)] at h
      refine lv_aload_n hx hb dX4_slip_28 rfl (lv_at hl 0 rfl) ?_
      refine lv_iload_n hx hb dX4_slip_29 rfl (lv_at hl 2 rfl) ?_
      refine lv_iconst (v := -1) hx hb dX4_slip_30 (by decide) ?_
      refine lv_bipush (v := 19) hx hb dX4_slip_31 (by decide) ?_
      refine c_VP (a := 58) (ci := 4) (q := (RX4, TX4, 80)) (rest := []) (st1 := [.int (bI (f_X4_in a2 (-1 : Int32) (19 : Int32) w))]) hx hb hml hown hts hK hR hF hL hl.1 (met_X4_in l G z H0 w a2 (-1 : Int32) (19 : Int32) _ rfl) (congrArg Prod.fst (hF.2.1 58 (5, 0) rfl)) rfl rfl rfl hd_X4_in q1878 q1880 qs41 q104 q1881 ⟨Nat.le_of_ble_eq_true rfl, Nat.le_of_ble_eq_true rfl⟩ ⟨Nat.le_refl 0, Nat.le_refl 0⟩ rfl rfl (Nat.le_of_ble_eq_true rfl) dX4_slip_33 rfl (fun locs hL => ?_)
      refine lv_if_eq (tgt := 51) hx hb dX4_slip_36 (by decide) (fun c3 => ?_) (fun c3 => ?_)
      · rw [if_neg (bI_n c3)] at h
        refine lv_bipush (v := -2) hx hb dX4_slip_51 (by decide) ?_
        have h := Option.some.inj h
        subst h
        exact W.iret (v := (-2 : Int32)) hx hb hr (fun t ht _ => ⟨rfl, by rw [ht]; exact hR, hF⟩) hL dX4_slip_53
      · rw [if_pos (bI_p c3)] at h
        refine lv_aload_n hx hb dX4_slip_39 rfl (lv_at hl 0 rfl) ?_
        refine lv_iload_n hx hb dX4_slip_40 rfl (lv_at hl 3 rfl) ?_
        refine lv_iconst (v := -1) hx hb dX4_slip_41 (by decide) ?_
        refine lv_sipush (v := 2000) hx hb dX4_slip_42 (by decide) ?_
        refine c_VP (a := 58) (ci := 4) (q := (RX4, TX4, 80)) (rest := []) (st1 := [.int (bI (f_X4_in a3 (-1 : Int32) (2000 : Int32) w))]) hx hb hml hown hts hK hR hF hL hl.1 (met_X4_in l G z H0 w a3 (-1 : Int32) (2000 : Int32) _ rfl) (congrArg Prod.fst (hF.2.1 58 (5, 0) rfl)) rfl rfl rfl hd_X4_in q1878 q1880 qs41 q104 q1881 ⟨Nat.le_of_ble_eq_true rfl, Nat.le_of_ble_eq_true rfl⟩ ⟨Nat.le_refl 0, Nat.le_refl 0⟩ rfl rfl (Nat.le_of_ble_eq_true rfl) dX4_slip_45 rfl (fun locs hL => ?_)
        refine lv_if_ne (tgt := 54) hx hb dX4_slip_48 (by decide) (fun c4 => ?_) (fun c4 => ?_)
        · rw [if_pos (bI_p c4)] at h
          refine lv_aload_n hx hb dX4_slip_54 rfl (lv_at hl 0 rfl) ?_
          refine r_get (C := RX4) (T := TX4) (N := 80) hx hb hts ok4 hown hK hR (congrArg Prod.fst (hF.2.1 58 (5, 0) rfl)) rfl 55 (by decide) (hts _ q1688) (fun _ h9 => h9) (v := .int (wI w 58 55)) rfl dX4_slip_55 ?_
          refine lv_bipush (v := 40) hx hb dX4_slip_58 (by decide) ?_
          refine lv_icmp_ne (tgt := 66) hx hb dX4_slip_60 (by decide) (fun c5 => ?_) (fun c5 => ?_)
          · rw [if_neg c5] at h
            refine lv_aload_n hx hb dX4_slip_66 rfl (lv_at hl 0 rfl) ?_
            refine r_get (C := RX4) (T := TX4) (N := 80) hx hb hts ok4 hown hK hR (congrArg Prod.fst (hF.2.1 58 (5, 0) rfl)) rfl 56 (by decide) (hts _ q1689) (fun _ h9 => h9) (v := .ref (z + 88)) (fv_fix hF rfl rfl) dX4_slip_67 ?_
            refine lv_aload_n hx hb dX4_slip_70 rfl (lv_at hl 0 rfl) ?_
            refine r_get (C := RX4) (T := TX4) (N := 80) hx hb hts ok4 hown hK hR (congrArg Prod.fst (hF.2.1 58 (5, 0) rfl)) rfl 55 (by decide) (hts _ q1688) (fun _ h9 => h9) (v := .int (wI w 58 55)) rfl dX4_slip_71 ?_
            refine lv_iload_n hx hb dX4_slip_74 rfl (lv_at hl 1 rfl) ?_
            obtain ⟨hb6, h⟩ := grd h
            refine r_iast hx hb hK hR hL (hF.2.1 88 (200, 40) rfl) hb6 dX4_slip_75 (fun H locs hR hL => ?_)
            have hF := hF.sI 88 ((wI w 58 55).toNatClampNeg) a1
            refine lv_aload_n hx hb dX4_slip_76 rfl (lv_at hl 0 rfl) ?_
            refine r_get (C := RX4) (T := TX4) (N := 80) hx hb hts ok4 hown hK hR (congrArg Prod.fst (hF.2.1 58 (5, 0) rfl)) rfl 57 (by decide) (hts _ q1690) (fun _ h9 => h9) (v := .ref (z + 89)) (fv_fix hF rfl rfl) dX4_slip_77 ?_
            refine lv_aload_n hx hb dX4_slip_80 rfl (lv_at hl 0 rfl) ?_
            refine r_get (C := RX4) (T := TX4) (N := 80) hx hb hts ok4 hown hK hR (congrArg Prod.fst (hF.2.1 58 (5, 0) rfl)) rfl 55 (by decide) (hts _ q1688) (fun _ h9 => h9) (v := .int (wI w 58 55)) rfl dX4_slip_81 ?_
            refine lv_iload_n hx hb dX4_slip_84 rfl (lv_at hl 2 rfl) ?_
            obtain ⟨hb7, h⟩ := grd h
            refine r_iast hx hb hK hR hL (hF.2.1 89 (200, 40) rfl) hb7 dX4_slip_85 (fun H locs hR hL => ?_)
            have hF := hF.sI 89 ((wI w 58 55).toNatClampNeg) a2
            refine lv_aload_n hx hb dX4_slip_86 rfl (lv_at hl 0 rfl) ?_
            refine r_get (C := RX4) (T := TX4) (N := 80) hx hb hts ok4 hown hK hR (congrArg Prod.fst (hF.2.1 58 (5, 0) rfl)) rfl 58 (by decide) (hts _ q1691) (fun _ h9 => h9) (v := .ref (z + 90)) (fv_fix hF rfl rfl) dX4_slip_87 ?_
            refine lv_aload_n hx hb dX4_slip_90 rfl (lv_at hl 0 rfl) ?_
            refine r_get (C := RX4) (T := TX4) (N := 80) hx hb hts ok4 hown hK hR (congrArg Prod.fst (hF.2.1 58 (5, 0) rfl)) rfl 55 (by decide) (hts _ q1688) (fun _ h9 => h9) (v := .int (wI w 58 55)) rfl dX4_slip_91 ?_
            refine lv_iload_n hx hb dX4_slip_94 rfl (lv_at hl 3 rfl) ?_
            obtain ⟨hb8, h⟩ := grd h
            refine r_iast hx hb hK hR hL (hF.2.1 90 (200, 40) rfl) hb8 dX4_slip_95 (fun H locs hR hL => ?_)
            have hF := hF.sI 90 ((wI w 58 55).toNatClampNeg) a3
            refine lv_aload_n hx hb dX4_slip_96 rfl (lv_at hl 0 rfl) ?_
            refine r_get (C := RX4) (T := TX4) (N := 80) hx hb hts ok4 hown hK hR (congrArg Prod.fst (hF.2.1 58 (5, 0) rfl)) rfl 59 (by decide) (hts _ q1692) (fun _ h9 => h9) (v := .ref (z + 91)) (fv_fix hF rfl rfl) dX4_slip_97 ?_
            refine lv_aload_n hx hb dX4_slip_100 rfl (lv_at hl 0 rfl) ?_
            refine r_get (C := RX4) (T := TX4) (N := 80) hx hb hts ok4 hown hK hR (congrArg Prod.fst (hF.2.1 58 (5, 0) rfl)) rfl 55 (by decide) (hts _ q1688) (fun _ h9 => h9) (v := .int (wI w 58 55)) rfl dX4_slip_101 ?_
            refine lv_iload hx hb dX4_slip_104 (lv_at hl 4 rfl) ?_
            obtain ⟨hb9, h⟩ := grd h
            refine r_iast hx hb hK hR hL (hF.2.1 91 (200, 40) rfl) hb9 dX4_slip_106 (fun H locs hR hL => ?_)
            have hF := hF.sI 91 ((wI w 58 55).toNatClampNeg) a4
            refine lv_aload_n hx hb dX4_slip_107 rfl (lv_at hl 0 rfl) ?_
            refine lv_dup hx hb dX4_slip_108 rfl ?_
            refine r_get (C := RX4) (T := TX4) (N := 80) hx hb hts ok4 hown hK hR (congrArg Prod.fst (hF.2.1 58 (5, 0) rfl)) rfl 55 (by decide) (hts _ q1688) (fun _ h9 => h9) (v := .int (wI w 58 55)) rfl dX4_slip_109 ?_
            refine lv_iconst (v := 1) hx hb dX4_slip_112 (by decide) ?_
            refine lv_iadd hx hb dX4_slip_113 ?_
            refine r_putI (C := RX4) (T := TX4) (N := 80) hx hb hts ok4 hown hK hR hL (congrArg Prod.fst (hF.2.1 58 (5, 0) rfl)) rfl 55 (by decide) (hts _ q1688) (fun _ h9 => h9) (Or.inl rfl) rfl rfl rfl dX4_slip_114 (fun H locs hR hL => ?_)
            have hF := hF.sI 58 55 ((wI w 58 55) + (1 : Int32))
            refine lv_aload_n hx hb dX4_slip_117 rfl (lv_at hl 0 rfl) ?_
            refine r_get (C := RX4) (T := TX4) (N := 80) hx hb hts ok4 hown hK hR (congrArg Prod.fst (hF.2.1 58 (5, 0) rfl)) rfl 55 (by decide) (hts _ q1688) (fun _ h9 => h9) (v := .int ((wI w 58 55) + (1 : Int32))) rfl dX4_slip_118 ?_
            refine lv_iconst (v := 1) hx hb dX4_slip_121 (by decide) ?_
            refine lv_isub hx hb dX4_slip_122 ?_
            have h := Option.some.inj h
            subst h
            exact W.iret (v := ((wI w 58 55) + (1 : Int32)) - (1 : Int32)) hx hb hr (fun t ht _ => ⟨rfl, by rw [ht]; exact hR, hF⟩) hL dX4_slip_123
          · rw [if_pos c5] at h
            refine lv_bipush (v := -4) hx hb dX4_slip_63 (by decide) ?_
            have h := Option.some.inj h
            subst h
            exact W.iret (v := (-4 : Int32)) hx hb hr (fun t ht _ => ⟨rfl, by rw [ht]; exact hR, hF⟩) hL dX4_slip_65
        · rw [if_neg (bI_n c4)] at h
          refine lv_bipush (v := -2) hx hb dX4_slip_51 (by decide) ?_
          have h := Option.some.inj h
          subst h
          exact W.iret (v := (-2 : Int32)) hx hb hr (fun t ht _ => ⟨rfl, by rw [ht]; exact hR, hF⟩) hL dX4_slip_53
  refine lv_iload hx hb dX4_slip_0 (lv_at hl 4 rfl) ?_
  refine lv_iconst (v := -1) hx hb dX4_slip_2 (by decide) ?_
  refine lv_icmp_eq (tgt := 17) hx hb dX4_slip_3 (by decide) (fun c1 => ?_) (fun c1 => ?_)
  · rw [if_pos c1] at h
    exact hJ17  w h H locs ls hR hF hL (lv_sub hl [0, 1, 2, 3, 4] rfl)
  · rw [if_neg c1] at h
    refine lv_aload_n hx hb dX4_slip_6 rfl (lv_at hl 0 rfl) ?_
    refine lv_iload hx hb dX4_slip_7 (lv_at hl 4 rfl) ?_
    refine c_VP (a := 58) (ci := 4) (q := (RX4, TX4, 80)) (rest := []) (st1 := [.int (bI (f_X4_isSlip a4 w))]) hx hb hml hown hts hK hR hF hL hl.1 (met_X4_isSlip l G z H0 w a4 _ rfl) (congrArg Prod.fst (hF.2.1 58 (5, 0) rfl)) rfl rfl rfl hd_X4_isSlip q2145 q2147 qs84 q104 q2148 ⟨Nat.le_of_ble_eq_true rfl, Nat.le_of_ble_eq_true rfl⟩ ⟨Nat.le_refl 0, Nat.le_refl 0⟩ rfl rfl (Nat.le_of_ble_eq_true rfl) dX4_slip_9 rfl (fun locs hL => ?_)
    refine lv_if_ne (tgt := 17) hx hb dX4_slip_12 (by decide) (fun c10 => ?_) (fun c10 => ?_)
    · rw [if_pos (bI_p c10)] at h
      exact hJ17  w h H locs ls hR hF hL (lv_sub hl [0, 1, 2, 3, 4] rfl)
    · rw [if_neg (bI_n c10)] at h
      refine lv_iconst (v := -1) hx hb dX4_slip_15 (by decide) ?_
      have h := Option.some.inj h
      subst h
      exact W.iret (v := (-1 : Int32)) hx hb hr (fun t ht _ => ⟨rfl, by rw [ht]; exact hR, hF⟩) hL dX4_slip_16
def f_X4_isTrue (a1 : Int32) (w : Wd) : Option (Bool) :=
  if inb a1 40 then (if (wI w 91 a1.toNatClampNeg) < 0 then (some true) else (if inb (wI w 91 a1.toNatClampNeg) 40 then (if inb a1 40 then (if (wI w 88 ((wI w 91 a1.toNatClampNeg).toNatClampNeg)) = (wI w 88 a1.toNatClampNeg) then (if inb (wI w 91 a1.toNatClampNeg) 40 then (if inb a1 40 then (if (wI w 89 ((wI w 91 a1.toNatClampNeg).toNatClampNeg)) = (wI w 89 a1.toNatClampNeg) then (if inb (wI w 91 a1.toNatClampNeg) 40 then (if inb a1 40 then (if (wI w 90 ((wI w 91 a1.toNatClampNeg).toNatClampNeg)) = (wI w 90 a1.toNatClampNeg) then (some true) else (some false)) else none) else none) else (some false)) else none) else none) else (some false)) else none) else none)) else none
theorem hd_X4_isTrue : yX4_isTrue.cls = RX4 ∧ yX4_isTrue.cls ≠ "java/lang/invoke/MethodHandle" ∧ yX4_isTrue.cls ≠ "java/lang/invoke/VarHandle" ∧ (parseMethodDescriptor yX4_isTrue.desc).map (fun d => d.parameters.length) = some 1 := by decide +kernel
set_option maxHeartbeats 4000000 in
set_option maxRecDepth 100000 in
theorem met_X4_isTrue (l : Launch) (G : Gw) (z : Nat) (H0 : Heap)  (w : Wd) (a1 : Int32) (q : Bool) (h : f_X4_isTrue a1 w = some q) : Met l yX4_isTrue (ws_ yX4_isTrue cX4_isTrue 3 (some .boolean)) ({ frames := 0, cells := 0, slots := 0, locals := 0 } : Room) (pcW G z H0 w [.ref (z + 58), .int a1]) (qP (some (.int (bI q)))) 0 0 (fun q => z ≤ q) := by
  refine mW (by decide) (Nat.le_of_ble_eq_true rfl) ?_
  intro p e s m below meth c ls hx hb hr hml hown hts hlocks hnm hK hR hF hl
  have hown : s.vm.findClass RX4 = some m.cls := hown
  have hl : lv_has ls 3 [(0, .ref (z + 58)), (1, .int a1)] := hl
  have hL : lok z [] := lok_nil
  unfold f_X4_isTrue at h
  generalize ([] : List Loc) = locs at hL ⊢
  refine lv_aload_n hx hb dX4_isTrue_0 rfl (lv_at hl 0 rfl) ?_
  refine r_get (C := RX4) (T := TX4) (N := 80) hx hb hts ok4 hown hK hR (congrArg Prod.fst (hF.2.1 58 (5, 0) rfl)) rfl 59 (by decide) (hts _ q1692) (fun _ h9 => h9) (v := .ref (z + 91)) (fv_fix hF rfl rfl) dX4_isTrue_1 ?_
  refine lv_iload_n hx hb dX4_isTrue_4 rfl (lv_at hl 1 rfl) ?_
  obtain ⟨hb1, h⟩ := grd h
  refine r_iald (v := wI w 91 a1.toNatClampNeg) hx hb hK hR (hF.2.1 91 (200, 40) rfl) hb1 rfl dX4_isTrue_5 ?_
  refine lv_istore_n (lv' := [(2, .int (wI w 91 a1.toNatClampNeg)), (0, .ref (z + 58)), (1, .int a1)]) hx hb dX4_isTrue_6 rfl hl (by decide) rfl (fun ls hl => ?_)
  refine lv_iload_n hx hb dX4_isTrue_7 rfl (lv_at hl 0 rfl) ?_
  refine lv_if_lt (tgt := 56) hx hb dX4_isTrue_8 (by decide) (fun c2 => ?_) (fun c2 => ?_)
  · rw [if_pos c2] at h
    refine lv_iconst (v := 1) hx hb dX4_isTrue_56 (by decide) ?_
    refine lv_goto (tgt := 61) hx hb dX4_isTrue_57 (by decide) ?_
    have h := Option.some.inj h
    subst h
    exact W.zret (v := bI true) hx hb hr (bI_nar _) (fun t ht _ => ⟨rfl, ht⟩) hL dX4_isTrue_61
  · rw [if_neg c2] at h
    refine lv_aload_n hx hb dX4_isTrue_11 rfl (lv_at hl 1 rfl) ?_
    refine r_get (C := RX4) (T := TX4) (N := 80) hx hb hts ok4 hown hK hR (congrArg Prod.fst (hF.2.1 58 (5, 0) rfl)) rfl 56 (by decide) (hts _ q1689) (fun _ h9 => h9) (v := .ref (z + 88)) (fv_fix hF rfl rfl) dX4_isTrue_12 ?_
    refine lv_iload_n hx hb dX4_isTrue_15 rfl (lv_at hl 0 rfl) ?_
    obtain ⟨hb3, h⟩ := grd h
    refine r_iald (v := wI w 88 ((wI w 91 a1.toNatClampNeg).toNatClampNeg)) hx hb hK hR (hF.2.1 88 (200, 40) rfl) hb3 rfl dX4_isTrue_16 ?_
    refine lv_aload_n hx hb dX4_isTrue_17 rfl (lv_at hl 1 rfl) ?_
    refine r_get (C := RX4) (T := TX4) (N := 80) hx hb hts ok4 hown hK hR (congrArg Prod.fst (hF.2.1 58 (5, 0) rfl)) rfl 56 (by decide) (hts _ q1689) (fun _ h9 => h9) (v := .ref (z + 88)) (fv_fix hF rfl rfl) dX4_isTrue_18 ?_
    refine lv_iload_n hx hb dX4_isTrue_21 rfl (lv_at hl 2 rfl) ?_
    obtain ⟨hb4, h⟩ := grd h
    refine r_iald (v := wI w 88 a1.toNatClampNeg) hx hb hK hR (hF.2.1 88 (200, 40) rfl) hb4 rfl dX4_isTrue_22 ?_
    refine lv_icmp_ne (tgt := 60) hx hb dX4_isTrue_23 (by decide) (fun c5 => ?_) (fun c5 => ?_)
    · rw [if_neg c5] at h
      refine lv_iconst (v := 0) hx hb dX4_isTrue_60 (by decide) ?_
      have h := Option.some.inj h
      subst h
      exact W.zret (v := bI false) hx hb hr (bI_nar _) (fun t ht _ => ⟨rfl, ht⟩) hL dX4_isTrue_61
    · rw [if_pos c5] at h
      refine lv_aload_n hx hb dX4_isTrue_26 rfl (lv_at hl 1 rfl) ?_
      refine r_get (C := RX4) (T := TX4) (N := 80) hx hb hts ok4 hown hK hR (congrArg Prod.fst (hF.2.1 58 (5, 0) rfl)) rfl 57 (by decide) (hts _ q1690) (fun _ h9 => h9) (v := .ref (z + 89)) (fv_fix hF rfl rfl) dX4_isTrue_27 ?_
      refine lv_iload_n hx hb dX4_isTrue_30 rfl (lv_at hl 0 rfl) ?_
      obtain ⟨hb6, h⟩ := grd h
      refine r_iald (v := wI w 89 ((wI w 91 a1.toNatClampNeg).toNatClampNeg)) hx hb hK hR (hF.2.1 89 (200, 40) rfl) hb6 rfl dX4_isTrue_31 ?_
      refine lv_aload_n hx hb dX4_isTrue_32 rfl (lv_at hl 1 rfl) ?_
      refine r_get (C := RX4) (T := TX4) (N := 80) hx hb hts ok4 hown hK hR (congrArg Prod.fst (hF.2.1 58 (5, 0) rfl)) rfl 57 (by decide) (hts _ q1690) (fun _ h9 => h9) (v := .ref (z + 89)) (fv_fix hF rfl rfl) dX4_isTrue_33 ?_
      refine lv_iload_n hx hb dX4_isTrue_36 rfl (lv_at hl 2 rfl) ?_
      obtain ⟨hb7, h⟩ := grd h
      refine r_iald (v := wI w 89 a1.toNatClampNeg) hx hb hK hR (hF.2.1 89 (200, 40) rfl) hb7 rfl dX4_isTrue_37 ?_
      refine lv_icmp_ne (tgt := 60) hx hb dX4_isTrue_38 (by decide) (fun c8 => ?_) (fun c8 => ?_)
      · rw [if_neg c8] at h
        refine lv_iconst (v := 0) hx hb dX4_isTrue_60 (by decide) ?_
        have h := Option.some.inj h
        subst h
        exact W.zret (v := bI false) hx hb hr (bI_nar _) (fun t ht _ => ⟨rfl, ht⟩) hL dX4_isTrue_61
      · rw [if_pos c8] at h
        refine lv_aload_n hx hb dX4_isTrue_41 rfl (lv_at hl 1 rfl) ?_
        refine r_get (C := RX4) (T := TX4) (N := 80) hx hb hts ok4 hown hK hR (congrArg Prod.fst (hF.2.1 58 (5, 0) rfl)) rfl 58 (by decide) (hts _ q1691) (fun _ h9 => h9) (v := .ref (z + 90)) (fv_fix hF rfl rfl) dX4_isTrue_42 ?_
        refine lv_iload_n hx hb dX4_isTrue_45 rfl (lv_at hl 0 rfl) ?_
        obtain ⟨hb9, h⟩ := grd h
        refine r_iald (v := wI w 90 ((wI w 91 a1.toNatClampNeg).toNatClampNeg)) hx hb hK hR (hF.2.1 90 (200, 40) rfl) hb9 rfl dX4_isTrue_46 ?_
        refine lv_aload_n hx hb dX4_isTrue_47 rfl (lv_at hl 1 rfl) ?_
        refine r_get (C := RX4) (T := TX4) (N := 80) hx hb hts ok4 hown hK hR (congrArg Prod.fst (hF.2.1 58 (5, 0) rfl)) rfl 58 (by decide) (hts _ q1691) (fun _ h9 => h9) (v := .ref (z + 90)) (fv_fix hF rfl rfl) dX4_isTrue_48 ?_
        refine lv_iload_n hx hb dX4_isTrue_51 rfl (lv_at hl 2 rfl) ?_
        obtain ⟨hb10, h⟩ := grd h
        refine r_iald (v := wI w 90 a1.toNatClampNeg) hx hb hK hR (hF.2.1 90 (200, 40) rfl) hb10 rfl dX4_isTrue_52 ?_
        refine lv_icmp_ne (tgt := 60) hx hb dX4_isTrue_53 (by decide) (fun c11 => ?_) (fun c11 => ?_)
        · rw [if_neg c11] at h
          refine lv_iconst (v := 0) hx hb dX4_isTrue_60 (by decide) ?_
          have h := Option.some.inj h
          subst h
          exact W.zret (v := bI false) hx hb hr (bI_nar _) (fun t ht _ => ⟨rfl, ht⟩) hL dX4_isTrue_61
        · rw [if_pos c11] at h
          refine lv_iconst (v := 1) hx hb dX4_isTrue_56 (by decide) ?_
          refine lv_goto (tgt := 61) hx hb dX4_isTrue_57 (by decide) ?_
          have h := Option.some.inj h
          subst h
          exact W.zret (v := bI true) hx hb hr (bI_nar _) (fun t ht _ => ⟨rfl, ht⟩) hL dX4_isTrue_61
def f_X4_hangsOn_L7 (n : Nat) (u1_2 : Int32) (w : Wd) (s1 : Int32) : Option ((Int32) ⊕ ((Int32))) :=
  if s1 < 0 then (some (.inr s1)) else (if s1 = u1_2 then (some (.inr s1)) else (if inb s1 40 then (some (.inl (wI w 91 s1.toNatClampNeg))) else none))
def f_X4_hangsOn (n : Nat) (a1 : Int32) (a2 : Int32) (w : Wd) : Option (Bool) :=
  if inb a1 40 then ((it n (f_X4_hangsOn_L7 n a2 w) (wI w 91 a1.toNatClampNeg)).bind fun q7_26 => if q7_26 = a2 then (some true) else (some false)) else none
theorem hd_X4_hangsOn : yX4_hangsOn.cls = RX4 ∧ yX4_hangsOn.cls ≠ "java/lang/invoke/MethodHandle" ∧ yX4_hangsOn.cls ≠ "java/lang/invoke/VarHandle" ∧ (parseMethodDescriptor yX4_hangsOn.desc).map (fun d => d.parameters.length) = some 2 := by decide +kernel
set_option maxHeartbeats 4000000 in
set_option maxRecDepth 100000 in
theorem met_X4_hangsOn (l : Launch) (G : Gw) (z : Nat) (H0 : Heap) (n : Nat) (w : Wd) (a1 : Int32) (a2 : Int32) (q : Bool) (h : f_X4_hangsOn n a1 a2 w = some q) : Met l yX4_hangsOn (ws_ yX4_hangsOn cX4_hangsOn 4 (some .boolean)) ({ frames := 0, cells := 0, slots := 0, locals := 0 } : Room) (pcW G z H0 w [.ref (z + 58), .int a1, .int a2]) (qP (some (.int (bI q)))) 0 0 (fun q => z ≤ q) := by
  refine mW (by decide) (Nat.le_of_ble_eq_true rfl) ?_
  intro p e s m below meth c ls hx hb hr hml hown hts hlocks hnm hK hR hF hl
  have hown : s.vm.findClass RX4 = some m.cls := hown
  have hl : lv_has ls 4 [(0, .ref (z + 58)), (1, .int a1), (2, .int a2)] := hl
  have hL : lok z [] := lok_nil
  unfold f_X4_hangsOn at h
  generalize ([] : List Loc) = locs at hL ⊢
  refine lv_aload_n hx hb dX4_hangsOn_0 rfl (lv_at hl 0 rfl) ?_
  refine r_get (C := RX4) (T := TX4) (N := 80) hx hb hts ok4 hown hK hR (congrArg Prod.fst (hF.2.1 58 (5, 0) rfl)) rfl 59 (by decide) (hts _ q1692) (fun _ h9 => h9) (v := .ref (z + 91)) (fv_fix hF rfl rfl) dX4_hangsOn_1 ?_
  refine lv_iload_n hx hb dX4_hangsOn_4 rfl (lv_at hl 1 rfl) ?_
  obtain ⟨hb1, h⟩ := grd h
  refine r_iald (v := wI w 91 a1.toNatClampNeg) hx hb hK hR (hF.2.1 91 (200, 40) rfl) hb1 rfl dX4_hangsOn_5 ?_
  refine lv_istore_n (lv' := [(3, .int (wI w 91 a1.toNatClampNeg)), (0, .ref (z + 58)), (1, .int a1), (2, .int a2)]) hx hb dX4_hangsOn_6 rfl hl (by decide) rfl (fun ls hl => ?_)
  have hX7_26 : ∀ (q7_26 : Int32), (if q7_26 = a2 then (some true) else (some false)) = some q → ∀ (locs : List Loc) (ls : Array Slot), lok z locs → lv_has ls 4 [(3, .int q7_26), (2, .int a2)] → W p l e ({ frames := 0, cells := 0, slots := 0, locals := 0 } : Room) s m ([.ref (z + 58), .int a1, .int a2] : List Value).toArray below meth c s.heap locs 0 0 (MQ below (qP (some (.int (bI q)))) ([.ref (z + 58), .int a1, .int a2] : List Value).toArray s 0 0 (fun q => z ≤ q)) (F0 m 26 ls []) := by
    intro q7_26 h locs ls hL hl
    refine lv_iload_n hx hb dX4_hangsOn_26 rfl (lv_at hl 0 rfl) ?_
    refine lv_iload_n hx hb dX4_hangsOn_27 rfl (lv_at hl 1 rfl) ?_
    refine lv_icmp_ne (tgt := 35) hx hb dX4_hangsOn_28 (by decide) (fun c2 => ?_) (fun c2 => ?_)
    · rw [if_neg c2] at h
      refine lv_iconst (v := 0) hx hb dX4_hangsOn_35 (by decide) ?_
      have h := Option.some.inj h
      subst h
      exact W.zret (v := bI false) hx hb hr (bI_nar _) (fun t ht _ => ⟨rfl, ht⟩) hL dX4_hangsOn_36
    · rw [if_pos c2] at h
      refine lv_iconst (v := 1) hx hb dX4_hangsOn_31 (by decide) ?_
      refine lv_goto (tgt := 36) hx hb dX4_hangsOn_32 (by decide) ?_
      have h := Option.some.inj h
      subst h
      exact W.zret (v := bI true) hx hb hr (bI_nar _) (fun t ht _ => ⟨rfl, ht⟩) hL dX4_hangsOn_36
  obtain ⟨t6, hq7, h⟩ := bnd h
  refine it_W (b := f_X4_hangsOn_L7 n a2 w) (P := fun (s1 : Int32) => ∀ (locs : List Loc) (ls : Array Slot), lok z locs → lv_has ls 4 [(3, .int s1), (0, .ref (z + 58)), (2, .int a2)] → W p l e ({ frames := 0, cells := 0, slots := 0, locals := 0 } : Room) s m ([.ref (z + 58), .int a1, .int a2] : List Value).toArray below meth c s.heap locs 0 0 (MQ below (qP (some (.int (bI q)))) ([.ref (z + 58), .int a1, .int a2] : List Value).toArray s 0 0 (fun q => z ≤ q)) (F0 m 7 ls [])) (K := fun q7_26 => (if q7_26 = a2 then (some true) else (some false)) = some q) (fun s1 x1 h hc1 ht1 => ?_) n (wI w 91 a1.toNatClampNeg) t6 hq7 h locs ls hL (lv_sub hl [0, 1, 3] rfl)
  intro locs ls hL hl
  unfold f_X4_hangsOn_L7 at h
  refine lv_iload_n hx hb dX4_hangsOn_7 rfl (lv_at hl 0 rfl) ?_
  refine lv_if_lt (tgt := 26) hx hb dX4_hangsOn_8 (by decide) (fun c3 => ?_) (fun c3 => ?_)
  · rw [if_pos c3] at h
    exact hX7_26 s1 (ht1 _ (Option.some.inj h).symm) locs ls hL (lv_sub hl [0, 2] rfl)
  · rw [if_neg c3] at h
    refine lv_iload_n hx hb dX4_hangsOn_11 rfl (lv_at hl 0 rfl) ?_
    refine lv_iload_n hx hb dX4_hangsOn_12 rfl (lv_at hl 2 rfl) ?_
    refine lv_icmp_eq (tgt := 26) hx hb dX4_hangsOn_13 (by decide) (fun c4 => ?_) (fun c4 => ?_)
    · rw [if_pos c4] at h
      exact hX7_26 s1 (ht1 _ (Option.some.inj h).symm) locs ls hL (lv_sub hl [0, 2] rfl)
    · rw [if_neg c4] at h
      refine lv_aload_n hx hb dX4_hangsOn_16 rfl (lv_at hl 1 rfl) ?_
      refine r_get (C := RX4) (T := TX4) (N := 80) hx hb hts ok4 hown hK hR (congrArg Prod.fst (hF.2.1 58 (5, 0) rfl)) rfl 59 (by decide) (hts _ q1692) (fun _ h9 => h9) (v := .ref (z + 91)) (fv_fix hF rfl rfl) dX4_hangsOn_17 ?_
      refine lv_iload_n hx hb dX4_hangsOn_20 rfl (lv_at hl 0 rfl) ?_
      obtain ⟨hb5, h⟩ := grd h
      refine r_iald (v := wI w 91 s1.toNatClampNeg) hx hb hK hR (hF.2.1 91 (200, 40) rfl) hb5 rfl dX4_hangsOn_21 ?_
      refine lv_istore_n (lv' := [(3, .int (wI w 91 s1.toNatClampNeg)), (0, .ref (z + 58)), (2, .int a2)]) hx hb dX4_hangsOn_22 rfl hl (by decide) rfl (fun ls hl => ?_)
      refine lv_goto (tgt := 7) hx hb dX4_hangsOn_23 (by decide) ?_
      exact hc1 _ (Option.some.inj h).symm locs ls hL (lv_sub hl [0, 1, 2] rfl)
def f_X4_means_J114 (n : Nat) (u1_1 : Int32) (j5 : Int32) (j3 : Int32) (w : Wd) : Option ((Int32 × Int32) ⊕ ((Int32 × Int32))) :=
  if inb u1_1 40 then (if (wI w 90 u1_1.toNatClampNeg) < 0 then (some (.inl (j5 + (1 : Int32), j3 ||| ((1 : Int32) <<< (j5 &&& 31))))) else (if inb j5 16 then (if inb u1_1 40 then (if (wI w 64 j5.toNatClampNeg) = (wI w 90 u1_1.toNatClampNeg) then (some (.inl (j5 + (1 : Int32), j3 ||| ((1 : Int32) <<< (j5 &&& 31))))) else (some (.inl (j5 + (1 : Int32), j3)))) else none) else none)) else none
def f_X4_means_J89 (n : Nat) (u1_1 : Int32) (j5 : Int32) (j3 : Int32) (w : Wd) : Option ((Int32 × Int32) ⊕ ((Int32 × Int32))) :=
  if inb u1_1 40 then (if (wI w 89 u1_1.toNatClampNeg) < 0 then (f_X4_means_J114 n u1_1 j5 j3 w) else (if inb j5 16 then (if inb u1_1 40 then (if (wI w 63 j5.toNatClampNeg) = (wI w 89 u1_1.toNatClampNeg) then (f_X4_means_J114 n u1_1 j5 j3 w) else (some (.inl (j5 + (1 : Int32), j3)))) else none) else none)) else none
def f_X4_means_L55 (n : Nat) (u1_1 : Int32) (w : Wd) (s1 : Int32 × Int32) : Option ((Int32 × Int32) ⊕ ((Int32 × Int32))) :=
  if (wI w 58 2) ≤ s1.1 then (some (.inr (s1.1, s1.2))) else (if inb u1_1 40 then (if (wI w 88 u1_1.toNatClampNeg) < 0 then (f_X4_means_J89 n u1_1 s1.1 s1.2 w) else (if inb s1.1 16 then (if inb u1_1 40 then (if (wI w 62 s1.1.toNatClampNeg) = (wI w 88 u1_1.toNatClampNeg) then (f_X4_means_J89 n u1_1 s1.1 s1.2 w) else (some (.inl (s1.1 + (1 : Int32), s1.2)))) else none) else none)) else none)
def f_X4_means_L171 (n : Nat) (u1_1 : Int32) (w : Wd) (s1 : Int32 × Int32) : Option ((Int32 × Int32) ⊕ ((Int32 × Int32))) :=
  if (wI w 58 55) ≤ s1.1 then (some (.inr (s1.1, s1.2))) else ((f_X4_hangsOn n s1.1 u1_1 w).bind fun q27 => if q27 then (some (.inl (s1.1 + (1 : Int32), s1.2 + (1 : Int32)))) else (some (.inl (s1.1 + (1 : Int32), s1.2 + (0 : Int32)))))
def f_X4_means_L206 (n : Nat) (w : Wd) (s1 : Int32) : Option ((Int32) ⊕ ((Int32))) :=
  if inb s1 40 then (if (wI w 91 s1.toNatClampNeg) < 0 then (some (.inr s1)) else (if inb s1 40 then (some (.inl (wI w 91 s1.toNatClampNeg))) else none)) else none
def f_X4_means_L234 (n : Nat) (w : Wd) (s1 : Int32 × Int32) : Option ((Int32 × Int32) ⊕ ((Int32 × Int32))) :=
  if s1.2 < 0 then (some (.inr (s1.1, s1.2))) else ((f_X4_isTrue s1.2 w).bind fun q40 => if q40 then (if inb s1.2 40 then (some (.inl (s1.1, wI w 91 s1.2.toNatClampNeg))) else none) else (if inb s1.2 40 then (some (.inl (s1.2, wI w 91 s1.2.toNatClampNeg))) else none))
def f_X4_means (n : Nat) (a1 : Int32) (a2 : Int32) (w : Wd) : Option (Int32) :=
  if (f_X4_isSlip a1 w) then (if a2 = 0 then ((it n (f_X4_means_L55 n a1 w) ((0 : Int32), (0 : Int32))).bind fun q55_152 => some q55_152.2) else (if a2 = 1 then ((f_X4_isTrue a1 w).bind fun q22 => if q22 then (some (1 : Int32)) else (some (0 : Int32))) else (if a2 = 2 then ((it n (f_X4_means_L171 n a1 w) ((0 : Int32), (0 : Int32))).bind fun q171_204 => some q171_204.2) else (if a2 = 3 then ((it n (f_X4_means_L206 n w) a1).bind fun q206_228 => some q206_228) else (if a2 = 4 then ((it n (f_X4_means_L234 n w) ((-5 : Int32), a1)).bind fun q234_267 => some q234_267.1) else (some (-1 : Int32))))))) else (some (-1 : Int32))
theorem hd_X4_means : yX4_means.cls = RX4 ∧ yX4_means.cls ≠ "java/lang/invoke/MethodHandle" ∧ yX4_means.cls ≠ "java/lang/invoke/VarHandle" ∧ (parseMethodDescriptor yX4_means.desc).map (fun d => d.parameters.length) = some 2 := by decide +kernel
set_option maxHeartbeats 4000000 in
set_option maxRecDepth 100000 in
theorem met_X4_means (l : Launch) (G : Gw) (z : Nat) (H0 : Heap) (n : Nat) (w : Wd) (a1 : Int32) (a2 : Int32) (q : Int32) (h : f_X4_means n a1 a2 w = some q) : Met l yX4_means (ws_ yX4_means cX4_means 6 (some .int)) ({ frames := 2, cells := 0, slots := 0, locals := 44 } : Room) (pcW G z H0 w [.ref (z + 58), .int a1, .int a2]) (qP (some (.int q))) 0 0 (fun q => z ≤ q) := by
  refine mW (by decide) (Nat.le_of_ble_eq_true rfl) ?_
  intro p e s m below meth c ls hx hb hr hml hown hts hlocks hnm hK hR hF hl
  have hown : s.vm.findClass RX4 = some m.cls := hown
  have hl : lv_has ls 6 [(0, .ref (z + 58)), (1, .int a1), (2, .int a2)] := hl
  have hL : lok z [] := lok_nil
  unfold f_X4_means at h
  generalize ([] : List Loc) = locs at hL ⊢
  refine lv_aload_n hx hb dX4_means_0 rfl (lv_at hl 0 rfl) ?_
  refine lv_iload_n hx hb dX4_means_1 rfl (lv_at hl 1 rfl) ?_
  refine c_VP (a := 58) (ci := 4) (q := (RX4, TX4, 80)) (rest := []) (st1 := [.int (bI (f_X4_isSlip a1 w))]) hx hb hml hown hts hK hR hF hL hl.1 (met_X4_isSlip l G z H0 w a1 _ rfl) (congrArg Prod.fst (hF.2.1 58 (5, 0) rfl)) rfl rfl rfl hd_X4_isSlip q2145 q2147 qs84 q104 q2148 ⟨Nat.le_of_ble_eq_true rfl, Nat.le_of_ble_eq_true rfl⟩ ⟨Nat.le_refl 0, Nat.le_refl 0⟩ rfl rfl (Nat.le_of_ble_eq_true rfl) dX4_means_2 rfl (fun locs hL => ?_)
  refine lv_if_ne (tgt := 10) hx hb dX4_means_5 (by decide) (fun c1 => ?_) (fun c1 => ?_)
  · rw [if_pos (bI_p c1)] at h
    refine lv_iconst (v := 0) hx hb dX4_means_10 (by decide) ?_
    refine lv_istore_n (lv' := [(3, .int (0 : Int32)), (0, .ref (z + 58)), (1, .int a1), (2, .int a2)]) hx hb dX4_means_11 rfl hl (by decide) rfl (fun ls hl => ?_)
    refine lv_iload_n hx hb dX4_means_12 rfl (lv_at hl 2 rfl) ?_
    refine lv_istore (lv' := [(4, .int a1), (3, .int (0 : Int32)), (0, .ref (z + 58)), (1, .int a1), (2, .int a2)]) hx hb dX4_means_13 hl (by decide) rfl (fun ls hl => ?_)
    refine lv_iload_n hx hb dX4_means_15 rfl (lv_at hl 4 rfl) ?_
    by_cases c2 : a2 = 0
    · rw [if_pos c2] at h
      refine lv_tableIn (off := 36) (tgt := 52) hx hb dX4_means_16 (by rw [c2]; decide) (by rw [c2]; decide) (by rw [c2]; rfl) (by decide) ?_
      refine lv_iconst (v := 0) hx hb dX4_means_52 (by decide) ?_
      refine lv_istore (lv' := [(5, .int (0 : Int32)), (4, .int a1), (3, .int (0 : Int32)), (0, .ref (z + 58)), (1, .int a1), (2, .int a2)]) hx hb dX4_means_53 hl (by decide) rfl (fun ls hl => ?_)
      have hX55_152 : ∀ (q55_152 : Int32 × Int32), (some q55_152.2) = some q → ∀ (locs : List Loc) (ls : Array Slot), lok z locs → lv_has ls 6 [(3, .int q55_152.2)] → W p l e ({ frames := 2, cells := 0, slots := 0, locals := 44 } : Room) s m ([.ref (z + 58), .int a1, .int a2] : List Value).toArray below meth c s.heap locs 0 0 (MQ below (qP (some (.int q))) ([.ref (z + 58), .int a1, .int a2] : List Value).toArray s 0 0 (fun q => z ≤ q)) (F0 m 152 ls []) := by
        intro q55_152 h locs ls hL hl
        refine lv_iload_n hx hb dX4_means_152 rfl (lv_at hl 0 rfl) ?_
        have h := Option.some.inj h
        subst h
        exact W.iret (v := q55_152.2) hx hb hr (fun t ht _ => ⟨rfl, ht⟩) hL dX4_means_153
      obtain ⟨t19, hq20, h⟩ := bnd h
      refine it_W (b := f_X4_means_L55 n a1 w) (P := fun (s1 : Int32 × Int32) => ∀ (locs : List Loc) (ls : Array Slot), lok z locs → lv_has ls 6 [(5, .int s1.1), (3, .int s1.2), (0, .ref (z + 58)), (1, .int a1)] → W p l e ({ frames := 2, cells := 0, slots := 0, locals := 44 } : Room) s m ([.ref (z + 58), .int a1, .int a2] : List Value).toArray below meth c s.heap locs 0 0 (MQ below (qP (some (.int q))) ([.ref (z + 58), .int a1, .int a2] : List Value).toArray s 0 0 (fun q => z ≤ q)) (F0 m 55 ls [])) (K := fun q55_152 => (some q55_152.2) = some q) (fun s1 x1 h hc1 ht1 => ?_) n ((0 : Int32), (0 : Int32)) t19 hq20 h locs ls hL (lv_sub hl [0, 2, 3, 4] rfl)
      intro locs ls hL hl
      unfold f_X4_means_L55 at h
      have hJ114 : ∀ (j5 : Int32) (j3 : Int32) (w : Wd), f_X4_means_J114 n a1 j5 j3 w = some x1 → Rp G z H0 w s.heap → Fix w → ∀ (locs : List Loc) (ls : Array Slot), lok z locs → lv_has ls 6 [(5, .int j5), (3, .int j3), (0, .ref (z + 58)), (1, .int a1)] → W p l e ({ frames := 2, cells := 0, slots := 0, locals := 44 } : Room) s m ([.ref (z + 58), .int a1, .int a2] : List Value).toArray below meth c s.heap locs 0 0 (MQ below (qP (some (.int q))) ([.ref (z + 58), .int a1, .int a2] : List Value).toArray s 0 0 (fun q => z ≤ q)) (F0 m 114 ls []) := by
        intro j5 j3 w h hR hF locs ls hL hl
        unfold f_X4_means_J114 at h
        refine lv_aload_n hx hb dX4_means_114 rfl (lv_at hl 2 rfl) ?_
        refine r_get (C := RX4) (T := TX4) (N := 80) hx hb hts ok4 hown hK hR (congrArg Prod.fst (hF.2.1 58 (5, 0) rfl)) rfl 58 (by decide) (hts _ q1691) (fun _ h9 => h9) (v := .ref (z + 90)) (fv_fix hF rfl rfl) dX4_means_115 ?_
        refine lv_iload_n hx hb dX4_means_118 rfl (lv_at hl 3 rfl) ?_
        obtain ⟨hb8, h⟩ := grd h
        refine r_iald (v := wI w 90 a1.toNatClampNeg) hx hb hK hR (hF.2.1 90 (200, 40) rfl) hb8 rfl dX4_means_119 ?_
        refine lv_if_lt (tgt := 139) hx hb dX4_means_120 (by decide) (fun c9 => ?_) (fun c9 => ?_)
        · rw [if_pos c9] at h
          refine lv_iload_n hx hb dX4_means_139 rfl (lv_at hl 1 rfl) ?_
          refine lv_iconst (v := 1) hx hb dX4_means_140 (by decide) ?_
          refine lv_iload hx hb dX4_means_141 (lv_at hl 0 rfl) ?_
          refine lv_ishl hx hb dX4_means_143 ?_
          refine lv_ior hx hb dX4_means_144 ?_
          refine lv_istore_n (lv' := [(3, .int (j3 ||| ((1 : Int32) <<< (j5 &&& 31)))), (5, .int j5), (0, .ref (z + 58)), (1, .int a1)]) hx hb dX4_means_145 rfl hl (by decide) rfl (fun ls hl => ?_)
          refine lv_iinc (v := j5 + (1 : Int32)) (lv' := [(5, .int (j5 + (1 : Int32))), (3, .int (j3 ||| ((1 : Int32) <<< (j5 &&& 31)))), (0, .ref (z + 58)), (1, .int a1)]) hx hb dX4_means_146 hl (k := 1) rfl rfl (by decide) rfl (fun ls hl => ?_)
          refine lv_goto (tgt := 55) hx hb dX4_means_149 (by decide) ?_
          exact hc1 _ (Option.some.inj h).symm locs ls hL (lv_sub hl [0, 1, 2, 3] rfl)
        · rw [if_neg c9] at h
          refine lv_aload_n hx hb dX4_means_123 rfl (lv_at hl 2 rfl) ?_
          refine r_get (C := RX4) (T := TX4) (N := 80) hx hb hts ok4 hown hK hR (congrArg Prod.fst (hF.2.1 58 (5, 0) rfl)) rfl 9 (by decide) (hts _ q1642) (fun _ h9 => h9) (v := .ref (z + 64)) (fv_fix hF rfl rfl) dX4_means_124 ?_
          refine lv_iload hx hb dX4_means_127 (lv_at hl 0 rfl) ?_
          obtain ⟨hb10, h⟩ := grd h
          refine r_iald (v := wI w 64 j5.toNatClampNeg) hx hb hK hR (hF.2.1 64 (200, 16) rfl) hb10 rfl dX4_means_129 ?_
          refine lv_aload_n hx hb dX4_means_130 rfl (lv_at hl 2 rfl) ?_
          refine r_get (C := RX4) (T := TX4) (N := 80) hx hb hts ok4 hown hK hR (congrArg Prod.fst (hF.2.1 58 (5, 0) rfl)) rfl 58 (by decide) (hts _ q1691) (fun _ h9 => h9) (v := .ref (z + 90)) (fv_fix hF rfl rfl) dX4_means_131 ?_
          refine lv_iload_n hx hb dX4_means_134 rfl (lv_at hl 3 rfl) ?_
          obtain ⟨hb11, h⟩ := grd h
          refine r_iald (v := wI w 90 a1.toNatClampNeg) hx hb hK hR (hF.2.1 90 (200, 40) rfl) hb11 rfl dX4_means_135 ?_
          refine lv_icmp_ne (tgt := 146) hx hb dX4_means_136 (by decide) (fun c12 => ?_) (fun c12 => ?_)
          · rw [if_neg c12] at h
            refine lv_iinc (v := j5 + (1 : Int32)) (lv' := [(5, .int (j5 + (1 : Int32))), (3, .int j3), (0, .ref (z + 58)), (1, .int a1)]) hx hb dX4_means_146 hl (k := 0) rfl rfl (by decide) rfl (fun ls hl => ?_)
            refine lv_goto (tgt := 55) hx hb dX4_means_149 (by decide) ?_
            exact hc1 _ (Option.some.inj h).symm locs ls hL (lv_sub hl [0, 1, 2, 3] rfl)
          · rw [if_pos c12] at h
            refine lv_iload_n hx hb dX4_means_139 rfl (lv_at hl 1 rfl) ?_
            refine lv_iconst (v := 1) hx hb dX4_means_140 (by decide) ?_
            refine lv_iload hx hb dX4_means_141 (lv_at hl 0 rfl) ?_
            refine lv_ishl hx hb dX4_means_143 ?_
            refine lv_ior hx hb dX4_means_144 ?_
            refine lv_istore_n (lv' := [(3, .int (j3 ||| ((1 : Int32) <<< (j5 &&& 31)))), (5, .int j5), (0, .ref (z + 58)), (1, .int a1)]) hx hb dX4_means_145 rfl hl (by decide) rfl (fun ls hl => ?_)
            refine lv_iinc (v := j5 + (1 : Int32)) (lv' := [(5, .int (j5 + (1 : Int32))), (3, .int (j3 ||| ((1 : Int32) <<< (j5 &&& 31)))), (0, .ref (z + 58)), (1, .int a1)]) hx hb dX4_means_146 hl (k := 1) rfl rfl (by decide) rfl (fun ls hl => ?_)
            refine lv_goto (tgt := 55) hx hb dX4_means_149 (by decide) ?_
            exact hc1 _ (Option.some.inj h).symm locs ls hL (lv_sub hl [0, 1, 2, 3] rfl)
      have hJ89 : ∀ (j5 : Int32) (j3 : Int32) (w : Wd), f_X4_means_J89 n a1 j5 j3 w = some x1 → Rp G z H0 w s.heap → Fix w → ∀ (locs : List Loc) (ls : Array Slot), lok z locs → lv_has ls 6 [(5, .int j5), (3, .int j3), (0, .ref (z + 58)), (1, .int a1)] → W p l e ({ frames := 2, cells := 0, slots := 0, locals := 44 } : Room) s m ([.ref (z + 58), .int a1, .int a2] : List Value).toArray below meth c s.heap locs 0 0 (MQ below (qP (some (.int q))) ([.ref (z + 58), .int a1, .int a2] : List Value).toArray s 0 0 (fun q => z ≤ q)) (F0 m 89 ls []) := by
        intro j5 j3 w h hR hF locs ls hL hl
        unfold f_X4_means_J89 at h
        refine lv_aload_n hx hb dX4_means_89 rfl (lv_at hl 2 rfl) ?_
        refine r_get (C := RX4) (T := TX4) (N := 80) hx hb hts ok4 hown hK hR (congrArg Prod.fst (hF.2.1 58 (5, 0) rfl)) rfl 57 (by decide) (hts _ q1690) (fun _ h9 => h9) (v := .ref (z + 89)) (fv_fix hF rfl rfl) dX4_means_90 ?_
        refine lv_iload_n hx hb dX4_means_93 rfl (lv_at hl 3 rfl) ?_
        obtain ⟨hb6, h⟩ := grd h
        refine r_iald (v := wI w 89 a1.toNatClampNeg) hx hb hK hR (hF.2.1 89 (200, 40) rfl) hb6 rfl dX4_means_94 ?_
        refine lv_if_lt (tgt := 114) hx hb dX4_means_95 (by decide) (fun c7 => ?_) (fun c7 => ?_)
        · rw [if_pos c7] at h
          exact hJ114 j5 j3 w h hR hF locs ls hL (lv_sub hl [0, 1, 2, 3] rfl)
        · rw [if_neg c7] at h
          refine lv_aload_n hx hb dX4_means_98 rfl (lv_at hl 2 rfl) ?_
          refine r_get (C := RX4) (T := TX4) (N := 80) hx hb hts ok4 hown hK hR (congrArg Prod.fst (hF.2.1 58 (5, 0) rfl)) rfl 8 (by decide) (hts _ q1641) (fun _ h9 => h9) (v := .ref (z + 63)) (fv_fix hF rfl rfl) dX4_means_99 ?_
          refine lv_iload hx hb dX4_means_102 (lv_at hl 0 rfl) ?_
          obtain ⟨hb13, h⟩ := grd h
          refine r_iald (v := wI w 63 j5.toNatClampNeg) hx hb hK hR (hF.2.1 63 (200, 16) rfl) hb13 rfl dX4_means_104 ?_
          refine lv_aload_n hx hb dX4_means_105 rfl (lv_at hl 2 rfl) ?_
          refine r_get (C := RX4) (T := TX4) (N := 80) hx hb hts ok4 hown hK hR (congrArg Prod.fst (hF.2.1 58 (5, 0) rfl)) rfl 57 (by decide) (hts _ q1690) (fun _ h9 => h9) (v := .ref (z + 89)) (fv_fix hF rfl rfl) dX4_means_106 ?_
          refine lv_iload_n hx hb dX4_means_109 rfl (lv_at hl 3 rfl) ?_
          obtain ⟨hb14, h⟩ := grd h
          refine r_iald (v := wI w 89 a1.toNatClampNeg) hx hb hK hR (hF.2.1 89 (200, 40) rfl) hb14 rfl dX4_means_110 ?_
          refine lv_icmp_ne (tgt := 146) hx hb dX4_means_111 (by decide) (fun c15 => ?_) (fun c15 => ?_)
          · rw [if_neg c15] at h
            refine lv_iinc (v := j5 + (1 : Int32)) (lv' := [(5, .int (j5 + (1 : Int32))), (3, .int j3), (0, .ref (z + 58)), (1, .int a1)]) hx hb dX4_means_146 hl (k := 0) rfl rfl (by decide) rfl (fun ls hl => ?_)
            refine lv_goto (tgt := 55) hx hb dX4_means_149 (by decide) ?_
            exact hc1 _ (Option.some.inj h).symm locs ls hL (lv_sub hl [0, 1, 2, 3] rfl)
          · rw [if_pos c15] at h
            exact hJ114 j5 j3 w h hR hF locs ls hL (lv_sub hl [0, 1, 2, 3] rfl)
      refine lv_iload hx hb dX4_means_55 (lv_at hl 0 rfl) ?_
      refine lv_aload_n hx hb dX4_means_57 rfl (lv_at hl 2 rfl) ?_
      refine r_get (C := RX4) (T := TX4) (N := 80) hx hb hts ok4 hown hK hR (congrArg Prod.fst (hF.2.1 58 (5, 0) rfl)) rfl 2 (by decide) (hts _ q1635) (fun _ h9 => h9) (v := .int (wI w 58 2)) rfl dX4_means_58 ?_
      refine lv_icmp_ge (tgt := 152) hx hb dX4_means_61 (by decide) (fun c3 => ?_) (fun c3 => ?_)
      · rw [if_pos c3] at h
        exact hX55_152 (s1.1, s1.2) (ht1 _ (Option.some.inj h).symm) locs ls hL (lv_sub hl [1] rfl)
      · rw [if_neg c3] at h
        refine lv_aload_n hx hb dX4_means_64 rfl (lv_at hl 2 rfl) ?_
        refine r_get (C := RX4) (T := TX4) (N := 80) hx hb hts ok4 hown hK hR (congrArg Prod.fst (hF.2.1 58 (5, 0) rfl)) rfl 56 (by decide) (hts _ q1689) (fun _ h9 => h9) (v := .ref (z + 88)) (fv_fix hF rfl rfl) dX4_means_65 ?_
        refine lv_iload_n hx hb dX4_means_68 rfl (lv_at hl 3 rfl) ?_
        obtain ⟨hb4, h⟩ := grd h
        refine r_iald (v := wI w 88 a1.toNatClampNeg) hx hb hK hR (hF.2.1 88 (200, 40) rfl) hb4 rfl dX4_means_69 ?_
        refine lv_if_lt (tgt := 89) hx hb dX4_means_70 (by decide) (fun c5 => ?_) (fun c5 => ?_)
        · rw [if_pos c5] at h
          exact hJ89 s1.1 s1.2 w h hR hF locs ls hL (lv_sub hl [0, 1, 2, 3] rfl)
        · rw [if_neg c5] at h
          refine lv_aload_n hx hb dX4_means_73 rfl (lv_at hl 2 rfl) ?_
          refine r_get (C := RX4) (T := TX4) (N := 80) hx hb hts ok4 hown hK hR (congrArg Prod.fst (hF.2.1 58 (5, 0) rfl)) rfl 7 (by decide) (hts _ q1640) (fun _ h9 => h9) (v := .ref (z + 62)) (fv_fix hF rfl rfl) dX4_means_74 ?_
          refine lv_iload hx hb dX4_means_77 (lv_at hl 0 rfl) ?_
          obtain ⟨hb16, h⟩ := grd h
          refine r_iald (v := wI w 62 s1.1.toNatClampNeg) hx hb hK hR (hF.2.1 62 (200, 16) rfl) hb16 rfl dX4_means_79 ?_
          refine lv_aload_n hx hb dX4_means_80 rfl (lv_at hl 2 rfl) ?_
          refine r_get (C := RX4) (T := TX4) (N := 80) hx hb hts ok4 hown hK hR (congrArg Prod.fst (hF.2.1 58 (5, 0) rfl)) rfl 56 (by decide) (hts _ q1689) (fun _ h9 => h9) (v := .ref (z + 88)) (fv_fix hF rfl rfl) dX4_means_81 ?_
          refine lv_iload_n hx hb dX4_means_84 rfl (lv_at hl 3 rfl) ?_
          obtain ⟨hb17, h⟩ := grd h
          refine r_iald (v := wI w 88 a1.toNatClampNeg) hx hb hK hR (hF.2.1 88 (200, 40) rfl) hb17 rfl dX4_means_85 ?_
          refine lv_icmp_ne (tgt := 146) hx hb dX4_means_86 (by decide) (fun c18 => ?_) (fun c18 => ?_)
          · rw [if_neg c18] at h
            refine lv_iinc (v := s1.1 + (1 : Int32)) (lv' := [(5, .int (s1.1 + (1 : Int32))), (3, .int s1.2), (0, .ref (z + 58)), (1, .int a1)]) hx hb dX4_means_146 hl (k := 0) rfl rfl (by decide) rfl (fun ls hl => ?_)
            refine lv_goto (tgt := 55) hx hb dX4_means_149 (by decide) ?_
            exact hc1 _ (Option.some.inj h).symm locs ls hL (lv_sub hl [0, 1, 2, 3] rfl)
          · rw [if_pos c18] at h
            exact hJ89 s1.1 s1.2 w h hR hF locs ls hL (lv_sub hl [0, 1, 2, 3] rfl)
    rw [if_neg c2] at h
    by_cases c21 : a2 = 1
    · rw [if_pos c21] at h
      refine lv_tableIn (off := 138) (tgt := 154) hx hb dX4_means_16 (by rw [c21]; decide) (by rw [c21]; decide) (by rw [c21]; rfl) (by decide) ?_
      refine lv_aload_n hx hb dX4_means_154 rfl (lv_at hl 2 rfl) ?_
      refine lv_iload_n hx hb dX4_means_155 rfl (lv_at hl 3 rfl) ?_
      obtain ⟨q22, hq23, h⟩ := bnd h
      refine c_VP (a := 58) (ci := 4) (q := (RX4, TX4, 80)) (rest := []) (st1 := [.int (bI q22)]) hx hb hml hown hts hK hR hF hL hl.1 (met_X4_isTrue l G z H0 w a1 q22 hq23) (congrArg Prod.fst (hF.2.1 58 (5, 0) rfl)) rfl rfl rfl hd_X4_isTrue q2153 q2155 qs85 q104 q2156 ⟨Nat.le_of_ble_eq_true rfl, Nat.le_of_ble_eq_true rfl⟩ ⟨Nat.le_refl 0, Nat.le_refl 0⟩ rfl rfl (Nat.le_of_ble_eq_true rfl) dX4_means_156 rfl (fun locs hL => ?_)
      refine lv_if_eq (tgt := 166) hx hb dX4_means_159 (by decide) (fun c24 => ?_) (fun c24 => ?_)
      · rw [if_neg (bI_n c24)] at h
        refine lv_iconst (v := 0) hx hb dX4_means_166 (by decide) ?_
        have h := Option.some.inj h
        subst h
        exact W.iret (v := (0 : Int32)) hx hb hr (fun t ht _ => ⟨rfl, ht⟩) hL dX4_means_167
      · rw [if_pos (bI_p c24)] at h
        refine lv_iconst (v := 1) hx hb dX4_means_162 (by decide) ?_
        refine lv_goto (tgt := 167) hx hb dX4_means_163 (by decide) ?_
        have h := Option.some.inj h
        subst h
        exact W.iret (v := (1 : Int32)) hx hb hr (fun t ht _ => ⟨rfl, ht⟩) hL dX4_means_167
    rw [if_neg c21] at h
    by_cases c25 : a2 = 2
    · rw [if_pos c25] at h
      refine lv_tableIn (off := 152) (tgt := 168) hx hb dX4_means_16 (by rw [c25]; decide) (by rw [c25]; decide) (by rw [c25]; rfl) (by decide) ?_
      refine lv_iconst (v := 0) hx hb dX4_means_168 (by decide) ?_
      refine lv_istore (lv' := [(5, .int (0 : Int32)), (4, .int a1), (3, .int (0 : Int32)), (0, .ref (z + 58)), (1, .int a1), (2, .int a2)]) hx hb dX4_means_169 hl (by decide) rfl (fun ls hl => ?_)
      have hX171_204 : ∀ (q171_204 : Int32 × Int32), (some q171_204.2) = some q → ∀ (locs : List Loc) (ls : Array Slot), lok z locs → lv_has ls 6 [(3, .int q171_204.2)] → W p l e ({ frames := 2, cells := 0, slots := 0, locals := 44 } : Room) s m ([.ref (z + 58), .int a1, .int a2] : List Value).toArray below meth c s.heap locs 0 0 (MQ below (qP (some (.int q))) ([.ref (z + 58), .int a1, .int a2] : List Value).toArray s 0 0 (fun q => z ≤ q)) (F0 m 204 ls []) := by
        intro q171_204 h locs ls hL hl
        refine lv_iload_n hx hb dX4_means_204 rfl (lv_at hl 0 rfl) ?_
        have h := Option.some.inj h
        subst h
        exact W.iret (v := q171_204.2) hx hb hr (fun t ht _ => ⟨rfl, ht⟩) hL dX4_means_205
      obtain ⟨t30, hq31, h⟩ := bnd h
      refine it_W (b := f_X4_means_L171 n a1 w) (P := fun (s1 : Int32 × Int32) => ∀ (locs : List Loc) (ls : Array Slot), lok z locs → lv_has ls 6 [(5, .int s1.1), (3, .int s1.2), (0, .ref (z + 58)), (1, .int a1)] → W p l e ({ frames := 2, cells := 0, slots := 0, locals := 44 } : Room) s m ([.ref (z + 58), .int a1, .int a2] : List Value).toArray below meth c s.heap locs 0 0 (MQ below (qP (some (.int q))) ([.ref (z + 58), .int a1, .int a2] : List Value).toArray s 0 0 (fun q => z ≤ q)) (F0 m 171 ls [])) (K := fun q171_204 => (some q171_204.2) = some q) (fun s1 x1 h hc1 ht1 => ?_) n ((0 : Int32), (0 : Int32)) t30 hq31 h locs ls hL (lv_sub hl [0, 2, 3, 4] rfl)
      intro locs ls hL hl
      unfold f_X4_means_L171 at h
      refine lv_iload hx hb dX4_means_171 (lv_at hl 0 rfl) ?_
      refine lv_aload_n hx hb dX4_means_173 rfl (lv_at hl 2 rfl) ?_
      refine r_get (C := RX4) (T := TX4) (N := 80) hx hb hts ok4 hown hK hR (congrArg Prod.fst (hF.2.1 58 (5, 0) rfl)) rfl 55 (by decide) (hts _ q1688) (fun _ h9 => h9) (v := .int (wI w 58 55)) rfl dX4_means_174 ?_
      refine lv_icmp_ge (tgt := 204) hx hb dX4_means_177 (by decide) (fun c26 => ?_) (fun c26 => ?_)
      · rw [if_pos c26] at h
        exact hX171_204 (s1.1, s1.2) (ht1 _ (Option.some.inj h).symm) locs ls hL (lv_sub hl [1] rfl)
      · rw [if_neg c26] at h
        refine lv_iload_n hx hb dX4_means_180 rfl (lv_at hl 1 rfl) ?_
        refine lv_aload_n hx hb dX4_means_181 rfl (lv_at hl 2 rfl) ?_
        refine lv_iload hx hb dX4_means_182 (lv_at hl 0 rfl) ?_
        refine lv_iload_n hx hb dX4_means_184 rfl (lv_at hl 3 rfl) ?_
        obtain ⟨q27, hq28, h⟩ := bnd h
        refine c_VP (a := 58) (ci := 4) (q := (RX4, TX4, 80)) (rest := [.int s1.2]) (st1 := [.int (bI q27), .int s1.2]) hx hb hml hown hts hK hR hF hL hl.1 (met_X4_hangsOn l G z H0 n w s1.1 a1 q27 hq28) (congrArg Prod.fst (hF.2.1 58 (5, 0) rfl)) rfl rfl rfl hd_X4_hangsOn q2157 q2159 qs86 q104 q2160 ⟨Nat.le_of_ble_eq_true rfl, Nat.le_of_ble_eq_true rfl⟩ ⟨Nat.le_refl 0, Nat.le_refl 0⟩ rfl rfl (Nat.le_of_ble_eq_true rfl) dX4_means_185 rfl (fun locs hL => ?_)
        refine lv_if_eq (tgt := 195) hx hb dX4_means_188 (by decide) (fun c29 => ?_) (fun c29 => ?_)
        · rw [if_neg (bI_n c29)] at h
          refine lv_iconst (v := 0) hx hb dX4_means_195 (by decide) ?_
          refine lv_iadd hx hb dX4_means_196 ?_
          refine lv_istore_n (lv' := [(3, .int (s1.2 + (0 : Int32))), (5, .int s1.1), (0, .ref (z + 58)), (1, .int a1)]) hx hb dX4_means_197 rfl hl (by decide) rfl (fun ls hl => ?_)
          refine lv_iinc (v := s1.1 + (1 : Int32)) (lv' := [(5, .int (s1.1 + (1 : Int32))), (3, .int (s1.2 + (0 : Int32))), (0, .ref (z + 58)), (1, .int a1)]) hx hb dX4_means_198 hl (k := 1) rfl rfl (by decide) rfl (fun ls hl => ?_)
          refine lv_goto (tgt := 171) hx hb dX4_means_201 (by decide) ?_
          exact hc1 _ (Option.some.inj h).symm locs ls hL (lv_sub hl [0, 1, 2, 3] rfl)
        · rw [if_pos (bI_p c29)] at h
          refine lv_iconst (v := 1) hx hb dX4_means_191 (by decide) ?_
          refine lv_goto (tgt := 196) hx hb dX4_means_192 (by decide) ?_
          refine lv_iadd hx hb dX4_means_196 ?_
          refine lv_istore_n (lv' := [(3, .int (s1.2 + (1 : Int32))), (5, .int s1.1), (0, .ref (z + 58)), (1, .int a1)]) hx hb dX4_means_197 rfl hl (by decide) rfl (fun ls hl => ?_)
          refine lv_iinc (v := s1.1 + (1 : Int32)) (lv' := [(5, .int (s1.1 + (1 : Int32))), (3, .int (s1.2 + (1 : Int32))), (0, .ref (z + 58)), (1, .int a1)]) hx hb dX4_means_198 hl (k := 1) rfl rfl (by decide) rfl (fun ls hl => ?_)
          refine lv_goto (tgt := 171) hx hb dX4_means_201 (by decide) ?_
          exact hc1 _ (Option.some.inj h).symm locs ls hL (lv_sub hl [0, 1, 2, 3] rfl)
    rw [if_neg c25] at h
    by_cases c32 : a2 = 3
    · rw [if_pos c32] at h
      refine lv_tableIn (off := 190) (tgt := 206) hx hb dX4_means_16 (by rw [c32]; decide) (by rw [c32]; decide) (by rw [c32]; rfl) (by decide) ?_
      have hX206_228 : ∀ (q206_228 : Int32), (some q206_228) = some q → ∀ (locs : List Loc) (ls : Array Slot), lok z locs → lv_has ls 6 [(4, .int q206_228)] → W p l e ({ frames := 2, cells := 0, slots := 0, locals := 44 } : Room) s m ([.ref (z + 58), .int a1, .int a2] : List Value).toArray below meth c s.heap locs 0 0 (MQ below (qP (some (.int q))) ([.ref (z + 58), .int a1, .int a2] : List Value).toArray s 0 0 (fun q => z ≤ q)) (F0 m 228 ls []) := by
        intro q206_228 h locs ls hL hl
        refine lv_iload hx hb dX4_means_228 (lv_at hl 0 rfl) ?_
        have h := Option.some.inj h
        subst h
        exact W.iret (v := q206_228) hx hb hr (fun t ht _ => ⟨rfl, ht⟩) hL dX4_means_230
      obtain ⟨t36, hq37, h⟩ := bnd h
      refine it_W (b := f_X4_means_L206 n w) (P := fun (s1 : Int32) => ∀ (locs : List Loc) (ls : Array Slot), lok z locs → lv_has ls 6 [(4, .int s1), (0, .ref (z + 58))] → W p l e ({ frames := 2, cells := 0, slots := 0, locals := 44 } : Room) s m ([.ref (z + 58), .int a1, .int a2] : List Value).toArray below meth c s.heap locs 0 0 (MQ below (qP (some (.int q))) ([.ref (z + 58), .int a1, .int a2] : List Value).toArray s 0 0 (fun q => z ≤ q)) (F0 m 206 ls [])) (K := fun q206_228 => (some q206_228) = some q) (fun s1 x1 h hc1 ht1 => ?_) n a1 t36 hq37 h locs ls hL (lv_sub hl [0, 2] rfl)
      intro locs ls hL hl
      unfold f_X4_means_L206 at h
      refine lv_aload_n hx hb dX4_means_206 rfl (lv_at hl 1 rfl) ?_
      refine r_get (C := RX4) (T := TX4) (N := 80) hx hb hts ok4 hown hK hR (congrArg Prod.fst (hF.2.1 58 (5, 0) rfl)) rfl 59 (by decide) (hts _ q1692) (fun _ h9 => h9) (v := .ref (z + 91)) (fv_fix hF rfl rfl) dX4_means_207 ?_
      refine lv_iload hx hb dX4_means_210 (lv_at hl 0 rfl) ?_
      obtain ⟨hb33, h⟩ := grd h
      refine r_iald (v := wI w 91 s1.toNatClampNeg) hx hb hK hR (hF.2.1 91 (200, 40) rfl) hb33 rfl dX4_means_212 ?_
      refine lv_if_lt (tgt := 228) hx hb dX4_means_213 (by decide) (fun c34 => ?_) (fun c34 => ?_)
      · rw [if_pos c34] at h
        exact hX206_228 s1 (ht1 _ (Option.some.inj h).symm) locs ls hL (lv_sub hl [0] rfl)
      · rw [if_neg c34] at h
        refine lv_aload_n hx hb dX4_means_216 rfl (lv_at hl 1 rfl) ?_
        refine r_get (C := RX4) (T := TX4) (N := 80) hx hb hts ok4 hown hK hR (congrArg Prod.fst (hF.2.1 58 (5, 0) rfl)) rfl 59 (by decide) (hts _ q1692) (fun _ h9 => h9) (v := .ref (z + 91)) (fv_fix hF rfl rfl) dX4_means_217 ?_
        refine lv_iload hx hb dX4_means_220 (lv_at hl 0 rfl) ?_
        obtain ⟨hb35, h⟩ := grd h
        refine r_iald (v := wI w 91 s1.toNatClampNeg) hx hb hK hR (hF.2.1 91 (200, 40) rfl) hb35 rfl dX4_means_222 ?_
        refine lv_istore (lv' := [(4, .int (wI w 91 s1.toNatClampNeg)), (0, .ref (z + 58))]) hx hb dX4_means_223 hl (by decide) rfl (fun ls hl => ?_)
        refine lv_goto (tgt := 206) hx hb dX4_means_225 (by decide) ?_
        exact hc1 _ (Option.some.inj h).symm locs ls hL (lv_sub hl [0, 1] rfl)
    rw [if_neg c32] at h
    by_cases c38 : a2 = 4
    · rw [if_pos c38] at h
      refine lv_tableIn (off := 215) (tgt := 231) hx hb dX4_means_16 (by rw [c38]; decide) (by rw [c38]; decide) (by rw [c38]; rfl) (by decide) ?_
      refine lv_bipush (v := -5) hx hb dX4_means_231 (by decide) ?_
      refine lv_istore_n (lv' := [(3, .int (-5 : Int32)), (4, .int a1), (0, .ref (z + 58)), (1, .int a1), (2, .int a2)]) hx hb dX4_means_233 rfl hl (by decide) rfl (fun ls hl => ?_)
      have hX234_267 : ∀ (q234_267 : Int32 × Int32), (some q234_267.1) = some q → ∀ (locs : List Loc) (ls : Array Slot), lok z locs → lv_has ls 6 [(3, .int q234_267.1)] → W p l e ({ frames := 2, cells := 0, slots := 0, locals := 44 } : Room) s m ([.ref (z + 58), .int a1, .int a2] : List Value).toArray below meth c s.heap locs 0 0 (MQ below (qP (some (.int q))) ([.ref (z + 58), .int a1, .int a2] : List Value).toArray s 0 0 (fun q => z ≤ q)) (F0 m 267 ls []) := by
        intro q234_267 h locs ls hL hl
        refine lv_iload_n hx hb dX4_means_267 rfl (lv_at hl 0 rfl) ?_
        have h := Option.some.inj h
        subst h
        exact W.iret (v := q234_267.1) hx hb hr (fun t ht _ => ⟨rfl, ht⟩) hL dX4_means_268
      obtain ⟨t45, hq46, h⟩ := bnd h
      refine it_W (b := f_X4_means_L234 n w) (P := fun (s1 : Int32 × Int32) => ∀ (locs : List Loc) (ls : Array Slot), lok z locs → lv_has ls 6 [(3, .int s1.1), (4, .int s1.2), (0, .ref (z + 58))] → W p l e ({ frames := 2, cells := 0, slots := 0, locals := 44 } : Room) s m ([.ref (z + 58), .int a1, .int a2] : List Value).toArray below meth c s.heap locs 0 0 (MQ below (qP (some (.int q))) ([.ref (z + 58), .int a1, .int a2] : List Value).toArray s 0 0 (fun q => z ≤ q)) (F0 m 234 ls [])) (K := fun q234_267 => (some q234_267.1) = some q) (fun s1 x1 h hc1 ht1 => ?_) n ((-5 : Int32), a1) t45 hq46 h locs ls hL (lv_sub hl [0, 1, 2] rfl)
      intro locs ls hL hl
      unfold f_X4_means_L234 at h
      refine lv_iload hx hb dX4_means_234 (lv_at hl 1 rfl) ?_
      refine lv_if_lt (tgt := 267) hx hb dX4_means_236 (by decide) (fun c39 => ?_) (fun c39 => ?_)
      · rw [if_pos c39] at h
        exact hX234_267 (s1.1, s1.2) (ht1 _ (Option.some.inj h).symm) locs ls hL (lv_sub hl [0] rfl)
      · rw [if_neg c39] at h
        refine lv_aload_n hx hb dX4_means_239 rfl (lv_at hl 2 rfl) ?_
        refine lv_iload hx hb dX4_means_240 (lv_at hl 1 rfl) ?_
        obtain ⟨q40, hq41, h⟩ := bnd h
        refine c_VP (a := 58) (ci := 4) (q := (RX4, TX4, 80)) (rest := []) (st1 := [.int (bI q40)]) hx hb hml hown hts hK hR hF hL hl.1 (met_X4_isTrue l G z H0 w s1.2 q40 hq41) (congrArg Prod.fst (hF.2.1 58 (5, 0) rfl)) rfl rfl rfl hd_X4_isTrue q2153 q2155 qs85 q104 q2156 ⟨Nat.le_of_ble_eq_true rfl, Nat.le_of_ble_eq_true rfl⟩ ⟨Nat.le_refl 0, Nat.le_refl 0⟩ rfl rfl (Nat.le_of_ble_eq_true rfl) dX4_means_242 rfl (fun locs hL => ?_)
        refine lv_if_eq (tgt := 252) hx hb dX4_means_245 (by decide) (fun c42 => ?_) (fun c42 => ?_)
        · rw [if_neg (bI_n c42)] at h
          refine lv_iload hx hb dX4_means_252 (lv_at hl 1 rfl) ?_
          refine lv_istore_n (lv' := [(3, .int s1.2), (4, .int s1.2), (0, .ref (z + 58))]) hx hb dX4_means_254 rfl hl (by decide) rfl (fun ls hl => ?_)
          refine lv_aload_n hx hb dX4_means_255 rfl (lv_at hl 2 rfl) ?_
          refine r_get (C := RX4) (T := TX4) (N := 80) hx hb hts ok4 hown hK hR (congrArg Prod.fst (hF.2.1 58 (5, 0) rfl)) rfl 59 (by decide) (hts _ q1692) (fun _ h9 => h9) (v := .ref (z + 91)) (fv_fix hF rfl rfl) dX4_means_256 ?_
          refine lv_iload hx hb dX4_means_259 (lv_at hl 1 rfl) ?_
          obtain ⟨hb43, h⟩ := grd h
          refine r_iald (v := wI w 91 s1.2.toNatClampNeg) hx hb hK hR (hF.2.1 91 (200, 40) rfl) hb43 rfl dX4_means_261 ?_
          refine lv_istore (lv' := [(4, .int (wI w 91 s1.2.toNatClampNeg)), (3, .int s1.2), (0, .ref (z + 58))]) hx hb dX4_means_262 hl (by decide) rfl (fun ls hl => ?_)
          refine lv_goto (tgt := 234) hx hb dX4_means_264 (by decide) ?_
          exact hc1 _ (Option.some.inj h).symm locs ls hL (lv_sub hl [1, 0, 2] rfl)
        · rw [if_pos (bI_p c42)] at h
          refine lv_iload_n hx hb dX4_means_248 rfl (lv_at hl 0 rfl) ?_
          refine lv_goto (tgt := 254) hx hb dX4_means_249 (by decide) ?_
          refine lv_istore_n (lv' := [(3, .int s1.1), (4, .int s1.2), (0, .ref (z + 58))]) hx hb dX4_means_254 rfl hl (by decide) rfl (fun ls hl => ?_)
          refine lv_aload_n hx hb dX4_means_255 rfl (lv_at hl 2 rfl) ?_
          refine r_get (C := RX4) (T := TX4) (N := 80) hx hb hts ok4 hown hK hR (congrArg Prod.fst (hF.2.1 58 (5, 0) rfl)) rfl 59 (by decide) (hts _ q1692) (fun _ h9 => h9) (v := .ref (z + 91)) (fv_fix hF rfl rfl) dX4_means_256 ?_
          refine lv_iload hx hb dX4_means_259 (lv_at hl 1 rfl) ?_
          obtain ⟨hb44, h⟩ := grd h
          refine r_iald (v := wI w 91 s1.2.toNatClampNeg) hx hb hK hR (hF.2.1 91 (200, 40) rfl) hb44 rfl dX4_means_261 ?_
          refine lv_istore (lv' := [(4, .int (wI w 91 s1.2.toNatClampNeg)), (3, .int s1.1), (0, .ref (z + 58))]) hx hb dX4_means_262 hl (by decide) rfl (fun ls hl => ?_)
          refine lv_goto (tgt := 234) hx hb dX4_means_264 (by decide) ?_
          exact hc1 _ (Option.some.inj h).symm locs ls hL (lv_sub hl [1, 0, 2] rfl)
    rw [if_neg c38] at h
    refine lv_tableOut (tgt := 269) hx hb dX4_means_16 (by have c2_ := lv_neT c2 (show (0 : Int32).toInt = 0 by decide); have c21_ := lv_neT c21 (show (1 : Int32).toInt = 1 by decide); have c25_ := lv_neT c25 (show (2 : Int32).toInt = 2 by decide); have c32_ := lv_neT c32 (show (3 : Int32).toInt = 3 by decide); have c38_ := lv_neT c38 (show (4 : Int32).toInt = 4 by decide); omega) (by decide) ?_
    refine lv_iconst (v := -1) hx hb dX4_means_269 (by decide) ?_
    have h := Option.some.inj h
    subst h
    exact W.iret (v := (-1 : Int32)) hx hb hr (fun t ht _ => ⟨rfl, ht⟩) hL dX4_means_270
  · rw [if_neg (bI_n c1)] at h
    refine lv_iconst (v := -1) hx hb dX4_means_8 (by decide) ?_
    have h := Option.some.inj h
    subst h
    exact W.iret (v := (-1 : Int32)) hx hb hr (fun t ht _ => ⟨rfl, ht⟩) hL dX4_means_9
def f_X4_unlike (a1 : Int32) (a2 : Int32) (w : Wd) : Option (Int32) :=
  if (f_X4_isEdition a1 w) then (if (f_X4_isEdition a2 w) then (if inb a1 24 then (if inb a2 24 then (if (wI w 67 a1.toNatClampNeg) = (wI w 67 a2.toNatClampNeg) then (if inb a1 24 then (if inb a2 24 then (some ((wI w 68 a1.toNatClampNeg) ^^^ (wI w 68 a2.toNatClampNeg))) else none) else none) else (some (-3 : Int32))) else none) else none) else (some (-1 : Int32))) else (some (-1 : Int32))
theorem hd_X4_unlike : yX4_unlike.cls = RX4 ∧ yX4_unlike.cls ≠ "java/lang/invoke/MethodHandle" ∧ yX4_unlike.cls ≠ "java/lang/invoke/VarHandle" ∧ (parseMethodDescriptor yX4_unlike.desc).map (fun d => d.parameters.length) = some 2 := by decide +kernel
set_option maxHeartbeats 4000000 in
set_option maxRecDepth 100000 in
theorem met_X4_unlike (l : Launch) (G : Gw) (z : Nat) (H0 : Heap)  (w : Wd) (a1 : Int32) (a2 : Int32) (q : Int32) (h : f_X4_unlike a1 a2 w = some q) : Met l yX4_unlike (ws_ yX4_unlike cX4_unlike 3 (some .int)) ({ frames := 2, cells := 0, slots := 0, locals := 44 } : Room) (pcW G z H0 w [.ref (z + 58), .int a1, .int a2]) (qP (some (.int q))) 0 0 (fun q => z ≤ q) := by
  refine mW (by decide) (Nat.le_of_ble_eq_true rfl) ?_
  intro p e s m below meth c ls hx hb hr hml hown hts hlocks hnm hK hR hF hl
  have hown : s.vm.findClass RX4 = some m.cls := hown
  have hl : lv_has ls 3 [(0, .ref (z + 58)), (1, .int a1), (2, .int a2)] := hl
  have hL : lok z [] := lok_nil
  unfold f_X4_unlike at h
  generalize ([] : List Loc) = locs at hL ⊢
  refine lv_aload_n hx hb dX4_unlike_0 rfl (lv_at hl 0 rfl) ?_
  refine lv_iload_n hx hb dX4_unlike_1 rfl (lv_at hl 1 rfl) ?_
  refine c_VP (a := 58) (ci := 4) (q := (RX4, TX4, 80)) (rest := []) (st1 := [.int (bI (f_X4_isEdition a1 w))]) hx hb hml hown hts hK hR hF hL hl.1 (met_X4_isEdition l G z H0 w a1 _ rfl) (congrArg Prod.fst (hF.2.1 58 (5, 0) rfl)) rfl rfl rfl hd_X4_isEdition q1919 q1921 qs45 q104 q1922 ⟨Nat.le_of_ble_eq_true rfl, Nat.le_of_ble_eq_true rfl⟩ ⟨Nat.le_refl 0, Nat.le_refl 0⟩ rfl rfl (Nat.le_of_ble_eq_true rfl) dX4_unlike_2 rfl (fun locs hL => ?_)
  refine lv_if_eq (tgt := 16) hx hb dX4_unlike_5 (by decide) (fun c1 => ?_) (fun c1 => ?_)
  · rw [if_neg (bI_n c1)] at h
    refine lv_iconst (v := -1) hx hb dX4_unlike_16 (by decide) ?_
    have h := Option.some.inj h
    subst h
    exact W.iret (v := (-1 : Int32)) hx hb hr (fun t ht _ => ⟨rfl, ht⟩) hL dX4_unlike_17
  · rw [if_pos (bI_p c1)] at h
    refine lv_aload_n hx hb dX4_unlike_8 rfl (lv_at hl 0 rfl) ?_
    refine lv_iload_n hx hb dX4_unlike_9 rfl (lv_at hl 2 rfl) ?_
    refine c_VP (a := 58) (ci := 4) (q := (RX4, TX4, 80)) (rest := []) (st1 := [.int (bI (f_X4_isEdition a2 w))]) hx hb hml hown hts hK hR hF hL hl.1 (met_X4_isEdition l G z H0 w a2 _ rfl) (congrArg Prod.fst (hF.2.1 58 (5, 0) rfl)) rfl rfl rfl hd_X4_isEdition q1919 q1921 qs45 q104 q1922 ⟨Nat.le_of_ble_eq_true rfl, Nat.le_of_ble_eq_true rfl⟩ ⟨Nat.le_refl 0, Nat.le_refl 0⟩ rfl rfl (Nat.le_of_ble_eq_true rfl) dX4_unlike_10 rfl (fun locs hL => ?_)
    refine lv_if_ne (tgt := 18) hx hb dX4_unlike_13 (by decide) (fun c2 => ?_) (fun c2 => ?_)
    · rw [if_pos (bI_p c2)] at h
      refine lv_aload_n hx hb dX4_unlike_18 rfl (lv_at hl 0 rfl) ?_
      refine r_get (C := RX4) (T := TX4) (N := 80) hx hb hts ok4 hown hK hR (congrArg Prod.fst (hF.2.1 58 (5, 0) rfl)) rfl 12 (by decide) (hts _ q1645) (fun _ h9 => h9) (v := .ref (z + 67)) (fv_fix hF rfl rfl) dX4_unlike_19 ?_
      refine lv_iload_n hx hb dX4_unlike_22 rfl (lv_at hl 1 rfl) ?_
      obtain ⟨hb3, h⟩ := grd h
      refine r_iald (v := wI w 67 a1.toNatClampNeg) hx hb hK hR (hF.2.1 67 (200, 24) rfl) hb3 rfl dX4_unlike_23 ?_
      refine lv_aload_n hx hb dX4_unlike_24 rfl (lv_at hl 0 rfl) ?_
      refine r_get (C := RX4) (T := TX4) (N := 80) hx hb hts ok4 hown hK hR (congrArg Prod.fst (hF.2.1 58 (5, 0) rfl)) rfl 12 (by decide) (hts _ q1645) (fun _ h9 => h9) (v := .ref (z + 67)) (fv_fix hF rfl rfl) dX4_unlike_25 ?_
      refine lv_iload_n hx hb dX4_unlike_28 rfl (lv_at hl 2 rfl) ?_
      obtain ⟨hb4, h⟩ := grd h
      refine r_iald (v := wI w 67 a2.toNatClampNeg) hx hb hK hR (hF.2.1 67 (200, 24) rfl) hb4 rfl dX4_unlike_29 ?_
      refine lv_icmp_eq (tgt := 38) hx hb dX4_unlike_30 (by decide) (fun c5 => ?_) (fun c5 => ?_)
      · rw [if_pos c5] at h
        refine lv_aload_n hx hb dX4_unlike_38 rfl (lv_at hl 0 rfl) ?_
        refine r_get (C := RX4) (T := TX4) (N := 80) hx hb hts ok4 hown hK hR (congrArg Prod.fst (hF.2.1 58 (5, 0) rfl)) rfl 13 (by decide) (hts _ q1646) (fun _ h9 => h9) (v := .ref (z + 68)) (fv_fix hF rfl rfl) dX4_unlike_39 ?_
        refine lv_iload_n hx hb dX4_unlike_42 rfl (lv_at hl 1 rfl) ?_
        obtain ⟨hb6, h⟩ := grd h
        refine r_iald (v := wI w 68 a1.toNatClampNeg) hx hb hK hR (hF.2.1 68 (200, 24) rfl) hb6 rfl dX4_unlike_43 ?_
        refine lv_aload_n hx hb dX4_unlike_44 rfl (lv_at hl 0 rfl) ?_
        refine r_get (C := RX4) (T := TX4) (N := 80) hx hb hts ok4 hown hK hR (congrArg Prod.fst (hF.2.1 58 (5, 0) rfl)) rfl 13 (by decide) (hts _ q1646) (fun _ h9 => h9) (v := .ref (z + 68)) (fv_fix hF rfl rfl) dX4_unlike_45 ?_
        refine lv_iload_n hx hb dX4_unlike_48 rfl (lv_at hl 2 rfl) ?_
        obtain ⟨hb7, h⟩ := grd h
        refine r_iald (v := wI w 68 a2.toNatClampNeg) hx hb hK hR (hF.2.1 68 (200, 24) rfl) hb7 rfl dX4_unlike_49 ?_
        refine lv_ixor hx hb dX4_unlike_50 ?_
        have h := Option.some.inj h
        subst h
        exact W.iret (v := (wI w 68 a1.toNatClampNeg) ^^^ (wI w 68 a2.toNatClampNeg)) hx hb hr (fun t ht _ => ⟨rfl, ht⟩) hL dX4_unlike_51
      · rw [if_neg c5] at h
        refine lv_bipush (v := -3) hx hb dX4_unlike_33 (by decide) ?_
        refine lv_goto (tgt := 51) hx hb dX4_unlike_35 (by decide) ?_
        have h := Option.some.inj h
        subst h
        exact W.iret (v := (-3 : Int32)) hx hb hr (fun t ht _ => ⟨rfl, ht⟩) hL dX4_unlike_51
    · rw [if_neg (bI_n c2)] at h
      refine lv_iconst (v := -1) hx hb dX4_unlike_16 (by decide) ?_
      have h := Option.some.inj h
      subst h
      exact W.iret (v := (-1 : Int32)) hx hb hr (fun t ht _ => ⟨rfl, ht⟩) hL dX4_unlike_17
def f_X4_passes_J90 (n : Nat) (a1 : Int32) (a2 : Int32) (a3 : Int32) (a4 : Int32) (k0 : Int32) (w : Wd) : Option (Int32 × Wd) :=
  if k0 = 0 then (some ((0 : Int32), w)) else (if inb a2 24 then (if inb a1 24 then ((f_X4_struckOf n a2 a3 a4 w).bind fun q16 => if (((wI w 68 a2.toNatClampNeg) &&& ((wI w 68 a1.toNatClampNeg) ^^^ (-1 : Int32))) &&& (q16.1 ^^^ (-1 : Int32))) = 0 then (some ((1 : Int32), q16.2)) else (some ((0 : Int32), q16.2))) else none) else none)
def f_X4_passes (n : Nat) (a1 : Int32) (a2 : Int32) (a3 : Int32) (a4 : Int32) (w : Wd) : Option (Int32 × Wd) :=
  if (f_X4_isEdition a1 w) then (if (f_X4_isEdition a2 w) then (if (f_X4_isTown a3 w) then (if (f_X4_isDay a4 w) then (if inb a1 24 then (if inb a2 24 then (if (wI w 67 a1.toNatClampNeg) = (wI w 67 a2.toNatClampNeg) then (if inb a1 24 then (if inb a2 24 then ((f_X4_struckOf n a1 a3 a4 w).bind fun q10 => if (((wI w 68 a1.toNatClampNeg) &&& ((wI w 68 a2.toNatClampNeg) ^^^ (-1 : Int32))) &&& (q10.1 ^^^ (-1 : Int32))) = 0 then (f_X4_passes_J90 n a1 a2 a3 a4 (1 : Int32) q10.2) else (f_X4_passes_J90 n a1 a2 a3 a4 (0 : Int32) q10.2)) else none) else none) else (some ((-3 : Int32), w))) else none) else none) else (some ((-2 : Int32), w))) else (some ((-1 : Int32), w))) else (some ((-1 : Int32), w))) else (some ((-1 : Int32), w))
theorem hd_X4_passes : yX4_passes.cls = RX4 ∧ yX4_passes.cls ≠ "java/lang/invoke/MethodHandle" ∧ yX4_passes.cls ≠ "java/lang/invoke/VarHandle" ∧ (parseMethodDescriptor yX4_passes.desc).map (fun d => d.parameters.length) = some 4 := by decide +kernel
set_option maxHeartbeats 4000000 in
set_option maxRecDepth 100000 in
theorem met_X4_passes (l : Launch) (G : Gw) (z : Nat) (H0 : Heap) (n : Nat) (w : Wd) (a1 : Int32) (a2 : Int32) (a3 : Int32) (a4 : Int32) (q : Int32 × Wd) (h : f_X4_passes n a1 a2 a3 a4 w = some q) : Met l yX4_passes (ws_ yX4_passes cX4_passes 6 (some .int)) ({ frames := 9, cells := 0, slots := 0, locals := 202 } : Room) (pcW G z H0 w [.ref (z + 58), .int a1, .int a2, .int a3, .int a4]) (qW G z H0 q.2 (some (.int q.1))) 0 0 (fun q => z ≤ q) := by
  refine mW (by decide) (Nat.le_of_ble_eq_true rfl) ?_
  intro p e s m below meth c ls hx hb hr hml hown hts hlocks hnm hK hR hF hl
  have hown : s.vm.findClass RX4 = some m.cls := hown
  have hl : lv_has ls 6 [(0, .ref (z + 58)), (1, .int a1), (2, .int a2), (3, .int a3), (4, .int a4)] := hl
  have hL : lok z [] := lok_nil
  unfold f_X4_passes at h
  generalize s.heap = H at hR ⊢
  generalize ([] : List Loc) = locs at hL ⊢
  have hJ90 : ∀ (k0 : Int32) (w : Wd), f_X4_passes_J90 n a1 a2 a3 a4 k0 w = some q → ∀ (H : Heap) (locs : List Loc) (ls : Array Slot), Rp G z H0 w H → Fix w → lok z locs → lv_has ls 6 [(0, .ref (z + 58)), (1, .int a1), (2, .int a2), (3, .int a3), (4, .int a4)] → W p l e ({ frames := 9, cells := 0, slots := 0, locals := 202 } : Room) s m ([.ref (z + 58), .int a1, .int a2, .int a3, .int a4] : List Value).toArray below meth c H locs 0 0 (MQ below (qW G z H0 q.2 (some (.int q.1))) ([.ref (z + 58), .int a1, .int a2, .int a3, .int a4] : List Value).toArray s 0 0 (fun q => z ≤ q)) (F0 m 90 ls [.int k0]) := by
    intro k0 w h H locs ls hR hF hL hl
    unfold f_X4_passes_J90 at h
    refine lv_istore (lv' := [(5, .int k0), (0, .ref (z + 58)), (1, .int a1), (2, .int a2), (3, .int a3), (4, .int a4)]) hx hb dX4_passes_90 hl (by decide) rfl (fun ls hl => ?_)
    refine lv_iload hx hb dX4_passes_92 (lv_at hl 0 rfl) ?_
    refine lv_if_eq (tgt := 130) hx hb dX4_passes_94 (by decide) (fun c13 => ?_) (fun c13 => ?_)
    · rw [if_pos c13] at h
      refine lv_iconst (v := 0) hx hb dX4_passes_130 (by decide) ?_
      have h := Option.some.inj h
      subst h
      exact W.iret (v := (0 : Int32)) hx hb hr (fun t ht _ => ⟨rfl, by rw [ht]; exact hR, hF⟩) hL dX4_passes_131
    · rw [if_neg c13] at h
      refine lv_aload_n hx hb dX4_passes_97 rfl (lv_at hl 1 rfl) ?_
      refine r_get (C := RX4) (T := TX4) (N := 80) hx hb hts ok4 hown hK hR (congrArg Prod.fst (hF.2.1 58 (5, 0) rfl)) rfl 13 (by decide) (hts _ q1646) (fun _ h9 => h9) (v := .ref (z + 68)) (fv_fix hF rfl rfl) dX4_passes_98 ?_
      refine lv_iload_n hx hb dX4_passes_101 rfl (lv_at hl 3 rfl) ?_
      obtain ⟨hb14, h⟩ := grd h
      refine r_iald (v := wI w 68 a2.toNatClampNeg) hx hb hK hR (hF.2.1 68 (200, 24) rfl) hb14 rfl dX4_passes_102 ?_
      refine lv_aload_n hx hb dX4_passes_103 rfl (lv_at hl 1 rfl) ?_
      refine r_get (C := RX4) (T := TX4) (N := 80) hx hb hts ok4 hown hK hR (congrArg Prod.fst (hF.2.1 58 (5, 0) rfl)) rfl 13 (by decide) (hts _ q1646) (fun _ h9 => h9) (v := .ref (z + 68)) (fv_fix hF rfl rfl) dX4_passes_104 ?_
      refine lv_iload_n hx hb dX4_passes_107 rfl (lv_at hl 2 rfl) ?_
      obtain ⟨hb15, h⟩ := grd h
      refine r_iald (v := wI w 68 a1.toNatClampNeg) hx hb hK hR (hF.2.1 68 (200, 24) rfl) hb15 rfl dX4_passes_108 ?_
      refine lv_iconst (v := -1) hx hb dX4_passes_109 (by decide) ?_
      refine lv_ixor hx hb dX4_passes_110 ?_
      refine lv_iand hx hb dX4_passes_111 ?_
      refine lv_aload_n hx hb dX4_passes_112 rfl (lv_at hl 1 rfl) ?_
      refine lv_iload_n hx hb dX4_passes_113 rfl (lv_at hl 3 rfl) ?_
      refine lv_iload_n hx hb dX4_passes_114 rfl (lv_at hl 4 rfl) ?_
      refine lv_iload hx hb dX4_passes_115 (lv_at hl 5 rfl) ?_
      obtain ⟨q16, hq17, h⟩ := bnd h
      refine c_VW (a := 58) (ci := 4) (q := (RX4, TX4, 80)) (rest := [.int ((wI w 68 a2.toNatClampNeg) &&& ((wI w 68 a1.toNatClampNeg) ^^^ (-1 : Int32)))]) (st1 := [.int q16.1, .int ((wI w 68 a2.toNatClampNeg) &&& ((wI w 68 a1.toNatClampNeg) ^^^ (-1 : Int32)))]) hx hb hml hown hts hK hR hF hL hl.1 (met_X4_struckOf l G z H0 n w a2 a3 a4 q16 hq17) (congrArg Prod.fst (hF.2.1 58 (5, 0) rfl)) rfl rfl rfl hd_X4_struckOf q2109 q2111 qs79 q104 q2112 ⟨Nat.le_of_ble_eq_true rfl, Nat.le_of_ble_eq_true rfl⟩ ⟨Nat.le_refl 0, Nat.le_refl 0⟩ rfl rfl (Nat.le_of_ble_eq_true rfl) dX4_passes_117 rfl (fun H locs hR hF hL => ?_)
      refine lv_iconst (v := -1) hx hb dX4_passes_120 (by decide) ?_
      refine lv_ixor hx hb dX4_passes_121 ?_
      refine lv_iand hx hb dX4_passes_122 ?_
      refine lv_if_ne (tgt := 130) hx hb dX4_passes_123 (by decide) (fun c18 => ?_) (fun c18 => ?_)
      · rw [if_neg c18] at h
        refine lv_iconst (v := 0) hx hb dX4_passes_130 (by decide) ?_
        have h := Option.some.inj h
        subst h
        exact W.iret (v := (0 : Int32)) hx hb hr (fun t ht _ => ⟨rfl, by rw [ht]; exact hR, hF⟩) hL dX4_passes_131
      · rw [if_pos c18] at h
        refine lv_iconst (v := 1) hx hb dX4_passes_126 (by decide) ?_
        refine lv_goto (tgt := 131) hx hb dX4_passes_127 (by decide) ?_
        have h := Option.some.inj h
        subst h
        exact W.iret (v := (1 : Int32)) hx hb hr (fun t ht _ => ⟨rfl, by rw [ht]; exact hR, hF⟩) hL dX4_passes_131
  refine lv_aload_n hx hb dX4_passes_0 rfl (lv_at hl 0 rfl) ?_
  refine lv_iload_n hx hb dX4_passes_1 rfl (lv_at hl 1 rfl) ?_
  refine c_VP (a := 58) (ci := 4) (q := (RX4, TX4, 80)) (rest := []) (st1 := [.int (bI (f_X4_isEdition a1 w))]) hx hb hml hown hts hK hR hF hL hl.1 (met_X4_isEdition l G z H0 w a1 _ rfl) (congrArg Prod.fst (hF.2.1 58 (5, 0) rfl)) rfl rfl rfl hd_X4_isEdition q1919 q1921 qs45 q104 q1922 ⟨Nat.le_of_ble_eq_true rfl, Nat.le_of_ble_eq_true rfl⟩ ⟨Nat.le_refl 0, Nat.le_refl 0⟩ rfl rfl (Nat.le_of_ble_eq_true rfl) dX4_passes_2 rfl (fun locs hL => ?_)
  refine lv_if_eq (tgt := 24) hx hb dX4_passes_5 (by decide) (fun c1 => ?_) (fun c1 => ?_)
  · rw [if_neg (bI_n c1)] at h
    refine lv_iconst (v := -1) hx hb dX4_passes_24 (by decide) ?_
    have h := Option.some.inj h
    subst h
    exact W.iret (v := (-1 : Int32)) hx hb hr (fun t ht _ => ⟨rfl, by rw [ht]; exact hR, hF⟩) hL dX4_passes_25
  · rw [if_pos (bI_p c1)] at h
    refine lv_aload_n hx hb dX4_passes_8 rfl (lv_at hl 0 rfl) ?_
    refine lv_iload_n hx hb dX4_passes_9 rfl (lv_at hl 2 rfl) ?_
    refine c_VP (a := 58) (ci := 4) (q := (RX4, TX4, 80)) (rest := []) (st1 := [.int (bI (f_X4_isEdition a2 w))]) hx hb hml hown hts hK hR hF hL hl.1 (met_X4_isEdition l G z H0 w a2 _ rfl) (congrArg Prod.fst (hF.2.1 58 (5, 0) rfl)) rfl rfl rfl hd_X4_isEdition q1919 q1921 qs45 q104 q1922 ⟨Nat.le_of_ble_eq_true rfl, Nat.le_of_ble_eq_true rfl⟩ ⟨Nat.le_refl 0, Nat.le_refl 0⟩ rfl rfl (Nat.le_of_ble_eq_true rfl) dX4_passes_10 rfl (fun locs hL => ?_)
    refine lv_if_eq (tgt := 24) hx hb dX4_passes_13 (by decide) (fun c2 => ?_) (fun c2 => ?_)
    · rw [if_neg (bI_n c2)] at h
      refine lv_iconst (v := -1) hx hb dX4_passes_24 (by decide) ?_
      have h := Option.some.inj h
      subst h
      exact W.iret (v := (-1 : Int32)) hx hb hr (fun t ht _ => ⟨rfl, by rw [ht]; exact hR, hF⟩) hL dX4_passes_25
    · rw [if_pos (bI_p c2)] at h
      refine lv_aload_n hx hb dX4_passes_16 rfl (lv_at hl 0 rfl) ?_
      refine lv_iload_n hx hb dX4_passes_17 rfl (lv_at hl 3 rfl) ?_
      refine c_VP (a := 58) (ci := 4) (q := (RX4, TX4, 80)) (rest := []) (st1 := [.int (bI (f_X4_isTown a3 w))]) hx hb hml hown hts hK hR hF hL hl.1 (met_X4_isTown l G z H0 w a3 _ rfl) (congrArg Prod.fst (hF.2.1 58 (5, 0) rfl)) rfl rfl rfl hd_X4_isTown q1886 q1888 qs42 q104 q1889 ⟨Nat.le_of_ble_eq_true rfl, Nat.le_of_ble_eq_true rfl⟩ ⟨Nat.le_refl 0, Nat.le_refl 0⟩ rfl rfl (Nat.le_of_ble_eq_true rfl) dX4_passes_18 rfl (fun locs hL => ?_)
      refine lv_if_ne (tgt := 26) hx hb dX4_passes_21 (by decide) (fun c3 => ?_) (fun c3 => ?_)
      · rw [if_pos (bI_p c3)] at h
        refine lv_aload_n hx hb dX4_passes_26 rfl (lv_at hl 0 rfl) ?_
        refine lv_iload hx hb dX4_passes_27 (lv_at hl 4 rfl) ?_
        refine c_VP (a := 58) (ci := 4) (q := (RX4, TX4, 80)) (rest := []) (st1 := [.int (bI (f_X4_isDay a4 w))]) hx hb hml hown hts hK hR hF hL hl.1 (met_X4_isDay l G z H0 w a4 _ rfl) (congrArg Prod.fst (hF.2.1 58 (5, 0) rfl)) rfl rfl rfl hd_X4_isDay q2093 q2095 qs76 q104 q2096 ⟨Nat.le_of_ble_eq_true rfl, Nat.le_of_ble_eq_true rfl⟩ ⟨Nat.le_refl 0, Nat.le_refl 0⟩ rfl rfl (Nat.le_of_ble_eq_true rfl) dX4_passes_29 rfl (fun locs hL => ?_)
        refine lv_if_ne (tgt := 38) hx hb dX4_passes_32 (by decide) (fun c4 => ?_) (fun c4 => ?_)
        · rw [if_pos (bI_p c4)] at h
          refine lv_aload_n hx hb dX4_passes_38 rfl (lv_at hl 0 rfl) ?_
          refine r_get (C := RX4) (T := TX4) (N := 80) hx hb hts ok4 hown hK hR (congrArg Prod.fst (hF.2.1 58 (5, 0) rfl)) rfl 12 (by decide) (hts _ q1645) (fun _ h9 => h9) (v := .ref (z + 67)) (fv_fix hF rfl rfl) dX4_passes_39 ?_
          refine lv_iload_n hx hb dX4_passes_42 rfl (lv_at hl 1 rfl) ?_
          obtain ⟨hb5, h⟩ := grd h
          refine r_iald (v := wI w 67 a1.toNatClampNeg) hx hb hK hR (hF.2.1 67 (200, 24) rfl) hb5 rfl dX4_passes_43 ?_
          refine lv_aload_n hx hb dX4_passes_44 rfl (lv_at hl 0 rfl) ?_
          refine r_get (C := RX4) (T := TX4) (N := 80) hx hb hts ok4 hown hK hR (congrArg Prod.fst (hF.2.1 58 (5, 0) rfl)) rfl 12 (by decide) (hts _ q1645) (fun _ h9 => h9) (v := .ref (z + 67)) (fv_fix hF rfl rfl) dX4_passes_45 ?_
          refine lv_iload_n hx hb dX4_passes_48 rfl (lv_at hl 2 rfl) ?_
          obtain ⟨hb6, h⟩ := grd h
          refine r_iald (v := wI w 67 a2.toNatClampNeg) hx hb hK hR (hF.2.1 67 (200, 24) rfl) hb6 rfl dX4_passes_49 ?_
          refine lv_icmp_eq (tgt := 56) hx hb dX4_passes_50 (by decide) (fun c7 => ?_) (fun c7 => ?_)
          · rw [if_pos c7] at h
            refine lv_aload_n hx hb dX4_passes_56 rfl (lv_at hl 0 rfl) ?_
            refine r_get (C := RX4) (T := TX4) (N := 80) hx hb hts ok4 hown hK hR (congrArg Prod.fst (hF.2.1 58 (5, 0) rfl)) rfl 13 (by decide) (hts _ q1646) (fun _ h9 => h9) (v := .ref (z + 68)) (fv_fix hF rfl rfl) dX4_passes_57 ?_
            refine lv_iload_n hx hb dX4_passes_60 rfl (lv_at hl 1 rfl) ?_
            obtain ⟨hb8, h⟩ := grd h
            refine r_iald (v := wI w 68 a1.toNatClampNeg) hx hb hK hR (hF.2.1 68 (200, 24) rfl) hb8 rfl dX4_passes_61 ?_
            refine lv_aload_n hx hb dX4_passes_62 rfl (lv_at hl 0 rfl) ?_
            refine r_get (C := RX4) (T := TX4) (N := 80) hx hb hts ok4 hown hK hR (congrArg Prod.fst (hF.2.1 58 (5, 0) rfl)) rfl 13 (by decide) (hts _ q1646) (fun _ h9 => h9) (v := .ref (z + 68)) (fv_fix hF rfl rfl) dX4_passes_63 ?_
            refine lv_iload_n hx hb dX4_passes_66 rfl (lv_at hl 2 rfl) ?_
            obtain ⟨hb9, h⟩ := grd h
            refine r_iald (v := wI w 68 a2.toNatClampNeg) hx hb hK hR (hF.2.1 68 (200, 24) rfl) hb9 rfl dX4_passes_67 ?_
            refine lv_iconst (v := -1) hx hb dX4_passes_68 (by decide) ?_
            refine lv_ixor hx hb dX4_passes_69 ?_
            refine lv_iand hx hb dX4_passes_70 ?_
            refine lv_aload_n hx hb dX4_passes_71 rfl (lv_at hl 0 rfl) ?_
            refine lv_iload_n hx hb dX4_passes_72 rfl (lv_at hl 1 rfl) ?_
            refine lv_iload_n hx hb dX4_passes_73 rfl (lv_at hl 3 rfl) ?_
            refine lv_iload hx hb dX4_passes_74 (lv_at hl 4 rfl) ?_
            obtain ⟨q10, hq11, h⟩ := bnd h
            refine c_VW (a := 58) (ci := 4) (q := (RX4, TX4, 80)) (rest := [.int ((wI w 68 a1.toNatClampNeg) &&& ((wI w 68 a2.toNatClampNeg) ^^^ (-1 : Int32)))]) (st1 := [.int q10.1, .int ((wI w 68 a1.toNatClampNeg) &&& ((wI w 68 a2.toNatClampNeg) ^^^ (-1 : Int32)))]) hx hb hml hown hts hK hR hF hL hl.1 (met_X4_struckOf l G z H0 n w a1 a3 a4 q10 hq11) (congrArg Prod.fst (hF.2.1 58 (5, 0) rfl)) rfl rfl rfl hd_X4_struckOf q2109 q2111 qs79 q104 q2112 ⟨Nat.le_of_ble_eq_true rfl, Nat.le_of_ble_eq_true rfl⟩ ⟨Nat.le_refl 0, Nat.le_refl 0⟩ rfl rfl (Nat.le_of_ble_eq_true rfl) dX4_passes_76 rfl (fun H locs hR hF hL => ?_)
            refine lv_iconst (v := -1) hx hb dX4_passes_79 (by decide) ?_
            refine lv_ixor hx hb dX4_passes_80 ?_
            refine lv_iand hx hb dX4_passes_81 ?_
            refine lv_if_ne (tgt := 89) hx hb dX4_passes_82 (by decide) (fun c12 => ?_) (fun c12 => ?_)
            · rw [if_neg c12] at h
              refine lv_iconst (v := 0) hx hb dX4_passes_89 (by decide) ?_
              exact hJ90 (0 : Int32) q10.2 h H locs ls hR hF hL (lv_sub hl [0, 1, 2, 3, 4] rfl)
            · rw [if_pos c12] at h
              refine lv_iconst (v := 1) hx hb dX4_passes_85 (by decide) ?_
              refine lv_goto (tgt := 90) hx hb dX4_passes_86 (by decide) ?_
              exact hJ90 (1 : Int32) q10.2 h H locs ls hR hF hL (lv_sub hl [0, 1, 2, 3, 4] rfl)
          · rw [if_neg c7] at h
            refine lv_bipush (v := -3) hx hb dX4_passes_53 (by decide) ?_
            have h := Option.some.inj h
            subst h
            exact W.iret (v := (-3 : Int32)) hx hb hr (fun t ht _ => ⟨rfl, by rw [ht]; exact hR, hF⟩) hL dX4_passes_55
        · rw [if_neg (bI_n c4)] at h
          refine lv_bipush (v := -2) hx hb dX4_passes_35 (by decide) ?_
          have h := Option.some.inj h
          subst h
          exact W.iret (v := (-2 : Int32)) hx hb hr (fun t ht _ => ⟨rfl, by rw [ht]; exact hR, hF⟩) hL dX4_passes_37
      · rw [if_neg (bI_n c3)] at h
        refine lv_iconst (v := -1) hx hb dX4_passes_24 (by decide) ?_
        have h := Option.some.inj h
        subst h
        exact W.iret (v := (-1 : Int32)) hx hb hr (fun t ht _ => ⟨rfl, by rw [ht]; exact hR, hF⟩) hL dX4_passes_25
def f_X4_part (a1 : Int32) (a2 : Int32) (a3 : Int32) (w : Wd) : Option (Int32 × Wd) :=
  if (f_X4_isBook a1 w) then (if inb a1 16 then (if (f_X4_in a2 (0 : Int32) ((wI w 65 a1.toNatClampNeg) - (1 : Int32)) w) then (if inb a1 16 then (if (f_X4_in a3 (0 : Int32) ((wI w 65 a1.toNatClampNeg) - (1 : Int32)) w) then (if a2 = a3 then (some ((-2 : Int32), w)) else (if inb (((16 : Int32) * a1) + a2) 256 then (if (((wI w 93 ((((16 : Int32) * a1) + a2).toNatClampNeg)) >>> (a3 &&& 31)) &&& (1 : Int32)) = (1 : Int32) then (some ((-3 : Int32), w)) else (if inb a1 16 then (if (wI w 92 a1.toNatClampNeg) = (20 : Int32) then (some ((-4 : Int32), w)) else (if inb (((16 : Int32) * a1) + a2) 256 then (if inb (((16 : Int32) * a1) + a2) 256 then (if inb (((16 : Int32) * a1) + a3) 256 then (if inb (((16 : Int32) * a1) + a3) 256 then (if inb a1 16 then (if inb a1 16 then (if inb a1 16 then (some ((wI w 92 a1.toNatClampNeg) + (1 : Int32), sI (sI (sI w 93 ((((16 : Int32) * a1) + a2).toNatClampNeg) ((wI w 93 ((((16 : Int32) * a1) + a2).toNatClampNeg)) ||| ((1 : Int32) <<< (a3 &&& 31)))) 93 ((((16 : Int32) * a1) + a3).toNatClampNeg) ((wI (sI w 93 ((((16 : Int32) * a1) + a2).toNatClampNeg) ((wI w 93 ((((16 : Int32) * a1) + a2).toNatClampNeg)) ||| ((1 : Int32) <<< (a3 &&& 31)))) 93 ((((16 : Int32) * a1) + a3).toNatClampNeg)) ||| ((1 : Int32) <<< (a2 &&& 31)))) 92 a1.toNatClampNeg ((wI w 92 a1.toNatClampNeg) + (1 : Int32)))) else none) else none) else none) else none) else none) else none) else none)) else none)) else none)) else (some ((-1 : Int32), w))) else none) else (some ((-1 : Int32), w))) else none) else (some ((-1 : Int32), w))
theorem hd_X4_part : yX4_part.cls = RX4 ∧ yX4_part.cls ≠ "java/lang/invoke/MethodHandle" ∧ yX4_part.cls ≠ "java/lang/invoke/VarHandle" ∧ (parseMethodDescriptor yX4_part.desc).map (fun d => d.parameters.length) = some 3 := by decide +kernel
set_option maxHeartbeats 4000000 in
set_option maxRecDepth 100000 in
theorem met_X4_part (l : Launch) (G : Gw) (z : Nat) (H0 : Heap)  (w : Wd) (a1 : Int32) (a2 : Int32) (a3 : Int32) (q : Int32 × Wd) (h : f_X4_part a1 a2 a3 w = some q) : Met l yX4_part (ws_ yX4_part cX4_part 4 (some .int)) ({ frames := 2, cells := 0, slots := 0, locals := 44 } : Room) (pcW G z H0 w [.ref (z + 58), .int a1, .int a2, .int a3]) (qW G z H0 q.2 (some (.int q.1))) 0 0 (fun q => z ≤ q) := by
  refine mW (by decide) (Nat.le_of_ble_eq_true rfl) ?_
  intro p e s m below meth c ls hx hb hr hml hown hts hlocks hnm hK hR hF hl
  have hown : s.vm.findClass RX4 = some m.cls := hown
  have hl : lv_has ls 4 [(0, .ref (z + 58)), (1, .int a1), (2, .int a2), (3, .int a3)] := hl
  have hL : lok z [] := lok_nil
  unfold f_X4_part at h
  generalize s.heap = H at hR ⊢
  generalize ([] : List Loc) = locs at hL ⊢
  refine lv_aload_n hx hb dX4_part_0 rfl (lv_at hl 0 rfl) ?_
  refine lv_iload_n hx hb dX4_part_1 rfl (lv_at hl 1 rfl) ?_
  refine c_VP (a := 58) (ci := 4) (q := (RX4, TX4, 80)) (rest := []) (st1 := [.int (bI (f_X4_isBook a1 w))]) hx hb hml hown hts hK hR hF hL hl.1 (met_X4_isBook l G z H0 w a1 _ rfl) (congrArg Prod.fst (hF.2.1 58 (5, 0) rfl)) rfl rfl rfl hd_X4_isBook q1910 q1912 qs44 q104 q1913 ⟨Nat.le_of_ble_eq_true rfl, Nat.le_of_ble_eq_true rfl⟩ ⟨Nat.le_refl 0, Nat.le_refl 0⟩ rfl rfl (Nat.le_of_ble_eq_true rfl) dX4_part_2 rfl (fun locs hL => ?_)
  refine lv_if_eq (tgt := 42) hx hb dX4_part_5 (by decide) (fun c1 => ?_) (fun c1 => ?_)
  · rw [if_neg (bI_n c1)] at h
    refine lv_iconst (v := -1) hx hb dX4_part_42 (by decide) ?_
    have h := Option.some.inj h
    subst h
    exact W.iret (v := (-1 : Int32)) hx hb hr (fun t ht _ => ⟨rfl, by rw [ht]; exact hR, hF⟩) hL dX4_part_43
  · rw [if_pos (bI_p c1)] at h
    refine lv_aload_n hx hb dX4_part_8 rfl (lv_at hl 0 rfl) ?_
    refine lv_iload_n hx hb dX4_part_9 rfl (lv_at hl 2 rfl) ?_
    refine lv_iconst (v := 0) hx hb dX4_part_10 (by decide) ?_
    refine lv_aload_n hx hb dX4_part_11 rfl (lv_at hl 0 rfl) ?_
    refine r_get (C := RX4) (T := TX4) (N := 80) hx hb hts ok4 hown hK hR (congrArg Prod.fst (hF.2.1 58 (5, 0) rfl)) rfl 10 (by decide) (hts _ q1643) (fun _ h9 => h9) (v := .ref (z + 65)) (fv_fix hF rfl rfl) dX4_part_12 ?_
    refine lv_iload_n hx hb dX4_part_15 rfl (lv_at hl 1 rfl) ?_
    obtain ⟨hb2, h⟩ := grd h
    refine r_iald (v := wI w 65 a1.toNatClampNeg) hx hb hK hR (hF.2.1 65 (200, 16) rfl) hb2 rfl dX4_part_16 ?_
    refine lv_iconst (v := 1) hx hb dX4_part_17 (by decide) ?_
    refine lv_isub hx hb dX4_part_18 ?_
    refine c_VP (a := 58) (ci := 4) (q := (RX4, TX4, 80)) (rest := []) (st1 := [.int (bI (f_X4_in a2 (0 : Int32) ((wI w 65 a1.toNatClampNeg) - (1 : Int32)) w))]) hx hb hml hown hts hK hR hF hL hl.1 (met_X4_in l G z H0 w a2 (0 : Int32) ((wI w 65 a1.toNatClampNeg) - (1 : Int32)) _ rfl) (congrArg Prod.fst (hF.2.1 58 (5, 0) rfl)) rfl rfl rfl hd_X4_in q1878 q1880 qs41 q104 q1881 ⟨Nat.le_of_ble_eq_true rfl, Nat.le_of_ble_eq_true rfl⟩ ⟨Nat.le_refl 0, Nat.le_refl 0⟩ rfl rfl (Nat.le_of_ble_eq_true rfl) dX4_part_19 rfl (fun locs hL => ?_)
    refine lv_if_eq (tgt := 42) hx hb dX4_part_22 (by decide) (fun c3 => ?_) (fun c3 => ?_)
    · rw [if_neg (bI_n c3)] at h
      refine lv_iconst (v := -1) hx hb dX4_part_42 (by decide) ?_
      have h := Option.some.inj h
      subst h
      exact W.iret (v := (-1 : Int32)) hx hb hr (fun t ht _ => ⟨rfl, by rw [ht]; exact hR, hF⟩) hL dX4_part_43
    · rw [if_pos (bI_p c3)] at h
      refine lv_aload_n hx hb dX4_part_25 rfl (lv_at hl 0 rfl) ?_
      refine lv_iload_n hx hb dX4_part_26 rfl (lv_at hl 3 rfl) ?_
      refine lv_iconst (v := 0) hx hb dX4_part_27 (by decide) ?_
      refine lv_aload_n hx hb dX4_part_28 rfl (lv_at hl 0 rfl) ?_
      refine r_get (C := RX4) (T := TX4) (N := 80) hx hb hts ok4 hown hK hR (congrArg Prod.fst (hF.2.1 58 (5, 0) rfl)) rfl 10 (by decide) (hts _ q1643) (fun _ h9 => h9) (v := .ref (z + 65)) (fv_fix hF rfl rfl) dX4_part_29 ?_
      refine lv_iload_n hx hb dX4_part_32 rfl (lv_at hl 1 rfl) ?_
      obtain ⟨hb4, h⟩ := grd h
      refine r_iald (v := wI w 65 a1.toNatClampNeg) hx hb hK hR (hF.2.1 65 (200, 16) rfl) hb4 rfl dX4_part_33 ?_
      refine lv_iconst (v := 1) hx hb dX4_part_34 (by decide) ?_
      refine lv_isub hx hb dX4_part_35 ?_
      refine c_VP (a := 58) (ci := 4) (q := (RX4, TX4, 80)) (rest := []) (st1 := [.int (bI (f_X4_in a3 (0 : Int32) ((wI w 65 a1.toNatClampNeg) - (1 : Int32)) w))]) hx hb hml hown hts hK hR hF hL hl.1 (met_X4_in l G z H0 w a3 (0 : Int32) ((wI w 65 a1.toNatClampNeg) - (1 : Int32)) _ rfl) (congrArg Prod.fst (hF.2.1 58 (5, 0) rfl)) rfl rfl rfl hd_X4_in q1878 q1880 qs41 q104 q1881 ⟨Nat.le_of_ble_eq_true rfl, Nat.le_of_ble_eq_true rfl⟩ ⟨Nat.le_refl 0, Nat.le_refl 0⟩ rfl rfl (Nat.le_of_ble_eq_true rfl) dX4_part_36 rfl (fun locs hL => ?_)
      refine lv_if_ne (tgt := 44) hx hb dX4_part_39 (by decide) (fun c5 => ?_) (fun c5 => ?_)
      · rw [if_pos (bI_p c5)] at h
        refine lv_iload_n hx hb dX4_part_44 rfl (lv_at hl 2 rfl) ?_
        refine lv_iload_n hx hb dX4_part_45 rfl (lv_at hl 3 rfl) ?_
        refine lv_icmp_ne (tgt := 52) hx hb dX4_part_46 (by decide) (fun c6 => ?_) (fun c6 => ?_)
        · rw [if_neg c6] at h
          refine lv_aload_n hx hb dX4_part_52 rfl (lv_at hl 0 rfl) ?_
          refine r_get (C := RX4) (T := TX4) (N := 80) hx hb hts ok4 hown hK hR (congrArg Prod.fst (hF.2.1 58 (5, 0) rfl)) rfl 61 (by decide) (hts _ q1694) (fun _ h9 => h9) (v := .ref (z + 93)) (fv_fix hF rfl rfl) dX4_part_53 ?_
          refine lv_bipush (v := 16) hx hb dX4_part_56 (by decide) ?_
          refine lv_iload_n hx hb dX4_part_58 rfl (lv_at hl 1 rfl) ?_
          refine lv_imul hx hb dX4_part_59 ?_
          refine lv_iload_n hx hb dX4_part_60 rfl (lv_at hl 2 rfl) ?_
          refine lv_iadd hx hb dX4_part_61 ?_
          obtain ⟨hb7, h⟩ := grd h
          refine r_iald (v := wI w 93 ((((16 : Int32) * a1) + a2).toNatClampNeg)) hx hb hK hR (hF.2.1 93 (200, 256) rfl) hb7 rfl dX4_part_62 ?_
          refine lv_iload_n hx hb dX4_part_63 rfl (lv_at hl 3 rfl) ?_
          refine lv_ishr hx hb dX4_part_64 ?_
          refine lv_iconst (v := 1) hx hb dX4_part_65 (by decide) ?_
          refine lv_iand hx hb dX4_part_66 ?_
          refine lv_iconst (v := 1) hx hb dX4_part_67 (by decide) ?_
          refine lv_icmp_ne (tgt := 74) hx hb dX4_part_68 (by decide) (fun c8 => ?_) (fun c8 => ?_)
          · rw [if_neg c8] at h
            refine lv_aload_n hx hb dX4_part_74 rfl (lv_at hl 0 rfl) ?_
            refine r_get (C := RX4) (T := TX4) (N := 80) hx hb hts ok4 hown hK hR (congrArg Prod.fst (hF.2.1 58 (5, 0) rfl)) rfl 60 (by decide) (hts _ q1693) (fun _ h9 => h9) (v := .ref (z + 92)) (fv_fix hF rfl rfl) dX4_part_75 ?_
            refine lv_iload_n hx hb dX4_part_78 rfl (lv_at hl 1 rfl) ?_
            obtain ⟨hb9, h⟩ := grd h
            refine r_iald (v := wI w 92 a1.toNatClampNeg) hx hb hK hR (hF.2.1 92 (200, 16) rfl) hb9 rfl dX4_part_79 ?_
            refine lv_bipush (v := 20) hx hb dX4_part_80 (by decide) ?_
            refine lv_icmp_ne (tgt := 88) hx hb dX4_part_82 (by decide) (fun c10 => ?_) (fun c10 => ?_)
            · rw [if_neg c10] at h
              refine lv_aload_n hx hb dX4_part_88 rfl (lv_at hl 0 rfl) ?_
              refine r_get (C := RX4) (T := TX4) (N := 80) hx hb hts ok4 hown hK hR (congrArg Prod.fst (hF.2.1 58 (5, 0) rfl)) rfl 61 (by decide) (hts _ q1694) (fun _ h9 => h9) (v := .ref (z + 93)) (fv_fix hF rfl rfl) dX4_part_89 ?_
              refine lv_bipush (v := 16) hx hb dX4_part_92 (by decide) ?_
              refine lv_iload_n hx hb dX4_part_94 rfl (lv_at hl 1 rfl) ?_
              refine lv_imul hx hb dX4_part_95 ?_
              refine lv_iload_n hx hb dX4_part_96 rfl (lv_at hl 2 rfl) ?_
              refine lv_iadd hx hb dX4_part_97 ?_
              refine lv_dup2_11 hx hb dX4_part_98 rfl rfl ?_
              obtain ⟨hb11, h⟩ := grd h
              refine r_iald (v := wI w 93 ((((16 : Int32) * a1) + a2).toNatClampNeg)) hx hb hK hR (hF.2.1 93 (200, 256) rfl) hb11 rfl dX4_part_99 ?_
              refine lv_iconst (v := 1) hx hb dX4_part_100 (by decide) ?_
              refine lv_iload_n hx hb dX4_part_101 rfl (lv_at hl 3 rfl) ?_
              refine lv_ishl hx hb dX4_part_102 ?_
              refine lv_ior hx hb dX4_part_103 ?_
              obtain ⟨hb12, h⟩ := grd h
              refine r_iast hx hb hK hR hL (hF.2.1 93 (200, 256) rfl) hb12 dX4_part_104 (fun H locs hR hL => ?_)
              have hF := hF.sI 93 ((((16 : Int32) * a1) + a2).toNatClampNeg) ((wI w 93 ((((16 : Int32) * a1) + a2).toNatClampNeg)) ||| ((1 : Int32) <<< (a3 &&& 31)))
              refine lv_aload_n hx hb dX4_part_105 rfl (lv_at hl 0 rfl) ?_
              refine r_get (C := RX4) (T := TX4) (N := 80) hx hb hts ok4 hown hK hR (congrArg Prod.fst (hF.2.1 58 (5, 0) rfl)) rfl 61 (by decide) (hts _ q1694) (fun _ h9 => h9) (v := .ref (z + 93)) (fv_fix hF rfl rfl) dX4_part_106 ?_
              refine lv_bipush (v := 16) hx hb dX4_part_109 (by decide) ?_
              refine lv_iload_n hx hb dX4_part_111 rfl (lv_at hl 1 rfl) ?_
              refine lv_imul hx hb dX4_part_112 ?_
              refine lv_iload_n hx hb dX4_part_113 rfl (lv_at hl 3 rfl) ?_
              refine lv_iadd hx hb dX4_part_114 ?_
              refine lv_dup2_11 hx hb dX4_part_115 rfl rfl ?_
              obtain ⟨hb13, h⟩ := grd h
              refine r_iald (v := wI (sI w 93 ((((16 : Int32) * a1) + a2).toNatClampNeg) ((wI w 93 ((((16 : Int32) * a1) + a2).toNatClampNeg)) ||| ((1 : Int32) <<< (a3 &&& 31)))) 93 ((((16 : Int32) * a1) + a3).toNatClampNeg)) hx hb hK hR (hF.2.1 93 (200, 256) rfl) hb13 rfl dX4_part_116 ?_
              refine lv_iconst (v := 1) hx hb dX4_part_117 (by decide) ?_
              refine lv_iload_n hx hb dX4_part_118 rfl (lv_at hl 2 rfl) ?_
              refine lv_ishl hx hb dX4_part_119 ?_
              refine lv_ior hx hb dX4_part_120 ?_
              obtain ⟨hb14, h⟩ := grd h
              refine r_iast hx hb hK hR hL (hF.2.1 93 (200, 256) rfl) hb14 dX4_part_121 (fun H locs hR hL => ?_)
              have hF := hF.sI 93 ((((16 : Int32) * a1) + a3).toNatClampNeg) ((wI (sI w 93 ((((16 : Int32) * a1) + a2).toNatClampNeg) ((wI w 93 ((((16 : Int32) * a1) + a2).toNatClampNeg)) ||| ((1 : Int32) <<< (a3 &&& 31)))) 93 ((((16 : Int32) * a1) + a3).toNatClampNeg)) ||| ((1 : Int32) <<< (a2 &&& 31)))
              refine lv_aload_n hx hb dX4_part_122 rfl (lv_at hl 0 rfl) ?_
              refine r_get (C := RX4) (T := TX4) (N := 80) hx hb hts ok4 hown hK hR (congrArg Prod.fst (hF.2.1 58 (5, 0) rfl)) rfl 60 (by decide) (hts _ q1693) (fun _ h9 => h9) (v := .ref (z + 92)) (fv_fix hF rfl rfl) dX4_part_123 ?_
              refine lv_iload_n hx hb dX4_part_126 rfl (lv_at hl 1 rfl) ?_
              refine lv_dup2_11 hx hb dX4_part_127 rfl rfl ?_
              obtain ⟨hb15, h⟩ := grd h
              refine r_iald (v := wI w 92 a1.toNatClampNeg) hx hb hK hR (hF.2.1 92 (200, 16) rfl) hb15 rfl dX4_part_128 ?_
              refine lv_iconst (v := 1) hx hb dX4_part_129 (by decide) ?_
              refine lv_iadd hx hb dX4_part_130 ?_
              obtain ⟨hb16, h⟩ := grd h
              refine r_iast hx hb hK hR hL (hF.2.1 92 (200, 16) rfl) hb16 dX4_part_131 (fun H locs hR hL => ?_)
              have hF := hF.sI 92 (a1.toNatClampNeg) ((wI w 92 a1.toNatClampNeg) + (1 : Int32))
              refine lv_aload_n hx hb dX4_part_132 rfl (lv_at hl 0 rfl) ?_
              refine r_get (C := RX4) (T := TX4) (N := 80) hx hb hts ok4 hown hK hR (congrArg Prod.fst (hF.2.1 58 (5, 0) rfl)) rfl 60 (by decide) (hts _ q1693) (fun _ h9 => h9) (v := .ref (z + 92)) (fv_fix hF rfl rfl) dX4_part_133 ?_
              refine lv_iload_n hx hb dX4_part_136 rfl (lv_at hl 1 rfl) ?_
              obtain ⟨hb17, h⟩ := grd h
              refine r_iald (v := (wI w 92 a1.toNatClampNeg) + (1 : Int32)) hx hb hK hR (hF.2.1 92 (200, 16) rfl) hb17 (by simp [wI_sI, wL_sL, wI_sL, wL_sI]) dX4_part_137 ?_
              have h := Option.some.inj h
              subst h
              exact W.iret (v := (wI w 92 a1.toNatClampNeg) + (1 : Int32)) hx hb hr (fun t ht _ => ⟨rfl, by rw [ht]; exact hR, hF⟩) hL dX4_part_138
            · rw [if_pos c10] at h
              refine lv_bipush (v := -4) hx hb dX4_part_85 (by decide) ?_
              have h := Option.some.inj h
              subst h
              exact W.iret (v := (-4 : Int32)) hx hb hr (fun t ht _ => ⟨rfl, by rw [ht]; exact hR, hF⟩) hL dX4_part_87
          · rw [if_pos c8] at h
            refine lv_bipush (v := -3) hx hb dX4_part_71 (by decide) ?_
            have h := Option.some.inj h
            subst h
            exact W.iret (v := (-3 : Int32)) hx hb hr (fun t ht _ => ⟨rfl, by rw [ht]; exact hR, hF⟩) hL dX4_part_73
        · rw [if_pos c6] at h
          refine lv_bipush (v := -2) hx hb dX4_part_49 (by decide) ?_
          have h := Option.some.inj h
          subst h
          exact W.iret (v := (-2 : Int32)) hx hb hr (fun t ht _ => ⟨rfl, by rw [ht]; exact hR, hF⟩) hL dX4_part_51
      · rw [if_neg (bI_n c5)] at h
        refine lv_iconst (v := -1) hx hb dX4_part_42 (by decide) ?_
        have h := Option.some.inj h
        subst h
        exact W.iret (v := (-1 : Int32)) hx hb hr (fun t ht _ => ⟨rfl, by rw [ht]; exact hR, hF⟩) hL dX4_part_43
def f_X4_canPart_L53 (n : Nat) (u2_3 : Int32) (u2_1 : Int32) (u2_2 : Int32) (w : Wd) (s2 : Int32 × Int32) : Option ((Int32 × Int32) ⊕ ((Int32 × Int32))) :=
  if u2_3 ≤ s2.1 then (some (.inr (s2.1, s2.2))) else (if s2.2 = 0 then (some (.inl (s2.1 + (1 : Int32), (0 : Int32)))) else (if inb s2.1 9 then (if inb u2_3 9 then (if (wI w 95 s2.1.toNatClampNeg) = (wI w 95 u2_3.toNatClampNeg) then (if inb s2.1 9 then (if inb (((16 : Int32) * u2_1) + (wI w 94 s2.1.toNatClampNeg)) 256 then (if inb u2_3 9 then (if (((wI w 93 ((((16 : Int32) * u2_1) + (wI w 94 s2.1.toNatClampNeg)).toNatClampNeg)) >>> ((wI w 94 u2_3.toNatClampNeg) &&& 31)) &&& (1 : Int32)) = 0 then (some (.inl (s2.1 + (1 : Int32), (1 : Int32)))) else (some (.inl (s2.1 + (1 : Int32), (0 : Int32))))) else none) else none) else none) else (some (.inl (s2.1 + (1 : Int32), (1 : Int32))))) else none) else none))
def f_X4_canPart_L9 (n : Nat) (u1_1 : Int32) (u1_2 : Int32) (s1 : Int32 × Wd) : Option ((Int32 × Wd) ⊕ ((Int32 × Wd))) :=
  if s1.1 < 0 then (some (.inr (s1.1, s1.2))) else (if (wI s1.2 58 64) ≤ s1.1 then (some (.inr (s1.1, s1.2))) else (if inb s1.1 9 then (if inb s1.1 9 then (if inb s1.1 9 then (if ((wI s1.2 95 s1.1.toNatClampNeg) + (1 : Int32)) < u1_2 then ((it n (f_X4_canPart_L53 n s1.1 u1_1 u1_2 (sI s1.2 95 s1.1.toNatClampNeg ((wI s1.2 95 s1.1.toNatClampNeg) + (1 : Int32)))) ((0 : Int32), (1 : Int32))).bind fun q53_122 => if q53_122.2 = 0 then (some (.inl (s1.1, sI s1.2 95 s1.1.toNatClampNeg ((wI s1.2 95 s1.1.toNatClampNeg) + (1 : Int32))))) else (if (wI s1.2 58 64) ≤ (s1.1 + (1 : Int32)) then (some (.inl (s1.1 + (1 : Int32), sI s1.2 95 s1.1.toNatClampNeg ((wI s1.2 95 s1.1.toNatClampNeg) + (1 : Int32))))) else (if inb (s1.1 + (1 : Int32)) 9 then (some (.inl (s1.1 + (1 : Int32), sI (sI s1.2 95 s1.1.toNatClampNeg ((wI s1.2 95 s1.1.toNatClampNeg) + (1 : Int32))) 95 ((s1.1 + (1 : Int32)).toNatClampNeg) (-1 : Int32)))) else none))) else (some (.inl (s1.1 + (-1 : Int32), sI s1.2 95 s1.1.toNatClampNeg ((wI s1.2 95 s1.1.toNatClampNeg) + (1 : Int32)))))) else none) else none) else none))
def f_X4_canPart (n : Nat) (a1 : Int32) (a2 : Int32) (w : Wd) : Option (Bool × Wd) :=
  if inb (0 : Int32) 9 then ((it n (f_X4_canPart_L9 n a1 a2) ((0 : Int32), sI w 95 ((0 : Int32).toNatClampNeg) (-1 : Int32))).bind fun q9_151 => if q9_151.1 = (wI q9_151.2 58 64) then (some (true, q9_151.2)) else (some (false, q9_151.2))) else none
theorem hd_X4_canPart : yX4_canPart.cls = RX4 ∧ yX4_canPart.cls ≠ "java/lang/invoke/MethodHandle" ∧ yX4_canPart.cls ≠ "java/lang/invoke/VarHandle" ∧ (parseMethodDescriptor yX4_canPart.desc).map (fun d => d.parameters.length) = some 2 := by decide +kernel
set_option maxHeartbeats 4000000 in
set_option maxRecDepth 100000 in
theorem met_X4_canPart (l : Launch) (G : Gw) (z : Nat) (H0 : Heap) (n : Nat) (w : Wd) (a1 : Int32) (a2 : Int32) (q : Bool × Wd) (h : f_X4_canPart n a1 a2 w = some q) : Met l yX4_canPart (ws_ yX4_canPart cX4_canPart 6 (some .boolean)) ({ frames := 0, cells := 0, slots := 0, locals := 0 } : Room) (pcW G z H0 w [.ref (z + 58), .int a1, .int a2]) (qW G z H0 q.2 (some (.int (bI q.1)))) 0 0 (fun q => z ≤ q) := by
  refine mW (by decide) (Nat.le_of_ble_eq_true rfl) ?_
  intro p e s m below meth c ls hx hb hr hml hown hts hlocks hnm hK hR hF hl
  have hown : s.vm.findClass RX4 = some m.cls := hown
  have hl : lv_has ls 6 [(0, .ref (z + 58)), (1, .int a1), (2, .int a2)] := hl
  have hL : lok z [] := lok_nil
  unfold f_X4_canPart at h
  generalize s.heap = H at hR ⊢
  generalize ([] : List Loc) = locs at hL ⊢
  refine lv_iconst (v := 0) hx hb dX4_canPart_0 (by decide) ?_
  refine lv_istore_n (lv' := [(3, .int (0 : Int32)), (0, .ref (z + 58)), (1, .int a1), (2, .int a2)]) hx hb dX4_canPart_1 rfl hl (by decide) rfl (fun ls hl => ?_)
  refine lv_aload_n hx hb dX4_canPart_2 rfl (lv_at hl 1 rfl) ?_
  refine r_get (C := RX4) (T := TX4) (N := 80) hx hb hts ok4 hown hK hR (congrArg Prod.fst (hF.2.1 58 (5, 0) rfl)) rfl 63 (by decide) (hts _ q1696) (fun _ h9 => h9) (v := .ref (z + 95)) (fv_fix hF rfl rfl) dX4_canPart_3 ?_
  refine lv_iconst (v := 0) hx hb dX4_canPart_6 (by decide) ?_
  refine lv_iconst (v := -1) hx hb dX4_canPart_7 (by decide) ?_
  obtain ⟨hb1, h⟩ := grd h
  refine r_iast hx hb hK hR hL (hF.2.1 95 (200, 9) rfl) hb1 dX4_canPart_8 (fun H locs hR hL => ?_)
  have hF := hF.sI 95 ((0 : Int32).toNatClampNeg) (-1 : Int32)
  have hX9_151 : ∀ (q9_151 : Int32 × Wd), (if q9_151.1 = (wI q9_151.2 58 64) then (some (true, q9_151.2)) else (some (false, q9_151.2))) = some q → ∀ (H : Heap) (locs : List Loc) (ls : Array Slot), Rp G z H0 q9_151.2 H → Fix q9_151.2 → lok z locs → lv_has ls 6 [(3, .int q9_151.1), (0, .ref (z + 58))] → W p l e ({ frames := 0, cells := 0, slots := 0, locals := 0 } : Room) s m ([.ref (z + 58), .int a1, .int a2] : List Value).toArray below meth c H locs 0 0 (MQ below (qW G z H0 q.2 (some (.int (bI q.1)))) ([.ref (z + 58), .int a1, .int a2] : List Value).toArray s 0 0 (fun q => z ≤ q)) (F0 m 151 ls []) := by
    intro q9_151 h H locs ls hR hF hL hl
    refine lv_iload_n hx hb dX4_canPart_151 rfl (lv_at hl 0 rfl) ?_
    refine lv_aload_n hx hb dX4_canPart_152 rfl (lv_at hl 1 rfl) ?_
    refine r_get (C := RX4) (T := TX4) (N := 80) hx hb hts ok4 hown hK hR (congrArg Prod.fst (hF.2.1 58 (5, 0) rfl)) rfl 64 (by decide) (hts _ q1697) (fun _ h9 => h9) (v := .int (wI q9_151.2 58 64)) rfl dX4_canPart_153 ?_
    refine lv_icmp_ne (tgt := 163) hx hb dX4_canPart_156 (by decide) (fun c2 => ?_) (fun c2 => ?_)
    · rw [if_neg c2] at h
      refine lv_iconst (v := 0) hx hb dX4_canPart_163 (by decide) ?_
      have h := Option.some.inj h
      subst h
      exact W.zret (v := bI false) hx hb hr (bI_nar _) (fun t ht _ => ⟨rfl, by rw [ht]; exact hR, hF⟩) hL dX4_canPart_164
    · rw [if_pos c2] at h
      refine lv_iconst (v := 1) hx hb dX4_canPart_159 (by decide) ?_
      refine lv_goto (tgt := 164) hx hb dX4_canPart_160 (by decide) ?_
      have h := Option.some.inj h
      subst h
      exact W.zret (v := bI true) hx hb hr (bI_nar _) (fun t ht _ => ⟨rfl, by rw [ht]; exact hR, hF⟩) hL dX4_canPart_164
  obtain ⟨t23, hq24, h⟩ := bnd h
  refine it_W (b := f_X4_canPart_L9 n a1 a2) (P := fun (s1 : Int32 × Wd) => ∀ (H : Heap) (locs : List Loc) (ls : Array Slot), Rp G z H0 s1.2 H → Fix s1.2 → lok z locs → lv_has ls 6 [(3, .int s1.1), (0, .ref (z + 58)), (1, .int a1), (2, .int a2)] → W p l e ({ frames := 0, cells := 0, slots := 0, locals := 0 } : Room) s m ([.ref (z + 58), .int a1, .int a2] : List Value).toArray below meth c H locs 0 0 (MQ below (qW G z H0 q.2 (some (.int (bI q.1)))) ([.ref (z + 58), .int a1, .int a2] : List Value).toArray s 0 0 (fun q => z ≤ q)) (F0 m 9 ls [])) (K := fun q9_151 => (if q9_151.1 = (wI q9_151.2 58 64) then (some (true, q9_151.2)) else (some (false, q9_151.2))) = some q) (fun s1 x1 h hc1 ht1 => ?_) n ((0 : Int32), sI w 95 ((0 : Int32).toNatClampNeg) (-1 : Int32)) t23 hq24 h H locs ls hR hF hL (lv_sub hl [0, 1, 2, 3] rfl)
  intro H locs ls hR hF hL hl
  unfold f_X4_canPart_L9 at h
  refine lv_iload_n hx hb dX4_canPart_9 rfl (lv_at hl 0 rfl) ?_
  refine lv_if_lt (tgt := 151) hx hb dX4_canPart_10 (by decide) (fun c3 => ?_) (fun c3 => ?_)
  · rw [if_pos c3] at h
    exact hX9_151 (s1.1, s1.2) (ht1 _ (Option.some.inj h).symm) H locs ls hR hF hL (lv_sub hl [0, 1] rfl)
  · rw [if_neg c3] at h
    refine lv_iload_n hx hb dX4_canPart_13 rfl (lv_at hl 0 rfl) ?_
    refine lv_aload_n hx hb dX4_canPart_14 rfl (lv_at hl 1 rfl) ?_
    refine r_get (C := RX4) (T := TX4) (N := 80) hx hb hts ok4 hown hK hR (congrArg Prod.fst (hF.2.1 58 (5, 0) rfl)) rfl 64 (by decide) (hts _ q1697) (fun _ h9 => h9) (v := .int (wI s1.2 58 64)) rfl dX4_canPart_15 ?_
    refine lv_icmp_ge (tgt := 151) hx hb dX4_canPart_18 (by decide) (fun c4 => ?_) (fun c4 => ?_)
    · rw [if_pos c4] at h
      exact hX9_151 (s1.1, s1.2) (ht1 _ (Option.some.inj h).symm) H locs ls hR hF hL (lv_sub hl [0, 1] rfl)
    · rw [if_neg c4] at h
      refine lv_aload_n hx hb dX4_canPart_21 rfl (lv_at hl 1 rfl) ?_
      refine r_get (C := RX4) (T := TX4) (N := 80) hx hb hts ok4 hown hK hR (congrArg Prod.fst (hF.2.1 58 (5, 0) rfl)) rfl 63 (by decide) (hts _ q1696) (fun _ h9 => h9) (v := .ref (z + 95)) (fv_fix hF rfl rfl) dX4_canPart_22 ?_
      refine lv_iload_n hx hb dX4_canPart_25 rfl (lv_at hl 0 rfl) ?_
      refine lv_dup2_11 hx hb dX4_canPart_26 rfl rfl ?_
      obtain ⟨hb5, h⟩ := grd h
      refine r_iald (v := wI s1.2 95 s1.1.toNatClampNeg) hx hb hK hR (hF.2.1 95 (200, 9) rfl) hb5 rfl dX4_canPart_27 ?_
      refine lv_iconst (v := 1) hx hb dX4_canPart_28 (by decide) ?_
      refine lv_iadd hx hb dX4_canPart_29 ?_
      obtain ⟨hb6, h⟩ := grd h
      refine r_iast hx hb hK hR hL (hF.2.1 95 (200, 9) rfl) hb6 dX4_canPart_30 (fun H locs hR hL => ?_)
      have hF := hF.sI 95 (s1.1.toNatClampNeg) ((wI s1.2 95 s1.1.toNatClampNeg) + (1 : Int32))
      refine lv_aload_n hx hb dX4_canPart_31 rfl (lv_at hl 1 rfl) ?_
      refine r_get (C := RX4) (T := TX4) (N := 80) hx hb hts ok4 hown hK hR (congrArg Prod.fst (hF.2.1 58 (5, 0) rfl)) rfl 63 (by decide) (hts _ q1696) (fun _ h9 => h9) (v := .ref (z + 95)) (fv_fix hF rfl rfl) dX4_canPart_32 ?_
      refine lv_iload_n hx hb dX4_canPart_35 rfl (lv_at hl 0 rfl) ?_
      obtain ⟨hb7, h⟩ := grd h
      refine r_iald (v := (wI s1.2 95 s1.1.toNatClampNeg) + (1 : Int32)) hx hb hK hR (hF.2.1 95 (200, 9) rfl) hb7 (by simp [wI_sI, wL_sL, wI_sL, wL_sI]) dX4_canPart_36 ?_
      refine lv_iload_n hx hb dX4_canPart_37 rfl (lv_at hl 3 rfl) ?_
      refine lv_icmp_lt (tgt := 47) hx hb dX4_canPart_38 (by decide) (fun c8 => ?_) (fun c8 => ?_)
      · rw [if_pos c8] at h
        refine lv_iconst (v := 1) hx hb dX4_canPart_47 (by decide) ?_
        refine lv_istore (lv' := [(4, .int (1 : Int32)), (3, .int s1.1), (0, .ref (z + 58)), (1, .int a1), (2, .int a2)]) hx hb dX4_canPart_48 hl (by decide) rfl (fun ls hl => ?_)
        refine lv_iconst (v := 0) hx hb dX4_canPart_50 (by decide) ?_
        refine lv_istore (lv' := [(5, .int (0 : Int32)), (4, .int (1 : Int32)), (3, .int s1.1), (0, .ref (z + 58)), (1, .int a1), (2, .int a2)]) hx hb dX4_canPart_51 hl (by decide) rfl (fun ls hl => ?_)
        have hX53_122 : ∀ (q53_122 : Int32 × Int32), (if q53_122.2 = 0 then (some (.inl (s1.1, sI s1.2 95 s1.1.toNatClampNeg ((wI s1.2 95 s1.1.toNatClampNeg) + (1 : Int32))))) else (if (wI s1.2 58 64) ≤ (s1.1 + (1 : Int32)) then (some (.inl (s1.1 + (1 : Int32), sI s1.2 95 s1.1.toNatClampNeg ((wI s1.2 95 s1.1.toNatClampNeg) + (1 : Int32))))) else (if inb (s1.1 + (1 : Int32)) 9 then (some (.inl (s1.1 + (1 : Int32), sI (sI s1.2 95 s1.1.toNatClampNeg ((wI s1.2 95 s1.1.toNatClampNeg) + (1 : Int32))) 95 ((s1.1 + (1 : Int32)).toNatClampNeg) (-1 : Int32)))) else none))) = some x1 → ∀ (locs : List Loc) (ls : Array Slot), lok z locs → lv_has ls 6 [(4, .int q53_122.2), (3, .int s1.1), (0, .ref (z + 58)), (1, .int a1), (2, .int a2)] → W p l e ({ frames := 0, cells := 0, slots := 0, locals := 0 } : Room) s m ([.ref (z + 58), .int a1, .int a2] : List Value).toArray below meth c H locs 0 0 (MQ below (qW G z H0 q.2 (some (.int (bI q.1)))) ([.ref (z + 58), .int a1, .int a2] : List Value).toArray s 0 0 (fun q => z ≤ q)) (F0 m 122 ls []) := by
          intro q53_122 h locs ls hL hl
          refine lv_iload hx hb dX4_canPart_122 (lv_at hl 0 rfl) ?_
          refine lv_if_ne (tgt := 130) hx hb dX4_canPart_124 (by decide) (fun c9 => ?_) (fun c9 => ?_)
          · rw [if_neg c9] at h
            refine lv_iinc (v := s1.1 + (1 : Int32)) (lv' := [(3, .int (s1.1 + (1 : Int32))), (4, .int q53_122.2), (0, .ref (z + 58)), (1, .int a1), (2, .int a2)]) hx hb dX4_canPart_130 hl (k := 1) rfl rfl (by decide) rfl (fun ls hl => ?_)
            refine lv_iload_n hx hb dX4_canPart_133 rfl (lv_at hl 0 rfl) ?_
            refine lv_aload_n hx hb dX4_canPart_134 rfl (lv_at hl 2 rfl) ?_
            refine r_get (C := RX4) (T := TX4) (N := 80) hx hb hts ok4 hown hK hR (congrArg Prod.fst (hF.2.1 58 (5, 0) rfl)) rfl 64 (by decide) (hts _ q1697) (fun _ h9 => h9) (v := .int (wI s1.2 58 64)) rfl dX4_canPart_135 ?_
            refine lv_icmp_ge (tgt := 148) hx hb dX4_canPart_138 (by decide) (fun c10 => ?_) (fun c10 => ?_)
            · rw [if_pos c10] at h
              refine lv_goto (tgt := 9) hx hb dX4_canPart_148 (by decide) ?_
              exact hc1 _ (Option.some.inj h).symm H locs ls hR hF hL (lv_sub hl [0, 2, 3, 4] rfl)
            · rw [if_neg c10] at h
              refine lv_aload_n hx hb dX4_canPart_141 rfl (lv_at hl 2 rfl) ?_
              refine r_get (C := RX4) (T := TX4) (N := 80) hx hb hts ok4 hown hK hR (congrArg Prod.fst (hF.2.1 58 (5, 0) rfl)) rfl 63 (by decide) (hts _ q1696) (fun _ h9 => h9) (v := .ref (z + 95)) (fv_fix hF rfl rfl) dX4_canPart_142 ?_
              refine lv_iload_n hx hb dX4_canPart_145 rfl (lv_at hl 0 rfl) ?_
              refine lv_iconst (v := -1) hx hb dX4_canPart_146 (by decide) ?_
              obtain ⟨hb11, h⟩ := grd h
              refine r_iast hx hb hK hR hL (hF.2.1 95 (200, 9) rfl) hb11 dX4_canPart_147 (fun H locs hR hL => ?_)
              have hF := hF.sI 95 ((s1.1 + (1 : Int32)).toNatClampNeg) (-1 : Int32)
              refine lv_goto (tgt := 9) hx hb dX4_canPart_148 (by decide) ?_
              exact hc1 _ (Option.some.inj h).symm H locs ls hR hF hL (lv_sub hl [0, 2, 3, 4] rfl)
          · rw [if_pos c9] at h
            refine lv_goto (tgt := 9) hx hb dX4_canPart_127 (by decide) ?_
            exact hc1 _ (Option.some.inj h).symm H locs ls hR hF hL (lv_sub hl [1, 2, 3, 4] rfl)
        obtain ⟨t21, hq22, h⟩ := bnd h
        refine it_W (b := f_X4_canPart_L53 n s1.1 a1 a2 (sI s1.2 95 s1.1.toNatClampNeg ((wI s1.2 95 s1.1.toNatClampNeg) + (1 : Int32)))) (P := fun (s2 : Int32 × Int32) => ∀ (locs : List Loc) (ls : Array Slot), lok z locs → lv_has ls 6 [(5, .int s2.1), (4, .int s2.2), (3, .int s1.1), (0, .ref (z + 58)), (1, .int a1), (2, .int a2)] → W p l e ({ frames := 0, cells := 0, slots := 0, locals := 0 } : Room) s m ([.ref (z + 58), .int a1, .int a2] : List Value).toArray below meth c H locs 0 0 (MQ below (qW G z H0 q.2 (some (.int (bI q.1)))) ([.ref (z + 58), .int a1, .int a2] : List Value).toArray s 0 0 (fun q => z ≤ q)) (F0 m 53 ls [])) (K := fun q53_122 => (if q53_122.2 = 0 then (some (.inl (s1.1, sI s1.2 95 s1.1.toNatClampNeg ((wI s1.2 95 s1.1.toNatClampNeg) + (1 : Int32))))) else (if (wI s1.2 58 64) ≤ (s1.1 + (1 : Int32)) then (some (.inl (s1.1 + (1 : Int32), sI s1.2 95 s1.1.toNatClampNeg ((wI s1.2 95 s1.1.toNatClampNeg) + (1 : Int32))))) else (if inb (s1.1 + (1 : Int32)) 9 then (some (.inl (s1.1 + (1 : Int32), sI (sI s1.2 95 s1.1.toNatClampNeg ((wI s1.2 95 s1.1.toNatClampNeg) + (1 : Int32))) 95 ((s1.1 + (1 : Int32)).toNatClampNeg) (-1 : Int32)))) else none))) = some x1) (fun s2 x2 h hc2 ht2 => ?_) n ((0 : Int32), (1 : Int32)) t21 hq22 h locs ls hL (lv_sub hl [0, 1, 2, 3, 4, 5] rfl)
        intro locs ls hL hl
        unfold f_X4_canPart_L53 at h
        refine lv_iload hx hb dX4_canPart_53 (lv_at hl 0 rfl) ?_
        refine lv_iload_n hx hb dX4_canPart_55 rfl (lv_at hl 2 rfl) ?_
        refine lv_icmp_ge (tgt := 122) hx hb dX4_canPart_56 (by decide) (fun c12 => ?_) (fun c12 => ?_)
        · rw [if_pos c12] at h
          exact hX53_122 (s2.1, s2.2) (ht2 _ (Option.some.inj h).symm) locs ls hL (lv_sub hl [1, 2, 3, 4, 5] rfl)
        · rw [if_neg c12] at h
          refine lv_iload hx hb dX4_canPart_59 (lv_at hl 1 rfl) ?_
          refine lv_if_eq (tgt := 113) hx hb dX4_canPart_61 (by decide) (fun c13 => ?_) (fun c13 => ?_)
          · rw [if_pos c13] at h
            refine lv_iconst (v := 0) hx hb dX4_canPart_113 (by decide) ?_
            refine lv_istore (lv' := [(4, .int (0 : Int32)), (5, .int s2.1), (3, .int s1.1), (0, .ref (z + 58)), (1, .int a1), (2, .int a2)]) hx hb dX4_canPart_114 hl (by decide) rfl (fun ls hl => ?_)
            refine lv_iinc (v := s2.1 + (1 : Int32)) (lv' := [(5, .int (s2.1 + (1 : Int32))), (4, .int (0 : Int32)), (3, .int s1.1), (0, .ref (z + 58)), (1, .int a1), (2, .int a2)]) hx hb dX4_canPart_116 hl (k := 1) rfl rfl (by decide) rfl (fun ls hl => ?_)
            refine lv_goto (tgt := 53) hx hb dX4_canPart_119 (by decide) ?_
            exact hc2 _ (Option.some.inj h).symm locs ls hL (lv_sub hl [0, 1, 2, 3, 4, 5] rfl)
          · rw [if_neg c13] at h
            refine lv_aload_n hx hb dX4_canPart_64 rfl (lv_at hl 3 rfl) ?_
            refine r_get (C := RX4) (T := TX4) (N := 80) hx hb hts ok4 hown hK hR (congrArg Prod.fst (hF.2.1 58 (5, 0) rfl)) rfl 63 (by decide) (hts _ q1696) (fun _ h9 => h9) (v := .ref (z + 95)) (fv_fix hF rfl rfl) dX4_canPart_65 ?_
            refine lv_iload hx hb dX4_canPart_68 (lv_at hl 0 rfl) ?_
            obtain ⟨hb14, h⟩ := grd h
            refine r_iald (v := wI (sI s1.2 95 s1.1.toNatClampNeg ((wI s1.2 95 s1.1.toNatClampNeg) + (1 : Int32))) 95 s2.1.toNatClampNeg) hx hb hK hR (hF.2.1 95 (200, 9) rfl) hb14 rfl dX4_canPart_70 ?_
            refine lv_aload_n hx hb dX4_canPart_71 rfl (lv_at hl 3 rfl) ?_
            refine r_get (C := RX4) (T := TX4) (N := 80) hx hb hts ok4 hown hK hR (congrArg Prod.fst (hF.2.1 58 (5, 0) rfl)) rfl 63 (by decide) (hts _ q1696) (fun _ h9 => h9) (v := .ref (z + 95)) (fv_fix hF rfl rfl) dX4_canPart_72 ?_
            refine lv_iload_n hx hb dX4_canPart_75 rfl (lv_at hl 2 rfl) ?_
            obtain ⟨hb15, h⟩ := grd h
            refine r_iald (v := wI (sI s1.2 95 s1.1.toNatClampNeg ((wI s1.2 95 s1.1.toNatClampNeg) + (1 : Int32))) 95 s1.1.toNatClampNeg) hx hb hK hR (hF.2.1 95 (200, 9) rfl) hb15 rfl dX4_canPart_76 ?_
            refine lv_icmp_ne (tgt := 109) hx hb dX4_canPart_77 (by decide) (fun c16 => ?_) (fun c16 => ?_)
            · rw [if_neg c16] at h
              refine lv_iconst (v := 1) hx hb dX4_canPart_109 (by decide) ?_
              refine lv_goto (tgt := 114) hx hb dX4_canPart_110 (by decide) ?_
              refine lv_istore (lv' := [(4, .int (1 : Int32)), (5, .int s2.1), (3, .int s1.1), (0, .ref (z + 58)), (1, .int a1), (2, .int a2)]) hx hb dX4_canPart_114 hl (by decide) rfl (fun ls hl => ?_)
              refine lv_iinc (v := s2.1 + (1 : Int32)) (lv' := [(5, .int (s2.1 + (1 : Int32))), (4, .int (1 : Int32)), (3, .int s1.1), (0, .ref (z + 58)), (1, .int a1), (2, .int a2)]) hx hb dX4_canPart_116 hl (k := 1) rfl rfl (by decide) rfl (fun ls hl => ?_)
              refine lv_goto (tgt := 53) hx hb dX4_canPart_119 (by decide) ?_
              exact hc2 _ (Option.some.inj h).symm locs ls hL (lv_sub hl [0, 1, 2, 3, 4, 5] rfl)
            · rw [if_pos c16] at h
              refine lv_aload_n hx hb dX4_canPart_80 rfl (lv_at hl 3 rfl) ?_
              refine r_get (C := RX4) (T := TX4) (N := 80) hx hb hts ok4 hown hK hR (congrArg Prod.fst (hF.2.1 58 (5, 0) rfl)) rfl 61 (by decide) (hts _ q1694) (fun _ h9 => h9) (v := .ref (z + 93)) (fv_fix hF rfl rfl) dX4_canPart_81 ?_
              refine lv_bipush (v := 16) hx hb dX4_canPart_84 (by decide) ?_
              refine lv_iload_n hx hb dX4_canPart_86 rfl (lv_at hl 4 rfl) ?_
              refine lv_imul hx hb dX4_canPart_87 ?_
              refine lv_aload_n hx hb dX4_canPart_88 rfl (lv_at hl 3 rfl) ?_
              refine r_get (C := RX4) (T := TX4) (N := 80) hx hb hts ok4 hown hK hR (congrArg Prod.fst (hF.2.1 58 (5, 0) rfl)) rfl 62 (by decide) (hts _ q1695) (fun _ h9 => h9) (v := .ref (z + 94)) (fv_fix hF rfl rfl) dX4_canPart_89 ?_
              refine lv_iload hx hb dX4_canPart_92 (lv_at hl 0 rfl) ?_
              obtain ⟨hb17, h⟩ := grd h
              refine r_iald (v := wI (sI s1.2 95 s1.1.toNatClampNeg ((wI s1.2 95 s1.1.toNatClampNeg) + (1 : Int32))) 94 s2.1.toNatClampNeg) hx hb hK hR (hF.2.1 94 (200, 9) rfl) hb17 rfl dX4_canPart_94 ?_
              refine lv_iadd hx hb dX4_canPart_95 ?_
              obtain ⟨hb18, h⟩ := grd h
              refine r_iald (v := wI (sI s1.2 95 s1.1.toNatClampNeg ((wI s1.2 95 s1.1.toNatClampNeg) + (1 : Int32))) 93 ((((16 : Int32) * a1) + (wI (sI s1.2 95 s1.1.toNatClampNeg ((wI s1.2 95 s1.1.toNatClampNeg) + (1 : Int32))) 94 s2.1.toNatClampNeg)).toNatClampNeg)) hx hb hK hR (hF.2.1 93 (200, 256) rfl) hb18 rfl dX4_canPart_96 ?_
              refine lv_aload_n hx hb dX4_canPart_97 rfl (lv_at hl 3 rfl) ?_
              refine r_get (C := RX4) (T := TX4) (N := 80) hx hb hts ok4 hown hK hR (congrArg Prod.fst (hF.2.1 58 (5, 0) rfl)) rfl 62 (by decide) (hts _ q1695) (fun _ h9 => h9) (v := .ref (z + 94)) (fv_fix hF rfl rfl) dX4_canPart_98 ?_
              refine lv_iload_n hx hb dX4_canPart_101 rfl (lv_at hl 2 rfl) ?_
              obtain ⟨hb19, h⟩ := grd h
              refine r_iald (v := wI (sI s1.2 95 s1.1.toNatClampNeg ((wI s1.2 95 s1.1.toNatClampNeg) + (1 : Int32))) 94 s1.1.toNatClampNeg) hx hb hK hR (hF.2.1 94 (200, 9) rfl) hb19 rfl dX4_canPart_102 ?_
              refine lv_ishr hx hb dX4_canPart_103 ?_
              refine lv_iconst (v := 1) hx hb dX4_canPart_104 (by decide) ?_
              refine lv_iand hx hb dX4_canPart_105 ?_
              refine lv_if_ne (tgt := 113) hx hb dX4_canPart_106 (by decide) (fun c20 => ?_) (fun c20 => ?_)
              · rw [if_neg c20] at h
                refine lv_iconst (v := 0) hx hb dX4_canPart_113 (by decide) ?_
                refine lv_istore (lv' := [(4, .int (0 : Int32)), (5, .int s2.1), (3, .int s1.1), (0, .ref (z + 58)), (1, .int a1), (2, .int a2)]) hx hb dX4_canPart_114 hl (by decide) rfl (fun ls hl => ?_)
                refine lv_iinc (v := s2.1 + (1 : Int32)) (lv' := [(5, .int (s2.1 + (1 : Int32))), (4, .int (0 : Int32)), (3, .int s1.1), (0, .ref (z + 58)), (1, .int a1), (2, .int a2)]) hx hb dX4_canPart_116 hl (k := 1) rfl rfl (by decide) rfl (fun ls hl => ?_)
                refine lv_goto (tgt := 53) hx hb dX4_canPart_119 (by decide) ?_
                exact hc2 _ (Option.some.inj h).symm locs ls hL (lv_sub hl [0, 1, 2, 3, 4, 5] rfl)
              · rw [if_pos c20] at h
                refine lv_iconst (v := 1) hx hb dX4_canPart_109 (by decide) ?_
                refine lv_goto (tgt := 114) hx hb dX4_canPart_110 (by decide) ?_
                refine lv_istore (lv' := [(4, .int (1 : Int32)), (5, .int s2.1), (3, .int s1.1), (0, .ref (z + 58)), (1, .int a1), (2, .int a2)]) hx hb dX4_canPart_114 hl (by decide) rfl (fun ls hl => ?_)
                refine lv_iinc (v := s2.1 + (1 : Int32)) (lv' := [(5, .int (s2.1 + (1 : Int32))), (4, .int (1 : Int32)), (3, .int s1.1), (0, .ref (z + 58)), (1, .int a1), (2, .int a2)]) hx hb dX4_canPart_116 hl (k := 1) rfl rfl (by decide) rfl (fun ls hl => ?_)
                refine lv_goto (tgt := 53) hx hb dX4_canPart_119 (by decide) ?_
                exact hc2 _ (Option.some.inj h).symm locs ls hL (lv_sub hl [0, 1, 2, 3, 4, 5] rfl)
      · rw [if_neg c8] at h
        refine lv_iinc (v := s1.1 + (-1 : Int32)) (lv' := [(3, .int (s1.1 + (-1 : Int32))), (0, .ref (z + 58)), (1, .int a1), (2, .int a2)]) hx hb dX4_canPart_41 hl (k := 0) rfl rfl (by decide) rfl (fun ls hl => ?_)
        refine lv_goto (tgt := 9) hx hb dX4_canPart_44 (by decide) ?_
        exact hc1 _ (Option.some.inj h).symm H locs ls hR hF hL (lv_sub hl [0, 1, 2, 3] rfl)
def f_X4_blind_L131 (n : Nat) (u1_2 : Int32) (w : Wd) (s1 : Int32) : Option ((Int32) ⊕ ((Int32))) :=
  if inb s1 9 then (if (wI w 94 s1.toNatClampNeg) = u1_2 then (some (.inr s1)) else (some (.inl (s1 + (1 : Int32))))) else none
def f_X4_blind_L101 (n : Nat) (u1_1 : Int32) (u1_2 : Int32) (s1 : Int32 × Wd) : Option ((Int32 × Wd) ⊕ ((Int32 × Wd))) :=
  if inb u1_1 24 then ((f_X4_canPart n (wI s1.2 67 u1_1.toNatClampNeg) s1.1 s1.2).bind fun q14 => if q14.1 then (some (.inr (s1.1, q14.2))) else (some (.inl (s1.1 + (1 : Int32), q14.2)))) else none
def f_X4_blind_L51 (n : Nat) (u1_1 : Int32) (u1_2 : Int32) (s1 : Int32 × Wd) : Option ((Int32 × Wd) ⊕ ((Int32 × Wd))) :=
  if (16 : Int32) ≤ s1.1 then (some (.inr (s1.1, s1.2))) else (if inb u1_1 24 then (if (((wI s1.2 68 u1_1.toNatClampNeg) >>> (s1.1 &&& 31)) &&& (1 : Int32)) = 0 then (some (.inl (s1.1 + (1 : Int32), s1.2))) else (if inb (wI s1.2 58 64) 9 then (some (.inl (s1.1 + (1 : Int32), sI (sI s1.2 94 ((wI s1.2 58 64).toNatClampNeg) s1.1) 58 64 ((wI s1.2 58 64) + (1 : Int32))))) else none)) else none)
def f_X4_blind_J44 (n : Nat) (a1 : Int32) (a2 : Int32) (w : Wd) : Option (Int32 × Wd) :=
  (it n (f_X4_blind_L51 n a1 a2) ((0 : Int32), sI w 58 64 (0 : Int32))).bind fun q51_99 => (it n (f_X4_blind_L101 n a1 a2) ((1 : Int32), q51_99.2)).bind fun q101_121 => if a2 = (-1 : Int32) then (some (q101_121.1, q101_121.2)) else ((it n (f_X4_blind_L131 n a2 q101_121.2) (0 : Int32)).bind fun q131_148 => if inb q131_148 9 then (some (wI q101_121.2 95 q131_148.toNatClampNeg, q101_121.2)) else none)
def f_X4_blind (n : Nat) (a1 : Int32) (a2 : Int32) (w : Wd) : Option (Int32 × Wd) :=
  if (f_X4_isEdition a1 w) then (if inb a1 24 then ((f_X4_ones n (wI w 68 a1.toNatClampNeg) w).bind fun q3 => if q3 ≤ (9 : Int32) then (if a2 = (-1 : Int32) then (f_X4_blind_J44 n a1 a2 w) else ((f_X4_hasLine a1 a2 w).bind fun q25 => if q25 then (f_X4_blind_J44 n a1 a2 w) else (some ((-1 : Int32), w)))) else (some ((-3 : Int32), w))) else none) else (some ((-1 : Int32), w))
theorem hd_X4_blind : yX4_blind.cls = RX4 ∧ yX4_blind.cls ≠ "java/lang/invoke/MethodHandle" ∧ yX4_blind.cls ≠ "java/lang/invoke/VarHandle" ∧ (parseMethodDescriptor yX4_blind.desc).map (fun d => d.parameters.length) = some 2 := by decide +kernel
set_option maxHeartbeats 4000000 in
set_option maxRecDepth 100000 in
theorem met_X4_blind (l : Launch) (G : Gw) (z : Nat) (H0 : Heap) (n : Nat) (w : Wd) (a1 : Int32) (a2 : Int32) (q : Int32 × Wd) (h : f_X4_blind n a1 a2 w = some q) : Met l yX4_blind (ws_ yX4_blind cX4_blind 5 (some .int)) ({ frames := 3, cells := 0, slots := 0, locals := 66 } : Room) (pcW G z H0 w [.ref (z + 58), .int a1, .int a2]) (qW G z H0 q.2 (some (.int q.1))) 0 0 (fun q => z ≤ q) := by
  refine mW (by decide) (Nat.le_of_ble_eq_true rfl) ?_
  intro p e s m below meth c ls hx hb hr hml hown hts hlocks hnm hK hR hF hl
  have hown : s.vm.findClass RX4 = some m.cls := hown
  have hl : lv_has ls 5 [(0, .ref (z + 58)), (1, .int a1), (2, .int a2)] := hl
  have hL : lok z [] := lok_nil
  unfold f_X4_blind at h
  generalize s.heap = H at hR ⊢
  generalize ([] : List Loc) = locs at hL ⊢
  have hJ44 : ∀  (w : Wd), f_X4_blind_J44 n a1 a2 w = some q → ∀ (H : Heap) (locs : List Loc) (ls : Array Slot), Rp G z H0 w H → Fix w → lok z locs → lv_has ls 5 [(0, .ref (z + 58)), (1, .int a1), (2, .int a2)] → W p l e ({ frames := 3, cells := 0, slots := 0, locals := 66 } : Room) s m ([.ref (z + 58), .int a1, .int a2] : List Value).toArray below meth c H locs 0 0 (MQ below (qW G z H0 q.2 (some (.int q.1))) ([.ref (z + 58), .int a1, .int a2] : List Value).toArray s 0 0 (fun q => z ≤ q)) (F0 m 44 ls []) := by
    intro  w h H locs ls hR hF hL hl
    unfold f_X4_blind_J44 at h
    refine lv_aload_n hx hb dX4_blind_44 rfl (lv_at hl 0 rfl) ?_
    refine lv_iconst (v := 0) hx hb dX4_blind_45 (by decide) ?_
    refine r_putI (C := RX4) (T := TX4) (N := 80) hx hb hts ok4 hown hK hR hL (congrArg Prod.fst (hF.2.1 58 (5, 0) rfl)) rfl 64 (by decide) (hts _ q1697) (fun _ h9 => h9) (Or.inl rfl) rfl rfl rfl dX4_blind_46 (fun H locs hR hL => ?_)
    have hF := hF.sI 58 64 (0 : Int32)
    refine lv_iconst (v := 0) hx hb dX4_blind_49 (by decide) ?_
    refine lv_istore_n (lv' := [(3, .int (0 : Int32)), (0, .ref (z + 58)), (1, .int a1), (2, .int a2)]) hx hb dX4_blind_50 rfl hl (by decide) rfl (fun ls hl => ?_)
    have hX51_99 : ∀ (q51_99 : Int32 × Wd), ((it n (f_X4_blind_L101 n a1 a2) ((1 : Int32), q51_99.2)).bind fun q101_121 => if a2 = (-1 : Int32) then (some (q101_121.1, q101_121.2)) else ((it n (f_X4_blind_L131 n a2 q101_121.2) (0 : Int32)).bind fun q131_148 => if inb q131_148 9 then (some (wI q101_121.2 95 q131_148.toNatClampNeg, q101_121.2)) else none)) = some q → ∀ (H : Heap) (locs : List Loc) (ls : Array Slot), Rp G z H0 q51_99.2 H → Fix q51_99.2 → lok z locs → lv_has ls 5 [(0, .ref (z + 58)), (1, .int a1), (2, .int a2)] → W p l e ({ frames := 3, cells := 0, slots := 0, locals := 66 } : Room) s m ([.ref (z + 58), .int a1, .int a2] : List Value).toArray below meth c H locs 0 0 (MQ below (qW G z H0 q.2 (some (.int q.1))) ([.ref (z + 58), .int a1, .int a2] : List Value).toArray s 0 0 (fun q => z ≤ q)) (F0 m 99 ls []) := by
      intro q51_99 h H locs ls hR hF hL hl
      refine lv_iconst (v := 1) hx hb dX4_blind_99 (by decide) ?_
      refine lv_istore_n (lv' := [(3, .int (1 : Int32)), (0, .ref (z + 58)), (1, .int a1), (2, .int a2)]) hx hb dX4_blind_100 rfl hl (by decide) rfl (fun ls hl => ?_)
      have hX101_121 : ∀ (q101_121 : Int32 × Wd), (if a2 = (-1 : Int32) then (some (q101_121.1, q101_121.2)) else ((it n (f_X4_blind_L131 n a2 q101_121.2) (0 : Int32)).bind fun q131_148 => if inb q131_148 9 then (some (wI q101_121.2 95 q131_148.toNatClampNeg, q101_121.2)) else none)) = some q → ∀ (H : Heap) (locs : List Loc) (ls : Array Slot), Rp G z H0 q101_121.2 H → Fix q101_121.2 → lok z locs → lv_has ls 5 [(3, .int q101_121.1), (0, .ref (z + 58)), (2, .int a2)] → W p l e ({ frames := 3, cells := 0, slots := 0, locals := 66 } : Room) s m ([.ref (z + 58), .int a1, .int a2] : List Value).toArray below meth c H locs 0 0 (MQ below (qW G z H0 q.2 (some (.int q.1))) ([.ref (z + 58), .int a1, .int a2] : List Value).toArray s 0 0 (fun q => z ≤ q)) (F0 m 121 ls []) := by
        intro q101_121 h H locs ls hR hF hL hl
        refine lv_iload_n hx hb dX4_blind_121 rfl (lv_at hl 2 rfl) ?_
        refine lv_iconst (v := -1) hx hb dX4_blind_122 (by decide) ?_
        refine lv_icmp_ne (tgt := 128) hx hb dX4_blind_123 (by decide) (fun c7 => ?_) (fun c7 => ?_)
        · rw [if_neg c7] at h
          refine lv_iconst (v := 0) hx hb dX4_blind_128 (by decide) ?_
          refine lv_istore (lv' := [(4, .int (0 : Int32)), (3, .int q101_121.1), (0, .ref (z + 58)), (2, .int a2)]) hx hb dX4_blind_129 hl (by decide) rfl (fun ls hl => ?_)
          have hX131_148 : ∀ (q131_148 : Int32), (if inb q131_148 9 then (some (wI q101_121.2 95 q131_148.toNatClampNeg, q101_121.2)) else none) = some q → ∀ (locs : List Loc) (ls : Array Slot), lok z locs → lv_has ls 5 [(4, .int q131_148), (0, .ref (z + 58))] → W p l e ({ frames := 3, cells := 0, slots := 0, locals := 66 } : Room) s m ([.ref (z + 58), .int a1, .int a2] : List Value).toArray below meth c H locs 0 0 (MQ below (qW G z H0 q.2 (some (.int q.1))) ([.ref (z + 58), .int a1, .int a2] : List Value).toArray s 0 0 (fun q => z ≤ q)) (F0 m 148 ls []) := by
            intro q131_148 h locs ls hL hl
            refine lv_aload_n hx hb dX4_blind_148 rfl (lv_at hl 1 rfl) ?_
            refine r_get (C := RX4) (T := TX4) (N := 80) hx hb hts ok4 hown hK hR (congrArg Prod.fst (hF.2.1 58 (5, 0) rfl)) rfl 63 (by decide) (hts _ q1696) (fun _ h9 => h9) (v := .ref (z + 95)) (fv_fix hF rfl rfl) dX4_blind_149 ?_
            refine lv_iload hx hb dX4_blind_152 (lv_at hl 0 rfl) ?_
            obtain ⟨hb8, h⟩ := grd h
            refine r_iald (v := wI q101_121.2 95 q131_148.toNatClampNeg) hx hb hK hR (hF.2.1 95 (200, 9) rfl) hb8 rfl dX4_blind_154 ?_
            have h := Option.some.inj h
            subst h
            exact W.iret (v := wI q101_121.2 95 q131_148.toNatClampNeg) hx hb hr (fun t ht _ => ⟨rfl, by rw [ht]; exact hR, hF⟩) hL dX4_blind_155
          obtain ⟨t11, hq12, h⟩ := bnd h
          refine it_W (b := f_X4_blind_L131 n a2 q101_121.2) (P := fun (s1 : Int32) => ∀ (locs : List Loc) (ls : Array Slot), lok z locs → lv_has ls 5 [(4, .int s1), (0, .ref (z + 58)), (2, .int a2)] → W p l e ({ frames := 3, cells := 0, slots := 0, locals := 66 } : Room) s m ([.ref (z + 58), .int a1, .int a2] : List Value).toArray below meth c H locs 0 0 (MQ below (qW G z H0 q.2 (some (.int q.1))) ([.ref (z + 58), .int a1, .int a2] : List Value).toArray s 0 0 (fun q => z ≤ q)) (F0 m 131 ls [])) (K := fun q131_148 => (if inb q131_148 9 then (some (wI q101_121.2 95 q131_148.toNatClampNeg, q101_121.2)) else none) = some q) (fun s1 x1 h hc1 ht1 => ?_) n (0 : Int32) t11 hq12 h locs ls hL (lv_sub hl [0, 2, 3] rfl)
          intro locs ls hL hl
          unfold f_X4_blind_L131 at h
          refine lv_aload_n hx hb dX4_blind_131 rfl (lv_at hl 1 rfl) ?_
          refine r_get (C := RX4) (T := TX4) (N := 80) hx hb hts ok4 hown hK hR (congrArg Prod.fst (hF.2.1 58 (5, 0) rfl)) rfl 62 (by decide) (hts _ q1695) (fun _ h9 => h9) (v := .ref (z + 94)) (fv_fix hF rfl rfl) dX4_blind_132 ?_
          refine lv_iload hx hb dX4_blind_135 (lv_at hl 0 rfl) ?_
          obtain ⟨hb9, h⟩ := grd h
          refine r_iald (v := wI q101_121.2 94 s1.toNatClampNeg) hx hb hK hR (hF.2.1 94 (200, 9) rfl) hb9 rfl dX4_blind_137 ?_
          refine lv_iload_n hx hb dX4_blind_138 rfl (lv_at hl 2 rfl) ?_
          refine lv_icmp_eq (tgt := 148) hx hb dX4_blind_139 (by decide) (fun c10 => ?_) (fun c10 => ?_)
          · rw [if_pos c10] at h
            exact hX131_148 s1 (ht1 _ (Option.some.inj h).symm) locs ls hL (lv_sub hl [0, 1] rfl)
          · rw [if_neg c10] at h
            refine lv_iinc (v := s1 + (1 : Int32)) (lv' := [(4, .int (s1 + (1 : Int32))), (0, .ref (z + 58)), (2, .int a2)]) hx hb dX4_blind_142 hl (k := 0) rfl rfl (by decide) rfl (fun ls hl => ?_)
            refine lv_goto (tgt := 131) hx hb dX4_blind_145 (by decide) ?_
            exact hc1 _ (Option.some.inj h).symm locs ls hL (lv_sub hl [0, 1, 2] rfl)
        · rw [if_pos c7] at h
          refine lv_iload_n hx hb dX4_blind_126 rfl (lv_at hl 0 rfl) ?_
          have h := Option.some.inj h
          subst h
          exact W.iret (v := q101_121.1) hx hb hr (fun t ht _ => ⟨rfl, by rw [ht]; exact hR, hF⟩) hL dX4_blind_127
      obtain ⟨t17, hq18, h⟩ := bnd h
      refine it_W (b := f_X4_blind_L101 n a1 a2) (P := fun (s1 : Int32 × Wd) => ∀ (H : Heap) (locs : List Loc) (ls : Array Slot), Rp G z H0 s1.2 H → Fix s1.2 → lok z locs → lv_has ls 5 [(3, .int s1.1), (0, .ref (z + 58)), (1, .int a1), (2, .int a2)] → W p l e ({ frames := 3, cells := 0, slots := 0, locals := 66 } : Room) s m ([.ref (z + 58), .int a1, .int a2] : List Value).toArray below meth c H locs 0 0 (MQ below (qW G z H0 q.2 (some (.int q.1))) ([.ref (z + 58), .int a1, .int a2] : List Value).toArray s 0 0 (fun q => z ≤ q)) (F0 m 101 ls [])) (K := fun q101_121 => (if a2 = (-1 : Int32) then (some (q101_121.1, q101_121.2)) else ((it n (f_X4_blind_L131 n a2 q101_121.2) (0 : Int32)).bind fun q131_148 => if inb q131_148 9 then (some (wI q101_121.2 95 q131_148.toNatClampNeg, q101_121.2)) else none)) = some q) (fun s1 x1 h hc1 ht1 => ?_) n ((1 : Int32), q51_99.2) t17 hq18 h H locs ls hR hF hL (lv_sub hl [0, 1, 2, 3] rfl)
      intro H locs ls hR hF hL hl
      unfold f_X4_blind_L101 at h
      refine lv_aload_n hx hb dX4_blind_101 rfl (lv_at hl 1 rfl) ?_
      refine lv_aload_n hx hb dX4_blind_102 rfl (lv_at hl 1 rfl) ?_
      refine r_get (C := RX4) (T := TX4) (N := 80) hx hb hts ok4 hown hK hR (congrArg Prod.fst (hF.2.1 58 (5, 0) rfl)) rfl 12 (by decide) (hts _ q1645) (fun _ h9 => h9) (v := .ref (z + 67)) (fv_fix hF rfl rfl) dX4_blind_103 ?_
      refine lv_iload_n hx hb dX4_blind_106 rfl (lv_at hl 2 rfl) ?_
      obtain ⟨hb13, h⟩ := grd h
      refine r_iald (v := wI s1.2 67 a1.toNatClampNeg) hx hb hK hR (hF.2.1 67 (200, 24) rfl) hb13 rfl dX4_blind_107 ?_
      refine lv_iload_n hx hb dX4_blind_108 rfl (lv_at hl 0 rfl) ?_
      obtain ⟨q14, hq15, h⟩ := bnd h
      refine c_VW (a := 58) (ci := 4) (q := (RX4, TX4, 80)) (rest := []) (st1 := [.int (bI q14.1)]) hx hb hml hown hts hK hR hF hL hl.1 (met_X4_canPart l G z H0 n s1.2 (wI s1.2 67 a1.toNatClampNeg) s1.1 q14 hq15) (congrArg Prod.fst (hF.2.1 58 (5, 0) rfl)) rfl rfl rfl hd_X4_canPart q2177 q2179 qs87 q104 q2180 ⟨Nat.le_of_ble_eq_true rfl, Nat.le_of_ble_eq_true rfl⟩ ⟨Nat.le_refl 0, Nat.le_refl 0⟩ rfl rfl (Nat.le_of_ble_eq_true rfl) dX4_blind_109 rfl (fun H locs hR hF hL => ?_)
      refine lv_if_ne (tgt := 121) hx hb dX4_blind_112 (by decide) (fun c16 => ?_) (fun c16 => ?_)
      · rw [if_pos (bI_p c16)] at h
        exact hX101_121 (s1.1, q14.2) (ht1 _ (Option.some.inj h).symm) H locs ls hR hF hL (lv_sub hl [0, 1, 3] rfl)
      · rw [if_neg (bI_n c16)] at h
        refine lv_iinc (v := s1.1 + (1 : Int32)) (lv' := [(3, .int (s1.1 + (1 : Int32))), (0, .ref (z + 58)), (1, .int a1), (2, .int a2)]) hx hb dX4_blind_115 hl (k := 0) rfl rfl (by decide) rfl (fun ls hl => ?_)
        refine lv_goto (tgt := 101) hx hb dX4_blind_118 (by decide) ?_
        exact hc1 _ (Option.some.inj h).symm H locs ls hR hF hL (lv_sub hl [0, 1, 2, 3] rfl)
    obtain ⟨t23, hq24, h⟩ := bnd h
    refine it_W (b := f_X4_blind_L51 n a1 a2) (P := fun (s1 : Int32 × Wd) => ∀ (H : Heap) (locs : List Loc) (ls : Array Slot), Rp G z H0 s1.2 H → Fix s1.2 → lok z locs → lv_has ls 5 [(3, .int s1.1), (0, .ref (z + 58)), (1, .int a1), (2, .int a2)] → W p l e ({ frames := 3, cells := 0, slots := 0, locals := 66 } : Room) s m ([.ref (z + 58), .int a1, .int a2] : List Value).toArray below meth c H locs 0 0 (MQ below (qW G z H0 q.2 (some (.int q.1))) ([.ref (z + 58), .int a1, .int a2] : List Value).toArray s 0 0 (fun q => z ≤ q)) (F0 m 51 ls [])) (K := fun q51_99 => ((it n (f_X4_blind_L101 n a1 a2) ((1 : Int32), q51_99.2)).bind fun q101_121 => if a2 = (-1 : Int32) then (some (q101_121.1, q101_121.2)) else ((it n (f_X4_blind_L131 n a2 q101_121.2) (0 : Int32)).bind fun q131_148 => if inb q131_148 9 then (some (wI q101_121.2 95 q131_148.toNatClampNeg, q101_121.2)) else none)) = some q) (fun s1 x1 h hc1 ht1 => ?_) n ((0 : Int32), sI w 58 64 (0 : Int32)) t23 hq24 h H locs ls hR hF hL (lv_sub hl [0, 1, 2, 3] rfl)
    intro H locs ls hR hF hL hl
    unfold f_X4_blind_L51 at h
    refine lv_iload_n hx hb dX4_blind_51 rfl (lv_at hl 0 rfl) ?_
    refine lv_bipush (v := 16) hx hb dX4_blind_52 (by decide) ?_
    refine lv_icmp_ge (tgt := 99) hx hb dX4_blind_54 (by decide) (fun c19 => ?_) (fun c19 => ?_)
    · rw [if_pos c19] at h
      exact hX51_99 (s1.1, s1.2) (ht1 _ (Option.some.inj h).symm) H locs ls hR hF hL (lv_sub hl [1, 2, 3] rfl)
    · rw [if_neg c19] at h
      refine lv_aload_n hx hb dX4_blind_57 rfl (lv_at hl 1 rfl) ?_
      refine r_get (C := RX4) (T := TX4) (N := 80) hx hb hts ok4 hown hK hR (congrArg Prod.fst (hF.2.1 58 (5, 0) rfl)) rfl 13 (by decide) (hts _ q1646) (fun _ h9 => h9) (v := .ref (z + 68)) (fv_fix hF rfl rfl) dX4_blind_58 ?_
      refine lv_iload_n hx hb dX4_blind_61 rfl (lv_at hl 2 rfl) ?_
      obtain ⟨hb20, h⟩ := grd h
      refine r_iald (v := wI s1.2 68 a1.toNatClampNeg) hx hb hK hR (hF.2.1 68 (200, 24) rfl) hb20 rfl dX4_blind_62 ?_
      refine lv_iload_n hx hb dX4_blind_63 rfl (lv_at hl 0 rfl) ?_
      refine lv_ishr hx hb dX4_blind_64 ?_
      refine lv_iconst (v := 1) hx hb dX4_blind_65 (by decide) ?_
      refine lv_iand hx hb dX4_blind_66 ?_
      refine lv_if_ne (tgt := 73) hx hb dX4_blind_67 (by decide) (fun c21 => ?_) (fun c21 => ?_)
      · rw [if_neg c21] at h
        refine lv_aload_n hx hb dX4_blind_73 rfl (lv_at hl 1 rfl) ?_
        refine r_get (C := RX4) (T := TX4) (N := 80) hx hb hts ok4 hown hK hR (congrArg Prod.fst (hF.2.1 58 (5, 0) rfl)) rfl 62 (by decide) (hts _ q1695) (fun _ h9 => h9) (v := .ref (z + 94)) (fv_fix hF rfl rfl) dX4_blind_74 ?_
        refine lv_aload_n hx hb dX4_blind_77 rfl (lv_at hl 1 rfl) ?_
        refine r_get (C := RX4) (T := TX4) (N := 80) hx hb hts ok4 hown hK hR (congrArg Prod.fst (hF.2.1 58 (5, 0) rfl)) rfl 64 (by decide) (hts _ q1697) (fun _ h9 => h9) (v := .int (wI s1.2 58 64)) rfl dX4_blind_78 ?_
        refine lv_iload_n hx hb dX4_blind_81 rfl (lv_at hl 0 rfl) ?_
        obtain ⟨hb22, h⟩ := grd h
        refine r_iast hx hb hK hR hL (hF.2.1 94 (200, 9) rfl) hb22 dX4_blind_82 (fun H locs hR hL => ?_)
        have hF := hF.sI 94 ((wI s1.2 58 64).toNatClampNeg) s1.1
        refine lv_aload_n hx hb dX4_blind_83 rfl (lv_at hl 1 rfl) ?_
        refine lv_dup hx hb dX4_blind_84 rfl ?_
        refine r_get (C := RX4) (T := TX4) (N := 80) hx hb hts ok4 hown hK hR (congrArg Prod.fst (hF.2.1 58 (5, 0) rfl)) rfl 64 (by decide) (hts _ q1697) (fun _ h9 => h9) (v := .int (wI s1.2 58 64)) rfl dX4_blind_85 ?_
        refine lv_iconst (v := 1) hx hb dX4_blind_88 (by decide) ?_
        refine lv_iadd hx hb dX4_blind_89 ?_
        refine r_putI (C := RX4) (T := TX4) (N := 80) hx hb hts ok4 hown hK hR hL (congrArg Prod.fst (hF.2.1 58 (5, 0) rfl)) rfl 64 (by decide) (hts _ q1697) (fun _ h9 => h9) (Or.inl rfl) rfl rfl rfl dX4_blind_90 (fun H locs hR hL => ?_)
        have hF := hF.sI 58 64 ((wI s1.2 58 64) + (1 : Int32))
        refine lv_iinc (v := s1.1 + (1 : Int32)) (lv' := [(3, .int (s1.1 + (1 : Int32))), (0, .ref (z + 58)), (1, .int a1), (2, .int a2)]) hx hb dX4_blind_93 hl (k := 0) rfl rfl (by decide) rfl (fun ls hl => ?_)
        refine lv_goto (tgt := 51) hx hb dX4_blind_96 (by decide) ?_
        exact hc1 _ (Option.some.inj h).symm H locs ls hR hF hL (lv_sub hl [0, 1, 2, 3] rfl)
      · rw [if_pos c21] at h
        refine lv_goto (tgt := 93) hx hb dX4_blind_70 (by decide) ?_
        refine lv_iinc (v := s1.1 + (1 : Int32)) (lv' := [(3, .int (s1.1 + (1 : Int32))), (0, .ref (z + 58)), (1, .int a1), (2, .int a2)]) hx hb dX4_blind_93 hl (k := 0) rfl rfl (by decide) rfl (fun ls hl => ?_)
        refine lv_goto (tgt := 51) hx hb dX4_blind_96 (by decide) ?_
        exact hc1 _ (Option.some.inj h).symm H locs ls hR hF hL (lv_sub hl [0, 1, 2, 3] rfl)
  refine lv_aload_n hx hb dX4_blind_0 rfl (lv_at hl 0 rfl) ?_
  refine lv_iload_n hx hb dX4_blind_1 rfl (lv_at hl 1 rfl) ?_
  refine c_VP (a := 58) (ci := 4) (q := (RX4, TX4, 80)) (rest := []) (st1 := [.int (bI (f_X4_isEdition a1 w))]) hx hb hml hown hts hK hR hF hL hl.1 (met_X4_isEdition l G z H0 w a1 _ rfl) (congrArg Prod.fst (hF.2.1 58 (5, 0) rfl)) rfl rfl rfl hd_X4_isEdition q1919 q1921 qs45 q104 q1922 ⟨Nat.le_of_ble_eq_true rfl, Nat.le_of_ble_eq_true rfl⟩ ⟨Nat.le_refl 0, Nat.le_refl 0⟩ rfl rfl (Nat.le_of_ble_eq_true rfl) dX4_blind_2 rfl (fun locs hL => ?_)
  refine lv_if_ne (tgt := 10) hx hb dX4_blind_5 (by decide) (fun c1 => ?_) (fun c1 => ?_)
  · rw [if_pos (bI_p c1)] at h
    refine lv_aload_n hx hb dX4_blind_10 rfl (lv_at hl 0 rfl) ?_
    refine lv_aload_n hx hb dX4_blind_11 rfl (lv_at hl 0 rfl) ?_
    refine r_get (C := RX4) (T := TX4) (N := 80) hx hb hts ok4 hown hK hR (congrArg Prod.fst (hF.2.1 58 (5, 0) rfl)) rfl 13 (by decide) (hts _ q1646) (fun _ h9 => h9) (v := .ref (z + 68)) (fv_fix hF rfl rfl) dX4_blind_12 ?_
    refine lv_iload_n hx hb dX4_blind_15 rfl (lv_at hl 1 rfl) ?_
    obtain ⟨hb2, h⟩ := grd h
    refine r_iald (v := wI w 68 a1.toNatClampNeg) hx hb hK hR (hF.2.1 68 (200, 24) rfl) hb2 rfl dX4_blind_16 ?_
    obtain ⟨q3, hq4, h⟩ := bnd h
    refine c_VP (a := 58) (ci := 4) (q := (RX4, TX4, 80)) (rest := []) (st1 := [.int q3]) hx hb hml hown hts hK hR hF hL hl.1 (met_X4_ones l G z H0 n w (wI w 68 a1.toNatClampNeg) q3 hq4) (congrArg Prod.fst (hF.2.1 58 (5, 0) rfl)) rfl rfl rfl hd_X4_ones q2069 q2071 qs72 q104 q2072 ⟨Nat.le_of_ble_eq_true rfl, Nat.le_of_ble_eq_true rfl⟩ ⟨Nat.le_refl 0, Nat.le_refl 0⟩ rfl rfl (Nat.le_of_ble_eq_true rfl) dX4_blind_17 rfl (fun locs hL => ?_)
    refine lv_bipush (v := 9) hx hb dX4_blind_20 (by decide) ?_
    refine lv_icmp_le (tgt := 28) hx hb dX4_blind_22 (by decide) (fun c5 => ?_) (fun c5 => ?_)
    · rw [if_pos c5] at h
      refine lv_iload_n hx hb dX4_blind_28 rfl (lv_at hl 2 rfl) ?_
      refine lv_iconst (v := -1) hx hb dX4_blind_29 (by decide) ?_
      refine lv_icmp_eq (tgt := 44) hx hb dX4_blind_30 (by decide) (fun c6 => ?_) (fun c6 => ?_)
      · rw [if_pos c6] at h
        exact hJ44  w h H locs ls hR hF hL (lv_sub hl [0, 1, 2] rfl)
      · rw [if_neg c6] at h
        refine lv_aload_n hx hb dX4_blind_33 rfl (lv_at hl 0 rfl) ?_
        refine lv_iload_n hx hb dX4_blind_34 rfl (lv_at hl 1 rfl) ?_
        refine lv_iload_n hx hb dX4_blind_35 rfl (lv_at hl 2 rfl) ?_
        obtain ⟨q25, hq26, h⟩ := bnd h
        refine c_VP (a := 58) (ci := 4) (q := (RX4, TX4, 80)) (rest := []) (st1 := [.int (bI q25)]) hx hb hml hown hts hK hR hF hL hl.1 (met_X4_hasLine l G z H0 w a1 a2 q25 hq26) (congrArg Prod.fst (hF.2.1 58 (5, 0) rfl)) rfl rfl rfl hd_X4_hasLine q2125 q2127 qs82 q104 q2128 ⟨Nat.le_of_ble_eq_true rfl, Nat.le_of_ble_eq_true rfl⟩ ⟨Nat.le_refl 0, Nat.le_refl 0⟩ rfl rfl (Nat.le_of_ble_eq_true rfl) dX4_blind_36 rfl (fun locs hL => ?_)
        refine lv_if_ne (tgt := 44) hx hb dX4_blind_39 (by decide) (fun c27 => ?_) (fun c27 => ?_)
        · rw [if_pos (bI_p c27)] at h
          exact hJ44  w h H locs ls hR hF hL (lv_sub hl [0, 1, 2] rfl)
        · rw [if_neg (bI_n c27)] at h
          refine lv_iconst (v := -1) hx hb dX4_blind_42 (by decide) ?_
          have h := Option.some.inj h
          subst h
          exact W.iret (v := (-1 : Int32)) hx hb hr (fun t ht _ => ⟨rfl, by rw [ht]; exact hR, hF⟩) hL dX4_blind_43
    · rw [if_neg c5] at h
      refine lv_bipush (v := -3) hx hb dX4_blind_25 (by decide) ?_
      have h := Option.some.inj h
      subst h
      exact W.iret (v := (-3 : Int32)) hx hb hr (fun t ht _ => ⟨rfl, by rw [ht]; exact hR, hF⟩) hL dX4_blind_27
  · rw [if_neg (bI_n c1)] at h
    refine lv_iconst (v := -1) hx hb dX4_blind_8 (by decide) ?_
    have h := Option.some.inj h
    subst h
    exact W.iret (v := (-1 : Int32)) hx hb hr (fun t ht _ => ⟨rfl, by rw [ht]; exact hR, hF⟩) hL dX4_blind_9
def f_X4_port (a1 : Int32) (a2 : Int32) (a3 : Int32) (w : Wd) : Option (Int32 × Wd) :=
  if (f_X4_in a1 (0 : Int32) (7 : Int32) w) then (if (f_X4_in a2 (0 : Int32) (6 : Int32) w) then (if (f_X4_in a3 (0 : Int32) (999 : Int32) w) then (if inb (((7 : Int32) * a1) + a2) 56 then (if inb (((7 : Int32) * a1) + a2) 56 then (some (wI w 96 ((((7 : Int32) * a1) + a2).toNatClampNeg), sI w 96 ((((7 : Int32) * a1) + a2).toNatClampNeg) a3)) else none) else none) else (some ((-2 : Int32), w))) else (some ((-1 : Int32), w))) else (some ((-1 : Int32), w))
theorem hd_X4_port : yX4_port.cls = RX4 ∧ yX4_port.cls ≠ "java/lang/invoke/MethodHandle" ∧ yX4_port.cls ≠ "java/lang/invoke/VarHandle" ∧ (parseMethodDescriptor yX4_port.desc).map (fun d => d.parameters.length) = some 3 := by decide +kernel
set_option maxHeartbeats 4000000 in
set_option maxRecDepth 100000 in
theorem met_X4_port (l : Launch) (G : Gw) (z : Nat) (H0 : Heap)  (w : Wd) (a1 : Int32) (a2 : Int32) (a3 : Int32) (q : Int32 × Wd) (h : f_X4_port a1 a2 a3 w = some q) : Met l yX4_port (ws_ yX4_port cX4_port 5 (some .int)) ({ frames := 1, cells := 0, slots := 0, locals := 23 } : Room) (pcW G z H0 w [.ref (z + 58), .int a1, .int a2, .int a3]) (qW G z H0 q.2 (some (.int q.1))) 0 0 (fun q => z ≤ q) := by
  refine mW (by decide) (Nat.le_of_ble_eq_true rfl) ?_
  intro p e s m below meth c ls hx hb hr hml hown hts hlocks hnm hK hR hF hl
  have hown : s.vm.findClass RX4 = some m.cls := hown
  have hl : lv_has ls 5 [(0, .ref (z + 58)), (1, .int a1), (2, .int a2), (3, .int a3)] := hl
  have hL : lok z [] := lok_nil
  unfold f_X4_port at h
  generalize s.heap = H at hR ⊢
  generalize ([] : List Loc) = locs at hL ⊢
  refine lv_aload_n hx hb dX4_port_0 rfl (lv_at hl 0 rfl) ?_
  refine lv_iload_n hx hb dX4_port_1 rfl (lv_at hl 1 rfl) ?_
  refine lv_iconst (v := 0) hx hb dX4_port_2 (by decide) ?_
  refine lv_bipush (v := 7) hx hb dX4_port_3 (by decide) ?_
  refine c_VP (a := 58) (ci := 4) (q := (RX4, TX4, 80)) (rest := []) (st1 := [.int (bI (f_X4_in a1 (0 : Int32) (7 : Int32) w))]) hx hb hml hown hts hK hR hF hL hl.1 (met_X4_in l G z H0 w a1 (0 : Int32) (7 : Int32) _ rfl) (congrArg Prod.fst (hF.2.1 58 (5, 0) rfl)) rfl rfl rfl hd_X4_in q1878 q1880 qs41 q104 q1881 ⟨Nat.le_of_ble_eq_true rfl, Nat.le_of_ble_eq_true rfl⟩ ⟨Nat.le_refl 0, Nat.le_refl 0⟩ rfl rfl (Nat.le_of_ble_eq_true rfl) dX4_port_5 rfl (fun locs hL => ?_)
  refine lv_if_eq (tgt := 22) hx hb dX4_port_8 (by decide) (fun c1 => ?_) (fun c1 => ?_)
  · rw [if_neg (bI_n c1)] at h
    refine lv_iconst (v := -1) hx hb dX4_port_22 (by decide) ?_
    have h := Option.some.inj h
    subst h
    exact W.iret (v := (-1 : Int32)) hx hb hr (fun t ht _ => ⟨rfl, by rw [ht]; exact hR, hF⟩) hL dX4_port_23
  · rw [if_pos (bI_p c1)] at h
    refine lv_aload_n hx hb dX4_port_11 rfl (lv_at hl 0 rfl) ?_
    refine lv_iload_n hx hb dX4_port_12 rfl (lv_at hl 2 rfl) ?_
    refine lv_iconst (v := 0) hx hb dX4_port_13 (by decide) ?_
    refine lv_bipush (v := 6) hx hb dX4_port_14 (by decide) ?_
    refine c_VP (a := 58) (ci := 4) (q := (RX4, TX4, 80)) (rest := []) (st1 := [.int (bI (f_X4_in a2 (0 : Int32) (6 : Int32) w))]) hx hb hml hown hts hK hR hF hL hl.1 (met_X4_in l G z H0 w a2 (0 : Int32) (6 : Int32) _ rfl) (congrArg Prod.fst (hF.2.1 58 (5, 0) rfl)) rfl rfl rfl hd_X4_in q1878 q1880 qs41 q104 q1881 ⟨Nat.le_of_ble_eq_true rfl, Nat.le_of_ble_eq_true rfl⟩ ⟨Nat.le_refl 0, Nat.le_refl 0⟩ rfl rfl (Nat.le_of_ble_eq_true rfl) dX4_port_16 rfl (fun locs hL => ?_)
    refine lv_if_ne (tgt := 24) hx hb dX4_port_19 (by decide) (fun c2 => ?_) (fun c2 => ?_)
    · rw [if_pos (bI_p c2)] at h
      refine lv_aload_n hx hb dX4_port_24 rfl (lv_at hl 0 rfl) ?_
      refine lv_iload_n hx hb dX4_port_25 rfl (lv_at hl 3 rfl) ?_
      refine lv_iconst (v := 0) hx hb dX4_port_26 (by decide) ?_
      refine lv_sipush (v := 999) hx hb dX4_port_27 (by decide) ?_
      refine c_VP (a := 58) (ci := 4) (q := (RX4, TX4, 80)) (rest := []) (st1 := [.int (bI (f_X4_in a3 (0 : Int32) (999 : Int32) w))]) hx hb hml hown hts hK hR hF hL hl.1 (met_X4_in l G z H0 w a3 (0 : Int32) (999 : Int32) _ rfl) (congrArg Prod.fst (hF.2.1 58 (5, 0) rfl)) rfl rfl rfl hd_X4_in q1878 q1880 qs41 q104 q1881 ⟨Nat.le_of_ble_eq_true rfl, Nat.le_of_ble_eq_true rfl⟩ ⟨Nat.le_refl 0, Nat.le_refl 0⟩ rfl rfl (Nat.le_of_ble_eq_true rfl) dX4_port_30 rfl (fun locs hL => ?_)
      refine lv_if_ne (tgt := 39) hx hb dX4_port_33 (by decide) (fun c3 => ?_) (fun c3 => ?_)
      · rw [if_pos (bI_p c3)] at h
        refine lv_aload_n hx hb dX4_port_39 rfl (lv_at hl 0 rfl) ?_
        refine r_get (C := RX4) (T := TX4) (N := 80) hx hb hts ok4 hown hK hR (congrArg Prod.fst (hF.2.1 58 (5, 0) rfl)) rfl 65 (by decide) (hts _ q1698) (fun _ h9 => h9) (v := .ref (z + 96)) (fv_fix hF rfl rfl) dX4_port_40 ?_
        refine lv_bipush (v := 7) hx hb dX4_port_43 (by decide) ?_
        refine lv_iload_n hx hb dX4_port_45 rfl (lv_at hl 1 rfl) ?_
        refine lv_imul hx hb dX4_port_46 ?_
        refine lv_iload_n hx hb dX4_port_47 rfl (lv_at hl 2 rfl) ?_
        refine lv_iadd hx hb dX4_port_48 ?_
        obtain ⟨hb4, h⟩ := grd h
        refine r_iald (v := wI w 96 ((((7 : Int32) * a1) + a2).toNatClampNeg)) hx hb hK hR (hF.2.1 96 (200, 56) rfl) hb4 rfl dX4_port_49 ?_
        refine lv_istore (lv' := [(4, .int (wI w 96 ((((7 : Int32) * a1) + a2).toNatClampNeg))), (0, .ref (z + 58)), (1, .int a1), (2, .int a2), (3, .int a3)]) hx hb dX4_port_50 hl (by decide) rfl (fun ls hl => ?_)
        refine lv_aload_n hx hb dX4_port_52 rfl (lv_at hl 1 rfl) ?_
        refine r_get (C := RX4) (T := TX4) (N := 80) hx hb hts ok4 hown hK hR (congrArg Prod.fst (hF.2.1 58 (5, 0) rfl)) rfl 65 (by decide) (hts _ q1698) (fun _ h9 => h9) (v := .ref (z + 96)) (fv_fix hF rfl rfl) dX4_port_53 ?_
        refine lv_bipush (v := 7) hx hb dX4_port_56 (by decide) ?_
        refine lv_iload_n hx hb dX4_port_58 rfl (lv_at hl 2 rfl) ?_
        refine lv_imul hx hb dX4_port_59 ?_
        refine lv_iload_n hx hb dX4_port_60 rfl (lv_at hl 3 rfl) ?_
        refine lv_iadd hx hb dX4_port_61 ?_
        refine lv_iload_n hx hb dX4_port_62 rfl (lv_at hl 4 rfl) ?_
        obtain ⟨hb5, h⟩ := grd h
        refine r_iast hx hb hK hR hL (hF.2.1 96 (200, 56) rfl) hb5 dX4_port_63 (fun H locs hR hL => ?_)
        have hF := hF.sI 96 ((((7 : Int32) * a1) + a2).toNatClampNeg) a3
        refine lv_iload hx hb dX4_port_64 (lv_at hl 0 rfl) ?_
        have h := Option.some.inj h
        subst h
        exact W.iret (v := wI w 96 ((((7 : Int32) * a1) + a2).toNatClampNeg)) hx hb hr (fun t ht _ => ⟨rfl, by rw [ht]; exact hR, hF⟩) hL dX4_port_66
      · rw [if_neg (bI_n c3)] at h
        refine lv_bipush (v := -2) hx hb dX4_port_36 (by decide) ?_
        have h := Option.some.inj h
        subst h
        exact W.iret (v := (-2 : Int32)) hx hb hr (fun t ht _ => ⟨rfl, by rw [ht]; exact hR, hF⟩) hL dX4_port_38
    · rw [if_neg (bI_n c2)] at h
      refine lv_iconst (v := -1) hx hb dX4_port_22 (by decide) ?_
      have h := Option.some.inj h
      subst h
      exact W.iret (v := (-1 : Int32)) hx hb hr (fun t ht _ => ⟨rfl, by rw [ht]; exact hR, hF⟩) hL dX4_port_23
def f_X4_search_L208 (n : Nat) (u2_5 : Int32) (u2_3 : Int32) (u2_2 : Int32) (w : Wd) (s2 : Int32) : Option ((Int32) ⊕ ((Int32))) :=
  if inb (((7 : Int32) * u2_5) + s2) 56 then (if inb ((((31 : Int32) * (u2_5 + (1 : Int32))) + u2_3) - s2) 279 then (if inb (((31 : Int32) * u2_5) + u2_3) 279 then (if ((wI w 96 ((((7 : Int32) * u2_5) + s2).toNatClampNeg)) + (wI w 97 (((((31 : Int32) * (u2_5 + (1 : Int32))) + u2_3) - s2).toNatClampNeg))) = (wI w 97 ((((31 : Int32) * u2_5) + u2_3).toNatClampNeg)) then (some (.inr s2)) else (some (.inl (s2 + (1 : Int32))))) else none) else none) else none
def f_X4_search_L199 (n : Nat) (u1_2 : Int32) (w : Wd) (s1 : Int32 × Int32 × Int32) : Option ((Int32 × Int32 × Int32) ⊕ ((Int32 × Int32 × Int32))) :=
  if u1_2 < s1.1 then (some (.inr (s1.1, s1.2.1, s1.2.2))) else ((it n (f_X4_search_L208 n s1.1 s1.2.2 u1_2 w) (0 : Int32)).bind fun q208_260 => some (.inl (s1.1 + (1 : Int32), q208_260, s1.2.2 - q208_260)))
def f_X4_search_L84 (n : Nat) (u3_4 : Int32) (u3_3 : Int32) (u3_1 : Int32) (u3_2 : Int32) (s3 : Int32 × Wd) : Option ((Int32 × Wd) ⊕ ((Int32 × Wd))) :=
  if (6 : Int32) < s3.1 then (some (.inr (s3.1, s3.2))) else (if u3_4 < s3.1 then (some (.inr (s3.1, s3.2))) else (if inb (((7 : Int32) * u3_3) + s3.1) 56 then (if inb ((((31 : Int32) * (u3_3 + (1 : Int32))) + u3_4) - s3.1) 279 then (if inb (((31 : Int32) * u3_3) + u3_4) 279 then (if ((wI s3.2 96 ((((7 : Int32) * u3_3) + s3.1).toNatClampNeg)) + (wI s3.2 97 (((((31 : Int32) * (u3_3 + (1 : Int32))) + u3_4) - s3.1).toNatClampNeg))) ≤ (wI s3.2 97 ((((31 : Int32) * u3_3) + u3_4).toNatClampNeg)) then (some (.inl (s3.1 + (1 : Int32), s3.2))) else (if inb (((31 : Int32) * u3_3) + u3_4) 279 then (some (.inl (s3.1 + (1 : Int32), sI s3.2 97 ((((31 : Int32) * u3_3) + u3_4).toNatClampNeg) ((wI s3.2 96 ((((7 : Int32) * u3_3) + s3.1).toNatClampNeg)) + (wI s3.2 97 (((((31 : Int32) * (u3_3 + (1 : Int32))) + u3_4) - s3.1).toNatClampNeg)))))) else none)) else none) else none) else none))
def f_X4_search_L62 (n : Nat) (u2_3 : Int32) (u2_1 : Int32) (u2_2 : Int32) (s2 : Int32 × Wd) : Option ((Int32 × Wd) ⊕ ((Int32 × Wd))) :=
  if u2_1 < s2.1 then (some (.inr (s2.1, s2.2))) else (if inb (((31 : Int32) * u2_3) + s2.1) 279 then ((it n (f_X4_search_L84 n s2.1 u2_3 u2_1 u2_2) ((0 : Int32), sI s2.2 97 ((((31 : Int32) * u2_3) + s2.1).toNatClampNeg) (0 : Int32))).bind fun q84_167 => some (.inl (s2.1 + (1 : Int32), q84_167.2))) else none)
def f_X4_search_L55 (n : Nat) (u1_1 : Int32) (u1_2 : Int32) (s1 : Int32 × Wd) : Option ((Int32 × Wd) ⊕ ((Int32 × Wd))) :=
  if s1.1 < 0 then (some (.inr (s1.1, s1.2))) else ((it n (f_X4_search_L62 n s1.1 u1_1 u1_2) ((0 : Int32), s1.2)).bind fun q62_173 => some (.inl (s1.1 + (-1 : Int32), q62_173.2)))
def f_X4_search_L29 (n : Nat) (u1_1 : Int32) (u1_2 : Int32) (s1 : Int32 × Wd) : Option ((Int32 × Wd) ⊕ ((Int32 × Wd))) :=
  if (30 : Int32) < s1.1 then (some (.inr (s1.1, s1.2))) else (if inb ((248 : Int32) + s1.1) 279 then (some (.inl (s1.1 + (1 : Int32), sI s1.2 97 (((248 : Int32) + s1.1).toNatClampNeg) (0 : Int32)))) else none)
def f_X4_search (n : Nat) (a1 : Int32) (a2 : Int32) (w : Wd) : Option (Int32 × Wd) :=
  if (f_X4_in a2 (-1 : Int32) (7 : Int32) w) then (if (f_X4_in a1 (0 : Int32) (30 : Int32) w) then ((it n (f_X4_search_L29 n a1 a2) ((0 : Int32), w)).bind fun q29_52 => (it n (f_X4_search_L55 n a1 a2) ((7 : Int32), q29_52.2)).bind fun q55_179 => if a2 = (-1 : Int32) then (if inb a1 279 then (some (wI q55_179.2 97 a1.toNatClampNeg, q55_179.2)) else none) else ((it n (f_X4_search_L199 n a2 q55_179.2) ((0 : Int32), (0 : Int32), a1)).bind fun q199_271 => some (q199_271.2.1, q55_179.2))) else (some ((-2 : Int32), w))) else (some ((-1 : Int32), w))
theorem hd_X4_search : yX4_search.cls = RX4 ∧ yX4_search.cls ≠ "java/lang/invoke/MethodHandle" ∧ yX4_search.cls ≠ "java/lang/invoke/VarHandle" ∧ (parseMethodDescriptor yX4_search.desc).map (fun d => d.parameters.length) = some 2 := by decide +kernel
set_option maxHeartbeats 4000000 in
set_option maxRecDepth 100000 in
theorem met_X4_search (l : Launch) (G : Gw) (z : Nat) (H0 : Heap) (n : Nat) (w : Wd) (a1 : Int32) (a2 : Int32) (q : Int32 × Wd) (h : f_X4_search n a1 a2 w = some q) : Met l yX4_search (ws_ yX4_search cX4_search 7 (some .int)) ({ frames := 1, cells := 0, slots := 0, locals := 23 } : Room) (pcW G z H0 w [.ref (z + 58), .int a1, .int a2]) (qW G z H0 q.2 (some (.int q.1))) 0 0 (fun q => z ≤ q) := by
  refine mW (by decide) (Nat.le_of_ble_eq_true rfl) ?_
  intro p e s m below meth c ls hx hb hr hml hown hts hlocks hnm hK hR hF hl
  have hown : s.vm.findClass RX4 = some m.cls := hown
  have hl : lv_has ls 7 [(0, .ref (z + 58)), (1, .int a1), (2, .int a2)] := hl
  have hL : lok z [] := lok_nil
  unfold f_X4_search at h
  generalize s.heap = H at hR ⊢
  generalize ([] : List Loc) = locs at hL ⊢
  refine lv_aload_n hx hb dX4_search_0 rfl (lv_at hl 0 rfl) ?_
  refine lv_iload_n hx hb dX4_search_1 rfl (lv_at hl 2 rfl) ?_
  refine lv_iconst (v := -1) hx hb dX4_search_2 (by decide) ?_
  refine lv_bipush (v := 7) hx hb dX4_search_3 (by decide) ?_
  refine c_VP (a := 58) (ci := 4) (q := (RX4, TX4, 80)) (rest := []) (st1 := [.int (bI (f_X4_in a2 (-1 : Int32) (7 : Int32) w))]) hx hb hml hown hts hK hR hF hL hl.1 (met_X4_in l G z H0 w a2 (-1 : Int32) (7 : Int32) _ rfl) (congrArg Prod.fst (hF.2.1 58 (5, 0) rfl)) rfl rfl rfl hd_X4_in q1878 q1880 qs41 q104 q1881 ⟨Nat.le_of_ble_eq_true rfl, Nat.le_of_ble_eq_true rfl⟩ ⟨Nat.le_refl 0, Nat.le_refl 0⟩ rfl rfl (Nat.le_of_ble_eq_true rfl) dX4_search_5 rfl (fun locs hL => ?_)
  refine lv_if_ne (tgt := 13) hx hb dX4_search_8 (by decide) (fun c1 => ?_) (fun c1 => ?_)
  · rw [if_pos (bI_p c1)] at h
    refine lv_aload_n hx hb dX4_search_13 rfl (lv_at hl 0 rfl) ?_
    refine lv_iload_n hx hb dX4_search_14 rfl (lv_at hl 1 rfl) ?_
    refine lv_iconst (v := 0) hx hb dX4_search_15 (by decide) ?_
    refine lv_bipush (v := 30) hx hb dX4_search_16 (by decide) ?_
    refine c_VP (a := 58) (ci := 4) (q := (RX4, TX4, 80)) (rest := []) (st1 := [.int (bI (f_X4_in a1 (0 : Int32) (30 : Int32) w))]) hx hb hml hown hts hK hR hF hL hl.1 (met_X4_in l G z H0 w a1 (0 : Int32) (30 : Int32) _ rfl) (congrArg Prod.fst (hF.2.1 58 (5, 0) rfl)) rfl rfl rfl hd_X4_in q1878 q1880 qs41 q104 q1881 ⟨Nat.le_of_ble_eq_true rfl, Nat.le_of_ble_eq_true rfl⟩ ⟨Nat.le_refl 0, Nat.le_refl 0⟩ rfl rfl (Nat.le_of_ble_eq_true rfl) dX4_search_18 rfl (fun locs hL => ?_)
    refine lv_if_ne (tgt := 27) hx hb dX4_search_21 (by decide) (fun c2 => ?_) (fun c2 => ?_)
    · rw [if_pos (bI_p c2)] at h
      refine lv_iconst (v := 0) hx hb dX4_search_27 (by decide) ?_
      refine lv_istore_n (lv' := [(3, .int (0 : Int32)), (0, .ref (z + 58)), (1, .int a1), (2, .int a2)]) hx hb dX4_search_28 rfl hl (by decide) rfl (fun ls hl => ?_)
      have hX29_52 : ∀ (q29_52 : Int32 × Wd), ((it n (f_X4_search_L55 n a1 a2) ((7 : Int32), q29_52.2)).bind fun q55_179 => if a2 = (-1 : Int32) then (if inb a1 279 then (some (wI q55_179.2 97 a1.toNatClampNeg, q55_179.2)) else none) else ((it n (f_X4_search_L199 n a2 q55_179.2) ((0 : Int32), (0 : Int32), a1)).bind fun q199_271 => some (q199_271.2.1, q55_179.2))) = some q → ∀ (H : Heap) (locs : List Loc) (ls : Array Slot), Rp G z H0 q29_52.2 H → Fix q29_52.2 → lok z locs → lv_has ls 7 [(0, .ref (z + 58)), (1, .int a1), (2, .int a2)] → W p l e ({ frames := 1, cells := 0, slots := 0, locals := 23 } : Room) s m ([.ref (z + 58), .int a1, .int a2] : List Value).toArray below meth c H locs 0 0 (MQ below (qW G z H0 q.2 (some (.int q.1))) ([.ref (z + 58), .int a1, .int a2] : List Value).toArray s 0 0 (fun q => z ≤ q)) (F0 m 52 ls []) := by
        intro q29_52 h H locs ls hR hF hL hl
        refine lv_bipush (v := 7) hx hb dX4_search_52 (by decide) ?_
        refine lv_istore_n (lv' := [(3, .int (7 : Int32)), (0, .ref (z + 58)), (1, .int a1), (2, .int a2)]) hx hb dX4_search_54 rfl hl (by decide) rfl (fun ls hl => ?_)
        have hX55_179 : ∀ (q55_179 : Int32 × Wd), (if a2 = (-1 : Int32) then (if inb a1 279 then (some (wI q55_179.2 97 a1.toNatClampNeg, q55_179.2)) else none) else ((it n (f_X4_search_L199 n a2 q55_179.2) ((0 : Int32), (0 : Int32), a1)).bind fun q199_271 => some (q199_271.2.1, q55_179.2))) = some q → ∀ (H : Heap) (locs : List Loc) (ls : Array Slot), Rp G z H0 q55_179.2 H → Fix q55_179.2 → lok z locs → lv_has ls 7 [(0, .ref (z + 58)), (1, .int a1), (2, .int a2)] → W p l e ({ frames := 1, cells := 0, slots := 0, locals := 23 } : Room) s m ([.ref (z + 58), .int a1, .int a2] : List Value).toArray below meth c H locs 0 0 (MQ below (qW G z H0 q.2 (some (.int q.1))) ([.ref (z + 58), .int a1, .int a2] : List Value).toArray s 0 0 (fun q => z ≤ q)) (F0 m 179 ls []) := by
          intro q55_179 h H locs ls hR hF hL hl
          refine lv_iload_n hx hb dX4_search_179 rfl (lv_at hl 2 rfl) ?_
          refine lv_iconst (v := -1) hx hb dX4_search_180 (by decide) ?_
          refine lv_icmp_ne (tgt := 191) hx hb dX4_search_181 (by decide) (fun c3 => ?_) (fun c3 => ?_)
          · rw [if_neg c3] at h
            refine lv_iload_n hx hb dX4_search_191 rfl (lv_at hl 1 rfl) ?_
            refine lv_istore_n (lv' := [(3, .int a1), (0, .ref (z + 58)), (1, .int a1), (2, .int a2)]) hx hb dX4_search_192 rfl hl (by decide) rfl (fun ls hl => ?_)
            refine lv_iconst (v := 0) hx hb dX4_search_193 (by decide) ?_
            refine lv_istore (lv' := [(4, .int (0 : Int32)), (3, .int a1), (0, .ref (z + 58)), (1, .int a1), (2, .int a2)]) hx hb dX4_search_194 hl (by decide) rfl (fun ls hl => ?_)
            refine lv_iconst (v := 0) hx hb dX4_search_196 (by decide) ?_
            refine lv_istore (lv' := [(5, .int (0 : Int32)), (4, .int (0 : Int32)), (3, .int a1), (0, .ref (z + 58)), (1, .int a1), (2, .int a2)]) hx hb dX4_search_197 hl (by decide) rfl (fun ls hl => ?_)
            have hX199_271 : ∀ (q199_271 : Int32 × Int32 × Int32), (some (q199_271.2.1, q55_179.2)) = some q → ∀ (locs : List Loc) (ls : Array Slot), lok z locs → lv_has ls 7 [(4, .int q199_271.2.1)] → W p l e ({ frames := 1, cells := 0, slots := 0, locals := 23 } : Room) s m ([.ref (z + 58), .int a1, .int a2] : List Value).toArray below meth c H locs 0 0 (MQ below (qW G z H0 q.2 (some (.int q.1))) ([.ref (z + 58), .int a1, .int a2] : List Value).toArray s 0 0 (fun q => z ≤ q)) (F0 m 271 ls []) := by
              intro q199_271 h locs ls hL hl
              refine lv_iload hx hb dX4_search_271 (lv_at hl 0 rfl) ?_
              have h := Option.some.inj h
              subst h
              exact W.iret (v := q199_271.2.1) hx hb hr (fun t ht _ => ⟨rfl, by rw [ht]; exact hR, hF⟩) hL dX4_search_273
            obtain ⟨t11, hq12, h⟩ := bnd h
            refine it_W (b := f_X4_search_L199 n a2 q55_179.2) (P := fun (s1 : Int32 × Int32 × Int32) => ∀ (locs : List Loc) (ls : Array Slot), lok z locs → lv_has ls 7 [(5, .int s1.1), (4, .int s1.2.1), (3, .int s1.2.2), (0, .ref (z + 58)), (2, .int a2)] → W p l e ({ frames := 1, cells := 0, slots := 0, locals := 23 } : Room) s m ([.ref (z + 58), .int a1, .int a2] : List Value).toArray below meth c H locs 0 0 (MQ below (qW G z H0 q.2 (some (.int q.1))) ([.ref (z + 58), .int a1, .int a2] : List Value).toArray s 0 0 (fun q => z ≤ q)) (F0 m 199 ls [])) (K := fun q199_271 => (some (q199_271.2.1, q55_179.2)) = some q) (fun s1 x1 h hc1 ht1 => ?_) n ((0 : Int32), (0 : Int32), a1) t11 hq12 h locs ls hL (lv_sub hl [0, 1, 2, 3, 5] rfl)
            intro locs ls hL hl
            unfold f_X4_search_L199 at h
            refine lv_iload hx hb dX4_search_199 (lv_at hl 0 rfl) ?_
            refine lv_iload_n hx hb dX4_search_201 rfl (lv_at hl 4 rfl) ?_
            refine lv_icmp_gt (tgt := 271) hx hb dX4_search_202 (by decide) (fun c4 => ?_) (fun c4 => ?_)
            · rw [if_pos c4] at h
              exact hX199_271 (s1.1, s1.2.1, s1.2.2) (ht1 _ (Option.some.inj h).symm) locs ls hL (lv_sub hl [1] rfl)
            · rw [if_neg c4] at h
              refine lv_iconst (v := 0) hx hb dX4_search_205 (by decide) ?_
              refine lv_istore (lv' := [(4, .int (0 : Int32)), (5, .int s1.1), (3, .int s1.2.2), (0, .ref (z + 58)), (2, .int a2)]) hx hb dX4_search_206 hl (by decide) rfl (fun ls hl => ?_)
              have hX208_260 : ∀ (q208_260 : Int32), (some (.inl (s1.1 + (1 : Int32), q208_260, s1.2.2 - q208_260))) = some x1 → ∀ (locs : List Loc) (ls : Array Slot), lok z locs → lv_has ls 7 [(4, .int q208_260), (5, .int s1.1), (3, .int s1.2.2), (0, .ref (z + 58)), (2, .int a2)] → W p l e ({ frames := 1, cells := 0, slots := 0, locals := 23 } : Room) s m ([.ref (z + 58), .int a1, .int a2] : List Value).toArray below meth c H locs 0 0 (MQ below (qW G z H0 q.2 (some (.int q.1))) ([.ref (z + 58), .int a1, .int a2] : List Value).toArray s 0 0 (fun q => z ≤ q)) (F0 m 260 ls []) := by
                intro q208_260 h locs ls hL hl
                refine lv_iload_n hx hb dX4_search_260 rfl (lv_at hl 2 rfl) ?_
                refine lv_iload hx hb dX4_search_261 (lv_at hl 0 rfl) ?_
                refine lv_isub hx hb dX4_search_263 ?_
                refine lv_istore_n (lv' := [(3, .int (s1.2.2 - q208_260)), (4, .int q208_260), (5, .int s1.1), (0, .ref (z + 58)), (2, .int a2)]) hx hb dX4_search_264 rfl hl (by decide) rfl (fun ls hl => ?_)
                refine lv_iinc (v := s1.1 + (1 : Int32)) (lv' := [(5, .int (s1.1 + (1 : Int32))), (3, .int (s1.2.2 - q208_260)), (4, .int q208_260), (0, .ref (z + 58)), (2, .int a2)]) hx hb dX4_search_265 hl (k := 2) rfl rfl (by decide) rfl (fun ls hl => ?_)
                refine lv_goto (tgt := 199) hx hb dX4_search_268 (by decide) ?_
                exact hc1 _ (Option.some.inj h).symm locs ls hL (lv_sub hl [0, 2, 1, 3, 4] rfl)
              obtain ⟨t9, hq10, h⟩ := bnd h
              refine it_W (b := f_X4_search_L208 n s1.1 s1.2.2 a2 q55_179.2) (P := fun (s2 : Int32) => ∀ (locs : List Loc) (ls : Array Slot), lok z locs → lv_has ls 7 [(4, .int s2), (5, .int s1.1), (3, .int s1.2.2), (0, .ref (z + 58)), (2, .int a2)] → W p l e ({ frames := 1, cells := 0, slots := 0, locals := 23 } : Room) s m ([.ref (z + 58), .int a1, .int a2] : List Value).toArray below meth c H locs 0 0 (MQ below (qW G z H0 q.2 (some (.int q.1))) ([.ref (z + 58), .int a1, .int a2] : List Value).toArray s 0 0 (fun q => z ≤ q)) (F0 m 208 ls [])) (K := fun q208_260 => (some (.inl (s1.1 + (1 : Int32), q208_260, s1.2.2 - q208_260))) = some x1) (fun s2 x2 h hc2 ht2 => ?_) n (0 : Int32) t9 hq10 h locs ls hL (lv_sub hl [0, 1, 2, 3, 4] rfl)
              intro locs ls hL hl
              unfold f_X4_search_L208 at h
              refine lv_aload_n hx hb dX4_search_208 rfl (lv_at hl 3 rfl) ?_
              refine r_get (C := RX4) (T := TX4) (N := 80) hx hb hts ok4 hown hK hR (congrArg Prod.fst (hF.2.1 58 (5, 0) rfl)) rfl 65 (by decide) (hts _ q1698) (fun _ h9 => h9) (v := .ref (z + 96)) (fv_fix hF rfl rfl) dX4_search_209 ?_
              refine lv_bipush (v := 7) hx hb dX4_search_212 (by decide) ?_
              refine lv_iload hx hb dX4_search_214 (lv_at hl 1 rfl) ?_
              refine lv_imul hx hb dX4_search_216 ?_
              refine lv_iload hx hb dX4_search_217 (lv_at hl 0 rfl) ?_
              refine lv_iadd hx hb dX4_search_219 ?_
              obtain ⟨hb5, h⟩ := grd h
              refine r_iald (v := wI q55_179.2 96 ((((7 : Int32) * s1.1) + s2).toNatClampNeg)) hx hb hK hR (hF.2.1 96 (200, 56) rfl) hb5 rfl dX4_search_220 ?_
              refine lv_aload_n hx hb dX4_search_221 rfl (lv_at hl 3 rfl) ?_
              refine r_get (C := RX4) (T := TX4) (N := 80) hx hb hts ok4 hown hK hR (congrArg Prod.fst (hF.2.1 58 (5, 0) rfl)) rfl 66 (by decide) (hts _ q1699) (fun _ h9 => h9) (v := .ref (z + 97)) (fv_fix hF rfl rfl) dX4_search_222 ?_
              refine lv_bipush (v := 31) hx hb dX4_search_225 (by decide) ?_
              refine lv_iload hx hb dX4_search_227 (lv_at hl 1 rfl) ?_
              refine lv_iconst (v := 1) hx hb dX4_search_229 (by decide) ?_
              refine lv_iadd hx hb dX4_search_230 ?_
              refine lv_imul hx hb dX4_search_231 ?_
              refine lv_iload_n hx hb dX4_search_232 rfl (lv_at hl 2 rfl) ?_
              refine lv_iadd hx hb dX4_search_233 ?_
              refine lv_iload hx hb dX4_search_234 (lv_at hl 0 rfl) ?_
              refine lv_isub hx hb dX4_search_236 ?_
              obtain ⟨hb6, h⟩ := grd h
              refine r_iald (v := wI q55_179.2 97 (((((31 : Int32) * (s1.1 + (1 : Int32))) + s1.2.2) - s2).toNatClampNeg)) hx hb hK hR (hF.2.1 97 (200, 279) rfl) hb6 rfl dX4_search_237 ?_
              refine lv_iadd hx hb dX4_search_238 ?_
              refine lv_aload_n hx hb dX4_search_239 rfl (lv_at hl 3 rfl) ?_
              refine r_get (C := RX4) (T := TX4) (N := 80) hx hb hts ok4 hown hK hR (congrArg Prod.fst (hF.2.1 58 (5, 0) rfl)) rfl 66 (by decide) (hts _ q1699) (fun _ h9 => h9) (v := .ref (z + 97)) (fv_fix hF rfl rfl) dX4_search_240 ?_
              refine lv_bipush (v := 31) hx hb dX4_search_243 (by decide) ?_
              refine lv_iload hx hb dX4_search_245 (lv_at hl 1 rfl) ?_
              refine lv_imul hx hb dX4_search_247 ?_
              refine lv_iload_n hx hb dX4_search_248 rfl (lv_at hl 2 rfl) ?_
              refine lv_iadd hx hb dX4_search_249 ?_
              obtain ⟨hb7, h⟩ := grd h
              refine r_iald (v := wI q55_179.2 97 ((((31 : Int32) * s1.1) + s1.2.2).toNatClampNeg)) hx hb hK hR (hF.2.1 97 (200, 279) rfl) hb7 rfl dX4_search_250 ?_
              refine lv_icmp_eq (tgt := 260) hx hb dX4_search_251 (by decide) (fun c8 => ?_) (fun c8 => ?_)
              · rw [if_pos c8] at h
                exact hX208_260 s2 (ht2 _ (Option.some.inj h).symm) locs ls hL (lv_sub hl [0, 1, 2, 3, 4] rfl)
              · rw [if_neg c8] at h
                refine lv_iinc (v := s2 + (1 : Int32)) (lv' := [(4, .int (s2 + (1 : Int32))), (5, .int s1.1), (3, .int s1.2.2), (0, .ref (z + 58)), (2, .int a2)]) hx hb dX4_search_254 hl (k := 0) rfl rfl (by decide) rfl (fun ls hl => ?_)
                refine lv_goto (tgt := 208) hx hb dX4_search_257 (by decide) ?_
                exact hc2 _ (Option.some.inj h).symm locs ls hL (lv_sub hl [0, 1, 2, 3, 4] rfl)
          · rw [if_pos c3] at h
            refine lv_aload_n hx hb dX4_search_184 rfl (lv_at hl 0 rfl) ?_
            refine r_get (C := RX4) (T := TX4) (N := 80) hx hb hts ok4 hown hK hR (congrArg Prod.fst (hF.2.1 58 (5, 0) rfl)) rfl 66 (by decide) (hts _ q1699) (fun _ h9 => h9) (v := .ref (z + 97)) (fv_fix hF rfl rfl) dX4_search_185 ?_
            refine lv_iload_n hx hb dX4_search_188 rfl (lv_at hl 1 rfl) ?_
            obtain ⟨hb13, h⟩ := grd h
            refine r_iald (v := wI q55_179.2 97 a1.toNatClampNeg) hx hb hK hR (hF.2.1 97 (200, 279) rfl) hb13 rfl dX4_search_189 ?_
            have h := Option.some.inj h
            subst h
            exact W.iret (v := wI q55_179.2 97 a1.toNatClampNeg) hx hb hr (fun t ht _ => ⟨rfl, by rw [ht]; exact hR, hF⟩) hL dX4_search_190
        obtain ⟨t28, hq29, h⟩ := bnd h
        refine it_W (b := f_X4_search_L55 n a1 a2) (P := fun (s1 : Int32 × Wd) => ∀ (H : Heap) (locs : List Loc) (ls : Array Slot), Rp G z H0 s1.2 H → Fix s1.2 → lok z locs → lv_has ls 7 [(3, .int s1.1), (0, .ref (z + 58)), (1, .int a1), (2, .int a2)] → W p l e ({ frames := 1, cells := 0, slots := 0, locals := 23 } : Room) s m ([.ref (z + 58), .int a1, .int a2] : List Value).toArray below meth c H locs 0 0 (MQ below (qW G z H0 q.2 (some (.int q.1))) ([.ref (z + 58), .int a1, .int a2] : List Value).toArray s 0 0 (fun q => z ≤ q)) (F0 m 55 ls [])) (K := fun q55_179 => (if a2 = (-1 : Int32) then (if inb a1 279 then (some (wI q55_179.2 97 a1.toNatClampNeg, q55_179.2)) else none) else ((it n (f_X4_search_L199 n a2 q55_179.2) ((0 : Int32), (0 : Int32), a1)).bind fun q199_271 => some (q199_271.2.1, q55_179.2))) = some q) (fun s1 x1 h hc1 ht1 => ?_) n ((7 : Int32), q29_52.2) t28 hq29 h H locs ls hR hF hL (lv_sub hl [0, 1, 2, 3] rfl)
        intro H locs ls hR hF hL hl
        unfold f_X4_search_L55 at h
        refine lv_iload_n hx hb dX4_search_55 rfl (lv_at hl 0 rfl) ?_
        refine lv_if_lt (tgt := 179) hx hb dX4_search_56 (by decide) (fun c14 => ?_) (fun c14 => ?_)
        · rw [if_pos c14] at h
          exact hX55_179 (s1.1, s1.2) (ht1 _ (Option.some.inj h).symm) H locs ls hR hF hL (lv_sub hl [1, 2, 3] rfl)
        · rw [if_neg c14] at h
          refine lv_iconst (v := 0) hx hb dX4_search_59 (by decide) ?_
          refine lv_istore (lv' := [(4, .int (0 : Int32)), (3, .int s1.1), (0, .ref (z + 58)), (1, .int a1), (2, .int a2)]) hx hb dX4_search_60 hl (by decide) rfl (fun ls hl => ?_)
          have hX62_173 : ∀ (q62_173 : Int32 × Wd), (some (.inl (s1.1 + (-1 : Int32), q62_173.2))) = some x1 → ∀ (H : Heap) (locs : List Loc) (ls : Array Slot), Rp G z H0 q62_173.2 H → Fix q62_173.2 → lok z locs → lv_has ls 7 [(3, .int s1.1), (0, .ref (z + 58)), (1, .int a1), (2, .int a2)] → W p l e ({ frames := 1, cells := 0, slots := 0, locals := 23 } : Room) s m ([.ref (z + 58), .int a1, .int a2] : List Value).toArray below meth c H locs 0 0 (MQ below (qW G z H0 q.2 (some (.int q.1))) ([.ref (z + 58), .int a1, .int a2] : List Value).toArray s 0 0 (fun q => z ≤ q)) (F0 m 173 ls []) := by
            intro q62_173 h H locs ls hR hF hL hl
            refine lv_iinc (v := s1.1 + (-1 : Int32)) (lv' := [(3, .int (s1.1 + (-1 : Int32))), (0, .ref (z + 58)), (1, .int a1), (2, .int a2)]) hx hb dX4_search_173 hl (k := 0) rfl rfl (by decide) rfl (fun ls hl => ?_)
            refine lv_goto (tgt := 55) hx hb dX4_search_176 (by decide) ?_
            exact hc1 _ (Option.some.inj h).symm H locs ls hR hF hL (lv_sub hl [0, 1, 2, 3] rfl)
          obtain ⟨t26, hq27, h⟩ := bnd h
          refine it_W (b := f_X4_search_L62 n s1.1 a1 a2) (P := fun (s2 : Int32 × Wd) => ∀ (H : Heap) (locs : List Loc) (ls : Array Slot), Rp G z H0 s2.2 H → Fix s2.2 → lok z locs → lv_has ls 7 [(4, .int s2.1), (3, .int s1.1), (0, .ref (z + 58)), (1, .int a1), (2, .int a2)] → W p l e ({ frames := 1, cells := 0, slots := 0, locals := 23 } : Room) s m ([.ref (z + 58), .int a1, .int a2] : List Value).toArray below meth c H locs 0 0 (MQ below (qW G z H0 q.2 (some (.int q.1))) ([.ref (z + 58), .int a1, .int a2] : List Value).toArray s 0 0 (fun q => z ≤ q)) (F0 m 62 ls [])) (K := fun q62_173 => (some (.inl (s1.1 + (-1 : Int32), q62_173.2))) = some x1) (fun s2 x2 h hc2 ht2 => ?_) n ((0 : Int32), s1.2) t26 hq27 h H locs ls hR hF hL (lv_sub hl [0, 1, 2, 3, 4] rfl)
          intro H locs ls hR hF hL hl
          unfold f_X4_search_L62 at h
          refine lv_iload hx hb dX4_search_62 (lv_at hl 0 rfl) ?_
          refine lv_iload_n hx hb dX4_search_64 rfl (lv_at hl 3 rfl) ?_
          refine lv_icmp_gt (tgt := 173) hx hb dX4_search_65 (by decide) (fun c15 => ?_) (fun c15 => ?_)
          · rw [if_pos c15] at h
            exact hX62_173 (s2.1, s2.2) (ht2 _ (Option.some.inj h).symm) H locs ls hR hF hL (lv_sub hl [1, 2, 3, 4] rfl)
          · rw [if_neg c15] at h
            refine lv_aload_n hx hb dX4_search_68 rfl (lv_at hl 2 rfl) ?_
            refine r_get (C := RX4) (T := TX4) (N := 80) hx hb hts ok4 hown hK hR (congrArg Prod.fst (hF.2.1 58 (5, 0) rfl)) rfl 66 (by decide) (hts _ q1699) (fun _ h9 => h9) (v := .ref (z + 97)) (fv_fix hF rfl rfl) dX4_search_69 ?_
            refine lv_bipush (v := 31) hx hb dX4_search_72 (by decide) ?_
            refine lv_iload_n hx hb dX4_search_74 rfl (lv_at hl 1 rfl) ?_
            refine lv_imul hx hb dX4_search_75 ?_
            refine lv_iload hx hb dX4_search_76 (lv_at hl 0 rfl) ?_
            refine lv_iadd hx hb dX4_search_78 ?_
            refine lv_iconst (v := 0) hx hb dX4_search_79 (by decide) ?_
            obtain ⟨hb16, h⟩ := grd h
            refine r_iast hx hb hK hR hL (hF.2.1 97 (200, 279) rfl) hb16 dX4_search_80 (fun H locs hR hL => ?_)
            have hF := hF.sI 97 ((((31 : Int32) * s1.1) + s2.1).toNatClampNeg) (0 : Int32)
            refine lv_iconst (v := 0) hx hb dX4_search_81 (by decide) ?_
            refine lv_istore (lv' := [(5, .int (0 : Int32)), (4, .int s2.1), (3, .int s1.1), (0, .ref (z + 58)), (1, .int a1), (2, .int a2)]) hx hb dX4_search_82 hl (by decide) rfl (fun ls hl => ?_)
            have hX84_167 : ∀ (q84_167 : Int32 × Wd), (some (.inl (s2.1 + (1 : Int32), q84_167.2))) = some x2 → ∀ (H : Heap) (locs : List Loc) (ls : Array Slot), Rp G z H0 q84_167.2 H → Fix q84_167.2 → lok z locs → lv_has ls 7 [(4, .int s2.1), (3, .int s1.1), (0, .ref (z + 58)), (1, .int a1), (2, .int a2)] → W p l e ({ frames := 1, cells := 0, slots := 0, locals := 23 } : Room) s m ([.ref (z + 58), .int a1, .int a2] : List Value).toArray below meth c H locs 0 0 (MQ below (qW G z H0 q.2 (some (.int q.1))) ([.ref (z + 58), .int a1, .int a2] : List Value).toArray s 0 0 (fun q => z ≤ q)) (F0 m 167 ls []) := by
              intro q84_167 h H locs ls hR hF hL hl
              refine lv_iinc (v := s2.1 + (1 : Int32)) (lv' := [(4, .int (s2.1 + (1 : Int32))), (3, .int s1.1), (0, .ref (z + 58)), (1, .int a1), (2, .int a2)]) hx hb dX4_search_167 hl (k := 0) rfl rfl (by decide) rfl (fun ls hl => ?_)
              refine lv_goto (tgt := 62) hx hb dX4_search_170 (by decide) ?_
              exact hc2 _ (Option.some.inj h).symm H locs ls hR hF hL (lv_sub hl [0, 1, 2, 3, 4] rfl)
            obtain ⟨t24, hq25, h⟩ := bnd h
            refine it_W (b := f_X4_search_L84 n s2.1 s1.1 a1 a2) (P := fun (s3 : Int32 × Wd) => ∀ (H : Heap) (locs : List Loc) (ls : Array Slot), Rp G z H0 s3.2 H → Fix s3.2 → lok z locs → lv_has ls 7 [(5, .int s3.1), (4, .int s2.1), (3, .int s1.1), (0, .ref (z + 58)), (1, .int a1), (2, .int a2)] → W p l e ({ frames := 1, cells := 0, slots := 0, locals := 23 } : Room) s m ([.ref (z + 58), .int a1, .int a2] : List Value).toArray below meth c H locs 0 0 (MQ below (qW G z H0 q.2 (some (.int q.1))) ([.ref (z + 58), .int a1, .int a2] : List Value).toArray s 0 0 (fun q => z ≤ q)) (F0 m 84 ls [])) (K := fun q84_167 => (some (.inl (s2.1 + (1 : Int32), q84_167.2))) = some x2) (fun s3 x3 h hc3 ht3 => ?_) n ((0 : Int32), sI s2.2 97 ((((31 : Int32) * s1.1) + s2.1).toNatClampNeg) (0 : Int32)) t24 hq25 h H locs ls hR hF hL (lv_sub hl [0, 1, 2, 3, 4, 5] rfl)
            intro H locs ls hR hF hL hl
            unfold f_X4_search_L84 at h
            refine lv_iload hx hb dX4_search_84 (lv_at hl 0 rfl) ?_
            refine lv_bipush (v := 6) hx hb dX4_search_86 (by decide) ?_
            refine lv_icmp_gt (tgt := 167) hx hb dX4_search_88 (by decide) (fun c17 => ?_) (fun c17 => ?_)
            · rw [if_pos c17] at h
              exact hX84_167 (s3.1, s3.2) (ht3 _ (Option.some.inj h).symm) H locs ls hR hF hL (lv_sub hl [1, 2, 3, 4, 5] rfl)
            · rw [if_neg c17] at h
              refine lv_iload hx hb dX4_search_91 (lv_at hl 0 rfl) ?_
              refine lv_iload hx hb dX4_search_93 (lv_at hl 1 rfl) ?_
              refine lv_icmp_gt (tgt := 167) hx hb dX4_search_95 (by decide) (fun c18 => ?_) (fun c18 => ?_)
              · rw [if_pos c18] at h
                exact hX84_167 (s3.1, s3.2) (ht3 _ (Option.some.inj h).symm) H locs ls hR hF hL (lv_sub hl [1, 2, 3, 4, 5] rfl)
              · rw [if_neg c18] at h
                refine lv_aload_n hx hb dX4_search_98 rfl (lv_at hl 3 rfl) ?_
                refine r_get (C := RX4) (T := TX4) (N := 80) hx hb hts ok4 hown hK hR (congrArg Prod.fst (hF.2.1 58 (5, 0) rfl)) rfl 65 (by decide) (hts _ q1698) (fun _ h9 => h9) (v := .ref (z + 96)) (fv_fix hF rfl rfl) dX4_search_99 ?_
                refine lv_bipush (v := 7) hx hb dX4_search_102 (by decide) ?_
                refine lv_iload_n hx hb dX4_search_104 rfl (lv_at hl 2 rfl) ?_
                refine lv_imul hx hb dX4_search_105 ?_
                refine lv_iload hx hb dX4_search_106 (lv_at hl 0 rfl) ?_
                refine lv_iadd hx hb dX4_search_108 ?_
                obtain ⟨hb19, h⟩ := grd h
                refine r_iald (v := wI s3.2 96 ((((7 : Int32) * s1.1) + s3.1).toNatClampNeg)) hx hb hK hR (hF.2.1 96 (200, 56) rfl) hb19 rfl dX4_search_109 ?_
                refine lv_aload_n hx hb dX4_search_110 rfl (lv_at hl 3 rfl) ?_
                refine r_get (C := RX4) (T := TX4) (N := 80) hx hb hts ok4 hown hK hR (congrArg Prod.fst (hF.2.1 58 (5, 0) rfl)) rfl 66 (by decide) (hts _ q1699) (fun _ h9 => h9) (v := .ref (z + 97)) (fv_fix hF rfl rfl) dX4_search_111 ?_
                refine lv_bipush (v := 31) hx hb dX4_search_114 (by decide) ?_
                refine lv_iload_n hx hb dX4_search_116 rfl (lv_at hl 2 rfl) ?_
                refine lv_iconst (v := 1) hx hb dX4_search_117 (by decide) ?_
                refine lv_iadd hx hb dX4_search_118 ?_
                refine lv_imul hx hb dX4_search_119 ?_
                refine lv_iload hx hb dX4_search_120 (lv_at hl 1 rfl) ?_
                refine lv_iadd hx hb dX4_search_122 ?_
                refine lv_iload hx hb dX4_search_123 (lv_at hl 0 rfl) ?_
                refine lv_isub hx hb dX4_search_125 ?_
                obtain ⟨hb20, h⟩ := grd h
                refine r_iald (v := wI s3.2 97 (((((31 : Int32) * (s1.1 + (1 : Int32))) + s2.1) - s3.1).toNatClampNeg)) hx hb hK hR (hF.2.1 97 (200, 279) rfl) hb20 rfl dX4_search_126 ?_
                refine lv_iadd hx hb dX4_search_127 ?_
                refine lv_istore (lv' := [(6, .int ((wI s3.2 96 ((((7 : Int32) * s1.1) + s3.1).toNatClampNeg)) + (wI s3.2 97 (((((31 : Int32) * (s1.1 + (1 : Int32))) + s2.1) - s3.1).toNatClampNeg)))), (5, .int s3.1), (4, .int s2.1), (3, .int s1.1), (0, .ref (z + 58)), (1, .int a1), (2, .int a2)]) hx hb dX4_search_128 hl (by decide) rfl (fun ls hl => ?_)
                refine lv_iload hx hb dX4_search_130 (lv_at hl 0 rfl) ?_
                refine lv_aload_n hx hb dX4_search_132 rfl (lv_at hl 4 rfl) ?_
                refine r_get (C := RX4) (T := TX4) (N := 80) hx hb hts ok4 hown hK hR (congrArg Prod.fst (hF.2.1 58 (5, 0) rfl)) rfl 66 (by decide) (hts _ q1699) (fun _ h9 => h9) (v := .ref (z + 97)) (fv_fix hF rfl rfl) dX4_search_133 ?_
                refine lv_bipush (v := 31) hx hb dX4_search_136 (by decide) ?_
                refine lv_iload_n hx hb dX4_search_138 rfl (lv_at hl 3 rfl) ?_
                refine lv_imul hx hb dX4_search_139 ?_
                refine lv_iload hx hb dX4_search_140 (lv_at hl 2 rfl) ?_
                refine lv_iadd hx hb dX4_search_142 ?_
                obtain ⟨hb21, h⟩ := grd h
                refine r_iald (v := wI s3.2 97 ((((31 : Int32) * s1.1) + s2.1).toNatClampNeg)) hx hb hK hR (hF.2.1 97 (200, 279) rfl) hb21 rfl dX4_search_143 ?_
                refine lv_icmp_le (tgt := 161) hx hb dX4_search_144 (by decide) (fun c22 => ?_) (fun c22 => ?_)
                · rw [if_pos c22] at h
                  refine lv_iinc (v := s3.1 + (1 : Int32)) (lv' := [(5, .int (s3.1 + (1 : Int32))), (6, .int ((wI s3.2 96 ((((7 : Int32) * s1.1) + s3.1).toNatClampNeg)) + (wI s3.2 97 (((((31 : Int32) * (s1.1 + (1 : Int32))) + s2.1) - s3.1).toNatClampNeg)))), (4, .int s2.1), (3, .int s1.1), (0, .ref (z + 58)), (1, .int a1), (2, .int a2)]) hx hb dX4_search_161 hl (k := 1) rfl rfl (by decide) rfl (fun ls hl => ?_)
                  refine lv_goto (tgt := 84) hx hb dX4_search_164 (by decide) ?_
                  exact hc3 _ (Option.some.inj h).symm H locs ls hR hF hL (lv_sub hl [0, 2, 3, 4, 5, 6] rfl)
                · rw [if_neg c22] at h
                  refine lv_aload_n hx hb dX4_search_147 rfl (lv_at hl 4 rfl) ?_
                  refine r_get (C := RX4) (T := TX4) (N := 80) hx hb hts ok4 hown hK hR (congrArg Prod.fst (hF.2.1 58 (5, 0) rfl)) rfl 66 (by decide) (hts _ q1699) (fun _ h9 => h9) (v := .ref (z + 97)) (fv_fix hF rfl rfl) dX4_search_148 ?_
                  refine lv_bipush (v := 31) hx hb dX4_search_151 (by decide) ?_
                  refine lv_iload_n hx hb dX4_search_153 rfl (lv_at hl 3 rfl) ?_
                  refine lv_imul hx hb dX4_search_154 ?_
                  refine lv_iload hx hb dX4_search_155 (lv_at hl 2 rfl) ?_
                  refine lv_iadd hx hb dX4_search_157 ?_
                  refine lv_iload hx hb dX4_search_158 (lv_at hl 0 rfl) ?_
                  obtain ⟨hb23, h⟩ := grd h
                  refine r_iast hx hb hK hR hL (hF.2.1 97 (200, 279) rfl) hb23 dX4_search_160 (fun H locs hR hL => ?_)
                  have hF := hF.sI 97 ((((31 : Int32) * s1.1) + s2.1).toNatClampNeg) ((wI s3.2 96 ((((7 : Int32) * s1.1) + s3.1).toNatClampNeg)) + (wI s3.2 97 (((((31 : Int32) * (s1.1 + (1 : Int32))) + s2.1) - s3.1).toNatClampNeg)))
                  refine lv_iinc (v := s3.1 + (1 : Int32)) (lv' := [(5, .int (s3.1 + (1 : Int32))), (6, .int ((wI s3.2 96 ((((7 : Int32) * s1.1) + s3.1).toNatClampNeg)) + (wI s3.2 97 (((((31 : Int32) * (s1.1 + (1 : Int32))) + s2.1) - s3.1).toNatClampNeg)))), (4, .int s2.1), (3, .int s1.1), (0, .ref (z + 58)), (1, .int a1), (2, .int a2)]) hx hb dX4_search_161 hl (k := 1) rfl rfl (by decide) rfl (fun ls hl => ?_)
                  refine lv_goto (tgt := 84) hx hb dX4_search_164 (by decide) ?_
                  exact hc3 _ (Option.some.inj h).symm H locs ls hR hF hL (lv_sub hl [0, 2, 3, 4, 5, 6] rfl)
      obtain ⟨t32, hq33, h⟩ := bnd h
      refine it_W (b := f_X4_search_L29 n a1 a2) (P := fun (s1 : Int32 × Wd) => ∀ (H : Heap) (locs : List Loc) (ls : Array Slot), Rp G z H0 s1.2 H → Fix s1.2 → lok z locs → lv_has ls 7 [(3, .int s1.1), (0, .ref (z + 58)), (1, .int a1), (2, .int a2)] → W p l e ({ frames := 1, cells := 0, slots := 0, locals := 23 } : Room) s m ([.ref (z + 58), .int a1, .int a2] : List Value).toArray below meth c H locs 0 0 (MQ below (qW G z H0 q.2 (some (.int q.1))) ([.ref (z + 58), .int a1, .int a2] : List Value).toArray s 0 0 (fun q => z ≤ q)) (F0 m 29 ls [])) (K := fun q29_52 => ((it n (f_X4_search_L55 n a1 a2) ((7 : Int32), q29_52.2)).bind fun q55_179 => if a2 = (-1 : Int32) then (if inb a1 279 then (some (wI q55_179.2 97 a1.toNatClampNeg, q55_179.2)) else none) else ((it n (f_X4_search_L199 n a2 q55_179.2) ((0 : Int32), (0 : Int32), a1)).bind fun q199_271 => some (q199_271.2.1, q55_179.2))) = some q) (fun s1 x1 h hc1 ht1 => ?_) n ((0 : Int32), w) t32 hq33 h H locs ls hR hF hL (lv_sub hl [0, 1, 2, 3] rfl)
      intro H locs ls hR hF hL hl
      unfold f_X4_search_L29 at h
      refine lv_iload_n hx hb dX4_search_29 rfl (lv_at hl 0 rfl) ?_
      refine lv_bipush (v := 30) hx hb dX4_search_30 (by decide) ?_
      refine lv_icmp_gt (tgt := 52) hx hb dX4_search_32 (by decide) (fun c30 => ?_) (fun c30 => ?_)
      · rw [if_pos c30] at h
        exact hX29_52 (s1.1, s1.2) (ht1 _ (Option.some.inj h).symm) H locs ls hR hF hL (lv_sub hl [1, 2, 3] rfl)
      · rw [if_neg c30] at h
        refine lv_aload_n hx hb dX4_search_35 rfl (lv_at hl 1 rfl) ?_
        refine r_get (C := RX4) (T := TX4) (N := 80) hx hb hts ok4 hown hK hR (congrArg Prod.fst (hF.2.1 58 (5, 0) rfl)) rfl 66 (by decide) (hts _ q1699) (fun _ h9 => h9) (v := .ref (z + 97)) (fv_fix hF rfl rfl) dX4_search_36 ?_
        refine lv_sipush (v := 248) hx hb dX4_search_39 (by decide) ?_
        refine lv_iload_n hx hb dX4_search_42 rfl (lv_at hl 0 rfl) ?_
        refine lv_iadd hx hb dX4_search_43 ?_
        refine lv_iconst (v := 0) hx hb dX4_search_44 (by decide) ?_
        obtain ⟨hb31, h⟩ := grd h
        refine r_iast hx hb hK hR hL (hF.2.1 97 (200, 279) rfl) hb31 dX4_search_45 (fun H locs hR hL => ?_)
        have hF := hF.sI 97 (((248 : Int32) + s1.1).toNatClampNeg) (0 : Int32)
        refine lv_iinc (v := s1.1 + (1 : Int32)) (lv' := [(3, .int (s1.1 + (1 : Int32))), (0, .ref (z + 58)), (1, .int a1), (2, .int a2)]) hx hb dX4_search_46 hl (k := 0) rfl rfl (by decide) rfl (fun ls hl => ?_)
        refine lv_goto (tgt := 29) hx hb dX4_search_49 (by decide) ?_
        exact hc1 _ (Option.some.inj h).symm H locs ls hR hF hL (lv_sub hl [0, 1, 2, 3] rfl)
    · rw [if_neg (bI_n c2)] at h
      refine lv_bipush (v := -2) hx hb dX4_search_24 (by decide) ?_
      have h := Option.some.inj h
      subst h
      exact W.iret (v := (-2 : Int32)) hx hb hr (fun t ht _ => ⟨rfl, by rw [ht]; exact hR, hF⟩) hL dX4_search_26
  · rw [if_neg (bI_n c1)] at h
    refine lv_iconst (v := -1) hx hb dX4_search_11 (by decide) ?_
    have h := Option.some.inj h
    subst h
    exact W.iret (v := (-1 : Int32)) hx hb hr (fun t ht _ => ⟨rfl, by rw [ht]; exact hR, hF⟩) hL dX4_search_12
def f_X4_choice (n : Nat) (w : Wd) : Option (Int32 × Wd) :=
  if (wI w 58 26) = (8 : Int32) then (some ((-4 : Int32), w)) else ((f_X4_isText n w).bind fun q2 => if q2.1 then (if (wI q2.2 58 37) = (1 : Int32) then (if (wI q2.2 58 42) = 0 then ((f_X4_keeps n ((16 : Int32) + (wI q2.2 58 26)) q2.2).bind fun q7 => some (((wI q7 58 26) + (1 : Int32)) - (1 : Int32), sI q7 58 26 ((wI q7 58 26) + (1 : Int32)))) else (some ((-2 : Int32), q2.2))) else (some ((-2 : Int32), q2.2))) else (some ((-10 : Int32) - (wI q2.2 58 40), q2.2)))
theorem hd_X4_choice : yX4_choice.cls = RX4 ∧ yX4_choice.cls ≠ "java/lang/invoke/MethodHandle" ∧ yX4_choice.cls ≠ "java/lang/invoke/VarHandle" ∧ (parseMethodDescriptor yX4_choice.desc).map (fun d => d.parameters.length) = some 0 := by decide +kernel
set_option maxHeartbeats 4000000 in
set_option maxRecDepth 100000 in
theorem met_X4_choice (l : Launch) (G : Gw) (z : Nat) (H0 : Heap) (n : Nat) (w : Wd)  (q : Int32 × Wd) (h : f_X4_choice n w = some q) : Met l yX4_choice (ws_ yX4_choice cX4_choice 1 (some .int)) ({ frames := 8, cells := 0, slots := 0, locals := 172 } : Room) (pcW G z H0 w [.ref (z + 58)]) (qW G z H0 q.2 (some (.int q.1))) 0 0 (fun q => z ≤ q) := by
  refine mW (by decide) (Nat.le_of_ble_eq_true rfl) ?_
  intro p e s m below meth c ls hx hb hr hml hown hts hlocks hnm hK hR hF hl
  have hown : s.vm.findClass RX4 = some m.cls := hown
  have hl : lv_has ls 1 [(0, .ref (z + 58))] := hl
  have hL : lok z [] := lok_nil
  unfold f_X4_choice at h
  generalize s.heap = H at hR ⊢
  generalize ([] : List Loc) = locs at hL ⊢
  refine lv_aload_n hx hb dX4_choice_0 rfl (lv_at hl 0 rfl) ?_
  refine r_get (C := RX4) (T := TX4) (N := 80) hx hb hts ok4 hown hK hR (congrArg Prod.fst (hF.2.1 58 (5, 0) rfl)) rfl 26 (by decide) (hts _ q1659) (fun _ h9 => h9) (v := .int (wI w 58 26)) rfl dX4_choice_1 ?_
  refine lv_bipush (v := 8) hx hb dX4_choice_4 (by decide) ?_
  refine lv_icmp_ne (tgt := 12) hx hb dX4_choice_6 (by decide) (fun c1 => ?_) (fun c1 => ?_)
  · rw [if_neg c1] at h
    refine lv_aload_n hx hb dX4_choice_12 rfl (lv_at hl 0 rfl) ?_
    obtain ⟨q2, hq3, h⟩ := bnd h
    refine c_VW (a := 58) (ci := 4) (q := (RX4, TX4, 80)) (rest := []) (st1 := [.int (bI q2.1)]) hx hb hml hown hts hK hR hF hL hl.1 (met_X4_isText l G z H0 n w  q2 hq3) (congrArg Prod.fst (hF.2.1 58 (5, 0) rfl)) rfl rfl rfl hd_X4_isText q1999 q2001 qs56 q104 q2002 ⟨Nat.le_of_ble_eq_true rfl, Nat.le_of_ble_eq_true rfl⟩ ⟨Nat.le_refl 0, Nat.le_refl 0⟩ rfl rfl (Nat.le_of_ble_eq_true rfl) dX4_choice_13 rfl (fun H locs hR hF hL => ?_)
    refine lv_if_ne (tgt := 27) hx hb dX4_choice_16 (by decide) (fun c4 => ?_) (fun c4 => ?_)
    · rw [if_pos (bI_p c4)] at h
      refine lv_aload_n hx hb dX4_choice_27 rfl (lv_at hl 0 rfl) ?_
      refine r_get (C := RX4) (T := TX4) (N := 80) hx hb hts ok4 hown hK hR (congrArg Prod.fst (hF.2.1 58 (5, 0) rfl)) rfl 37 (by decide) (hts _ q1670) (fun _ h9 => h9) (v := .int (wI q2.2 58 37)) rfl dX4_choice_28 ?_
      refine lv_iconst (v := 1) hx hb dX4_choice_31 (by decide) ?_
      refine lv_icmp_ne (tgt := 42) hx hb dX4_choice_32 (by decide) (fun c5 => ?_) (fun c5 => ?_)
      · rw [if_neg c5] at h
        refine lv_bipush (v := -2) hx hb dX4_choice_42 (by decide) ?_
        have h := Option.some.inj h
        subst h
        exact W.iret (v := (-2 : Int32)) hx hb hr (fun t ht _ => ⟨rfl, by rw [ht]; exact hR, hF⟩) hL dX4_choice_44
      · rw [if_pos c5] at h
        refine lv_aload_n hx hb dX4_choice_35 rfl (lv_at hl 0 rfl) ?_
        refine r_get (C := RX4) (T := TX4) (N := 80) hx hb hts ok4 hown hK hR (congrArg Prod.fst (hF.2.1 58 (5, 0) rfl)) rfl 42 (by decide) (hts _ q1675) (fun _ h9 => h9) (v := .int (wI q2.2 58 42)) rfl dX4_choice_36 ?_
        refine lv_if_eq (tgt := 45) hx hb dX4_choice_39 (by decide) (fun c6 => ?_) (fun c6 => ?_)
        · rw [if_pos c6] at h
          refine lv_aload_n hx hb dX4_choice_45 rfl (lv_at hl 0 rfl) ?_
          refine lv_bipush (v := 16) hx hb dX4_choice_46 (by decide) ?_
          refine lv_aload_n hx hb dX4_choice_48 rfl (lv_at hl 0 rfl) ?_
          refine r_get (C := RX4) (T := TX4) (N := 80) hx hb hts ok4 hown hK hR (congrArg Prod.fst (hF.2.1 58 (5, 0) rfl)) rfl 26 (by decide) (hts _ q1659) (fun _ h9 => h9) (v := .int (wI q2.2 58 26)) rfl dX4_choice_49 ?_
          refine lv_iadd hx hb dX4_choice_52 ?_
          obtain ⟨q7, hq8, h⟩ := bnd h
          refine c_VW (a := 58) (ci := 4) (q := (RX4, TX4, 80)) (rest := []) (st1 := []) hx hb hml hown hts hK hR hF hL hl.1 (met_X4_keeps l G z H0 n q2.2 ((16 : Int32) + (wI q2.2 58 26)) q7 hq8) (congrArg Prod.fst (hF.2.1 58 (5, 0) rfl)) rfl rfl rfl hd_X4_keeps q2081 q2083 qs75 q104 q2084 ⟨Nat.le_of_ble_eq_true rfl, Nat.le_of_ble_eq_true rfl⟩ ⟨Nat.le_refl 0, Nat.le_refl 0⟩ rfl rfl (Nat.le_of_ble_eq_true rfl) dX4_choice_53 rfl (fun H locs hR hF hL => ?_)
          refine lv_aload_n hx hb dX4_choice_56 rfl (lv_at hl 0 rfl) ?_
          refine lv_dup hx hb dX4_choice_57 rfl ?_
          refine r_get (C := RX4) (T := TX4) (N := 80) hx hb hts ok4 hown hK hR (congrArg Prod.fst (hF.2.1 58 (5, 0) rfl)) rfl 26 (by decide) (hts _ q1659) (fun _ h9 => h9) (v := .int (wI q7 58 26)) rfl dX4_choice_58 ?_
          refine lv_iconst (v := 1) hx hb dX4_choice_61 (by decide) ?_
          refine lv_iadd hx hb dX4_choice_62 ?_
          refine r_putI (C := RX4) (T := TX4) (N := 80) hx hb hts ok4 hown hK hR hL (congrArg Prod.fst (hF.2.1 58 (5, 0) rfl)) rfl 26 (by decide) (hts _ q1659) (fun _ h9 => h9) (Or.inl rfl) rfl rfl rfl dX4_choice_63 (fun H locs hR hL => ?_)
          have hF := hF.sI 58 26 ((wI q7 58 26) + (1 : Int32))
          refine lv_aload_n hx hb dX4_choice_66 rfl (lv_at hl 0 rfl) ?_
          refine r_get (C := RX4) (T := TX4) (N := 80) hx hb hts ok4 hown hK hR (congrArg Prod.fst (hF.2.1 58 (5, 0) rfl)) rfl 26 (by decide) (hts _ q1659) (fun _ h9 => h9) (v := .int ((wI q7 58 26) + (1 : Int32))) rfl dX4_choice_67 ?_
          refine lv_iconst (v := 1) hx hb dX4_choice_70 (by decide) ?_
          refine lv_isub hx hb dX4_choice_71 ?_
          have h := Option.some.inj h
          subst h
          exact W.iret (v := ((wI q7 58 26) + (1 : Int32)) - (1 : Int32)) hx hb hr (fun t ht _ => ⟨rfl, by rw [ht]; exact hR, hF⟩) hL dX4_choice_72
        · rw [if_neg c6] at h
          refine lv_bipush (v := -2) hx hb dX4_choice_42 (by decide) ?_
          have h := Option.some.inj h
          subst h
          exact W.iret (v := (-2 : Int32)) hx hb hr (fun t ht _ => ⟨rfl, by rw [ht]; exact hR, hF⟩) hL dX4_choice_44
    · rw [if_neg (bI_n c4)] at h
      refine lv_bipush (v := -10) hx hb dX4_choice_19 (by decide) ?_
      refine lv_aload_n hx hb dX4_choice_21 rfl (lv_at hl 0 rfl) ?_
      refine r_get (C := RX4) (T := TX4) (N := 80) hx hb hts ok4 hown hK hR (congrArg Prod.fst (hF.2.1 58 (5, 0) rfl)) rfl 40 (by decide) (hts _ q1673) (fun _ h9 => h9) (v := .int (wI q2.2 58 40)) rfl dX4_choice_22 ?_
      refine lv_isub hx hb dX4_choice_25 ?_
      have h := Option.some.inj h
      subst h
      exact W.iret (v := (-10 : Int32) - (wI q2.2 58 40)) hx hb hr (fun t ht _ => ⟨rfl, by rw [ht]; exact hR, hF⟩) hL dX4_choice_26
  · rw [if_pos c1] at h
    refine lv_bipush (v := -4) hx hb dX4_choice_9 (by decide) ?_
    have h := Option.some.inj h
    subst h
    exact W.iret (v := (-4 : Int32)) hx hb hr (fun t ht _ => ⟨rfl, by rw [ht]; exact hR, hF⟩) hL dX4_choice_11
def f_X4_aim (a1 : Int32) (a2 : Int32) (w : Wd) : Option (Int32 × Wd) :=
  (f_X4_hasLine a1 a2 w).bind fun q1 => if q1 then (if inb a1 24 then (if (((wI w 98 a1.toNatClampNeg) >>> (a2 &&& 31)) &&& (1 : Int32)) = (1 : Int32) then (some ((-3 : Int32), w)) else (if (wI w 58 67) = (20 : Int32) then (some ((-4 : Int32), w)) else (if inb a1 24 then (if inb a1 24 then (some ((wI w 58 67) + (1 : Int32), sI (sI w 98 a1.toNatClampNeg ((wI w 98 a1.toNatClampNeg) ||| ((1 : Int32) <<< (a2 &&& 31)))) 58 67 ((wI w 58 67) + (1 : Int32)))) else none) else none))) else none) else (some ((-1 : Int32), w))
theorem hd_X4_aim : yX4_aim.cls = RX4 ∧ yX4_aim.cls ≠ "java/lang/invoke/MethodHandle" ∧ yX4_aim.cls ≠ "java/lang/invoke/VarHandle" ∧ (parseMethodDescriptor yX4_aim.desc).map (fun d => d.parameters.length) = some 2 := by decide +kernel
set_option maxHeartbeats 4000000 in
set_option maxRecDepth 100000 in
theorem met_X4_aim (l : Launch) (G : Gw) (z : Nat) (H0 : Heap)  (w : Wd) (a1 : Int32) (a2 : Int32) (q : Int32 × Wd) (h : f_X4_aim a1 a2 w = some q) : Met l yX4_aim (ws_ yX4_aim cX4_aim 3 (some .int)) ({ frames := 3, cells := 0, slots := 0, locals := 66 } : Room) (pcW G z H0 w [.ref (z + 58), .int a1, .int a2]) (qW G z H0 q.2 (some (.int q.1))) 0 0 (fun q => z ≤ q) := by
  refine mW (by decide) (Nat.le_of_ble_eq_true rfl) ?_
  intro p e s m below meth c ls hx hb hr hml hown hts hlocks hnm hK hR hF hl
  have hown : s.vm.findClass RX4 = some m.cls := hown
  have hl : lv_has ls 3 [(0, .ref (z + 58)), (1, .int a1), (2, .int a2)] := hl
  have hL : lok z [] := lok_nil
  unfold f_X4_aim at h
  generalize s.heap = H at hR ⊢
  generalize ([] : List Loc) = locs at hL ⊢
  refine lv_aload_n hx hb dX4_aim_0 rfl (lv_at hl 0 rfl) ?_
  refine lv_iload_n hx hb dX4_aim_1 rfl (lv_at hl 1 rfl) ?_
  refine lv_iload_n hx hb dX4_aim_2 rfl (lv_at hl 2 rfl) ?_
  obtain ⟨q1, hq2, h⟩ := bnd h
  refine c_VP (a := 58) (ci := 4) (q := (RX4, TX4, 80)) (rest := []) (st1 := [.int (bI q1)]) hx hb hml hown hts hK hR hF hL hl.1 (met_X4_hasLine l G z H0 w a1 a2 q1 hq2) (congrArg Prod.fst (hF.2.1 58 (5, 0) rfl)) rfl rfl rfl hd_X4_hasLine q2125 q2127 qs82 q104 q2128 ⟨Nat.le_of_ble_eq_true rfl, Nat.le_of_ble_eq_true rfl⟩ ⟨Nat.le_refl 0, Nat.le_refl 0⟩ rfl rfl (Nat.le_of_ble_eq_true rfl) dX4_aim_3 rfl (fun locs hL => ?_)
  refine lv_if_ne (tgt := 11) hx hb dX4_aim_6 (by decide) (fun c3 => ?_) (fun c3 => ?_)
  · rw [if_pos (bI_p c3)] at h
    refine lv_aload_n hx hb dX4_aim_11 rfl (lv_at hl 0 rfl) ?_
    refine r_get (C := RX4) (T := TX4) (N := 80) hx hb hts ok4 hown hK hR (congrArg Prod.fst (hF.2.1 58 (5, 0) rfl)) rfl 68 (by decide) (hts _ q1701) (fun _ h9 => h9) (v := .ref (z + 98)) (fv_fix hF rfl rfl) dX4_aim_12 ?_
    refine lv_iload_n hx hb dX4_aim_15 rfl (lv_at hl 1 rfl) ?_
    obtain ⟨hb4, h⟩ := grd h
    refine r_iald (v := wI w 98 a1.toNatClampNeg) hx hb hK hR (hF.2.1 98 (200, 24) rfl) hb4 rfl dX4_aim_16 ?_
    refine lv_iload_n hx hb dX4_aim_17 rfl (lv_at hl 2 rfl) ?_
    refine lv_ishr hx hb dX4_aim_18 ?_
    refine lv_iconst (v := 1) hx hb dX4_aim_19 (by decide) ?_
    refine lv_iand hx hb dX4_aim_20 ?_
    refine lv_iconst (v := 1) hx hb dX4_aim_21 (by decide) ?_
    refine lv_icmp_ne (tgt := 28) hx hb dX4_aim_22 (by decide) (fun c5 => ?_) (fun c5 => ?_)
    · rw [if_neg c5] at h
      refine lv_aload_n hx hb dX4_aim_28 rfl (lv_at hl 0 rfl) ?_
      refine r_get (C := RX4) (T := TX4) (N := 80) hx hb hts ok4 hown hK hR (congrArg Prod.fst (hF.2.1 58 (5, 0) rfl)) rfl 67 (by decide) (hts _ q1700) (fun _ h9 => h9) (v := .int (wI w 58 67)) rfl dX4_aim_29 ?_
      refine lv_bipush (v := 20) hx hb dX4_aim_32 (by decide) ?_
      refine lv_icmp_ne (tgt := 40) hx hb dX4_aim_34 (by decide) (fun c6 => ?_) (fun c6 => ?_)
      · rw [if_neg c6] at h
        refine lv_aload_n hx hb dX4_aim_40 rfl (lv_at hl 0 rfl) ?_
        refine r_get (C := RX4) (T := TX4) (N := 80) hx hb hts ok4 hown hK hR (congrArg Prod.fst (hF.2.1 58 (5, 0) rfl)) rfl 68 (by decide) (hts _ q1701) (fun _ h9 => h9) (v := .ref (z + 98)) (fv_fix hF rfl rfl) dX4_aim_41 ?_
        refine lv_iload_n hx hb dX4_aim_44 rfl (lv_at hl 1 rfl) ?_
        refine lv_dup2_11 hx hb dX4_aim_45 rfl rfl ?_
        obtain ⟨hb7, h⟩ := grd h
        refine r_iald (v := wI w 98 a1.toNatClampNeg) hx hb hK hR (hF.2.1 98 (200, 24) rfl) hb7 rfl dX4_aim_46 ?_
        refine lv_iconst (v := 1) hx hb dX4_aim_47 (by decide) ?_
        refine lv_iload_n hx hb dX4_aim_48 rfl (lv_at hl 2 rfl) ?_
        refine lv_ishl hx hb dX4_aim_49 ?_
        refine lv_ior hx hb dX4_aim_50 ?_
        obtain ⟨hb8, h⟩ := grd h
        refine r_iast hx hb hK hR hL (hF.2.1 98 (200, 24) rfl) hb8 dX4_aim_51 (fun H locs hR hL => ?_)
        have hF := hF.sI 98 (a1.toNatClampNeg) ((wI w 98 a1.toNatClampNeg) ||| ((1 : Int32) <<< (a2 &&& 31)))
        refine lv_aload_n hx hb dX4_aim_52 rfl (lv_at hl 0 rfl) ?_
        refine lv_dup hx hb dX4_aim_53 rfl ?_
        refine r_get (C := RX4) (T := TX4) (N := 80) hx hb hts ok4 hown hK hR (congrArg Prod.fst (hF.2.1 58 (5, 0) rfl)) rfl 67 (by decide) (hts _ q1700) (fun _ h9 => h9) (v := .int (wI w 58 67)) rfl dX4_aim_54 ?_
        refine lv_iconst (v := 1) hx hb dX4_aim_57 (by decide) ?_
        refine lv_iadd hx hb dX4_aim_58 ?_
        refine r_putI (C := RX4) (T := TX4) (N := 80) hx hb hts ok4 hown hK hR hL (congrArg Prod.fst (hF.2.1 58 (5, 0) rfl)) rfl 67 (by decide) (hts _ q1700) (fun _ h9 => h9) (Or.inl rfl) rfl rfl rfl dX4_aim_59 (fun H locs hR hL => ?_)
        have hF := hF.sI 58 67 ((wI w 58 67) + (1 : Int32))
        refine lv_aload_n hx hb dX4_aim_62 rfl (lv_at hl 0 rfl) ?_
        refine r_get (C := RX4) (T := TX4) (N := 80) hx hb hts ok4 hown hK hR (congrArg Prod.fst (hF.2.1 58 (5, 0) rfl)) rfl 67 (by decide) (hts _ q1700) (fun _ h9 => h9) (v := .int ((wI w 58 67) + (1 : Int32))) rfl dX4_aim_63 ?_
        have h := Option.some.inj h
        subst h
        exact W.iret (v := (wI w 58 67) + (1 : Int32)) hx hb hr (fun t ht _ => ⟨rfl, by rw [ht]; exact hR, hF⟩) hL dX4_aim_66
      · rw [if_pos c6] at h
        refine lv_bipush (v := -4) hx hb dX4_aim_37 (by decide) ?_
        have h := Option.some.inj h
        subst h
        exact W.iret (v := (-4 : Int32)) hx hb hr (fun t ht _ => ⟨rfl, by rw [ht]; exact hR, hF⟩) hL dX4_aim_39
    · rw [if_pos c5] at h
      refine lv_bipush (v := -3) hx hb dX4_aim_25 (by decide) ?_
      have h := Option.some.inj h
      subst h
      exact W.iret (v := (-3 : Int32)) hx hb hr (fun t ht _ => ⟨rfl, by rw [ht]; exact hR, hF⟩) hL dX4_aim_27
  · rw [if_neg (bI_n c3)] at h
    refine lv_iconst (v := -1) hx hb dX4_aim_9 (by decide) ?_
    have h := Option.some.inj h
    subst h
    exact W.iret (v := (-1 : Int32)) hx hb hr (fun t ht _ => ⟨rfl, by rw [ht]; exact hR, hF⟩) hL dX4_aim_10
def f_X4_hit_L38 (n : Nat) (u1_1 : Int32) (u1_2 : Int32) (s1 : Int32 × Int32 × Wd) : Option ((Int32 × Int32 × Wd) ⊕ ((Int32 × Int32 × Wd))) :=
  if (16 : Int32) ≤ s1.1 then (some (.inr (s1.1, s1.2.1, s1.2.2))) else (if inb u1_2 24 then (if (((wI s1.2.2 68 u1_2.toNatClampNeg) >>> (s1.1 &&& 31)) &&& (1 : Int32)) = 0 then (some (.inl (s1.1 + (1 : Int32), s1.2.1, s1.2.2))) else ((f_X4_goes n ((16 : Int32) + u1_1) (f_X4_asks u1_2 s1.1 (-1 : Int32) s1.2.2)).bind fun q7 => if q7.1 then (if (wI q7.2 58 41) = 0 then (some (.inl (s1.1 + (1 : Int32), s1.2.1, q7.2))) else (some (.inl (s1.1 + (1 : Int32), s1.2.1 ||| ((1 : Int32) <<< (s1.1 &&& 31)), q7.2)))) else (some (.inl (s1.1 + (1 : Int32), s1.2.1, q7.2))))) else none)
def f_X4_hit_J33 (n : Nat) (a1 : Int32) (a2 : Int32) (w : Wd) : Option (Int32 × Wd) :=
  (it n (f_X4_hit_L38 n a1 a2) ((0 : Int32), (0 : Int32), w)).bind fun q38_101 => some (q38_101.2.1, q38_101.2.2)
def f_X4_hit (n : Nat) (a1 : Int32) (a2 : Int32) (w : Wd) : Option (Int32 × Wd) :=
  (f_X4_goes n ((16 : Int32) + a1) (f_X4_asks a2 (-1 : Int32) (-1 : Int32) w)).bind fun q1 => if q1.1 then (if (wI q1.2 58 35) = (1 : Int32) then (if inb a2 24 then (some (wI q1.2 68 a2.toNatClampNeg, q1.2)) else none) else (f_X4_hit_J33 n a1 a2 q1.2)) else (f_X4_hit_J33 n a1 a2 q1.2)
theorem hd_X4_hit : yX4_hit.cls = RX4 ∧ yX4_hit.cls ≠ "java/lang/invoke/MethodHandle" ∧ yX4_hit.cls ≠ "java/lang/invoke/VarHandle" ∧ (parseMethodDescriptor yX4_hit.desc).map (fun d => d.parameters.length) = some 2 := by decide +kernel
set_option maxHeartbeats 4000000 in
set_option maxRecDepth 100000 in
theorem met_X4_hit (l : Launch) (G : Gw) (z : Nat) (H0 : Heap) (n : Nat) (w : Wd) (a1 : Int32) (a2 : Int32) (q : Int32 × Wd) (h : f_X4_hit n a1 a2 w = some q) : Met l yX4_hit (ws_ yX4_hit cX4_hit 5 (some .int)) ({ frames := 7, cells := 0, slots := 0, locals := 152 } : Room) (pcW G z H0 w [.ref (z + 58), .int a1, .int a2]) (qW G z H0 q.2 (some (.int q.1))) 0 0 (fun q => z ≤ q) := by
  refine mW (by decide) (Nat.le_of_ble_eq_true rfl) ?_
  intro p e s m below meth c ls hx hb hr hml hown hts hlocks hnm hK hR hF hl
  have hown : s.vm.findClass RX4 = some m.cls := hown
  have hl : lv_has ls 5 [(0, .ref (z + 58)), (1, .int a1), (2, .int a2)] := hl
  have hL : lok z [] := lok_nil
  unfold f_X4_hit at h
  generalize s.heap = H at hR ⊢
  generalize ([] : List Loc) = locs at hL ⊢
  have hJ33 : ∀  (w : Wd), f_X4_hit_J33 n a1 a2 w = some q → ∀ (H : Heap) (locs : List Loc) (ls : Array Slot), Rp G z H0 w H → Fix w → lok z locs → lv_has ls 5 [(0, .ref (z + 58)), (1, .int a1), (2, .int a2)] → W p l e ({ frames := 7, cells := 0, slots := 0, locals := 152 } : Room) s m ([.ref (z + 58), .int a1, .int a2] : List Value).toArray below meth c H locs 0 0 (MQ below (qW G z H0 q.2 (some (.int q.1))) ([.ref (z + 58), .int a1, .int a2] : List Value).toArray s 0 0 (fun q => z ≤ q)) (F0 m 33 ls []) := by
    intro  w h H locs ls hR hF hL hl
    unfold f_X4_hit_J33 at h
    refine lv_iconst (v := 0) hx hb dX4_hit_33 (by decide) ?_
    refine lv_istore_n (lv' := [(3, .int (0 : Int32)), (0, .ref (z + 58)), (1, .int a1), (2, .int a2)]) hx hb dX4_hit_34 rfl hl (by decide) rfl (fun ls hl => ?_)
    refine lv_iconst (v := 0) hx hb dX4_hit_35 (by decide) ?_
    refine lv_istore (lv' := [(4, .int (0 : Int32)), (3, .int (0 : Int32)), (0, .ref (z + 58)), (1, .int a1), (2, .int a2)]) hx hb dX4_hit_36 hl (by decide) rfl (fun ls hl => ?_)
    have hX38_101 : ∀ (q38_101 : Int32 × Int32 × Wd), (some (q38_101.2.1, q38_101.2.2)) = some q → ∀ (H : Heap) (locs : List Loc) (ls : Array Slot), Rp G z H0 q38_101.2.2 H → Fix q38_101.2.2 → lok z locs → lv_has ls 5 [(3, .int q38_101.2.1)] → W p l e ({ frames := 7, cells := 0, slots := 0, locals := 152 } : Room) s m ([.ref (z + 58), .int a1, .int a2] : List Value).toArray below meth c H locs 0 0 (MQ below (qW G z H0 q.2 (some (.int q.1))) ([.ref (z + 58), .int a1, .int a2] : List Value).toArray s 0 0 (fun q => z ≤ q)) (F0 m 101 ls []) := by
      intro q38_101 h H locs ls hR hF hL hl
      refine lv_iload_n hx hb dX4_hit_101 rfl (lv_at hl 0 rfl) ?_
      have h := Option.some.inj h
      subst h
      exact W.iret (v := q38_101.2.1) hx hb hr (fun t ht _ => ⟨rfl, by rw [ht]; exact hR, hF⟩) hL dX4_hit_102
    obtain ⟨t11, hq12, h⟩ := bnd h
    refine it_W (b := f_X4_hit_L38 n a1 a2) (P := fun (s1 : Int32 × Int32 × Wd) => ∀ (H : Heap) (locs : List Loc) (ls : Array Slot), Rp G z H0 s1.2.2 H → Fix s1.2.2 → lok z locs → lv_has ls 5 [(4, .int s1.1), (3, .int s1.2.1), (0, .ref (z + 58)), (1, .int a1), (2, .int a2)] → W p l e ({ frames := 7, cells := 0, slots := 0, locals := 152 } : Room) s m ([.ref (z + 58), .int a1, .int a2] : List Value).toArray below meth c H locs 0 0 (MQ below (qW G z H0 q.2 (some (.int q.1))) ([.ref (z + 58), .int a1, .int a2] : List Value).toArray s 0 0 (fun q => z ≤ q)) (F0 m 38 ls [])) (K := fun q38_101 => (some (q38_101.2.1, q38_101.2.2)) = some q) (fun s1 x1 h hc1 ht1 => ?_) n ((0 : Int32), (0 : Int32), w) t11 hq12 h H locs ls hR hF hL (lv_sub hl [0, 1, 2, 3, 4] rfl)
    intro H locs ls hR hF hL hl
    unfold f_X4_hit_L38 at h
    refine lv_iload hx hb dX4_hit_38 (lv_at hl 0 rfl) ?_
    refine lv_bipush (v := 16) hx hb dX4_hit_40 (by decide) ?_
    refine lv_icmp_ge (tgt := 101) hx hb dX4_hit_42 (by decide) (fun c4 => ?_) (fun c4 => ?_)
    · rw [if_pos c4] at h
      exact hX38_101 (s1.1, s1.2.1, s1.2.2) (ht1 _ (Option.some.inj h).symm) H locs ls hR hF hL (lv_sub hl [1] rfl)
    · rw [if_neg c4] at h
      refine lv_aload_n hx hb dX4_hit_45 rfl (lv_at hl 2 rfl) ?_
      refine r_get (C := RX4) (T := TX4) (N := 80) hx hb hts ok4 hown hK hR (congrArg Prod.fst (hF.2.1 58 (5, 0) rfl)) rfl 13 (by decide) (hts _ q1646) (fun _ h9 => h9) (v := .ref (z + 68)) (fv_fix hF rfl rfl) dX4_hit_46 ?_
      refine lv_iload_n hx hb dX4_hit_49 rfl (lv_at hl 4 rfl) ?_
      obtain ⟨hb5, h⟩ := grd h
      refine r_iald (v := wI s1.2.2 68 a2.toNatClampNeg) hx hb hK hR (hF.2.1 68 (200, 24) rfl) hb5 rfl dX4_hit_50 ?_
      refine lv_iload hx hb dX4_hit_51 (lv_at hl 0 rfl) ?_
      refine lv_ishr hx hb dX4_hit_53 ?_
      refine lv_iconst (v := 1) hx hb dX4_hit_54 (by decide) ?_
      refine lv_iand hx hb dX4_hit_55 ?_
      refine lv_if_ne (tgt := 62) hx hb dX4_hit_56 (by decide) (fun c6 => ?_) (fun c6 => ?_)
      · rw [if_neg c6] at h
        refine lv_aload_n hx hb dX4_hit_62 rfl (lv_at hl 2 rfl) ?_
        refine lv_iload_n hx hb dX4_hit_63 rfl (lv_at hl 4 rfl) ?_
        refine lv_iload hx hb dX4_hit_64 (lv_at hl 0 rfl) ?_
        refine lv_iconst (v := -1) hx hb dX4_hit_66 (by decide) ?_
        refine c_VW (a := 58) (ci := 4) (q := (RX4, TX4, 80)) (rest := []) (st1 := []) hx hb hml hown hts hK hR hF hL hl.1 (met_X4_asks l G z H0 s1.2.2 a2 s1.1 (-1 : Int32) _ rfl) (congrArg Prod.fst (hF.2.1 58 (5, 0) rfl)) rfl rfl rfl hd_X4_asks q2003 q2005 qs57 q104 q2006 ⟨Nat.le_of_ble_eq_true rfl, Nat.le_of_ble_eq_true rfl⟩ ⟨Nat.le_refl 0, Nat.le_refl 0⟩ rfl rfl (Nat.le_of_ble_eq_true rfl) dX4_hit_67 rfl (fun H locs hR hF hL => ?_)
        refine lv_aload_n hx hb dX4_hit_70 rfl (lv_at hl 2 rfl) ?_
        refine lv_bipush (v := 16) hx hb dX4_hit_71 (by decide) ?_
        refine lv_iload_n hx hb dX4_hit_73 rfl (lv_at hl 3 rfl) ?_
        refine lv_iadd hx hb dX4_hit_74 ?_
        obtain ⟨q7, hq8, h⟩ := bnd h
        refine c_VW (a := 58) (ci := 4) (q := (RX4, TX4, 80)) (rest := []) (st1 := [.int (bI q7.1)]) hx hb hml hown hts hK hR hF hL hl.1 (met_X4_goes l G z H0 n (f_X4_asks a2 s1.1 (-1 : Int32) s1.2.2) ((16 : Int32) + a1) q7 hq8) (congrArg Prod.fst (hF.2.1 58 (5, 0) rfl)) rfl rfl rfl hd_X4_goes q2007 q2009 qs58 q104 q2010 ⟨Nat.le_of_ble_eq_true rfl, Nat.le_of_ble_eq_true rfl⟩ ⟨Nat.le_refl 0, Nat.le_refl 0⟩ rfl rfl (Nat.le_of_ble_eq_true rfl) dX4_hit_75 rfl (fun H locs hR hF hL => ?_)
        refine lv_if_eq (tgt := 95) hx hb dX4_hit_78 (by decide) (fun c9 => ?_) (fun c9 => ?_)
        · rw [if_neg (bI_n c9)] at h
          refine lv_iinc (v := s1.1 + (1 : Int32)) (lv' := [(4, .int (s1.1 + (1 : Int32))), (3, .int s1.2.1), (0, .ref (z + 58)), (1, .int a1), (2, .int a2)]) hx hb dX4_hit_95 hl (k := 0) rfl rfl (by decide) rfl (fun ls hl => ?_)
          refine lv_goto (tgt := 38) hx hb dX4_hit_98 (by decide) ?_
          exact hc1 _ (Option.some.inj h).symm H locs ls hR hF hL (lv_sub hl [0, 1, 2, 3, 4] rfl)
        · rw [if_pos (bI_p c9)] at h
          refine lv_aload_n hx hb dX4_hit_81 rfl (lv_at hl 2 rfl) ?_
          refine r_get (C := RX4) (T := TX4) (N := 80) hx hb hts ok4 hown hK hR (congrArg Prod.fst (hF.2.1 58 (5, 0) rfl)) rfl 41 (by decide) (hts _ q1674) (fun _ h9 => h9) (v := .int (wI q7.2 58 41)) rfl dX4_hit_82 ?_
          refine lv_if_eq (tgt := 95) hx hb dX4_hit_85 (by decide) (fun c10 => ?_) (fun c10 => ?_)
          · rw [if_pos c10] at h
            refine lv_iinc (v := s1.1 + (1 : Int32)) (lv' := [(4, .int (s1.1 + (1 : Int32))), (3, .int s1.2.1), (0, .ref (z + 58)), (1, .int a1), (2, .int a2)]) hx hb dX4_hit_95 hl (k := 0) rfl rfl (by decide) rfl (fun ls hl => ?_)
            refine lv_goto (tgt := 38) hx hb dX4_hit_98 (by decide) ?_
            exact hc1 _ (Option.some.inj h).symm H locs ls hR hF hL (lv_sub hl [0, 1, 2, 3, 4] rfl)
          · rw [if_neg c10] at h
            refine lv_iload_n hx hb dX4_hit_88 rfl (lv_at hl 1 rfl) ?_
            refine lv_iconst (v := 1) hx hb dX4_hit_89 (by decide) ?_
            refine lv_iload hx hb dX4_hit_90 (lv_at hl 0 rfl) ?_
            refine lv_ishl hx hb dX4_hit_92 ?_
            refine lv_ior hx hb dX4_hit_93 ?_
            refine lv_istore_n (lv' := [(3, .int (s1.2.1 ||| ((1 : Int32) <<< (s1.1 &&& 31)))), (4, .int s1.1), (0, .ref (z + 58)), (1, .int a1), (2, .int a2)]) hx hb dX4_hit_94 rfl hl (by decide) rfl (fun ls hl => ?_)
            refine lv_iinc (v := s1.1 + (1 : Int32)) (lv' := [(4, .int (s1.1 + (1 : Int32))), (3, .int (s1.2.1 ||| ((1 : Int32) <<< (s1.1 &&& 31)))), (0, .ref (z + 58)), (1, .int a1), (2, .int a2)]) hx hb dX4_hit_95 hl (k := 1) rfl rfl (by decide) rfl (fun ls hl => ?_)
            refine lv_goto (tgt := 38) hx hb dX4_hit_98 (by decide) ?_
            exact hc1 _ (Option.some.inj h).symm H locs ls hR hF hL (lv_sub hl [0, 1, 2, 3, 4] rfl)
      · rw [if_pos c6] at h
        refine lv_goto (tgt := 95) hx hb dX4_hit_59 (by decide) ?_
        refine lv_iinc (v := s1.1 + (1 : Int32)) (lv' := [(4, .int (s1.1 + (1 : Int32))), (3, .int s1.2.1), (0, .ref (z + 58)), (1, .int a1), (2, .int a2)]) hx hb dX4_hit_95 hl (k := 0) rfl rfl (by decide) rfl (fun ls hl => ?_)
        refine lv_goto (tgt := 38) hx hb dX4_hit_98 (by decide) ?_
        exact hc1 _ (Option.some.inj h).symm H locs ls hR hF hL (lv_sub hl [0, 1, 2, 3, 4] rfl)
  refine lv_aload_n hx hb dX4_hit_0 rfl (lv_at hl 0 rfl) ?_
  refine lv_iload_n hx hb dX4_hit_1 rfl (lv_at hl 2 rfl) ?_
  refine lv_iconst (v := -1) hx hb dX4_hit_2 (by decide) ?_
  refine lv_iconst (v := -1) hx hb dX4_hit_3 (by decide) ?_
  refine c_VW (a := 58) (ci := 4) (q := (RX4, TX4, 80)) (rest := []) (st1 := []) hx hb hml hown hts hK hR hF hL hl.1 (met_X4_asks l G z H0 w a2 (-1 : Int32) (-1 : Int32) _ rfl) (congrArg Prod.fst (hF.2.1 58 (5, 0) rfl)) rfl rfl rfl hd_X4_asks q2003 q2005 qs57 q104 q2006 ⟨Nat.le_of_ble_eq_true rfl, Nat.le_of_ble_eq_true rfl⟩ ⟨Nat.le_refl 0, Nat.le_refl 0⟩ rfl rfl (Nat.le_of_ble_eq_true rfl) dX4_hit_4 rfl (fun H locs hR hF hL => ?_)
  refine lv_aload_n hx hb dX4_hit_7 rfl (lv_at hl 0 rfl) ?_
  refine lv_bipush (v := 16) hx hb dX4_hit_8 (by decide) ?_
  refine lv_iload_n hx hb dX4_hit_10 rfl (lv_at hl 1 rfl) ?_
  refine lv_iadd hx hb dX4_hit_11 ?_
  obtain ⟨q1, hq2, h⟩ := bnd h
  refine c_VW (a := 58) (ci := 4) (q := (RX4, TX4, 80)) (rest := []) (st1 := [.int (bI q1.1)]) hx hb hml hown hts hK hR hF hL hl.1 (met_X4_goes l G z H0 n (f_X4_asks a2 (-1 : Int32) (-1 : Int32) w) ((16 : Int32) + a1) q1 hq2) (congrArg Prod.fst (hF.2.1 58 (5, 0) rfl)) rfl rfl rfl hd_X4_goes q2007 q2009 qs58 q104 q2010 ⟨Nat.le_of_ble_eq_true rfl, Nat.le_of_ble_eq_true rfl⟩ ⟨Nat.le_refl 0, Nat.le_refl 0⟩ rfl rfl (Nat.le_of_ble_eq_true rfl) dX4_hit_12 rfl (fun H locs hR hF hL => ?_)
  refine lv_if_eq (tgt := 33) hx hb dX4_hit_15 (by decide) (fun c3 => ?_) (fun c3 => ?_)
  · rw [if_neg (bI_n c3)] at h
    exact hJ33  q1.2 h H locs ls hR hF hL (lv_sub hl [0, 1, 2] rfl)
  · rw [if_pos (bI_p c3)] at h
    refine lv_aload_n hx hb dX4_hit_18 rfl (lv_at hl 0 rfl) ?_
    refine r_get (C := RX4) (T := TX4) (N := 80) hx hb hts ok4 hown hK hR (congrArg Prod.fst (hF.2.1 58 (5, 0) rfl)) rfl 35 (by decide) (hts _ q1668) (fun _ h9 => h9) (v := .int (wI q1.2 58 35)) rfl dX4_hit_19 ?_
    refine lv_iconst (v := 1) hx hb dX4_hit_22 (by decide) ?_
    refine lv_icmp_ne (tgt := 33) hx hb dX4_hit_23 (by decide) (fun c13 => ?_) (fun c13 => ?_)
    · rw [if_neg c13] at h
      exact hJ33  q1.2 h H locs ls hR hF hL (lv_sub hl [0, 1, 2] rfl)
    · rw [if_pos c13] at h
      refine lv_aload_n hx hb dX4_hit_26 rfl (lv_at hl 0 rfl) ?_
      refine r_get (C := RX4) (T := TX4) (N := 80) hx hb hts ok4 hown hK hR (congrArg Prod.fst (hF.2.1 58 (5, 0) rfl)) rfl 13 (by decide) (hts _ q1646) (fun _ h9 => h9) (v := .ref (z + 68)) (fv_fix hF rfl rfl) dX4_hit_27 ?_
      refine lv_iload_n hx hb dX4_hit_30 rfl (lv_at hl 2 rfl) ?_
      obtain ⟨hb14, h⟩ := grd h
      refine r_iald (v := wI q1.2 68 a2.toNatClampNeg) hx hb hK hR (hF.2.1 68 (200, 24) rfl) hb14 rfl dX4_hit_31 ?_
      have h := Option.some.inj h
      subst h
      exact W.iret (v := wI q1.2 68 a2.toNatClampNeg) hx hb hr (fun t ht _ => ⟨rfl, by rw [ht]; exact hR, hF⟩) hL dX4_hit_32
def f_X4_findHits_L12 (n : Nat) (u2_1 : Int32) (s2 : Int32 × Wd) : Option ((Int32 × Wd) ⊕ ((Int32 × Wd))) :=
  if (wI s2.2 58 3) ≤ s2.1 then (some (.inr (s2.1, s2.2))) else ((f_X4_hit n u2_1 s2.1 s2.2).bind fun q3 => if inb (((24 : Int32) * u2_1) + s2.1) 192 then (some (.inl (s2.1 + (1 : Int32), sI q3.2 99 ((((24 : Int32) * u2_1) + s2.1).toNatClampNeg) q3.1))) else none)
def f_X4_findHits_L2 (n : Nat) (s1 : Int32 × Wd) : Option ((Int32 × Wd) ⊕ ((Int32 × Wd))) :=
  if (wI s1.2 58 26) ≤ s1.1 then (some (.inr (s1.1, s1.2))) else ((it n (f_X4_findHits_L12 n s1.1) ((0 : Int32), s1.2)).bind fun q12_43 => some (.inl (s1.1 + (1 : Int32), q12_43.2)))
def f_X4_findHits (n : Nat) (w : Wd) : Option (Wd) :=
  (it n (f_X4_findHits_L2 n) ((0 : Int32), w)).bind fun q2_49 => some q2_49.2
theorem hd_X4_findHits : yX4_findHits.cls = RX4 ∧ yX4_findHits.cls ≠ "java/lang/invoke/MethodHandle" ∧ yX4_findHits.cls ≠ "java/lang/invoke/VarHandle" ∧ (parseMethodDescriptor yX4_findHits.desc).map (fun d => d.parameters.length) = some 0 := by decide +kernel
set_option maxHeartbeats 4000000 in
set_option maxRecDepth 100000 in
theorem met_X4_findHits (l : Launch) (G : Gw) (z : Nat) (H0 : Heap) (n : Nat) (w : Wd)  (q : Wd) (h : f_X4_findHits n w = some q) : Met l yX4_findHits (ws_ yX4_findHits cX4_findHits 3 none) ({ frames := 8, cells := 0, slots := 0, locals := 176 } : Room) (pcW G z H0 w [.ref (z + 58)]) (qW G z H0 q none) 0 0 (fun q => z ≤ q) := by
  refine mW (by decide) (Nat.le_of_ble_eq_true rfl) ?_
  intro p e s m below meth c ls hx hb hr hml hown hts hlocks hnm hK hR hF hl
  have hown : s.vm.findClass RX4 = some m.cls := hown
  have hl : lv_has ls 3 [(0, .ref (z + 58))] := hl
  have hL : lok z [] := lok_nil
  unfold f_X4_findHits at h
  generalize s.heap = H at hR ⊢
  generalize ([] : List Loc) = locs at hL ⊢
  refine lv_iconst (v := 0) hx hb dX4_findHits_0 (by decide) ?_
  refine lv_istore_n (lv' := [(1, .int (0 : Int32)), (0, .ref (z + 58))]) hx hb dX4_findHits_1 rfl hl (by decide) rfl (fun ls hl => ?_)
  have hX2_49 : ∀ (q2_49 : Int32 × Wd), (some q2_49.2) = some q → ∀ (H : Heap) (locs : List Loc) (ls : Array Slot), Rp G z H0 q2_49.2 H → Fix q2_49.2 → lok z locs → lv_has ls 3 [] → W p l e ({ frames := 8, cells := 0, slots := 0, locals := 176 } : Room) s m ([.ref (z + 58)] : List Value).toArray below meth c H locs 0 0 (MQ below (qW G z H0 q none) ([.ref (z + 58)] : List Value).toArray s 0 0 (fun q => z ≤ q)) (F0 m 49 ls []) := by
    intro q2_49 h H locs ls hR hF hL hl
    have h := Option.some.inj h
    subst h
    exact W.vret hx hb hr (fun t ht _ => ⟨rfl, by rw [ht]; exact hR, hF⟩) hL dX4_findHits_49
  obtain ⟨t8, hq9, h⟩ := bnd h
  refine it_W (b := f_X4_findHits_L2 n) (P := fun (s1 : Int32 × Wd) => ∀ (H : Heap) (locs : List Loc) (ls : Array Slot), Rp G z H0 s1.2 H → Fix s1.2 → lok z locs → lv_has ls 3 [(1, .int s1.1), (0, .ref (z + 58))] → W p l e ({ frames := 8, cells := 0, slots := 0, locals := 176 } : Room) s m ([.ref (z + 58)] : List Value).toArray below meth c H locs 0 0 (MQ below (qW G z H0 q none) ([.ref (z + 58)] : List Value).toArray s 0 0 (fun q => z ≤ q)) (F0 m 2 ls [])) (K := fun q2_49 => (some q2_49.2) = some q) (fun s1 x1 h hc1 ht1 => ?_) n ((0 : Int32), w) t8 hq9 h H locs ls hR hF hL (lv_sub hl [0, 1] rfl)
  intro H locs ls hR hF hL hl
  unfold f_X4_findHits_L2 at h
  refine lv_iload_n hx hb dX4_findHits_2 rfl (lv_at hl 0 rfl) ?_
  refine lv_aload_n hx hb dX4_findHits_3 rfl (lv_at hl 1 rfl) ?_
  refine r_get (C := RX4) (T := TX4) (N := 80) hx hb hts ok4 hown hK hR (congrArg Prod.fst (hF.2.1 58 (5, 0) rfl)) rfl 26 (by decide) (hts _ q1659) (fun _ h9 => h9) (v := .int (wI s1.2 58 26)) rfl dX4_findHits_4 ?_
  refine lv_icmp_ge (tgt := 49) hx hb dX4_findHits_7 (by decide) (fun c1 => ?_) (fun c1 => ?_)
  · rw [if_pos c1] at h
    exact hX2_49 (s1.1, s1.2) (ht1 _ (Option.some.inj h).symm) H locs ls hR hF hL (lv_sub hl [] rfl)
  · rw [if_neg c1] at h
    refine lv_iconst (v := 0) hx hb dX4_findHits_10 (by decide) ?_
    refine lv_istore_n (lv' := [(2, .int (0 : Int32)), (1, .int s1.1), (0, .ref (z + 58))]) hx hb dX4_findHits_11 rfl hl (by decide) rfl (fun ls hl => ?_)
    have hX12_43 : ∀ (q12_43 : Int32 × Wd), (some (.inl (s1.1 + (1 : Int32), q12_43.2))) = some x1 → ∀ (H : Heap) (locs : List Loc) (ls : Array Slot), Rp G z H0 q12_43.2 H → Fix q12_43.2 → lok z locs → lv_has ls 3 [(1, .int s1.1), (0, .ref (z + 58))] → W p l e ({ frames := 8, cells := 0, slots := 0, locals := 176 } : Room) s m ([.ref (z + 58)] : List Value).toArray below meth c H locs 0 0 (MQ below (qW G z H0 q none) ([.ref (z + 58)] : List Value).toArray s 0 0 (fun q => z ≤ q)) (F0 m 43 ls []) := by
      intro q12_43 h H locs ls hR hF hL hl
      refine lv_iinc (v := s1.1 + (1 : Int32)) (lv' := [(1, .int (s1.1 + (1 : Int32))), (0, .ref (z + 58))]) hx hb dX4_findHits_43 hl (k := 0) rfl rfl (by decide) rfl (fun ls hl => ?_)
      refine lv_goto (tgt := 2) hx hb dX4_findHits_46 (by decide) ?_
      exact hc1 _ (Option.some.inj h).symm H locs ls hR hF hL (lv_sub hl [0, 1] rfl)
    obtain ⟨t6, hq7, h⟩ := bnd h
    refine it_W (b := f_X4_findHits_L12 n s1.1) (P := fun (s2 : Int32 × Wd) => ∀ (H : Heap) (locs : List Loc) (ls : Array Slot), Rp G z H0 s2.2 H → Fix s2.2 → lok z locs → lv_has ls 3 [(2, .int s2.1), (1, .int s1.1), (0, .ref (z + 58))] → W p l e ({ frames := 8, cells := 0, slots := 0, locals := 176 } : Room) s m ([.ref (z + 58)] : List Value).toArray below meth c H locs 0 0 (MQ below (qW G z H0 q none) ([.ref (z + 58)] : List Value).toArray s 0 0 (fun q => z ≤ q)) (F0 m 12 ls [])) (K := fun q12_43 => (some (.inl (s1.1 + (1 : Int32), q12_43.2))) = some x1) (fun s2 x2 h hc2 ht2 => ?_) n ((0 : Int32), s1.2) t6 hq7 h H locs ls hR hF hL (lv_sub hl [0, 1, 2] rfl)
    intro H locs ls hR hF hL hl
    unfold f_X4_findHits_L12 at h
    refine lv_iload_n hx hb dX4_findHits_12 rfl (lv_at hl 0 rfl) ?_
    refine lv_aload_n hx hb dX4_findHits_13 rfl (lv_at hl 2 rfl) ?_
    refine r_get (C := RX4) (T := TX4) (N := 80) hx hb hts ok4 hown hK hR (congrArg Prod.fst (hF.2.1 58 (5, 0) rfl)) rfl 3 (by decide) (hts _ q1636) (fun _ h9 => h9) (v := .int (wI s2.2 58 3)) rfl dX4_findHits_14 ?_
    refine lv_icmp_ge (tgt := 43) hx hb dX4_findHits_17 (by decide) (fun c2 => ?_) (fun c2 => ?_)
    · rw [if_pos c2] at h
      exact hX12_43 (s2.1, s2.2) (ht2 _ (Option.some.inj h).symm) H locs ls hR hF hL (lv_sub hl [1, 2] rfl)
    · rw [if_neg c2] at h
      refine lv_aload_n hx hb dX4_findHits_20 rfl (lv_at hl 2 rfl) ?_
      refine r_get (C := RX4) (T := TX4) (N := 80) hx hb hts ok4 hown hK hR (congrArg Prod.fst (hF.2.1 58 (5, 0) rfl)) rfl 69 (by decide) (hts _ q1702) (fun _ h9 => h9) (v := .ref (z + 99)) (fv_fix hF rfl rfl) dX4_findHits_21 ?_
      refine lv_bipush (v := 24) hx hb dX4_findHits_24 (by decide) ?_
      refine lv_iload_n hx hb dX4_findHits_26 rfl (lv_at hl 1 rfl) ?_
      refine lv_imul hx hb dX4_findHits_27 ?_
      refine lv_iload_n hx hb dX4_findHits_28 rfl (lv_at hl 0 rfl) ?_
      refine lv_iadd hx hb dX4_findHits_29 ?_
      refine lv_aload_n hx hb dX4_findHits_30 rfl (lv_at hl 2 rfl) ?_
      refine lv_iload_n hx hb dX4_findHits_31 rfl (lv_at hl 1 rfl) ?_
      refine lv_iload_n hx hb dX4_findHits_32 rfl (lv_at hl 0 rfl) ?_
      obtain ⟨q3, hq4, h⟩ := bnd h
      refine c_VW (a := 58) (ci := 4) (q := (RX4, TX4, 80)) (rest := [.int (((24 : Int32) * s1.1) + s2.1), .ref (z + 99)]) (st1 := [.int q3.1, .int (((24 : Int32) * s1.1) + s2.1), .ref (z + 99)]) hx hb hml hown hts hK hR hF hL hl.1 (met_X4_hit l G z H0 n s2.2 s1.1 s2.1 q3 hq4) (congrArg Prod.fst (hF.2.1 58 (5, 0) rfl)) rfl rfl rfl hd_X4_hit q2205 q2207 qs89 q104 q2208 ⟨Nat.le_of_ble_eq_true rfl, Nat.le_of_ble_eq_true rfl⟩ ⟨Nat.le_refl 0, Nat.le_refl 0⟩ rfl rfl (Nat.le_of_ble_eq_true rfl) dX4_findHits_33 rfl (fun H locs hR hF hL => ?_)
      obtain ⟨hb5, h⟩ := grd h
      refine r_iast hx hb hK hR hL (hF.2.1 99 (200, 192) rfl) hb5 dX4_findHits_36 (fun H locs hR hL => ?_)
      have hF := hF.sI 99 ((((24 : Int32) * s1.1) + s2.1).toNatClampNeg) q3.1
      refine lv_iinc (v := s2.1 + (1 : Int32)) (lv' := [(2, .int (s2.1 + (1 : Int32))), (1, .int s1.1), (0, .ref (z + 58))]) hx hb dX4_findHits_37 hl (k := 0) rfl rfl (by decide) rfl (fun ls hl => ?_)
      refine lv_goto (tgt := 12) hx hb dX4_findHits_40 (by decide) ?_
      exact hc2 _ (Option.some.inj h).symm H locs ls hR hF hL (lv_sub hl [0, 1, 2] rfl)
def f_X4_hitBy_L5 (n : Nat) (u1_1 : Int32) (u1_2 : Int32) (w : Wd) (s1 : Int32 × Int32) : Option ((Int32 × Int32) ⊕ ((Int32 × Int32))) :=
  if (wI w 58 26) ≤ s1.1 then (some (.inr (s1.1, s1.2))) else (if ((u1_1 >>> (s1.1 &&& 31)) &&& (1 : Int32)) = (1 : Int32) then (if inb (((24 : Int32) * s1.1) + u1_2) 192 then (some (.inl (s1.1 + (1 : Int32), s1.2 ||| (wI w 99 ((((24 : Int32) * s1.1) + u1_2).toNatClampNeg))))) else none) else (some (.inl (s1.1 + (1 : Int32), s1.2 ||| (0 : Int32)))))
def f_X4_hitBy (n : Nat) (a1 : Int32) (a2 : Int32) (w : Wd) : Option (Int32) :=
  (it n (f_X4_hitBy_L5 n a1 a2 w) ((0 : Int32), (0 : Int32))).bind fun q5_49 => some q5_49.2
theorem hd_X4_hitBy : yX4_hitBy.cls = RX4 ∧ yX4_hitBy.cls ≠ "java/lang/invoke/MethodHandle" ∧ yX4_hitBy.cls ≠ "java/lang/invoke/VarHandle" ∧ (parseMethodDescriptor yX4_hitBy.desc).map (fun d => d.parameters.length) = some 2 := by decide +kernel
set_option maxHeartbeats 4000000 in
set_option maxRecDepth 100000 in
theorem met_X4_hitBy (l : Launch) (G : Gw) (z : Nat) (H0 : Heap) (n : Nat) (w : Wd) (a1 : Int32) (a2 : Int32) (q : Int32) (h : f_X4_hitBy n a1 a2 w = some q) : Met l yX4_hitBy (ws_ yX4_hitBy cX4_hitBy 5 (some .int)) ({ frames := 0, cells := 0, slots := 0, locals := 0 } : Room) (pcW G z H0 w [.ref (z + 58), .int a1, .int a2]) (qP (some (.int q))) 0 0 (fun q => z ≤ q) := by
  refine mW (by decide) (Nat.le_of_ble_eq_true rfl) ?_
  intro p e s m below meth c ls hx hb hr hml hown hts hlocks hnm hK hR hF hl
  have hown : s.vm.findClass RX4 = some m.cls := hown
  have hl : lv_has ls 5 [(0, .ref (z + 58)), (1, .int a1), (2, .int a2)] := hl
  have hL : lok z [] := lok_nil
  unfold f_X4_hitBy at h
  generalize ([] : List Loc) = locs at hL ⊢
  refine lv_iconst (v := 0) hx hb dX4_hitBy_0 (by decide) ?_
  refine lv_istore_n (lv' := [(3, .int (0 : Int32)), (0, .ref (z + 58)), (1, .int a1), (2, .int a2)]) hx hb dX4_hitBy_1 rfl hl (by decide) rfl (fun ls hl => ?_)
  refine lv_iconst (v := 0) hx hb dX4_hitBy_2 (by decide) ?_
  refine lv_istore (lv' := [(4, .int (0 : Int32)), (3, .int (0 : Int32)), (0, .ref (z + 58)), (1, .int a1), (2, .int a2)]) hx hb dX4_hitBy_3 hl (by decide) rfl (fun ls hl => ?_)
  have hX5_49 : ∀ (q5_49 : Int32 × Int32), (some q5_49.2) = some q → ∀ (locs : List Loc) (ls : Array Slot), lok z locs → lv_has ls 5 [(3, .int q5_49.2)] → W p l e ({ frames := 0, cells := 0, slots := 0, locals := 0 } : Room) s m ([.ref (z + 58), .int a1, .int a2] : List Value).toArray below meth c s.heap locs 0 0 (MQ below (qP (some (.int q))) ([.ref (z + 58), .int a1, .int a2] : List Value).toArray s 0 0 (fun q => z ≤ q)) (F0 m 49 ls []) := by
    intro q5_49 h locs ls hL hl
    refine lv_iload_n hx hb dX4_hitBy_49 rfl (lv_at hl 0 rfl) ?_
    have h := Option.some.inj h
    subst h
    exact W.iret (v := q5_49.2) hx hb hr (fun t ht _ => ⟨rfl, ht⟩) hL dX4_hitBy_50
  obtain ⟨t4, hq5, h⟩ := bnd h
  refine it_W (b := f_X4_hitBy_L5 n a1 a2 w) (P := fun (s1 : Int32 × Int32) => ∀ (locs : List Loc) (ls : Array Slot), lok z locs → lv_has ls 5 [(4, .int s1.1), (3, .int s1.2), (0, .ref (z + 58)), (1, .int a1), (2, .int a2)] → W p l e ({ frames := 0, cells := 0, slots := 0, locals := 0 } : Room) s m ([.ref (z + 58), .int a1, .int a2] : List Value).toArray below meth c s.heap locs 0 0 (MQ below (qP (some (.int q))) ([.ref (z + 58), .int a1, .int a2] : List Value).toArray s 0 0 (fun q => z ≤ q)) (F0 m 5 ls [])) (K := fun q5_49 => (some q5_49.2) = some q) (fun s1 x1 h hc1 ht1 => ?_) n ((0 : Int32), (0 : Int32)) t4 hq5 h locs ls hL (lv_sub hl [0, 1, 2, 3, 4] rfl)
  intro locs ls hL hl
  unfold f_X4_hitBy_L5 at h
  refine lv_iload hx hb dX4_hitBy_5 (lv_at hl 0 rfl) ?_
  refine lv_aload_n hx hb dX4_hitBy_7 rfl (lv_at hl 2 rfl) ?_
  refine r_get (C := RX4) (T := TX4) (N := 80) hx hb hts ok4 hown hK hR (congrArg Prod.fst (hF.2.1 58 (5, 0) rfl)) rfl 26 (by decide) (hts _ q1659) (fun _ h9 => h9) (v := .int (wI w 58 26)) rfl dX4_hitBy_8 ?_
  refine lv_icmp_ge (tgt := 49) hx hb dX4_hitBy_11 (by decide) (fun c1 => ?_) (fun c1 => ?_)
  · rw [if_pos c1] at h
    exact hX5_49 (s1.1, s1.2) (ht1 _ (Option.some.inj h).symm) locs ls hL (lv_sub hl [1] rfl)
  · rw [if_neg c1] at h
    refine lv_iload_n hx hb dX4_hitBy_14 rfl (lv_at hl 1 rfl) ?_
    refine lv_iload_n hx hb dX4_hitBy_15 rfl (lv_at hl 3 rfl) ?_
    refine lv_iload hx hb dX4_hitBy_16 (lv_at hl 0 rfl) ?_
    refine lv_ishr hx hb dX4_hitBy_18 ?_
    refine lv_iconst (v := 1) hx hb dX4_hitBy_19 (by decide) ?_
    refine lv_iand hx hb dX4_hitBy_20 ?_
    refine lv_iconst (v := 1) hx hb dX4_hitBy_21 (by decide) ?_
    refine lv_icmp_ne (tgt := 40) hx hb dX4_hitBy_22 (by decide) (fun c2 => ?_) (fun c2 => ?_)
    · rw [if_neg c2] at h
      refine lv_iconst (v := 0) hx hb dX4_hitBy_40 (by decide) ?_
      refine lv_ior hx hb dX4_hitBy_41 ?_
      refine lv_istore_n (lv' := [(3, .int (s1.2 ||| (0 : Int32))), (4, .int s1.1), (0, .ref (z + 58)), (1, .int a1), (2, .int a2)]) hx hb dX4_hitBy_42 rfl hl (by decide) rfl (fun ls hl => ?_)
      refine lv_iinc (v := s1.1 + (1 : Int32)) (lv' := [(4, .int (s1.1 + (1 : Int32))), (3, .int (s1.2 ||| (0 : Int32))), (0, .ref (z + 58)), (1, .int a1), (2, .int a2)]) hx hb dX4_hitBy_43 hl (k := 1) rfl rfl (by decide) rfl (fun ls hl => ?_)
      refine lv_goto (tgt := 5) hx hb dX4_hitBy_46 (by decide) ?_
      exact hc1 _ (Option.some.inj h).symm locs ls hL (lv_sub hl [0, 1, 2, 3, 4] rfl)
    · rw [if_pos c2] at h
      refine lv_aload_n hx hb dX4_hitBy_25 rfl (lv_at hl 2 rfl) ?_
      refine r_get (C := RX4) (T := TX4) (N := 80) hx hb hts ok4 hown hK hR (congrArg Prod.fst (hF.2.1 58 (5, 0) rfl)) rfl 69 (by decide) (hts _ q1702) (fun _ h9 => h9) (v := .ref (z + 99)) (fv_fix hF rfl rfl) dX4_hitBy_26 ?_
      refine lv_bipush (v := 24) hx hb dX4_hitBy_29 (by decide) ?_
      refine lv_iload hx hb dX4_hitBy_31 (lv_at hl 0 rfl) ?_
      refine lv_imul hx hb dX4_hitBy_33 ?_
      refine lv_iload_n hx hb dX4_hitBy_34 rfl (lv_at hl 4 rfl) ?_
      refine lv_iadd hx hb dX4_hitBy_35 ?_
      obtain ⟨hb3, h⟩ := grd h
      refine r_iald (v := wI w 99 ((((24 : Int32) * s1.1) + a2).toNatClampNeg)) hx hb hK hR (hF.2.1 99 (200, 192) rfl) hb3 rfl dX4_hitBy_36 ?_
      refine lv_goto (tgt := 41) hx hb dX4_hitBy_37 (by decide) ?_
      refine lv_ior hx hb dX4_hitBy_41 ?_
      refine lv_istore_n (lv' := [(3, .int (s1.2 ||| (wI w 99 ((((24 : Int32) * s1.1) + a2).toNatClampNeg)))), (4, .int s1.1), (0, .ref (z + 58)), (1, .int a1), (2, .int a2)]) hx hb dX4_hitBy_42 rfl hl (by decide) rfl (fun ls hl => ?_)
      refine lv_iinc (v := s1.1 + (1 : Int32)) (lv' := [(4, .int (s1.1 + (1 : Int32))), (3, .int (s1.2 ||| (wI w 99 ((((24 : Int32) * s1.1) + a2).toNatClampNeg)))), (0, .ref (z + 58)), (1, .int a1), (2, .int a2)]) hx hb dX4_hitBy_43 hl (k := 1) rfl rfl (by decide) rfl (fun ls hl => ?_)
      refine lv_goto (tgt := 5) hx hb dX4_hitBy_46 (by decide) ?_
      exact hc1 _ (Option.some.inj h).symm locs ls hL (lv_sub hl [0, 1, 2, 3, 4] rfl)
def f_X4_metBy_L4 (n : Nat) (u1_1 : Int32) (w : Wd) (s1 : Int32 × Int32) : Option ((Int32 × Int32) ⊕ ((Int32 × Int32))) :=
  if (wI w 58 3) ≤ s1.1 then (some (.inr (s1.1, s1.2))) else ((f_X4_hitBy n u1_1 s1.1 w).bind fun q2 => if inb s1.1 24 then ((f_X4_ones n (q2 &&& (wI w 98 s1.1.toNatClampNeg)) w).bind fun q5 => some (.inl (s1.1 + (1 : Int32), s1.2 + q5))) else none)
def f_X4_metBy (n : Nat) (a1 : Int32) (w : Wd) : Option (Int32) :=
  (it n (f_X4_metBy_L4 n a1 w) ((0 : Int32), (0 : Int32))).bind fun q4_38 => some q4_38.2
theorem hd_X4_metBy : yX4_metBy.cls = RX4 ∧ yX4_metBy.cls ≠ "java/lang/invoke/MethodHandle" ∧ yX4_metBy.cls ≠ "java/lang/invoke/VarHandle" ∧ (parseMethodDescriptor yX4_metBy.desc).map (fun d => d.parameters.length) = some 1 := by decide +kernel
set_option maxHeartbeats 4000000 in
set_option maxRecDepth 100000 in
theorem met_X4_metBy (l : Launch) (G : Gw) (z : Nat) (H0 : Heap) (n : Nat) (w : Wd) (a1 : Int32) (q : Int32) (h : f_X4_metBy n a1 w = some q) : Met l yX4_metBy (ws_ yX4_metBy cX4_metBy 4 (some .int)) ({ frames := 1, cells := 0, slots := 0, locals := 24 } : Room) (pcW G z H0 w [.ref (z + 58), .int a1]) (qP (some (.int q))) 0 0 (fun q => z ≤ q) := by
  refine mW (by decide) (Nat.le_of_ble_eq_true rfl) ?_
  intro p e s m below meth c ls hx hb hr hml hown hts hlocks hnm hK hR hF hl
  have hown : s.vm.findClass RX4 = some m.cls := hown
  have hl : lv_has ls 4 [(0, .ref (z + 58)), (1, .int a1)] := hl
  have hL : lok z [] := lok_nil
  unfold f_X4_metBy at h
  generalize ([] : List Loc) = locs at hL ⊢
  refine lv_iconst (v := 0) hx hb dX4_metBy_0 (by decide) ?_
  refine lv_istore_n (lv' := [(2, .int (0 : Int32)), (0, .ref (z + 58)), (1, .int a1)]) hx hb dX4_metBy_1 rfl hl (by decide) rfl (fun ls hl => ?_)
  refine lv_iconst (v := 0) hx hb dX4_metBy_2 (by decide) ?_
  refine lv_istore_n (lv' := [(3, .int (0 : Int32)), (2, .int (0 : Int32)), (0, .ref (z + 58)), (1, .int a1)]) hx hb dX4_metBy_3 rfl hl (by decide) rfl (fun ls hl => ?_)
  have hX4_38 : ∀ (q4_38 : Int32 × Int32), (some q4_38.2) = some q → ∀ (locs : List Loc) (ls : Array Slot), lok z locs → lv_has ls 4 [(2, .int q4_38.2)] → W p l e ({ frames := 1, cells := 0, slots := 0, locals := 24 } : Room) s m ([.ref (z + 58), .int a1] : List Value).toArray below meth c s.heap locs 0 0 (MQ below (qP (some (.int q))) ([.ref (z + 58), .int a1] : List Value).toArray s 0 0 (fun q => z ≤ q)) (F0 m 38 ls []) := by
    intro q4_38 h locs ls hL hl
    refine lv_iload_n hx hb dX4_metBy_38 rfl (lv_at hl 0 rfl) ?_
    have h := Option.some.inj h
    subst h
    exact W.iret (v := q4_38.2) hx hb hr (fun t ht _ => ⟨rfl, ht⟩) hL dX4_metBy_39
  obtain ⟨t7, hq8, h⟩ := bnd h
  refine it_W (b := f_X4_metBy_L4 n a1 w) (P := fun (s1 : Int32 × Int32) => ∀ (locs : List Loc) (ls : Array Slot), lok z locs → lv_has ls 4 [(3, .int s1.1), (2, .int s1.2), (0, .ref (z + 58)), (1, .int a1)] → W p l e ({ frames := 1, cells := 0, slots := 0, locals := 24 } : Room) s m ([.ref (z + 58), .int a1] : List Value).toArray below meth c s.heap locs 0 0 (MQ below (qP (some (.int q))) ([.ref (z + 58), .int a1] : List Value).toArray s 0 0 (fun q => z ≤ q)) (F0 m 4 ls [])) (K := fun q4_38 => (some q4_38.2) = some q) (fun s1 x1 h hc1 ht1 => ?_) n ((0 : Int32), (0 : Int32)) t7 hq8 h locs ls hL (lv_sub hl [0, 1, 2, 3] rfl)
  intro locs ls hL hl
  unfold f_X4_metBy_L4 at h
  refine lv_iload_n hx hb dX4_metBy_4 rfl (lv_at hl 0 rfl) ?_
  refine lv_aload_n hx hb dX4_metBy_5 rfl (lv_at hl 2 rfl) ?_
  refine r_get (C := RX4) (T := TX4) (N := 80) hx hb hts ok4 hown hK hR (congrArg Prod.fst (hF.2.1 58 (5, 0) rfl)) rfl 3 (by decide) (hts _ q1636) (fun _ h9 => h9) (v := .int (wI w 58 3)) rfl dX4_metBy_6 ?_
  refine lv_icmp_ge (tgt := 38) hx hb dX4_metBy_9 (by decide) (fun c1 => ?_) (fun c1 => ?_)
  · rw [if_pos c1] at h
    exact hX4_38 (s1.1, s1.2) (ht1 _ (Option.some.inj h).symm) locs ls hL (lv_sub hl [1] rfl)
  · rw [if_neg c1] at h
    refine lv_iload_n hx hb dX4_metBy_12 rfl (lv_at hl 1 rfl) ?_
    refine lv_aload_n hx hb dX4_metBy_13 rfl (lv_at hl 2 rfl) ?_
    refine lv_aload_n hx hb dX4_metBy_14 rfl (lv_at hl 2 rfl) ?_
    refine lv_iload_n hx hb dX4_metBy_15 rfl (lv_at hl 3 rfl) ?_
    refine lv_iload_n hx hb dX4_metBy_16 rfl (lv_at hl 0 rfl) ?_
    obtain ⟨q2, hq3, h⟩ := bnd h
    refine c_VP (a := 58) (ci := 4) (q := (RX4, TX4, 80)) (rest := [.ref (z + 58), .int s1.2]) (st1 := [.int q2, .ref (z + 58), .int s1.2]) hx hb hml hown hts hK hR hF hL hl.1 (met_X4_hitBy l G z H0 n w a1 s1.1 q2 hq3) (congrArg Prod.fst (hF.2.1 58 (5, 0) rfl)) rfl rfl rfl hd_X4_hitBy q2213 q2215 qs91 q104 q2216 ⟨Nat.le_of_ble_eq_true rfl, Nat.le_of_ble_eq_true rfl⟩ ⟨Nat.le_refl 0, Nat.le_refl 0⟩ rfl rfl (Nat.le_of_ble_eq_true rfl) dX4_metBy_17 rfl (fun locs hL => ?_)
    refine lv_aload_n hx hb dX4_metBy_20 rfl (lv_at hl 2 rfl) ?_
    refine r_get (C := RX4) (T := TX4) (N := 80) hx hb hts ok4 hown hK hR (congrArg Prod.fst (hF.2.1 58 (5, 0) rfl)) rfl 68 (by decide) (hts _ q1701) (fun _ h9 => h9) (v := .ref (z + 98)) (fv_fix hF rfl rfl) dX4_metBy_21 ?_
    refine lv_iload_n hx hb dX4_metBy_24 rfl (lv_at hl 0 rfl) ?_
    obtain ⟨hb4, h⟩ := grd h
    refine r_iald (v := wI w 98 s1.1.toNatClampNeg) hx hb hK hR (hF.2.1 98 (200, 24) rfl) hb4 rfl dX4_metBy_25 ?_
    refine lv_iand hx hb dX4_metBy_26 ?_
    obtain ⟨q5, hq6, h⟩ := bnd h
    refine c_VP (a := 58) (ci := 4) (q := (RX4, TX4, 80)) (rest := [.int s1.2]) (st1 := [.int q5, .int s1.2]) hx hb hml hown hts hK hR hF hL hl.1 (met_X4_ones l G z H0 n w (q2 &&& (wI w 98 s1.1.toNatClampNeg)) q5 hq6) (congrArg Prod.fst (hF.2.1 58 (5, 0) rfl)) rfl rfl rfl hd_X4_ones q2069 q2071 qs72 q104 q2072 ⟨Nat.le_of_ble_eq_true rfl, Nat.le_of_ble_eq_true rfl⟩ ⟨Nat.le_refl 0, Nat.le_refl 0⟩ rfl rfl (Nat.le_of_ble_eq_true rfl) dX4_metBy_27 rfl (fun locs hL => ?_)
    refine lv_iadd hx hb dX4_metBy_30 ?_
    refine lv_istore_n (lv' := [(2, .int (s1.2 + q5)), (3, .int s1.1), (0, .ref (z + 58)), (1, .int a1)]) hx hb dX4_metBy_31 rfl hl (by decide) rfl (fun ls hl => ?_)
    refine lv_iinc (v := s1.1 + (1 : Int32)) (lv' := [(3, .int (s1.1 + (1 : Int32))), (2, .int (s1.2 + q5)), (0, .ref (z + 58)), (1, .int a1)]) hx hb dX4_metBy_32 hl (k := 1) rfl rfl (by decide) rfl (fun ls hl => ?_)
    refine lv_goto (tgt := 4) hx hb dX4_metBy_35 (by decide) ?_
    exact hc1 _ (Option.some.inj h).symm locs ls hL (lv_sub hl [0, 1, 2, 3] rfl)
def f_X4_lossBy_L4 (n : Nat) (u1_1 : Int32) (w : Wd) (s1 : Int32 × Int32) : Option ((Int32 × Int32) ⊕ ((Int32 × Int32))) :=
  if (wI w 58 3) ≤ s1.1 then (some (.inr (s1.1, s1.2))) else ((f_X4_hitBy n u1_1 s1.1 w).bind fun q2 => if inb s1.1 24 then ((f_X4_ones n (q2 &&& ((wI w 98 s1.1.toNatClampNeg) ^^^ (-1 : Int32))) w).bind fun q5 => some (.inl (s1.1 + (1 : Int32), s1.2 + q5))) else none)
def f_X4_lossBy (n : Nat) (a1 : Int32) (w : Wd) : Option (Int32) :=
  (it n (f_X4_lossBy_L4 n a1 w) ((0 : Int32), (0 : Int32))).bind fun q4_40 => some q4_40.2
theorem hd_X4_lossBy : yX4_lossBy.cls = RX4 ∧ yX4_lossBy.cls ≠ "java/lang/invoke/MethodHandle" ∧ yX4_lossBy.cls ≠ "java/lang/invoke/VarHandle" ∧ (parseMethodDescriptor yX4_lossBy.desc).map (fun d => d.parameters.length) = some 1 := by decide +kernel
set_option maxHeartbeats 4000000 in
set_option maxRecDepth 100000 in
theorem met_X4_lossBy (l : Launch) (G : Gw) (z : Nat) (H0 : Heap) (n : Nat) (w : Wd) (a1 : Int32) (q : Int32) (h : f_X4_lossBy n a1 w = some q) : Met l yX4_lossBy (ws_ yX4_lossBy cX4_lossBy 4 (some .int)) ({ frames := 1, cells := 0, slots := 0, locals := 24 } : Room) (pcW G z H0 w [.ref (z + 58), .int a1]) (qP (some (.int q))) 0 0 (fun q => z ≤ q) := by
  refine mW (by decide) (Nat.le_of_ble_eq_true rfl) ?_
  intro p e s m below meth c ls hx hb hr hml hown hts hlocks hnm hK hR hF hl
  have hown : s.vm.findClass RX4 = some m.cls := hown
  have hl : lv_has ls 4 [(0, .ref (z + 58)), (1, .int a1)] := hl
  have hL : lok z [] := lok_nil
  unfold f_X4_lossBy at h
  generalize ([] : List Loc) = locs at hL ⊢
  refine lv_iconst (v := 0) hx hb dX4_lossBy_0 (by decide) ?_
  refine lv_istore_n (lv' := [(2, .int (0 : Int32)), (0, .ref (z + 58)), (1, .int a1)]) hx hb dX4_lossBy_1 rfl hl (by decide) rfl (fun ls hl => ?_)
  refine lv_iconst (v := 0) hx hb dX4_lossBy_2 (by decide) ?_
  refine lv_istore_n (lv' := [(3, .int (0 : Int32)), (2, .int (0 : Int32)), (0, .ref (z + 58)), (1, .int a1)]) hx hb dX4_lossBy_3 rfl hl (by decide) rfl (fun ls hl => ?_)
  have hX4_40 : ∀ (q4_40 : Int32 × Int32), (some q4_40.2) = some q → ∀ (locs : List Loc) (ls : Array Slot), lok z locs → lv_has ls 4 [(2, .int q4_40.2)] → W p l e ({ frames := 1, cells := 0, slots := 0, locals := 24 } : Room) s m ([.ref (z + 58), .int a1] : List Value).toArray below meth c s.heap locs 0 0 (MQ below (qP (some (.int q))) ([.ref (z + 58), .int a1] : List Value).toArray s 0 0 (fun q => z ≤ q)) (F0 m 40 ls []) := by
    intro q4_40 h locs ls hL hl
    refine lv_iload_n hx hb dX4_lossBy_40 rfl (lv_at hl 0 rfl) ?_
    have h := Option.some.inj h
    subst h
    exact W.iret (v := q4_40.2) hx hb hr (fun t ht _ => ⟨rfl, ht⟩) hL dX4_lossBy_41
  obtain ⟨t7, hq8, h⟩ := bnd h
  refine it_W (b := f_X4_lossBy_L4 n a1 w) (P := fun (s1 : Int32 × Int32) => ∀ (locs : List Loc) (ls : Array Slot), lok z locs → lv_has ls 4 [(3, .int s1.1), (2, .int s1.2), (0, .ref (z + 58)), (1, .int a1)] → W p l e ({ frames := 1, cells := 0, slots := 0, locals := 24 } : Room) s m ([.ref (z + 58), .int a1] : List Value).toArray below meth c s.heap locs 0 0 (MQ below (qP (some (.int q))) ([.ref (z + 58), .int a1] : List Value).toArray s 0 0 (fun q => z ≤ q)) (F0 m 4 ls [])) (K := fun q4_40 => (some q4_40.2) = some q) (fun s1 x1 h hc1 ht1 => ?_) n ((0 : Int32), (0 : Int32)) t7 hq8 h locs ls hL (lv_sub hl [0, 1, 2, 3] rfl)
  intro locs ls hL hl
  unfold f_X4_lossBy_L4 at h
  refine lv_iload_n hx hb dX4_lossBy_4 rfl (lv_at hl 0 rfl) ?_
  refine lv_aload_n hx hb dX4_lossBy_5 rfl (lv_at hl 2 rfl) ?_
  refine r_get (C := RX4) (T := TX4) (N := 80) hx hb hts ok4 hown hK hR (congrArg Prod.fst (hF.2.1 58 (5, 0) rfl)) rfl 3 (by decide) (hts _ q1636) (fun _ h9 => h9) (v := .int (wI w 58 3)) rfl dX4_lossBy_6 ?_
  refine lv_icmp_ge (tgt := 40) hx hb dX4_lossBy_9 (by decide) (fun c1 => ?_) (fun c1 => ?_)
  · rw [if_pos c1] at h
    exact hX4_40 (s1.1, s1.2) (ht1 _ (Option.some.inj h).symm) locs ls hL (lv_sub hl [1] rfl)
  · rw [if_neg c1] at h
    refine lv_iload_n hx hb dX4_lossBy_12 rfl (lv_at hl 1 rfl) ?_
    refine lv_aload_n hx hb dX4_lossBy_13 rfl (lv_at hl 2 rfl) ?_
    refine lv_aload_n hx hb dX4_lossBy_14 rfl (lv_at hl 2 rfl) ?_
    refine lv_iload_n hx hb dX4_lossBy_15 rfl (lv_at hl 3 rfl) ?_
    refine lv_iload_n hx hb dX4_lossBy_16 rfl (lv_at hl 0 rfl) ?_
    obtain ⟨q2, hq3, h⟩ := bnd h
    refine c_VP (a := 58) (ci := 4) (q := (RX4, TX4, 80)) (rest := [.ref (z + 58), .int s1.2]) (st1 := [.int q2, .ref (z + 58), .int s1.2]) hx hb hml hown hts hK hR hF hL hl.1 (met_X4_hitBy l G z H0 n w a1 s1.1 q2 hq3) (congrArg Prod.fst (hF.2.1 58 (5, 0) rfl)) rfl rfl rfl hd_X4_hitBy q2213 q2215 qs91 q104 q2216 ⟨Nat.le_of_ble_eq_true rfl, Nat.le_of_ble_eq_true rfl⟩ ⟨Nat.le_refl 0, Nat.le_refl 0⟩ rfl rfl (Nat.le_of_ble_eq_true rfl) dX4_lossBy_17 rfl (fun locs hL => ?_)
    refine lv_aload_n hx hb dX4_lossBy_20 rfl (lv_at hl 2 rfl) ?_
    refine r_get (C := RX4) (T := TX4) (N := 80) hx hb hts ok4 hown hK hR (congrArg Prod.fst (hF.2.1 58 (5, 0) rfl)) rfl 68 (by decide) (hts _ q1701) (fun _ h9 => h9) (v := .ref (z + 98)) (fv_fix hF rfl rfl) dX4_lossBy_21 ?_
    refine lv_iload_n hx hb dX4_lossBy_24 rfl (lv_at hl 0 rfl) ?_
    obtain ⟨hb4, h⟩ := grd h
    refine r_iald (v := wI w 98 s1.1.toNatClampNeg) hx hb hK hR (hF.2.1 98 (200, 24) rfl) hb4 rfl dX4_lossBy_25 ?_
    refine lv_iconst (v := -1) hx hb dX4_lossBy_26 (by decide) ?_
    refine lv_ixor hx hb dX4_lossBy_27 ?_
    refine lv_iand hx hb dX4_lossBy_28 ?_
    obtain ⟨q5, hq6, h⟩ := bnd h
    refine c_VP (a := 58) (ci := 4) (q := (RX4, TX4, 80)) (rest := [.int s1.2]) (st1 := [.int q5, .int s1.2]) hx hb hml hown hts hK hR hF hL hl.1 (met_X4_ones l G z H0 n w (q2 &&& ((wI w 98 s1.1.toNatClampNeg) ^^^ (-1 : Int32))) q5 hq6) (congrArg Prod.fst (hF.2.1 58 (5, 0) rfl)) rfl rfl rfl hd_X4_ones q2069 q2071 qs72 q104 q2072 ⟨Nat.le_of_ble_eq_true rfl, Nat.le_of_ble_eq_true rfl⟩ ⟨Nat.le_refl 0, Nat.le_refl 0⟩ rfl rfl (Nat.le_of_ble_eq_true rfl) dX4_lossBy_29 rfl (fun locs hL => ?_)
    refine lv_iadd hx hb dX4_lossBy_32 ?_
    refine lv_istore_n (lv' := [(2, .int (s1.2 + q5)), (3, .int s1.1), (0, .ref (z + 58)), (1, .int a1)]) hx hb dX4_lossBy_33 rfl hl (by decide) rfl (fun ls hl => ?_)
    refine lv_iinc (v := s1.1 + (1 : Int32)) (lv' := [(3, .int (s1.1 + (1 : Int32))), (2, .int (s1.2 + q5)), (0, .ref (z + 58)), (1, .int a1)]) hx hb dX4_lossBy_34 hl (k := 1) rfl rfl (by decide) rfl (fun ls hl => ?_)
    refine lv_goto (tgt := 4) hx hb dX4_lossBy_37 (by decide) ?_
    exact hc1 _ (Option.some.inj h).symm locs ls hL (lv_sub hl [0, 1, 2, 3] rfl)
def f_X4_weigh (n : Nat) (a1 : Int32) (a2 : Int32) (w : Wd) : Option (Int32 × Wd) :=
  if (f_X4_in a2 (0 : Int32) (1 : Int32) w) then (if (f_X4_in a1 (0 : Int32) (((1 : Int32) <<< ((wI w 58 26) &&& 31)) - (1 : Int32)) w) then ((f_X4_findHits n w).bind fun q3 => if a2 = 0 then ((f_X4_metBy n a1 q3).bind fun q8 => some (q8, q3)) else ((f_X4_lossBy n a1 q3).bind fun q6 => some (q6, q3))) else (some ((-2 : Int32), w))) else (some ((-1 : Int32), w))
theorem hd_X4_weigh : yX4_weigh.cls = RX4 ∧ yX4_weigh.cls ≠ "java/lang/invoke/MethodHandle" ∧ yX4_weigh.cls ≠ "java/lang/invoke/VarHandle" ∧ (parseMethodDescriptor yX4_weigh.desc).map (fun d => d.parameters.length) = some 2 := by decide +kernel
set_option maxHeartbeats 4000000 in
set_option maxRecDepth 100000 in
theorem met_X4_weigh (l : Launch) (G : Gw) (z : Nat) (H0 : Heap) (n : Nat) (w : Wd) (a1 : Int32) (a2 : Int32) (q : Int32 × Wd) (h : f_X4_weigh n a1 a2 w = some q) : Met l yX4_weigh (ws_ yX4_weigh cX4_weigh 3 (some .int)) ({ frames := 9, cells := 0, slots := 0, locals := 198 } : Room) (pcW G z H0 w [.ref (z + 58), .int a1, .int a2]) (qW G z H0 q.2 (some (.int q.1))) 0 0 (fun q => z ≤ q) := by
  refine mW (by decide) (Nat.le_of_ble_eq_true rfl) ?_
  intro p e s m below meth c ls hx hb hr hml hown hts hlocks hnm hK hR hF hl
  have hown : s.vm.findClass RX4 = some m.cls := hown
  have hl : lv_has ls 3 [(0, .ref (z + 58)), (1, .int a1), (2, .int a2)] := hl
  have hL : lok z [] := lok_nil
  unfold f_X4_weigh at h
  generalize s.heap = H at hR ⊢
  generalize ([] : List Loc) = locs at hL ⊢
  refine lv_aload_n hx hb dX4_weigh_0 rfl (lv_at hl 0 rfl) ?_
  refine lv_iload_n hx hb dX4_weigh_1 rfl (lv_at hl 2 rfl) ?_
  refine lv_iconst (v := 0) hx hb dX4_weigh_2 (by decide) ?_
  refine lv_iconst (v := 1) hx hb dX4_weigh_3 (by decide) ?_
  refine c_VP (a := 58) (ci := 4) (q := (RX4, TX4, 80)) (rest := []) (st1 := [.int (bI (f_X4_in a2 (0 : Int32) (1 : Int32) w))]) hx hb hml hown hts hK hR hF hL hl.1 (met_X4_in l G z H0 w a2 (0 : Int32) (1 : Int32) _ rfl) (congrArg Prod.fst (hF.2.1 58 (5, 0) rfl)) rfl rfl rfl hd_X4_in q1878 q1880 qs41 q104 q1881 ⟨Nat.le_of_ble_eq_true rfl, Nat.le_of_ble_eq_true rfl⟩ ⟨Nat.le_refl 0, Nat.le_refl 0⟩ rfl rfl (Nat.le_of_ble_eq_true rfl) dX4_weigh_4 rfl (fun locs hL => ?_)
  refine lv_if_ne (tgt := 12) hx hb dX4_weigh_7 (by decide) (fun c1 => ?_) (fun c1 => ?_)
  · rw [if_pos (bI_p c1)] at h
    refine lv_aload_n hx hb dX4_weigh_12 rfl (lv_at hl 0 rfl) ?_
    refine lv_iload_n hx hb dX4_weigh_13 rfl (lv_at hl 1 rfl) ?_
    refine lv_iconst (v := 0) hx hb dX4_weigh_14 (by decide) ?_
    refine lv_iconst (v := 1) hx hb dX4_weigh_15 (by decide) ?_
    refine lv_aload_n hx hb dX4_weigh_16 rfl (lv_at hl 0 rfl) ?_
    refine r_get (C := RX4) (T := TX4) (N := 80) hx hb hts ok4 hown hK hR (congrArg Prod.fst (hF.2.1 58 (5, 0) rfl)) rfl 26 (by decide) (hts _ q1659) (fun _ h9 => h9) (v := .int (wI w 58 26)) rfl dX4_weigh_17 ?_
    refine lv_ishl hx hb dX4_weigh_20 ?_
    refine lv_iconst (v := 1) hx hb dX4_weigh_21 (by decide) ?_
    refine lv_isub hx hb dX4_weigh_22 ?_
    refine c_VP (a := 58) (ci := 4) (q := (RX4, TX4, 80)) (rest := []) (st1 := [.int (bI (f_X4_in a1 (0 : Int32) (((1 : Int32) <<< ((wI w 58 26) &&& 31)) - (1 : Int32)) w))]) hx hb hml hown hts hK hR hF hL hl.1 (met_X4_in l G z H0 w a1 (0 : Int32) (((1 : Int32) <<< ((wI w 58 26) &&& 31)) - (1 : Int32)) _ rfl) (congrArg Prod.fst (hF.2.1 58 (5, 0) rfl)) rfl rfl rfl hd_X4_in q1878 q1880 qs41 q104 q1881 ⟨Nat.le_of_ble_eq_true rfl, Nat.le_of_ble_eq_true rfl⟩ ⟨Nat.le_refl 0, Nat.le_refl 0⟩ rfl rfl (Nat.le_of_ble_eq_true rfl) dX4_weigh_23 rfl (fun locs hL => ?_)
    refine lv_if_ne (tgt := 32) hx hb dX4_weigh_26 (by decide) (fun c2 => ?_) (fun c2 => ?_)
    · rw [if_pos (bI_p c2)] at h
      refine lv_aload_n hx hb dX4_weigh_32 rfl (lv_at hl 0 rfl) ?_
      obtain ⟨q3, hq4, h⟩ := bnd h
      refine c_VW (a := 58) (ci := 4) (q := (RX4, TX4, 80)) (rest := []) (st1 := []) hx hb hml hown hts hK hR hF hL hl.1 (met_X4_findHits l G z H0 n w  q3 hq4) (congrArg Prod.fst (hF.2.1 58 (5, 0) rfl)) rfl rfl rfl hd_X4_findHits q2201 q2203 qs88 q104 q2204 ⟨Nat.le_of_ble_eq_true rfl, Nat.le_of_ble_eq_true rfl⟩ ⟨Nat.le_refl 0, Nat.le_refl 0⟩ rfl rfl (Nat.le_of_ble_eq_true rfl) dX4_weigh_33 rfl (fun H locs hR hF hL => ?_)
      refine lv_iload_n hx hb dX4_weigh_36 rfl (lv_at hl 2 rfl) ?_
      refine lv_if_ne (tgt := 48) hx hb dX4_weigh_37 (by decide) (fun c5 => ?_) (fun c5 => ?_)
      · rw [if_neg c5] at h
        refine lv_aload_n hx hb dX4_weigh_48 rfl (lv_at hl 0 rfl) ?_
        refine lv_iload_n hx hb dX4_weigh_49 rfl (lv_at hl 1 rfl) ?_
        obtain ⟨q6, hq7, h⟩ := bnd h
        refine c_VP (a := 58) (ci := 4) (q := (RX4, TX4, 80)) (rest := []) (st1 := [.int q6]) hx hb hml hown hts hK hR hF hL hl.1 (met_X4_lossBy l G z H0 n q3 a1 q6 hq7) (congrArg Prod.fst (hF.2.1 58 (5, 0) rfl)) rfl rfl rfl hd_X4_lossBy q2217 q2219 qs92 q104 q2220 ⟨Nat.le_of_ble_eq_true rfl, Nat.le_of_ble_eq_true rfl⟩ ⟨Nat.le_refl 0, Nat.le_refl 0⟩ rfl rfl (Nat.le_of_ble_eq_true rfl) dX4_weigh_50 rfl (fun locs hL => ?_)
        have h := Option.some.inj h
        subst h
        exact W.iret (v := q6) hx hb hr (fun t ht _ => ⟨rfl, by rw [ht]; exact hR, hF⟩) hL dX4_weigh_53
      · rw [if_pos c5] at h
        refine lv_aload_n hx hb dX4_weigh_40 rfl (lv_at hl 0 rfl) ?_
        refine lv_iload_n hx hb dX4_weigh_41 rfl (lv_at hl 1 rfl) ?_
        obtain ⟨q8, hq9, h⟩ := bnd h
        refine c_VP (a := 58) (ci := 4) (q := (RX4, TX4, 80)) (rest := []) (st1 := [.int q8]) hx hb hml hown hts hK hR hF hL hl.1 (met_X4_metBy l G z H0 n q3 a1 q8 hq9) (congrArg Prod.fst (hF.2.1 58 (5, 0) rfl)) rfl rfl rfl hd_X4_metBy q2209 q2211 qs90 q104 q2212 ⟨Nat.le_of_ble_eq_true rfl, Nat.le_of_ble_eq_true rfl⟩ ⟨Nat.le_refl 0, Nat.le_refl 0⟩ rfl rfl (Nat.le_of_ble_eq_true rfl) dX4_weigh_42 rfl (fun locs hL => ?_)
        refine lv_goto (tgt := 53) hx hb dX4_weigh_45 (by decide) ?_
        have h := Option.some.inj h
        subst h
        exact W.iret (v := q8) hx hb hr (fun t ht _ => ⟨rfl, by rw [ht]; exact hR, hF⟩) hL dX4_weigh_53
    · rw [if_neg (bI_n c2)] at h
      refine lv_bipush (v := -2) hx hb dX4_weigh_29 (by decide) ?_
      have h := Option.some.inj h
      subst h
      exact W.iret (v := (-2 : Int32)) hx hb hr (fun t ht _ => ⟨rfl, by rw [ht]; exact hR, hF⟩) hL dX4_weigh_31
  · rw [if_neg (bI_n c1)] at h
    refine lv_iconst (v := -1) hx hb dX4_weigh_10 (by decide) ?_
    have h := Option.some.inj h
    subst h
    exact W.iret (v := (-1 : Int32)) hx hb hr (fun t ht _ => ⟨rfl, by rw [ht]; exact hR, hF⟩) hL dX4_weigh_11
def f_X4_best_L9 (n : Nat) (w : Wd) (s1 : Int32 × Int32) : Option ((Int32 × Int32) ⊕ ((Int32 × Int32))) :=
  if ((1 : Int32) <<< ((wI w 58 26) &&& 31)) ≤ s1.1 then (some (.inr (s1.1, s1.2))) else ((f_X4_metBy n s1.1 w).bind fun q4 => if (wI w 58 67) ≤ q4 then (if s1.2 < 0 then (some (.inl (s1.1 + (1 : Int32), s1.1))) else ((f_X4_lossBy n s1.1 w).bind fun q8 => (f_X4_lossBy n s1.2 w).bind fun q10 => if q8 < q10 then (some (.inl (s1.1 + (1 : Int32), s1.1))) else ((f_X4_lossBy n s1.1 w).bind fun q13 => (f_X4_lossBy n s1.2 w).bind fun q15 => if q13 = q15 then ((f_X4_ones n s1.1 w).bind fun q18 => (f_X4_ones n s1.2 w).bind fun q20 => if q20 ≤ q18 then (some (.inl (s1.1 + (1 : Int32), s1.2))) else (some (.inl (s1.1 + (1 : Int32), s1.1)))) else (some (.inl (s1.1 + (1 : Int32), s1.2)))))) else (some (.inl (s1.1 + (1 : Int32), s1.2))))
def f_X4_best (n : Nat) (w : Wd) : Option (Int32 × Wd) :=
  (f_X4_findHits n w).bind fun q1 => (it n (f_X4_best_L9 n q1) ((0 : Int32), (-5 : Int32))).bind fun q9_85 => some (q9_85.2, q1)
theorem hd_X4_best : yX4_best.cls = RX4 ∧ yX4_best.cls ≠ "java/lang/invoke/MethodHandle" ∧ yX4_best.cls ≠ "java/lang/invoke/VarHandle" ∧ (parseMethodDescriptor yX4_best.desc).map (fun d => d.parameters.length) = some 0 := by decide +kernel
set_option maxHeartbeats 4000000 in
set_option maxRecDepth 100000 in
theorem met_X4_best (l : Launch) (G : Gw) (z : Nat) (H0 : Heap) (n : Nat) (w : Wd)  (q : Int32 × Wd) (h : f_X4_best n w = some q) : Met l yX4_best (ws_ yX4_best cX4_best 3 (some .int)) ({ frames := 9, cells := 0, slots := 0, locals := 198 } : Room) (pcW G z H0 w [.ref (z + 58)]) (qW G z H0 q.2 (some (.int q.1))) 0 0 (fun q => z ≤ q) := by
  refine mW (by decide) (Nat.le_of_ble_eq_true rfl) ?_
  intro p e s m below meth c ls hx hb hr hml hown hts hlocks hnm hK hR hF hl
  have hown : s.vm.findClass RX4 = some m.cls := hown
  have hl : lv_has ls 3 [(0, .ref (z + 58))] := hl
  have hL : lok z [] := lok_nil
  unfold f_X4_best at h
  generalize s.heap = H at hR ⊢
  generalize ([] : List Loc) = locs at hL ⊢
  refine lv_aload_n hx hb dX4_best_0 rfl (lv_at hl 0 rfl) ?_
  obtain ⟨q1, hq2, h⟩ := bnd h
  refine c_VW (a := 58) (ci := 4) (q := (RX4, TX4, 80)) (rest := []) (st1 := []) hx hb hml hown hts hK hR hF hL hl.1 (met_X4_findHits l G z H0 n w  q1 hq2) (congrArg Prod.fst (hF.2.1 58 (5, 0) rfl)) rfl rfl rfl hd_X4_findHits q2201 q2203 qs88 q104 q2204 ⟨Nat.le_of_ble_eq_true rfl, Nat.le_of_ble_eq_true rfl⟩ ⟨Nat.le_refl 0, Nat.le_refl 0⟩ rfl rfl (Nat.le_of_ble_eq_true rfl) dX4_best_1 rfl (fun H locs hR hF hL => ?_)
  refine lv_bipush (v := -5) hx hb dX4_best_4 (by decide) ?_
  refine lv_istore_n (lv' := [(1, .int (-5 : Int32)), (0, .ref (z + 58))]) hx hb dX4_best_6 rfl hl (by decide) rfl (fun ls hl => ?_)
  refine lv_iconst (v := 0) hx hb dX4_best_7 (by decide) ?_
  refine lv_istore_n (lv' := [(2, .int (0 : Int32)), (1, .int (-5 : Int32)), (0, .ref (z + 58))]) hx hb dX4_best_8 rfl hl (by decide) rfl (fun ls hl => ?_)
  have hX9_85 : ∀ (q9_85 : Int32 × Int32), (some (q9_85.2, q1)) = some q → ∀ (locs : List Loc) (ls : Array Slot), lok z locs → lv_has ls 3 [(1, .int q9_85.2)] → W p l e ({ frames := 9, cells := 0, slots := 0, locals := 198 } : Room) s m ([.ref (z + 58)] : List Value).toArray below meth c H locs 0 0 (MQ below (qW G z H0 q.2 (some (.int q.1))) ([.ref (z + 58)] : List Value).toArray s 0 0 (fun q => z ≤ q)) (F0 m 85 ls []) := by
    intro q9_85 h locs ls hL hl
    refine lv_iload_n hx hb dX4_best_85 rfl (lv_at hl 0 rfl) ?_
    have h := Option.some.inj h
    subst h
    exact W.iret (v := q9_85.2) hx hb hr (fun t ht _ => ⟨rfl, by rw [ht]; exact hR, hF⟩) hL dX4_best_86
  obtain ⟨t23, hq24, h⟩ := bnd h
  refine it_W (b := f_X4_best_L9 n q1) (P := fun (s1 : Int32 × Int32) => ∀ (locs : List Loc) (ls : Array Slot), lok z locs → lv_has ls 3 [(2, .int s1.1), (1, .int s1.2), (0, .ref (z + 58))] → W p l e ({ frames := 9, cells := 0, slots := 0, locals := 198 } : Room) s m ([.ref (z + 58)] : List Value).toArray below meth c H locs 0 0 (MQ below (qW G z H0 q.2 (some (.int q.1))) ([.ref (z + 58)] : List Value).toArray s 0 0 (fun q => z ≤ q)) (F0 m 9 ls [])) (K := fun q9_85 => (some (q9_85.2, q1)) = some q) (fun s1 x1 h hc1 ht1 => ?_) n ((0 : Int32), (-5 : Int32)) t23 hq24 h locs ls hL (lv_sub hl [0, 1, 2] rfl)
  intro locs ls hL hl
  unfold f_X4_best_L9 at h
  refine lv_iload_n hx hb dX4_best_9 rfl (lv_at hl 0 rfl) ?_
  refine lv_iconst (v := 1) hx hb dX4_best_10 (by decide) ?_
  refine lv_aload_n hx hb dX4_best_11 rfl (lv_at hl 2 rfl) ?_
  refine r_get (C := RX4) (T := TX4) (N := 80) hx hb hts ok4 hown hK hR (congrArg Prod.fst (hF.2.1 58 (5, 0) rfl)) rfl 26 (by decide) (hts _ q1659) (fun _ h9 => h9) (v := .int (wI q1 58 26)) rfl dX4_best_12 ?_
  refine lv_ishl hx hb dX4_best_15 ?_
  refine lv_icmp_ge (tgt := 85) hx hb dX4_best_16 (by decide) (fun c3 => ?_) (fun c3 => ?_)
  · rw [if_pos c3] at h
    exact hX9_85 (s1.1, s1.2) (ht1 _ (Option.some.inj h).symm) locs ls hL (lv_sub hl [1] rfl)
  · rw [if_neg c3] at h
    refine lv_aload_n hx hb dX4_best_19 rfl (lv_at hl 2 rfl) ?_
    refine lv_iload_n hx hb dX4_best_20 rfl (lv_at hl 0 rfl) ?_
    obtain ⟨q4, hq5, h⟩ := bnd h
    refine c_VP (a := 58) (ci := 4) (q := (RX4, TX4, 80)) (rest := []) (st1 := [.int q4]) hx hb hml hown hts hK hR hF hL hl.1 (met_X4_metBy l G z H0 n q1 s1.1 q4 hq5) (congrArg Prod.fst (hF.2.1 58 (5, 0) rfl)) rfl rfl rfl hd_X4_metBy q2209 q2211 qs90 q104 q2212 ⟨Nat.le_of_ble_eq_true rfl, Nat.le_of_ble_eq_true rfl⟩ ⟨Nat.le_refl 0, Nat.le_refl 0⟩ rfl rfl (Nat.le_of_ble_eq_true rfl) dX4_best_21 rfl (fun locs hL => ?_)
    refine lv_aload_n hx hb dX4_best_24 rfl (lv_at hl 2 rfl) ?_
    refine r_get (C := RX4) (T := TX4) (N := 80) hx hb hts ok4 hown hK hR (congrArg Prod.fst (hF.2.1 58 (5, 0) rfl)) rfl 67 (by decide) (hts _ q1700) (fun _ h9 => h9) (v := .int (wI q1 58 67)) rfl dX4_best_25 ?_
    refine lv_icmp_ge (tgt := 34) hx hb dX4_best_28 (by decide) (fun c6 => ?_) (fun c6 => ?_)
    · rw [if_pos c6] at h
      refine lv_iload_n hx hb dX4_best_34 rfl (lv_at hl 1 rfl) ?_
      refine lv_if_lt (tgt := 77) hx hb dX4_best_35 (by decide) (fun c7 => ?_) (fun c7 => ?_)
      · rw [if_pos c7] at h
        refine lv_iload_n hx hb dX4_best_77 rfl (lv_at hl 0 rfl) ?_
        refine lv_istore_n (lv' := [(1, .int s1.1), (2, .int s1.1), (0, .ref (z + 58))]) hx hb dX4_best_78 rfl hl (by decide) rfl (fun ls hl => ?_)
        refine lv_iinc (v := s1.1 + (1 : Int32)) (lv' := [(2, .int (s1.1 + (1 : Int32))), (1, .int s1.1), (0, .ref (z + 58))]) hx hb dX4_best_79 hl (k := 1) rfl rfl (by decide) rfl (fun ls hl => ?_)
        refine lv_goto (tgt := 9) hx hb dX4_best_82 (by decide) ?_
        exact hc1 _ (Option.some.inj h).symm locs ls hL (lv_sub hl [0, 1, 2] rfl)
      · rw [if_neg c7] at h
        refine lv_aload_n hx hb dX4_best_38 rfl (lv_at hl 2 rfl) ?_
        refine lv_iload_n hx hb dX4_best_39 rfl (lv_at hl 0 rfl) ?_
        obtain ⟨q8, hq9, h⟩ := bnd h
        refine c_VP (a := 58) (ci := 4) (q := (RX4, TX4, 80)) (rest := []) (st1 := [.int q8]) hx hb hml hown hts hK hR hF hL hl.1 (met_X4_lossBy l G z H0 n q1 s1.1 q8 hq9) (congrArg Prod.fst (hF.2.1 58 (5, 0) rfl)) rfl rfl rfl hd_X4_lossBy q2217 q2219 qs92 q104 q2220 ⟨Nat.le_of_ble_eq_true rfl, Nat.le_of_ble_eq_true rfl⟩ ⟨Nat.le_refl 0, Nat.le_refl 0⟩ rfl rfl (Nat.le_of_ble_eq_true rfl) dX4_best_40 rfl (fun locs hL => ?_)
        refine lv_aload_n hx hb dX4_best_43 rfl (lv_at hl 2 rfl) ?_
        refine lv_iload_n hx hb dX4_best_44 rfl (lv_at hl 1 rfl) ?_
        obtain ⟨q10, hq11, h⟩ := bnd h
        refine c_VP (a := 58) (ci := 4) (q := (RX4, TX4, 80)) (rest := [.int q8]) (st1 := [.int q10, .int q8]) hx hb hml hown hts hK hR hF hL hl.1 (met_X4_lossBy l G z H0 n q1 s1.2 q10 hq11) (congrArg Prod.fst (hF.2.1 58 (5, 0) rfl)) rfl rfl rfl hd_X4_lossBy q2217 q2219 qs92 q104 q2220 ⟨Nat.le_of_ble_eq_true rfl, Nat.le_of_ble_eq_true rfl⟩ ⟨Nat.le_refl 0, Nat.le_refl 0⟩ rfl rfl (Nat.le_of_ble_eq_true rfl) dX4_best_45 rfl (fun locs hL => ?_)
        refine lv_icmp_lt (tgt := 77) hx hb dX4_best_48 (by decide) (fun c12 => ?_) (fun c12 => ?_)
        · rw [if_pos c12] at h
          refine lv_iload_n hx hb dX4_best_77 rfl (lv_at hl 0 rfl) ?_
          refine lv_istore_n (lv' := [(1, .int s1.1), (2, .int s1.1), (0, .ref (z + 58))]) hx hb dX4_best_78 rfl hl (by decide) rfl (fun ls hl => ?_)
          refine lv_iinc (v := s1.1 + (1 : Int32)) (lv' := [(2, .int (s1.1 + (1 : Int32))), (1, .int s1.1), (0, .ref (z + 58))]) hx hb dX4_best_79 hl (k := 1) rfl rfl (by decide) rfl (fun ls hl => ?_)
          refine lv_goto (tgt := 9) hx hb dX4_best_82 (by decide) ?_
          exact hc1 _ (Option.some.inj h).symm locs ls hL (lv_sub hl [0, 1, 2] rfl)
        · rw [if_neg c12] at h
          refine lv_aload_n hx hb dX4_best_51 rfl (lv_at hl 2 rfl) ?_
          refine lv_iload_n hx hb dX4_best_52 rfl (lv_at hl 0 rfl) ?_
          obtain ⟨q13, hq14, h⟩ := bnd h
          refine c_VP (a := 58) (ci := 4) (q := (RX4, TX4, 80)) (rest := []) (st1 := [.int q13]) hx hb hml hown hts hK hR hF hL hl.1 (met_X4_lossBy l G z H0 n q1 s1.1 q13 hq14) (congrArg Prod.fst (hF.2.1 58 (5, 0) rfl)) rfl rfl rfl hd_X4_lossBy q2217 q2219 qs92 q104 q2220 ⟨Nat.le_of_ble_eq_true rfl, Nat.le_of_ble_eq_true rfl⟩ ⟨Nat.le_refl 0, Nat.le_refl 0⟩ rfl rfl (Nat.le_of_ble_eq_true rfl) dX4_best_53 rfl (fun locs hL => ?_)
          refine lv_aload_n hx hb dX4_best_56 rfl (lv_at hl 2 rfl) ?_
          refine lv_iload_n hx hb dX4_best_57 rfl (lv_at hl 1 rfl) ?_
          obtain ⟨q15, hq16, h⟩ := bnd h
          refine c_VP (a := 58) (ci := 4) (q := (RX4, TX4, 80)) (rest := [.int q13]) (st1 := [.int q15, .int q13]) hx hb hml hown hts hK hR hF hL hl.1 (met_X4_lossBy l G z H0 n q1 s1.2 q15 hq16) (congrArg Prod.fst (hF.2.1 58 (5, 0) rfl)) rfl rfl rfl hd_X4_lossBy q2217 q2219 qs92 q104 q2220 ⟨Nat.le_of_ble_eq_true rfl, Nat.le_of_ble_eq_true rfl⟩ ⟨Nat.le_refl 0, Nat.le_refl 0⟩ rfl rfl (Nat.le_of_ble_eq_true rfl) dX4_best_58 rfl (fun locs hL => ?_)
          refine lv_icmp_ne (tgt := 79) hx hb dX4_best_61 (by decide) (fun c17 => ?_) (fun c17 => ?_)
          · rw [if_neg c17] at h
            refine lv_iinc (v := s1.1 + (1 : Int32)) (lv' := [(2, .int (s1.1 + (1 : Int32))), (1, .int s1.2), (0, .ref (z + 58))]) hx hb dX4_best_79 hl (k := 0) rfl rfl (by decide) rfl (fun ls hl => ?_)
            refine lv_goto (tgt := 9) hx hb dX4_best_82 (by decide) ?_
            exact hc1 _ (Option.some.inj h).symm locs ls hL (lv_sub hl [0, 1, 2] rfl)
          · rw [if_pos c17] at h
            refine lv_aload_n hx hb dX4_best_64 rfl (lv_at hl 2 rfl) ?_
            refine lv_iload_n hx hb dX4_best_65 rfl (lv_at hl 0 rfl) ?_
            obtain ⟨q18, hq19, h⟩ := bnd h
            refine c_VP (a := 58) (ci := 4) (q := (RX4, TX4, 80)) (rest := []) (st1 := [.int q18]) hx hb hml hown hts hK hR hF hL hl.1 (met_X4_ones l G z H0 n q1 s1.1 q18 hq19) (congrArg Prod.fst (hF.2.1 58 (5, 0) rfl)) rfl rfl rfl hd_X4_ones q2069 q2071 qs72 q104 q2072 ⟨Nat.le_of_ble_eq_true rfl, Nat.le_of_ble_eq_true rfl⟩ ⟨Nat.le_refl 0, Nat.le_refl 0⟩ rfl rfl (Nat.le_of_ble_eq_true rfl) dX4_best_66 rfl (fun locs hL => ?_)
            refine lv_aload_n hx hb dX4_best_69 rfl (lv_at hl 2 rfl) ?_
            refine lv_iload_n hx hb dX4_best_70 rfl (lv_at hl 1 rfl) ?_
            obtain ⟨q20, hq21, h⟩ := bnd h
            refine c_VP (a := 58) (ci := 4) (q := (RX4, TX4, 80)) (rest := [.int q18]) (st1 := [.int q20, .int q18]) hx hb hml hown hts hK hR hF hL hl.1 (met_X4_ones l G z H0 n q1 s1.2 q20 hq21) (congrArg Prod.fst (hF.2.1 58 (5, 0) rfl)) rfl rfl rfl hd_X4_ones q2069 q2071 qs72 q104 q2072 ⟨Nat.le_of_ble_eq_true rfl, Nat.le_of_ble_eq_true rfl⟩ ⟨Nat.le_refl 0, Nat.le_refl 0⟩ rfl rfl (Nat.le_of_ble_eq_true rfl) dX4_best_71 rfl (fun locs hL => ?_)
            refine lv_icmp_ge (tgt := 79) hx hb dX4_best_74 (by decide) (fun c22 => ?_) (fun c22 => ?_)
            · rw [if_pos c22] at h
              refine lv_iinc (v := s1.1 + (1 : Int32)) (lv' := [(2, .int (s1.1 + (1 : Int32))), (1, .int s1.2), (0, .ref (z + 58))]) hx hb dX4_best_79 hl (k := 0) rfl rfl (by decide) rfl (fun ls hl => ?_)
              refine lv_goto (tgt := 9) hx hb dX4_best_82 (by decide) ?_
              exact hc1 _ (Option.some.inj h).symm locs ls hL (lv_sub hl [0, 1, 2] rfl)
            · rw [if_neg c22] at h
              refine lv_iload_n hx hb dX4_best_77 rfl (lv_at hl 0 rfl) ?_
              refine lv_istore_n (lv' := [(1, .int s1.1), (2, .int s1.1), (0, .ref (z + 58))]) hx hb dX4_best_78 rfl hl (by decide) rfl (fun ls hl => ?_)
              refine lv_iinc (v := s1.1 + (1 : Int32)) (lv' := [(2, .int (s1.1 + (1 : Int32))), (1, .int s1.1), (0, .ref (z + 58))]) hx hb dX4_best_79 hl (k := 1) rfl rfl (by decide) rfl (fun ls hl => ?_)
              refine lv_goto (tgt := 9) hx hb dX4_best_82 (by decide) ?_
              exact hc1 _ (Option.some.inj h).symm locs ls hL (lv_sub hl [0, 1, 2] rfl)
    · rw [if_neg c6] at h
      refine lv_goto (tgt := 79) hx hb dX4_best_31 (by decide) ?_
      refine lv_iinc (v := s1.1 + (1 : Int32)) (lv' := [(2, .int (s1.1 + (1 : Int32))), (1, .int s1.2), (0, .ref (z + 58))]) hx hb dX4_best_79 hl (k := 0) rfl rfl (by decide) rfl (fun ls hl => ?_)
      refine lv_goto (tgt := 9) hx hb dX4_best_82 (by decide) ?_
      exact hc1 _ (Option.some.inj h).symm locs ls hL (lv_sub hl [0, 1, 2] rfl)
def f_X4_enter (a1 : Int32) (a2 : Int32) (a3 : Int32) (w : Wd) : Option (Int32 × Wd) :=
  if inb (wI w 58 71) 200 then (if inb (wI w 58 71) 200 then (if inb (wI w 58 71) 200 then (some ((wI w 58 71) + (1 : Int32), sI (sI (sI (sI w 101 ((wI w 58 71).toNatClampNeg) a1) 102 ((wI w 58 71).toNatClampNeg) a2) 103 ((wI w 58 71).toNatClampNeg) a3) 58 71 ((wI w 58 71) + (1 : Int32)))) else none) else none) else none
theorem hd_X4_enter : yX4_enter.cls = RX4 ∧ yX4_enter.cls ≠ "java/lang/invoke/MethodHandle" ∧ yX4_enter.cls ≠ "java/lang/invoke/VarHandle" ∧ (parseMethodDescriptor yX4_enter.desc).map (fun d => d.parameters.length) = some 3 := by decide +kernel
set_option maxHeartbeats 4000000 in
set_option maxRecDepth 100000 in
theorem met_X4_enter (l : Launch) (G : Gw) (z : Nat) (H0 : Heap)  (w : Wd) (a1 : Int32) (a2 : Int32) (a3 : Int32) (q : Int32 × Wd) (h : f_X4_enter a1 a2 a3 w = some q) : Met l yX4_enter (ws_ yX4_enter cX4_enter 4 (some .int)) ({ frames := 0, cells := 0, slots := 0, locals := 0 } : Room) (pcW G z H0 w [.ref (z + 58), .int a1, .int a2, .int a3]) (qW G z H0 q.2 (some (.int q.1))) 0 0 (fun q => z ≤ q) := by
  refine mW (by decide) (Nat.le_of_ble_eq_true rfl) ?_
  intro p e s m below meth c ls hx hb hr hml hown hts hlocks hnm hK hR hF hl
  have hown : s.vm.findClass RX4 = some m.cls := hown
  have hl : lv_has ls 4 [(0, .ref (z + 58)), (1, .int a1), (2, .int a2), (3, .int a3)] := hl
  have hL : lok z [] := lok_nil
  unfold f_X4_enter at h
  generalize s.heap = H at hR ⊢
  generalize ([] : List Loc) = locs at hL ⊢
  refine lv_aload_n hx hb dX4_enter_0 rfl (lv_at hl 0 rfl) ?_
  refine r_get (C := RX4) (T := TX4) (N := 80) hx hb hts ok4 hown hK hR (congrArg Prod.fst (hF.2.1 58 (5, 0) rfl)) rfl 73 (by decide) (hts _ q1706) (fun _ h9 => h9) (v := .ref (z + 101)) (fv_fix hF rfl rfl) dX4_enter_1 ?_
  refine lv_aload_n hx hb dX4_enter_4 rfl (lv_at hl 0 rfl) ?_
  refine r_get (C := RX4) (T := TX4) (N := 80) hx hb hts ok4 hown hK hR (congrArg Prod.fst (hF.2.1 58 (5, 0) rfl)) rfl 71 (by decide) (hts _ q1704) (fun _ h9 => h9) (v := .int (wI w 58 71)) rfl dX4_enter_5 ?_
  refine lv_iload_n hx hb dX4_enter_8 rfl (lv_at hl 1 rfl) ?_
  obtain ⟨hb1, h⟩ := grd h
  refine r_iast hx hb hK hR hL (hF.2.1 101 (200, 200) rfl) hb1 dX4_enter_9 (fun H locs hR hL => ?_)
  have hF := hF.sI 101 ((wI w 58 71).toNatClampNeg) a1
  refine lv_aload_n hx hb dX4_enter_10 rfl (lv_at hl 0 rfl) ?_
  refine r_get (C := RX4) (T := TX4) (N := 80) hx hb hts ok4 hown hK hR (congrArg Prod.fst (hF.2.1 58 (5, 0) rfl)) rfl 74 (by decide) (hts _ q1707) (fun _ h9 => h9) (v := .ref (z + 102)) (fv_fix hF rfl rfl) dX4_enter_11 ?_
  refine lv_aload_n hx hb dX4_enter_14 rfl (lv_at hl 0 rfl) ?_
  refine r_get (C := RX4) (T := TX4) (N := 80) hx hb hts ok4 hown hK hR (congrArg Prod.fst (hF.2.1 58 (5, 0) rfl)) rfl 71 (by decide) (hts _ q1704) (fun _ h9 => h9) (v := .int (wI w 58 71)) rfl dX4_enter_15 ?_
  refine lv_iload_n hx hb dX4_enter_18 rfl (lv_at hl 2 rfl) ?_
  obtain ⟨hb2, h⟩ := grd h
  refine r_iast hx hb hK hR hL (hF.2.1 102 (200, 200) rfl) hb2 dX4_enter_19 (fun H locs hR hL => ?_)
  have hF := hF.sI 102 ((wI w 58 71).toNatClampNeg) a2
  refine lv_aload_n hx hb dX4_enter_20 rfl (lv_at hl 0 rfl) ?_
  refine r_get (C := RX4) (T := TX4) (N := 80) hx hb hts ok4 hown hK hR (congrArg Prod.fst (hF.2.1 58 (5, 0) rfl)) rfl 75 (by decide) (hts _ q1708) (fun _ h9 => h9) (v := .ref (z + 103)) (fv_fix hF rfl rfl) dX4_enter_21 ?_
  refine lv_aload_n hx hb dX4_enter_24 rfl (lv_at hl 0 rfl) ?_
  refine r_get (C := RX4) (T := TX4) (N := 80) hx hb hts ok4 hown hK hR (congrArg Prod.fst (hF.2.1 58 (5, 0) rfl)) rfl 71 (by decide) (hts _ q1704) (fun _ h9 => h9) (v := .int (wI w 58 71)) rfl dX4_enter_25 ?_
  refine lv_iload_n hx hb dX4_enter_28 rfl (lv_at hl 3 rfl) ?_
  obtain ⟨hb3, h⟩ := grd h
  refine r_iast hx hb hK hR hL (hF.2.1 103 (200, 200) rfl) hb3 dX4_enter_29 (fun H locs hR hL => ?_)
  have hF := hF.sI 103 ((wI w 58 71).toNatClampNeg) a3
  refine lv_aload_n hx hb dX4_enter_30 rfl (lv_at hl 0 rfl) ?_
  refine lv_dup hx hb dX4_enter_31 rfl ?_
  refine r_get (C := RX4) (T := TX4) (N := 80) hx hb hts ok4 hown hK hR (congrArg Prod.fst (hF.2.1 58 (5, 0) rfl)) rfl 71 (by decide) (hts _ q1704) (fun _ h9 => h9) (v := .int (wI w 58 71)) rfl dX4_enter_32 ?_
  refine lv_iconst (v := 1) hx hb dX4_enter_35 (by decide) ?_
  refine lv_iadd hx hb dX4_enter_36 ?_
  refine r_putI (C := RX4) (T := TX4) (N := 80) hx hb hts ok4 hown hK hR hL (congrArg Prod.fst (hF.2.1 58 (5, 0) rfl)) rfl 71 (by decide) (hts _ q1704) (fun _ h9 => h9) (Or.inl rfl) rfl rfl rfl dX4_enter_37 (fun H locs hR hL => ?_)
  have hF := hF.sI 58 71 ((wI w 58 71) + (1 : Int32))
  refine lv_aload_n hx hb dX4_enter_40 rfl (lv_at hl 0 rfl) ?_
  refine r_get (C := RX4) (T := TX4) (N := 80) hx hb hts ok4 hown hK hR (congrArg Prod.fst (hF.2.1 58 (5, 0) rfl)) rfl 71 (by decide) (hts _ q1704) (fun _ h9 => h9) (v := .int ((wI w 58 71) + (1 : Int32))) rfl dX4_enter_41 ?_
  have h := Option.some.inj h
  subst h
  exact W.iret (v := (wI w 58 71) + (1 : Int32)) hx hb hr (fun t ht _ => ⟨rfl, by rw [ht]; exact hR, hF⟩) hL dX4_enter_44
def f_X4_copy (a1 : Int32) (w : Wd) : Option (Int32 × Wd) :=
  if (f_X4_isEdition a1 w) then (if (wI w 58 70) = (60 : Int32) then (some ((-4 : Int32), w)) else (if (wI w 58 71) = (200 : Int32) then (some ((-4 : Int32), w)) else (if inb (wI w 58 70) 60 then (if inb a1 24 then ((f_X4_enter (wI w 58 70) (wI w 69 a1.toNatClampNeg) (wI w 58 0) (sI w 100 ((wI w 58 70).toNatClampNeg) a1)).bind fun q6 => some (((wI q6.2 58 70) + (1 : Int32)) - (1 : Int32), sI q6.2 58 70 ((wI q6.2 58 70) + (1 : Int32)))) else none) else none))) else (some ((-1 : Int32), w))
theorem hd_X4_copy : yX4_copy.cls = RX4 ∧ yX4_copy.cls ≠ "java/lang/invoke/MethodHandle" ∧ yX4_copy.cls ≠ "java/lang/invoke/VarHandle" ∧ (parseMethodDescriptor yX4_copy.desc).map (fun d => d.parameters.length) = some 1 := by decide +kernel
set_option maxHeartbeats 4000000 in
set_option maxRecDepth 100000 in
theorem met_X4_copy (l : Launch) (G : Gw) (z : Nat) (H0 : Heap)  (w : Wd) (a1 : Int32) (q : Int32 × Wd) (h : f_X4_copy a1 w = some q) : Met l yX4_copy (ws_ yX4_copy cX4_copy 2 (some .int)) ({ frames := 2, cells := 0, slots := 0, locals := 44 } : Room) (pcW G z H0 w [.ref (z + 58), .int a1]) (qW G z H0 q.2 (some (.int q.1))) 0 0 (fun q => z ≤ q) := by
  refine mW (by decide) (Nat.le_of_ble_eq_true rfl) ?_
  intro p e s m below meth c ls hx hb hr hml hown hts hlocks hnm hK hR hF hl
  have hown : s.vm.findClass RX4 = some m.cls := hown
  have hl : lv_has ls 2 [(0, .ref (z + 58)), (1, .int a1)] := hl
  have hL : lok z [] := lok_nil
  unfold f_X4_copy at h
  generalize s.heap = H at hR ⊢
  generalize ([] : List Loc) = locs at hL ⊢
  refine lv_aload_n hx hb dX4_copy_0 rfl (lv_at hl 0 rfl) ?_
  refine lv_iload_n hx hb dX4_copy_1 rfl (lv_at hl 1 rfl) ?_
  refine c_VP (a := 58) (ci := 4) (q := (RX4, TX4, 80)) (rest := []) (st1 := [.int (bI (f_X4_isEdition a1 w))]) hx hb hml hown hts hK hR hF hL hl.1 (met_X4_isEdition l G z H0 w a1 _ rfl) (congrArg Prod.fst (hF.2.1 58 (5, 0) rfl)) rfl rfl rfl hd_X4_isEdition q1919 q1921 qs45 q104 q1922 ⟨Nat.le_of_ble_eq_true rfl, Nat.le_of_ble_eq_true rfl⟩ ⟨Nat.le_refl 0, Nat.le_refl 0⟩ rfl rfl (Nat.le_of_ble_eq_true rfl) dX4_copy_2 rfl (fun locs hL => ?_)
  refine lv_if_ne (tgt := 10) hx hb dX4_copy_5 (by decide) (fun c1 => ?_) (fun c1 => ?_)
  · rw [if_pos (bI_p c1)] at h
    refine lv_aload_n hx hb dX4_copy_10 rfl (lv_at hl 0 rfl) ?_
    refine r_get (C := RX4) (T := TX4) (N := 80) hx hb hts ok4 hown hK hR (congrArg Prod.fst (hF.2.1 58 (5, 0) rfl)) rfl 70 (by decide) (hts _ q1703) (fun _ h9 => h9) (v := .int (wI w 58 70)) rfl dX4_copy_11 ?_
    refine lv_bipush (v := 60) hx hb dX4_copy_14 (by decide) ?_
    refine lv_icmp_eq (tgt := 29) hx hb dX4_copy_16 (by decide) (fun c2 => ?_) (fun c2 => ?_)
    · rw [if_pos c2] at h
      refine lv_bipush (v := -4) hx hb dX4_copy_29 (by decide) ?_
      have h := Option.some.inj h
      subst h
      exact W.iret (v := (-4 : Int32)) hx hb hr (fun t ht _ => ⟨rfl, by rw [ht]; exact hR, hF⟩) hL dX4_copy_31
    · rw [if_neg c2] at h
      refine lv_aload_n hx hb dX4_copy_19 rfl (lv_at hl 0 rfl) ?_
      refine r_get (C := RX4) (T := TX4) (N := 80) hx hb hts ok4 hown hK hR (congrArg Prod.fst (hF.2.1 58 (5, 0) rfl)) rfl 71 (by decide) (hts _ q1704) (fun _ h9 => h9) (v := .int (wI w 58 71)) rfl dX4_copy_20 ?_
      refine lv_sipush (v := 200) hx hb dX4_copy_23 (by decide) ?_
      refine lv_icmp_ne (tgt := 32) hx hb dX4_copy_26 (by decide) (fun c3 => ?_) (fun c3 => ?_)
      · rw [if_neg c3] at h
        refine lv_aload_n hx hb dX4_copy_32 rfl (lv_at hl 0 rfl) ?_
        refine r_get (C := RX4) (T := TX4) (N := 80) hx hb hts ok4 hown hK hR (congrArg Prod.fst (hF.2.1 58 (5, 0) rfl)) rfl 72 (by decide) (hts _ q1705) (fun _ h9 => h9) (v := .ref (z + 100)) (fv_fix hF rfl rfl) dX4_copy_33 ?_
        refine lv_aload_n hx hb dX4_copy_36 rfl (lv_at hl 0 rfl) ?_
        refine r_get (C := RX4) (T := TX4) (N := 80) hx hb hts ok4 hown hK hR (congrArg Prod.fst (hF.2.1 58 (5, 0) rfl)) rfl 70 (by decide) (hts _ q1703) (fun _ h9 => h9) (v := .int (wI w 58 70)) rfl dX4_copy_37 ?_
        refine lv_iload_n hx hb dX4_copy_40 rfl (lv_at hl 1 rfl) ?_
        obtain ⟨hb4, h⟩ := grd h
        refine r_iast hx hb hK hR hL (hF.2.1 100 (200, 60) rfl) hb4 dX4_copy_41 (fun H locs hR hL => ?_)
        have hF := hF.sI 100 ((wI w 58 70).toNatClampNeg) a1
        refine lv_aload_n hx hb dX4_copy_42 rfl (lv_at hl 0 rfl) ?_
        refine lv_aload_n hx hb dX4_copy_43 rfl (lv_at hl 0 rfl) ?_
        refine r_get (C := RX4) (T := TX4) (N := 80) hx hb hts ok4 hown hK hR (congrArg Prod.fst (hF.2.1 58 (5, 0) rfl)) rfl 70 (by decide) (hts _ q1703) (fun _ h9 => h9) (v := .int (wI w 58 70)) rfl dX4_copy_44 ?_
        refine lv_aload_n hx hb dX4_copy_47 rfl (lv_at hl 0 rfl) ?_
        refine r_get (C := RX4) (T := TX4) (N := 80) hx hb hts ok4 hown hK hR (congrArg Prod.fst (hF.2.1 58 (5, 0) rfl)) rfl 14 (by decide) (hts _ q1647) (fun _ h9 => h9) (v := .ref (z + 69)) (fv_fix hF rfl rfl) dX4_copy_48 ?_
        refine lv_iload_n hx hb dX4_copy_51 rfl (lv_at hl 1 rfl) ?_
        obtain ⟨hb5, h⟩ := grd h
        refine r_iald (v := wI w 69 a1.toNatClampNeg) hx hb hK hR (hF.2.1 69 (200, 24) rfl) hb5 rfl dX4_copy_52 ?_
        refine lv_aload_n hx hb dX4_copy_53 rfl (lv_at hl 0 rfl) ?_
        refine r_get (C := RX4) (T := TX4) (N := 80) hx hb hts ok4 hown hK hR (congrArg Prod.fst (hF.2.1 58 (5, 0) rfl)) rfl 0 (by decide) (hts _ q1633) (fun _ h9 => h9) (v := .int (wI w 58 0)) rfl dX4_copy_54 ?_
        obtain ⟨q6, hq7, h⟩ := bnd h
        refine c_VW (a := 58) (ci := 4) (q := (RX4, TX4, 80)) (rest := []) (st1 := [.int q6.1]) hx hb hml hown hts hK hR hF hL hl.1 (met_X4_enter l G z H0 (sI w 100 ((wI w 58 70).toNatClampNeg) a1) (wI w 58 70) (wI w 69 a1.toNatClampNeg) (wI w 58 0) q6 hq7) (congrArg Prod.fst (hF.2.1 58 (5, 0) rfl)) rfl rfl rfl hd_X4_enter q2229 q2231 qs93 q104 q2232 ⟨Nat.le_of_ble_eq_true rfl, Nat.le_of_ble_eq_true rfl⟩ ⟨Nat.le_refl 0, Nat.le_refl 0⟩ rfl rfl (Nat.le_of_ble_eq_true rfl) dX4_copy_57 rfl (fun H locs hR hF hL => ?_)
        refine lv_pop hx hb dX4_copy_60 rfl ?_
        refine lv_aload_n hx hb dX4_copy_61 rfl (lv_at hl 0 rfl) ?_
        refine lv_dup hx hb dX4_copy_62 rfl ?_
        refine r_get (C := RX4) (T := TX4) (N := 80) hx hb hts ok4 hown hK hR (congrArg Prod.fst (hF.2.1 58 (5, 0) rfl)) rfl 70 (by decide) (hts _ q1703) (fun _ h9 => h9) (v := .int (wI q6.2 58 70)) rfl dX4_copy_63 ?_
        refine lv_iconst (v := 1) hx hb dX4_copy_66 (by decide) ?_
        refine lv_iadd hx hb dX4_copy_67 ?_
        refine r_putI (C := RX4) (T := TX4) (N := 80) hx hb hts ok4 hown hK hR hL (congrArg Prod.fst (hF.2.1 58 (5, 0) rfl)) rfl 70 (by decide) (hts _ q1703) (fun _ h9 => h9) (Or.inl rfl) rfl rfl rfl dX4_copy_68 (fun H locs hR hL => ?_)
        have hF := hF.sI 58 70 ((wI q6.2 58 70) + (1 : Int32))
        refine lv_aload_n hx hb dX4_copy_71 rfl (lv_at hl 0 rfl) ?_
        refine r_get (C := RX4) (T := TX4) (N := 80) hx hb hts ok4 hown hK hR (congrArg Prod.fst (hF.2.1 58 (5, 0) rfl)) rfl 70 (by decide) (hts _ q1703) (fun _ h9 => h9) (v := .int ((wI q6.2 58 70) + (1 : Int32))) rfl dX4_copy_72 ?_
        refine lv_iconst (v := 1) hx hb dX4_copy_75 (by decide) ?_
        refine lv_isub hx hb dX4_copy_76 ?_
        have h := Option.some.inj h
        subst h
        exact W.iret (v := ((wI q6.2 58 70) + (1 : Int32)) - (1 : Int32)) hx hb hr (fun t ht _ => ⟨rfl, by rw [ht]; exact hR, hF⟩) hL dX4_copy_77
      · rw [if_pos c3] at h
        refine lv_bipush (v := -4) hx hb dX4_copy_29 (by decide) ?_
        have h := Option.some.inj h
        subst h
        exact W.iret (v := (-4 : Int32)) hx hb hr (fun t ht _ => ⟨rfl, by rw [ht]; exact hR, hF⟩) hL dX4_copy_31
  · rw [if_neg (bI_n c1)] at h
    refine lv_iconst (v := -1) hx hb dX4_copy_8 (by decide) ?_
    have h := Option.some.inj h
    subst h
    exact W.iret (v := (-1 : Int32)) hx hb hr (fun t ht _ => ⟨rfl, by rw [ht]; exact hR, hF⟩) hL dX4_copy_9
def f_X4_spotOf_L6 (n : Nat) (u1_1 : Int32) (u1_2 : Int32) (u1_3 : Int32) (w : Wd) (s1 : Int32 × Int32) : Option ((Int32 × Int32) ⊕ ((Int32 × Int32))) :=
  if u1_3 ≤ s1.1 then (some (.inr (s1.1, s1.2))) else (if inb s1.1 200 then (if (wI w 101 s1.1.toNatClampNeg) = u1_1 then (if inb s1.1 200 then (if u1_2 < (wI w 103 s1.1.toNatClampNeg) then (some (.inl (s1.1 + (1 : Int32), s1.2))) else (if s1.2 < 0 then (some (.inl (s1.1 + (1 : Int32), s1.1))) else (if inb s1.1 200 then (if inb s1.2 200 then (if (wI w 103 s1.1.toNatClampNeg) < (wI w 103 s1.2.toNatClampNeg) then (some (.inl (s1.1 + (1 : Int32), s1.2))) else (some (.inl (s1.1 + (1 : Int32), s1.1)))) else none) else none))) else none) else (some (.inl (s1.1 + (1 : Int32), s1.2)))) else none)
def f_X4_spotOf (n : Nat) (a1 : Int32) (a2 : Int32) (a3 : Int32) (w : Wd) : Option (Int32) :=
  (it n (f_X4_spotOf_L6 n a1 a2 a3 w) ((0 : Int32), (-1 : Int32))).bind fun q6_66 => if 0 ≤ q6_66.2 then (if inb q6_66.2 200 then (some (wI w 102 q6_66.2.toNatClampNeg)) else none) else (some (-5 : Int32))
theorem hd_X4_spotOf : yX4_spotOf.cls = RX4 ∧ yX4_spotOf.cls ≠ "java/lang/invoke/MethodHandle" ∧ yX4_spotOf.cls ≠ "java/lang/invoke/VarHandle" ∧ (parseMethodDescriptor yX4_spotOf.desc).map (fun d => d.parameters.length) = some 3 := by decide +kernel
set_option maxHeartbeats 4000000 in
set_option maxRecDepth 100000 in
theorem met_X4_spotOf (l : Launch) (G : Gw) (z : Nat) (H0 : Heap) (n : Nat) (w : Wd) (a1 : Int32) (a2 : Int32) (a3 : Int32) (q : Int32) (h : f_X4_spotOf n a1 a2 a3 w = some q) : Met l yX4_spotOf (ws_ yX4_spotOf cX4_spotOf 6 (some .int)) ({ frames := 0, cells := 0, slots := 0, locals := 0 } : Room) (pcW G z H0 w [.ref (z + 58), .int a1, .int a2, .int a3]) (qP (some (.int q))) 0 0 (fun q => z ≤ q) := by
  refine mW (by decide) (Nat.le_of_ble_eq_true rfl) ?_
  intro p e s m below meth c ls hx hb hr hml hown hts hlocks hnm hK hR hF hl
  have hown : s.vm.findClass RX4 = some m.cls := hown
  have hl : lv_has ls 6 [(0, .ref (z + 58)), (1, .int a1), (2, .int a2), (3, .int a3)] := hl
  have hL : lok z [] := lok_nil
  unfold f_X4_spotOf at h
  generalize ([] : List Loc) = locs at hL ⊢
  refine lv_iconst (v := -1) hx hb dX4_spotOf_0 (by decide) ?_
  refine lv_istore (lv' := [(4, .int (-1 : Int32)), (0, .ref (z + 58)), (1, .int a1), (2, .int a2), (3, .int a3)]) hx hb dX4_spotOf_1 hl (by decide) rfl (fun ls hl => ?_)
  refine lv_iconst (v := 0) hx hb dX4_spotOf_3 (by decide) ?_
  refine lv_istore (lv' := [(5, .int (0 : Int32)), (4, .int (-1 : Int32)), (0, .ref (z + 58)), (1, .int a1), (2, .int a2), (3, .int a3)]) hx hb dX4_spotOf_4 hl (by decide) rfl (fun ls hl => ?_)
  have hX6_66 : ∀ (q6_66 : Int32 × Int32), (if 0 ≤ q6_66.2 then (if inb q6_66.2 200 then (some (wI w 102 q6_66.2.toNatClampNeg)) else none) else (some (-5 : Int32))) = some q → ∀ (locs : List Loc) (ls : Array Slot), lok z locs → lv_has ls 6 [(4, .int q6_66.2), (0, .ref (z + 58))] → W p l e ({ frames := 0, cells := 0, slots := 0, locals := 0 } : Room) s m ([.ref (z + 58), .int a1, .int a2, .int a3] : List Value).toArray below meth c s.heap locs 0 0 (MQ below (qP (some (.int q))) ([.ref (z + 58), .int a1, .int a2, .int a3] : List Value).toArray s 0 0 (fun q => z ≤ q)) (F0 m 66 ls []) := by
    intro q6_66 h locs ls hL hl
    refine lv_iload hx hb dX4_spotOf_66 (lv_at hl 0 rfl) ?_
    refine lv_if_ge (tgt := 76) hx hb dX4_spotOf_68 (by decide) (fun c1 => ?_) (fun c1 => ?_)
    · rw [if_pos c1] at h
      refine lv_aload_n hx hb dX4_spotOf_76 rfl (lv_at hl 1 rfl) ?_
      refine r_get (C := RX4) (T := TX4) (N := 80) hx hb hts ok4 hown hK hR (congrArg Prod.fst (hF.2.1 58 (5, 0) rfl)) rfl 74 (by decide) (hts _ q1707) (fun _ h9 => h9) (v := .ref (z + 102)) (fv_fix hF rfl rfl) dX4_spotOf_77 ?_
      refine lv_iload hx hb dX4_spotOf_80 (lv_at hl 0 rfl) ?_
      obtain ⟨hb2, h⟩ := grd h
      refine r_iald (v := wI w 102 q6_66.2.toNatClampNeg) hx hb hK hR (hF.2.1 102 (200, 200) rfl) hb2 rfl dX4_spotOf_82 ?_
      have h := Option.some.inj h
      subst h
      exact W.iret (v := wI w 102 q6_66.2.toNatClampNeg) hx hb hr (fun t ht _ => ⟨rfl, ht⟩) hL dX4_spotOf_83
    · rw [if_neg c1] at h
      refine lv_bipush (v := -5) hx hb dX4_spotOf_71 (by decide) ?_
      refine lv_goto (tgt := 83) hx hb dX4_spotOf_73 (by decide) ?_
      have h := Option.some.inj h
      subst h
      exact W.iret (v := (-5 : Int32)) hx hb hr (fun t ht _ => ⟨rfl, ht⟩) hL dX4_spotOf_83
  obtain ⟨t12, hq13, h⟩ := bnd h
  refine it_W (b := f_X4_spotOf_L6 n a1 a2 a3 w) (P := fun (s1 : Int32 × Int32) => ∀ (locs : List Loc) (ls : Array Slot), lok z locs → lv_has ls 6 [(5, .int s1.1), (4, .int s1.2), (0, .ref (z + 58)), (1, .int a1), (2, .int a2), (3, .int a3)] → W p l e ({ frames := 0, cells := 0, slots := 0, locals := 0 } : Room) s m ([.ref (z + 58), .int a1, .int a2, .int a3] : List Value).toArray below meth c s.heap locs 0 0 (MQ below (qP (some (.int q))) ([.ref (z + 58), .int a1, .int a2, .int a3] : List Value).toArray s 0 0 (fun q => z ≤ q)) (F0 m 6 ls [])) (K := fun q6_66 => (if 0 ≤ q6_66.2 then (if inb q6_66.2 200 then (some (wI w 102 q6_66.2.toNatClampNeg)) else none) else (some (-5 : Int32))) = some q) (fun s1 x1 h hc1 ht1 => ?_) n ((0 : Int32), (-1 : Int32)) t12 hq13 h locs ls hL (lv_sub hl [0, 1, 2, 3, 4, 5] rfl)
  intro locs ls hL hl
  unfold f_X4_spotOf_L6 at h
  refine lv_iload hx hb dX4_spotOf_6 (lv_at hl 0 rfl) ?_
  refine lv_iload_n hx hb dX4_spotOf_8 rfl (lv_at hl 5 rfl) ?_
  refine lv_icmp_ge (tgt := 66) hx hb dX4_spotOf_9 (by decide) (fun c3 => ?_) (fun c3 => ?_)
  · rw [if_pos c3] at h
    exact hX6_66 (s1.1, s1.2) (ht1 _ (Option.some.inj h).symm) locs ls hL (lv_sub hl [1, 2] rfl)
  · rw [if_neg c3] at h
    refine lv_aload_n hx hb dX4_spotOf_12 rfl (lv_at hl 2 rfl) ?_
    refine r_get (C := RX4) (T := TX4) (N := 80) hx hb hts ok4 hown hK hR (congrArg Prod.fst (hF.2.1 58 (5, 0) rfl)) rfl 73 (by decide) (hts _ q1706) (fun _ h9 => h9) (v := .ref (z + 101)) (fv_fix hF rfl rfl) dX4_spotOf_13 ?_
    refine lv_iload hx hb dX4_spotOf_16 (lv_at hl 0 rfl) ?_
    obtain ⟨hb4, h⟩ := grd h
    refine r_iald (v := wI w 101 s1.1.toNatClampNeg) hx hb hK hR (hF.2.1 101 (200, 200) rfl) hb4 rfl dX4_spotOf_18 ?_
    refine lv_iload_n hx hb dX4_spotOf_19 rfl (lv_at hl 3 rfl) ?_
    refine lv_icmp_ne (tgt := 60) hx hb dX4_spotOf_20 (by decide) (fun c5 => ?_) (fun c5 => ?_)
    · rw [if_neg c5] at h
      refine lv_iinc (v := s1.1 + (1 : Int32)) (lv' := [(5, .int (s1.1 + (1 : Int32))), (4, .int s1.2), (0, .ref (z + 58)), (1, .int a1), (2, .int a2), (3, .int a3)]) hx hb dX4_spotOf_60 hl (k := 0) rfl rfl (by decide) rfl (fun ls hl => ?_)
      refine lv_goto (tgt := 6) hx hb dX4_spotOf_63 (by decide) ?_
      exact hc1 _ (Option.some.inj h).symm locs ls hL (lv_sub hl [0, 1, 2, 3, 4, 5] rfl)
    · rw [if_pos c5] at h
      refine lv_aload_n hx hb dX4_spotOf_23 rfl (lv_at hl 2 rfl) ?_
      refine r_get (C := RX4) (T := TX4) (N := 80) hx hb hts ok4 hown hK hR (congrArg Prod.fst (hF.2.1 58 (5, 0) rfl)) rfl 75 (by decide) (hts _ q1708) (fun _ h9 => h9) (v := .ref (z + 103)) (fv_fix hF rfl rfl) dX4_spotOf_24 ?_
      refine lv_iload hx hb dX4_spotOf_27 (lv_at hl 0 rfl) ?_
      obtain ⟨hb6, h⟩ := grd h
      refine r_iald (v := wI w 103 s1.1.toNatClampNeg) hx hb hK hR (hF.2.1 103 (200, 200) rfl) hb6 rfl dX4_spotOf_29 ?_
      refine lv_iload_n hx hb dX4_spotOf_30 rfl (lv_at hl 4 rfl) ?_
      refine lv_icmp_gt (tgt := 60) hx hb dX4_spotOf_31 (by decide) (fun c7 => ?_) (fun c7 => ?_)
      · rw [if_pos c7] at h
        refine lv_iinc (v := s1.1 + (1 : Int32)) (lv' := [(5, .int (s1.1 + (1 : Int32))), (4, .int s1.2), (0, .ref (z + 58)), (1, .int a1), (2, .int a2), (3, .int a3)]) hx hb dX4_spotOf_60 hl (k := 0) rfl rfl (by decide) rfl (fun ls hl => ?_)
        refine lv_goto (tgt := 6) hx hb dX4_spotOf_63 (by decide) ?_
        exact hc1 _ (Option.some.inj h).symm locs ls hL (lv_sub hl [0, 1, 2, 3, 4, 5] rfl)
      · rw [if_neg c7] at h
        refine lv_iload hx hb dX4_spotOf_34 (lv_at hl 1 rfl) ?_
        refine lv_if_lt (tgt := 56) hx hb dX4_spotOf_36 (by decide) (fun c8 => ?_) (fun c8 => ?_)
        · rw [if_pos c8] at h
          refine lv_iload hx hb dX4_spotOf_56 (lv_at hl 0 rfl) ?_
          refine lv_istore (lv' := [(4, .int s1.1), (5, .int s1.1), (0, .ref (z + 58)), (1, .int a1), (2, .int a2), (3, .int a3)]) hx hb dX4_spotOf_58 hl (by decide) rfl (fun ls hl => ?_)
          refine lv_iinc (v := s1.1 + (1 : Int32)) (lv' := [(5, .int (s1.1 + (1 : Int32))), (4, .int s1.1), (0, .ref (z + 58)), (1, .int a1), (2, .int a2), (3, .int a3)]) hx hb dX4_spotOf_60 hl (k := 1) rfl rfl (by decide) rfl (fun ls hl => ?_)
          refine lv_goto (tgt := 6) hx hb dX4_spotOf_63 (by decide) ?_
          exact hc1 _ (Option.some.inj h).symm locs ls hL (lv_sub hl [0, 1, 2, 3, 4, 5] rfl)
        · rw [if_neg c8] at h
          refine lv_aload_n hx hb dX4_spotOf_39 rfl (lv_at hl 2 rfl) ?_
          refine r_get (C := RX4) (T := TX4) (N := 80) hx hb hts ok4 hown hK hR (congrArg Prod.fst (hF.2.1 58 (5, 0) rfl)) rfl 75 (by decide) (hts _ q1708) (fun _ h9 => h9) (v := .ref (z + 103)) (fv_fix hF rfl rfl) dX4_spotOf_40 ?_
          refine lv_iload hx hb dX4_spotOf_43 (lv_at hl 0 rfl) ?_
          obtain ⟨hb9, h⟩ := grd h
          refine r_iald (v := wI w 103 s1.1.toNatClampNeg) hx hb hK hR (hF.2.1 103 (200, 200) rfl) hb9 rfl dX4_spotOf_45 ?_
          refine lv_aload_n hx hb dX4_spotOf_46 rfl (lv_at hl 2 rfl) ?_
          refine r_get (C := RX4) (T := TX4) (N := 80) hx hb hts ok4 hown hK hR (congrArg Prod.fst (hF.2.1 58 (5, 0) rfl)) rfl 75 (by decide) (hts _ q1708) (fun _ h9 => h9) (v := .ref (z + 103)) (fv_fix hF rfl rfl) dX4_spotOf_47 ?_
          refine lv_iload hx hb dX4_spotOf_50 (lv_at hl 1 rfl) ?_
          obtain ⟨hb10, h⟩ := grd h
          refine r_iald (v := wI w 103 s1.2.toNatClampNeg) hx hb hK hR (hF.2.1 103 (200, 200) rfl) hb10 rfl dX4_spotOf_52 ?_
          refine lv_icmp_lt (tgt := 60) hx hb dX4_spotOf_53 (by decide) (fun c11 => ?_) (fun c11 => ?_)
          · rw [if_pos c11] at h
            refine lv_iinc (v := s1.1 + (1 : Int32)) (lv' := [(5, .int (s1.1 + (1 : Int32))), (4, .int s1.2), (0, .ref (z + 58)), (1, .int a1), (2, .int a2), (3, .int a3)]) hx hb dX4_spotOf_60 hl (k := 0) rfl rfl (by decide) rfl (fun ls hl => ?_)
            refine lv_goto (tgt := 6) hx hb dX4_spotOf_63 (by decide) ?_
            exact hc1 _ (Option.some.inj h).symm locs ls hL (lv_sub hl [0, 1, 2, 3, 4, 5] rfl)
          · rw [if_neg c11] at h
            refine lv_iload hx hb dX4_spotOf_56 (lv_at hl 0 rfl) ?_
            refine lv_istore (lv' := [(4, .int s1.1), (5, .int s1.1), (0, .ref (z + 58)), (1, .int a1), (2, .int a2), (3, .int a3)]) hx hb dX4_spotOf_58 hl (by decide) rfl (fun ls hl => ?_)
            refine lv_iinc (v := s1.1 + (1 : Int32)) (lv' := [(5, .int (s1.1 + (1 : Int32))), (4, .int s1.1), (0, .ref (z + 58)), (1, .int a1), (2, .int a2), (3, .int a3)]) hx hb dX4_spotOf_60 hl (k := 1) rfl rfl (by decide) rfl (fun ls hl => ?_)
            refine lv_goto (tgt := 6) hx hb dX4_spotOf_63 (by decide) ?_
            exact hc1 _ (Option.some.inj h).symm locs ls hL (lv_sub hl [0, 1, 2, 3, 4, 5] rfl)
def f_X4_moved_J120 (n : Nat) (a1 : Int32) (a2 : Int32) (a3 : Int32) (w : Wd) : Option (Int32 × Wd) :=
  if (wI w 58 71) = (200 : Int32) then (some ((-4 : Int32), w)) else ((f_X4_enter a1 a2 a3 w).bind fun q9 => some (q9.1, q9.2))
def f_X4_moved_L74 (n : Nat) (u1_1 : Int32) (u1_2 : Int32) (u1_3 : Int32) (w : Wd) (s1 : Int32) : Option ((Int32) ⊕ ((Int32) ⊕ (Int32))) :=
  if (wI w 58 71) ≤ s1 then (some (.inr (.inl s1))) else (if u1_2 = (10 : Int32) then (if inb s1 200 then (if (wI w 101 s1.toNatClampNeg) = u1_1 then (if inb s1 200 then (if (wI w 103 s1.toNatClampNeg) ≤ u1_3 then (some (.inl (s1 + (1 : Int32)))) else (some (.inr (.inr s1)))) else none) else (some (.inl (s1 + (1 : Int32))))) else none) else (some (.inr (.inl s1))))
def f_X4_moved (n : Nat) (a1 : Int32) (a2 : Int32) (a3 : Int32) (w : Wd) : Option (Int32 × Wd) :=
  if (f_X4_in a1 (0 : Int32) ((wI w 58 70) - (1 : Int32)) w) then (if (f_X4_in a2 (0 : Int32) (10 : Int32) w) then (if (f_X4_in a3 (0 : Int32) (wI w 58 0) w) then ((f_X4_spotOf n a1 a3 (wI w 58 71) w).bind fun q4 => if q4 < 0 then (some ((-3 : Int32), w)) else (if q4 = (10 : Int32) then (some ((-3 : Int32), w)) else ((it n (f_X4_moved_L74 n a1 a2 a3 w) (0 : Int32)).bind fun t74 => (match t74 with | .inl q74_120 => f_X4_moved_J120 n a1 a2 a3 w | .inr q74_111 => some ((-3 : Int32), w))))) else (some ((-2 : Int32), w))) else (some ((-2 : Int32), w))) else (some ((-1 : Int32), w))
theorem hd_X4_moved : yX4_moved.cls = RX4 ∧ yX4_moved.cls ≠ "java/lang/invoke/MethodHandle" ∧ yX4_moved.cls ≠ "java/lang/invoke/VarHandle" ∧ (parseMethodDescriptor yX4_moved.desc).map (fun d => d.parameters.length) = some 3 := by decide +kernel
set_option maxHeartbeats 4000000 in
set_option maxRecDepth 100000 in
theorem met_X4_moved (l : Launch) (G : Gw) (z : Nat) (H0 : Heap) (n : Nat) (w : Wd) (a1 : Int32) (a2 : Int32) (a3 : Int32) (q : Int32 × Wd) (h : f_X4_moved n a1 a2 a3 w = some q) : Met l yX4_moved (ws_ yX4_moved cX4_moved 6 (some .int)) ({ frames := 1, cells := 0, slots := 0, locals := 25 } : Room) (pcW G z H0 w [.ref (z + 58), .int a1, .int a2, .int a3]) (qW G z H0 q.2 (some (.int q.1))) 0 0 (fun q => z ≤ q) := by
  refine mW (by decide) (Nat.le_of_ble_eq_true rfl) ?_
  intro p e s m below meth c ls hx hb hr hml hown hts hlocks hnm hK hR hF hl
  have hown : s.vm.findClass RX4 = some m.cls := hown
  have hl : lv_has ls 6 [(0, .ref (z + 58)), (1, .int a1), (2, .int a2), (3, .int a3)] := hl
  have hL : lok z [] := lok_nil
  unfold f_X4_moved at h
  generalize s.heap = H at hR ⊢
  generalize ([] : List Loc) = locs at hL ⊢
  have hJ120 : ∀  (w : Wd), f_X4_moved_J120 n a1 a2 a3 w = some q → ∀ (H : Heap) (locs : List Loc) (ls : Array Slot), Rp G z H0 w H → Fix w → lok z locs → lv_has ls 6 [(0, .ref (z + 58)), (1, .int a1), (2, .int a2), (3, .int a3)] → W p l e ({ frames := 1, cells := 0, slots := 0, locals := 25 } : Room) s m ([.ref (z + 58), .int a1, .int a2, .int a3] : List Value).toArray below meth c H locs 0 0 (MQ below (qW G z H0 q.2 (some (.int q.1))) ([.ref (z + 58), .int a1, .int a2, .int a3] : List Value).toArray s 0 0 (fun q => z ≤ q)) (F0 m 120 ls []) := by
    intro  w h H locs ls hR hF hL hl
    unfold f_X4_moved_J120 at h
    refine lv_aload_n hx hb dX4_moved_120 rfl (lv_at hl 0 rfl) ?_
    refine r_get (C := RX4) (T := TX4) (N := 80) hx hb hts ok4 hown hK hR (congrArg Prod.fst (hF.2.1 58 (5, 0) rfl)) rfl 71 (by decide) (hts _ q1704) (fun _ h9 => h9) (v := .int (wI w 58 71)) rfl dX4_moved_121 ?_
    refine lv_sipush (v := 200) hx hb dX4_moved_124 (by decide) ?_
    refine lv_icmp_ne (tgt := 135) hx hb dX4_moved_127 (by decide) (fun c8 => ?_) (fun c8 => ?_)
    · rw [if_neg c8] at h
      refine lv_aload_n hx hb dX4_moved_135 rfl (lv_at hl 0 rfl) ?_
      refine lv_iload_n hx hb dX4_moved_136 rfl (lv_at hl 1 rfl) ?_
      refine lv_iload_n hx hb dX4_moved_137 rfl (lv_at hl 2 rfl) ?_
      refine lv_iload_n hx hb dX4_moved_138 rfl (lv_at hl 3 rfl) ?_
      obtain ⟨q9, hq10, h⟩ := bnd h
      refine c_VW (a := 58) (ci := 4) (q := (RX4, TX4, 80)) (rest := []) (st1 := [.int q9.1]) hx hb hml hown hts hK hR hF hL hl.1 (met_X4_enter l G z H0 w a1 a2 a3 q9 hq10) (congrArg Prod.fst (hF.2.1 58 (5, 0) rfl)) rfl rfl rfl hd_X4_enter q2229 q2231 qs93 q104 q2232 ⟨Nat.le_of_ble_eq_true rfl, Nat.le_of_ble_eq_true rfl⟩ ⟨Nat.le_refl 0, Nat.le_refl 0⟩ rfl rfl (Nat.le_of_ble_eq_true rfl) dX4_moved_139 rfl (fun H locs hR hF hL => ?_)
      have h := Option.some.inj h
      subst h
      exact W.iret (v := q9.1) hx hb hr (fun t ht _ => ⟨rfl, by rw [ht]; exact hR, hF⟩) hL dX4_moved_142
    · rw [if_pos c8] at h
      refine lv_bipush (v := -4) hx hb dX4_moved_130 (by decide) ?_
      refine lv_goto (tgt := 142) hx hb dX4_moved_132 (by decide) ?_
      have h := Option.some.inj h
      subst h
      exact W.iret (v := (-4 : Int32)) hx hb hr (fun t ht _ => ⟨rfl, by rw [ht]; exact hR, hF⟩) hL dX4_moved_142
  refine lv_aload_n hx hb dX4_moved_0 rfl (lv_at hl 0 rfl) ?_
  refine lv_iload_n hx hb dX4_moved_1 rfl (lv_at hl 1 rfl) ?_
  refine lv_iconst (v := 0) hx hb dX4_moved_2 (by decide) ?_
  refine lv_aload_n hx hb dX4_moved_3 rfl (lv_at hl 0 rfl) ?_
  refine r_get (C := RX4) (T := TX4) (N := 80) hx hb hts ok4 hown hK hR (congrArg Prod.fst (hF.2.1 58 (5, 0) rfl)) rfl 70 (by decide) (hts _ q1703) (fun _ h9 => h9) (v := .int (wI w 58 70)) rfl dX4_moved_4 ?_
  refine lv_iconst (v := 1) hx hb dX4_moved_7 (by decide) ?_
  refine lv_isub hx hb dX4_moved_8 ?_
  refine c_VP (a := 58) (ci := 4) (q := (RX4, TX4, 80)) (rest := []) (st1 := [.int (bI (f_X4_in a1 (0 : Int32) ((wI w 58 70) - (1 : Int32)) w))]) hx hb hml hown hts hK hR hF hL hl.1 (met_X4_in l G z H0 w a1 (0 : Int32) ((wI w 58 70) - (1 : Int32)) _ rfl) (congrArg Prod.fst (hF.2.1 58 (5, 0) rfl)) rfl rfl rfl hd_X4_in q1878 q1880 qs41 q104 q1881 ⟨Nat.le_of_ble_eq_true rfl, Nat.le_of_ble_eq_true rfl⟩ ⟨Nat.le_refl 0, Nat.le_refl 0⟩ rfl rfl (Nat.le_of_ble_eq_true rfl) dX4_moved_9 rfl (fun locs hL => ?_)
  refine lv_if_ne (tgt := 17) hx hb dX4_moved_12 (by decide) (fun c1 => ?_) (fun c1 => ?_)
  · rw [if_pos (bI_p c1)] at h
    refine lv_aload_n hx hb dX4_moved_17 rfl (lv_at hl 0 rfl) ?_
    refine lv_iload_n hx hb dX4_moved_18 rfl (lv_at hl 2 rfl) ?_
    refine lv_iconst (v := 0) hx hb dX4_moved_19 (by decide) ?_
    refine lv_bipush (v := 10) hx hb dX4_moved_20 (by decide) ?_
    refine c_VP (a := 58) (ci := 4) (q := (RX4, TX4, 80)) (rest := []) (st1 := [.int (bI (f_X4_in a2 (0 : Int32) (10 : Int32) w))]) hx hb hml hown hts hK hR hF hL hl.1 (met_X4_in l G z H0 w a2 (0 : Int32) (10 : Int32) _ rfl) (congrArg Prod.fst (hF.2.1 58 (5, 0) rfl)) rfl rfl rfl hd_X4_in q1878 q1880 qs41 q104 q1881 ⟨Nat.le_of_ble_eq_true rfl, Nat.le_of_ble_eq_true rfl⟩ ⟨Nat.le_refl 0, Nat.le_refl 0⟩ rfl rfl (Nat.le_of_ble_eq_true rfl) dX4_moved_22 rfl (fun locs hL => ?_)
    refine lv_if_eq (tgt := 41) hx hb dX4_moved_25 (by decide) (fun c2 => ?_) (fun c2 => ?_)
    · rw [if_neg (bI_n c2)] at h
      refine lv_bipush (v := -2) hx hb dX4_moved_41 (by decide) ?_
      have h := Option.some.inj h
      subst h
      exact W.iret (v := (-2 : Int32)) hx hb hr (fun t ht _ => ⟨rfl, by rw [ht]; exact hR, hF⟩) hL dX4_moved_43
    · rw [if_pos (bI_p c2)] at h
      refine lv_aload_n hx hb dX4_moved_28 rfl (lv_at hl 0 rfl) ?_
      refine lv_iload_n hx hb dX4_moved_29 rfl (lv_at hl 3 rfl) ?_
      refine lv_iconst (v := 0) hx hb dX4_moved_30 (by decide) ?_
      refine lv_aload_n hx hb dX4_moved_31 rfl (lv_at hl 0 rfl) ?_
      refine r_get (C := RX4) (T := TX4) (N := 80) hx hb hts ok4 hown hK hR (congrArg Prod.fst (hF.2.1 58 (5, 0) rfl)) rfl 0 (by decide) (hts _ q1633) (fun _ h9 => h9) (v := .int (wI w 58 0)) rfl dX4_moved_32 ?_
      refine c_VP (a := 58) (ci := 4) (q := (RX4, TX4, 80)) (rest := []) (st1 := [.int (bI (f_X4_in a3 (0 : Int32) (wI w 58 0) w))]) hx hb hml hown hts hK hR hF hL hl.1 (met_X4_in l G z H0 w a3 (0 : Int32) (wI w 58 0) _ rfl) (congrArg Prod.fst (hF.2.1 58 (5, 0) rfl)) rfl rfl rfl hd_X4_in q1878 q1880 qs41 q104 q1881 ⟨Nat.le_of_ble_eq_true rfl, Nat.le_of_ble_eq_true rfl⟩ ⟨Nat.le_refl 0, Nat.le_refl 0⟩ rfl rfl (Nat.le_of_ble_eq_true rfl) dX4_moved_35 rfl (fun locs hL => ?_)
      refine lv_if_ne (tgt := 44) hx hb dX4_moved_38 (by decide) (fun c3 => ?_) (fun c3 => ?_)
      · rw [if_pos (bI_p c3)] at h
        refine lv_aload_n hx hb dX4_moved_44 rfl (lv_at hl 0 rfl) ?_
        refine lv_iload_n hx hb dX4_moved_45 rfl (lv_at hl 1 rfl) ?_
        refine lv_iload_n hx hb dX4_moved_46 rfl (lv_at hl 3 rfl) ?_
        refine lv_aload_n hx hb dX4_moved_47 rfl (lv_at hl 0 rfl) ?_
        refine r_get (C := RX4) (T := TX4) (N := 80) hx hb hts ok4 hown hK hR (congrArg Prod.fst (hF.2.1 58 (5, 0) rfl)) rfl 71 (by decide) (hts _ q1704) (fun _ h9 => h9) (v := .int (wI w 58 71)) rfl dX4_moved_48 ?_
        obtain ⟨q4, hq5, h⟩ := bnd h
        refine c_VP (a := 58) (ci := 4) (q := (RX4, TX4, 80)) (rest := []) (st1 := [.int q4]) hx hb hml hown hts hK hR hF hL hl.1 (met_X4_spotOf l G z H0 n w a1 a3 (wI w 58 71) q4 hq5) (congrArg Prod.fst (hF.2.1 58 (5, 0) rfl)) rfl rfl rfl hd_X4_spotOf q2237 q2239 qs94 q104 q2240 ⟨Nat.le_of_ble_eq_true rfl, Nat.le_of_ble_eq_true rfl⟩ ⟨Nat.le_refl 0, Nat.le_refl 0⟩ rfl rfl (Nat.le_of_ble_eq_true rfl) dX4_moved_51 rfl (fun locs hL => ?_)
        refine lv_istore (lv' := [(4, .int q4), (0, .ref (z + 58)), (1, .int a1), (2, .int a2), (3, .int a3)]) hx hb dX4_moved_54 hl (by decide) rfl (fun ls hl => ?_)
        refine lv_iload hx hb dX4_moved_56 (lv_at hl 0 rfl) ?_
        refine lv_if_lt (tgt := 68) hx hb dX4_moved_58 (by decide) (fun c6 => ?_) (fun c6 => ?_)
        · rw [if_pos c6] at h
          refine lv_bipush (v := -3) hx hb dX4_moved_68 (by decide) ?_
          have h := Option.some.inj h
          subst h
          exact W.iret (v := (-3 : Int32)) hx hb hr (fun t ht _ => ⟨rfl, by rw [ht]; exact hR, hF⟩) hL dX4_moved_70
        · rw [if_neg c6] at h
          refine lv_iload hx hb dX4_moved_61 (lv_at hl 0 rfl) ?_
          refine lv_bipush (v := 10) hx hb dX4_moved_63 (by decide) ?_
          refine lv_icmp_ne (tgt := 71) hx hb dX4_moved_65 (by decide) (fun c7 => ?_) (fun c7 => ?_)
          · rw [if_neg c7] at h
            refine lv_iconst (v := 0) hx hb dX4_moved_71 (by decide) ?_
            refine lv_istore (lv' := [(5, .int (0 : Int32)), (4, .int q4), (0, .ref (z + 58)), (1, .int a1), (2, .int a2), (3, .int a3)]) hx hb dX4_moved_72 hl (by decide) rfl (fun ls hl => ?_)
            have hX74_120 : ∀ (q74_120 : Int32), (f_X4_moved_J120 n a1 a2 a3 w) = some q → ∀ (locs : List Loc) (ls : Array Slot), lok z locs → lv_has ls 6 [(0, .ref (z + 58)), (1, .int a1), (2, .int a2), (3, .int a3)] → W p l e ({ frames := 1, cells := 0, slots := 0, locals := 25 } : Room) s m ([.ref (z + 58), .int a1, .int a2, .int a3] : List Value).toArray below meth c H locs 0 0 (MQ below (qW G z H0 q.2 (some (.int q.1))) ([.ref (z + 58), .int a1, .int a2, .int a3] : List Value).toArray s 0 0 (fun q => z ≤ q)) (F0 m 120 ls []) := by
              intro q74_120 h locs ls hL hl
              exact hJ120  w h H locs ls hR hF hL (lv_sub hl [0, 1, 2, 3] rfl)
            have hX74_111 : ∀ (q74_111 : Int32), (some ((-3 : Int32), w)) = some q → ∀ (locs : List Loc) (ls : Array Slot), lok z locs → lv_has ls 6 [] → W p l e ({ frames := 1, cells := 0, slots := 0, locals := 25 } : Room) s m ([.ref (z + 58), .int a1, .int a2, .int a3] : List Value).toArray below meth c H locs 0 0 (MQ below (qW G z H0 q.2 (some (.int q.1))) ([.ref (z + 58), .int a1, .int a2, .int a3] : List Value).toArray s 0 0 (fun q => z ≤ q)) (F0 m 111 ls []) := by
              intro q74_111 h locs ls hL hl
              refine lv_bipush (v := -3) hx hb dX4_moved_111 (by decide) ?_
              have h := Option.some.inj h
              subst h
              exact W.iret (v := (-3 : Int32)) hx hb hr (fun t ht _ => ⟨rfl, by rw [ht]; exact hR, hF⟩) hL dX4_moved_113
            obtain ⟨t17, hq18, h⟩ := bnd h
            refine it_W (b := f_X4_moved_L74 n a1 a2 a3 w) (P := fun (s1 : Int32) => ∀ (locs : List Loc) (ls : Array Slot), lok z locs → lv_has ls 6 [(5, .int s1), (0, .ref (z + 58)), (1, .int a1), (2, .int a2), (3, .int a3)] → W p l e ({ frames := 1, cells := 0, slots := 0, locals := 25 } : Room) s m ([.ref (z + 58), .int a1, .int a2, .int a3] : List Value).toArray below meth c H locs 0 0 (MQ below (qW G z H0 q.2 (some (.int q.1))) ([.ref (z + 58), .int a1, .int a2, .int a3] : List Value).toArray s 0 0 (fun q => z ≤ q)) (F0 m 74 ls [])) (K := fun t74 => ((match t74 with | .inl q74_120 => f_X4_moved_J120 n a1 a2 a3 w | .inr q74_111 => some ((-3 : Int32), w))) = some q) (fun s1 x1 h hc1 ht1 => ?_) n (0 : Int32) t17 hq18 h locs ls hL (lv_sub hl [0, 2, 3, 4, 5] rfl)
            intro locs ls hL hl
            unfold f_X4_moved_L74 at h
            refine lv_iload hx hb dX4_moved_74 (lv_at hl 0 rfl) ?_
            refine lv_aload_n hx hb dX4_moved_76 rfl (lv_at hl 1 rfl) ?_
            refine r_get (C := RX4) (T := TX4) (N := 80) hx hb hts ok4 hown hK hR (congrArg Prod.fst (hF.2.1 58 (5, 0) rfl)) rfl 71 (by decide) (hts _ q1704) (fun _ h9 => h9) (v := .int (wI w 58 71)) rfl dX4_moved_77 ?_
            refine lv_icmp_ge (tgt := 120) hx hb dX4_moved_80 (by decide) (fun c11 => ?_) (fun c11 => ?_)
            · rw [if_pos c11] at h
              exact hX74_120 s1 (ht1 _ (Option.some.inj h).symm) locs ls hL (lv_sub hl [1, 2, 3, 4] rfl)
            · rw [if_neg c11] at h
              refine lv_iload_n hx hb dX4_moved_83 rfl (lv_at hl 3 rfl) ?_
              refine lv_bipush (v := 10) hx hb dX4_moved_84 (by decide) ?_
              refine lv_icmp_ne (tgt := 120) hx hb dX4_moved_86 (by decide) (fun c12 => ?_) (fun c12 => ?_)
              · rw [if_neg c12] at h
                exact hX74_120 s1 (ht1 _ (Option.some.inj h).symm) locs ls hL (lv_sub hl [1, 2, 3, 4] rfl)
              · rw [if_pos c12] at h
                refine lv_aload_n hx hb dX4_moved_89 rfl (lv_at hl 1 rfl) ?_
                refine r_get (C := RX4) (T := TX4) (N := 80) hx hb hts ok4 hown hK hR (congrArg Prod.fst (hF.2.1 58 (5, 0) rfl)) rfl 73 (by decide) (hts _ q1706) (fun _ h9 => h9) (v := .ref (z + 101)) (fv_fix hF rfl rfl) dX4_moved_90 ?_
                refine lv_iload hx hb dX4_moved_93 (lv_at hl 0 rfl) ?_
                obtain ⟨hb13, h⟩ := grd h
                refine r_iald (v := wI w 101 s1.toNatClampNeg) hx hb hK hR (hF.2.1 101 (200, 200) rfl) hb13 rfl dX4_moved_95 ?_
                refine lv_iload_n hx hb dX4_moved_96 rfl (lv_at hl 2 rfl) ?_
                refine lv_icmp_ne (tgt := 114) hx hb dX4_moved_97 (by decide) (fun c14 => ?_) (fun c14 => ?_)
                · rw [if_neg c14] at h
                  refine lv_iinc (v := s1 + (1 : Int32)) (lv' := [(5, .int (s1 + (1 : Int32))), (0, .ref (z + 58)), (1, .int a1), (2, .int a2), (3, .int a3)]) hx hb dX4_moved_114 hl (k := 0) rfl rfl (by decide) rfl (fun ls hl => ?_)
                  refine lv_goto (tgt := 74) hx hb dX4_moved_117 (by decide) ?_
                  exact hc1 _ (Option.some.inj h).symm locs ls hL (lv_sub hl [0, 1, 2, 3, 4] rfl)
                · rw [if_pos c14] at h
                  refine lv_aload_n hx hb dX4_moved_100 rfl (lv_at hl 1 rfl) ?_
                  refine r_get (C := RX4) (T := TX4) (N := 80) hx hb hts ok4 hown hK hR (congrArg Prod.fst (hF.2.1 58 (5, 0) rfl)) rfl 75 (by decide) (hts _ q1708) (fun _ h9 => h9) (v := .ref (z + 103)) (fv_fix hF rfl rfl) dX4_moved_101 ?_
                  refine lv_iload hx hb dX4_moved_104 (lv_at hl 0 rfl) ?_
                  obtain ⟨hb15, h⟩ := grd h
                  refine r_iald (v := wI w 103 s1.toNatClampNeg) hx hb hK hR (hF.2.1 103 (200, 200) rfl) hb15 rfl dX4_moved_106 ?_
                  refine lv_iload_n hx hb dX4_moved_107 rfl (lv_at hl 4 rfl) ?_
                  refine lv_icmp_le (tgt := 114) hx hb dX4_moved_108 (by decide) (fun c16 => ?_) (fun c16 => ?_)
                  · rw [if_pos c16] at h
                    refine lv_iinc (v := s1 + (1 : Int32)) (lv' := [(5, .int (s1 + (1 : Int32))), (0, .ref (z + 58)), (1, .int a1), (2, .int a2), (3, .int a3)]) hx hb dX4_moved_114 hl (k := 0) rfl rfl (by decide) rfl (fun ls hl => ?_)
                    refine lv_goto (tgt := 74) hx hb dX4_moved_117 (by decide) ?_
                    exact hc1 _ (Option.some.inj h).symm locs ls hL (lv_sub hl [0, 1, 2, 3, 4] rfl)
                  · rw [if_neg c16] at h
                    exact hX74_111 s1 (ht1 _ (Option.some.inj h).symm) locs ls hL (lv_sub hl [] rfl)
          · rw [if_pos c7] at h
            refine lv_bipush (v := -3) hx hb dX4_moved_68 (by decide) ?_
            have h := Option.some.inj h
            subst h
            exact W.iret (v := (-3 : Int32)) hx hb hr (fun t ht _ => ⟨rfl, by rw [ht]; exact hR, hF⟩) hL dX4_moved_70
      · rw [if_neg (bI_n c3)] at h
        refine lv_bipush (v := -2) hx hb dX4_moved_41 (by decide) ?_
        have h := Option.some.inj h
        subst h
        exact W.iret (v := (-2 : Int32)) hx hb hr (fun t ht _ => ⟨rfl, by rw [ht]; exact hR, hF⟩) hL dX4_moved_43
  · rw [if_neg (bI_n c1)] at h
    refine lv_iconst (v := -1) hx hb dX4_moved_15 (by decide) ?_
    have h := Option.some.inj h
    subst h
    exact W.iret (v := (-1 : Int32)) hx hb hr (fun t ht _ => ⟨rfl, by rw [ht]; exact hR, hF⟩) hL dX4_moved_16
def f_X4_isTime (a1 : Int32) (w : Wd) : Bool :=
  (f_X4_in a1 (-1 : Int32) (wI w 58 71) w)
theorem hd_X4_isTime : yX4_isTime.cls = RX4 ∧ yX4_isTime.cls ≠ "java/lang/invoke/MethodHandle" ∧ yX4_isTime.cls ≠ "java/lang/invoke/VarHandle" ∧ (parseMethodDescriptor yX4_isTime.desc).map (fun d => d.parameters.length) = some 1 := by decide +kernel
set_option maxHeartbeats 4000000 in
set_option maxRecDepth 100000 in
theorem met_X4_isTime (l : Launch) (G : Gw) (z : Nat) (H0 : Heap)  (w : Wd) (a1 : Int32) (q : Bool) (h : f_X4_isTime a1 w = q) : Met l yX4_isTime (ws_ yX4_isTime cX4_isTime 2 (some .boolean)) ({ frames := 1, cells := 0, slots := 0, locals := 23 } : Room) (pcW G z H0 w [.ref (z + 58), .int a1]) (qP (some (.int (bI q)))) 0 0 (fun q => z ≤ q) := by
  refine mW (by decide) (Nat.le_of_ble_eq_true rfl) ?_
  intro p e s m below meth c ls hx hb hr hml hown hts hlocks hnm hK hR hF hl
  have hown : s.vm.findClass RX4 = some m.cls := hown
  have hl : lv_has ls 2 [(0, .ref (z + 58)), (1, .int a1)] := hl
  have hL : lok z [] := lok_nil
  unfold f_X4_isTime at h
  generalize ([] : List Loc) = locs at hL ⊢
  refine lv_aload_n hx hb dX4_isTime_0 rfl (lv_at hl 0 rfl) ?_
  refine lv_iload_n hx hb dX4_isTime_1 rfl (lv_at hl 1 rfl) ?_
  refine lv_iconst (v := -1) hx hb dX4_isTime_2 (by decide) ?_
  refine lv_aload_n hx hb dX4_isTime_3 rfl (lv_at hl 0 rfl) ?_
  refine r_get (C := RX4) (T := TX4) (N := 80) hx hb hts ok4 hown hK hR (congrArg Prod.fst (hF.2.1 58 (5, 0) rfl)) rfl 71 (by decide) (hts _ q1704) (fun _ h9 => h9) (v := .int (wI w 58 71)) rfl dX4_isTime_4 ?_
  refine c_VP (a := 58) (ci := 4) (q := (RX4, TX4, 80)) (rest := []) (st1 := [.int (bI (f_X4_in a1 (-1 : Int32) (wI w 58 71) w))]) hx hb hml hown hts hK hR hF hL hl.1 (met_X4_in l G z H0 w a1 (-1 : Int32) (wI w 58 71) _ rfl) (congrArg Prod.fst (hF.2.1 58 (5, 0) rfl)) rfl rfl rfl hd_X4_in q1878 q1880 qs41 q104 q1881 ⟨Nat.le_of_ble_eq_true rfl, Nat.le_of_ble_eq_true rfl⟩ ⟨Nat.le_refl 0, Nat.le_refl 0⟩ rfl rfl (Nat.le_of_ble_eq_true rfl) dX4_isTime_7 rfl (fun locs hL => ?_)
  subst h
  exact W.zret (v := bI (f_X4_in a1 (-1 : Int32) (wI w 58 71) w)) hx hb hr (bI_nar _) (fun t ht _ => ⟨rfl, ht⟩) hL dX4_isTime_10
def f_X4_by (a1 : Int32) (w : Wd) : Int32 :=
  if 0 ≤ a1 then a1 else (wI w 58 71)
theorem hd_X4_by : yX4_by.cls = RX4 ∧ yX4_by.cls ≠ "java/lang/invoke/MethodHandle" ∧ yX4_by.cls ≠ "java/lang/invoke/VarHandle" ∧ (parseMethodDescriptor yX4_by.desc).map (fun d => d.parameters.length) = some 1 := by decide +kernel
set_option maxHeartbeats 4000000 in
set_option maxRecDepth 100000 in
theorem met_X4_by (l : Launch) (G : Gw) (z : Nat) (H0 : Heap)  (w : Wd) (a1 : Int32) (q : Int32) (h : f_X4_by a1 w = q) : Met l yX4_by (ws_ yX4_by cX4_by 2 (some .int)) ({ frames := 0, cells := 0, slots := 0, locals := 0 } : Room) (pcW G z H0 w [.ref (z + 58), .int a1]) (qP (some (.int q))) 0 0 (fun q => z ≤ q) := by
  refine mW (by decide) (Nat.le_of_ble_eq_true rfl) ?_
  intro p e s m below meth c ls hx hb hr hml hown hts hlocks hnm hK hR hF hl
  have hown : s.vm.findClass RX4 = some m.cls := hown
  have hl : lv_has ls 2 [(0, .ref (z + 58)), (1, .int a1)] := hl
  have hL : lok z [] := lok_nil
  unfold f_X4_by at h
  generalize ([] : List Loc) = locs at hL ⊢
  refine lv_iload_n hx hb dX4_by_0 rfl (lv_at hl 1 rfl) ?_
  refine lv_if_ge (tgt := 11) hx hb dX4_by_1 (by decide) (fun c1 => ?_) (fun c1 => ?_)
  · rw [if_pos c1] at h
    refine lv_iload_n hx hb dX4_by_11 rfl (lv_at hl 1 rfl) ?_
    subst h
    exact W.iret (v := a1) hx hb hr (fun t ht _ => ⟨rfl, ht⟩) hL dX4_by_12
  · rw [if_neg c1] at h
    refine lv_aload_n hx hb dX4_by_4 rfl (lv_at hl 0 rfl) ?_
    refine r_get (C := RX4) (T := TX4) (N := 80) hx hb hts ok4 hown hK hR (congrArg Prod.fst (hF.2.1 58 (5, 0) rfl)) rfl 71 (by decide) (hts _ q1704) (fun _ h9 => h9) (v := .int (wI w 58 71)) rfl dX4_by_5 ?_
    refine lv_goto (tgt := 12) hx hb dX4_by_8 (by decide) ?_
    subst h
    exact W.iret (v := wI w 58 71) hx hb hr (fun t ht _ => ⟨rfl, ht⟩) hL dX4_by_12
def f_X4_spot (n : Nat) (a1 : Int32) (a2 : Int32) (a3 : Int32) (w : Wd) : Option (Int32) :=
  if (f_X4_in a1 (0 : Int32) ((wI w 58 70) - (1 : Int32)) w) then (if (f_X4_isTime a3 w) then (if (f_X4_isDay a2 w) then ((f_X4_spotOf n a1 a2 (f_X4_by a3 w) w).bind fun q4 => some q4) else (some (-2 : Int32))) else (some (-1 : Int32))) else (some (-1 : Int32))
theorem hd_X4_spot : yX4_spot.cls = RX4 ∧ yX4_spot.cls ≠ "java/lang/invoke/MethodHandle" ∧ yX4_spot.cls ≠ "java/lang/invoke/VarHandle" ∧ (parseMethodDescriptor yX4_spot.desc).map (fun d => d.parameters.length) = some 3 := by decide +kernel
set_option maxHeartbeats 4000000 in
set_option maxRecDepth 100000 in
theorem met_X4_spot (l : Launch) (G : Gw) (z : Nat) (H0 : Heap) (n : Nat) (w : Wd) (a1 : Int32) (a2 : Int32) (a3 : Int32) (q : Int32) (h : f_X4_spot n a1 a2 a3 w = some q) : Met l yX4_spot (ws_ yX4_spot cX4_spot 4 (some .int)) ({ frames := 2, cells := 0, slots := 0, locals := 44 } : Room) (pcW G z H0 w [.ref (z + 58), .int a1, .int a2, .int a3]) (qP (some (.int q))) 0 0 (fun q => z ≤ q) := by
  refine mW (by decide) (Nat.le_of_ble_eq_true rfl) ?_
  intro p e s m below meth c ls hx hb hr hml hown hts hlocks hnm hK hR hF hl
  have hown : s.vm.findClass RX4 = some m.cls := hown
  have hl : lv_has ls 4 [(0, .ref (z + 58)), (1, .int a1), (2, .int a2), (3, .int a3)] := hl
  have hL : lok z [] := lok_nil
  unfold f_X4_spot at h
  generalize ([] : List Loc) = locs at hL ⊢
  refine lv_aload_n hx hb dX4_spot_0 rfl (lv_at hl 0 rfl) ?_
  refine lv_iload_n hx hb dX4_spot_1 rfl (lv_at hl 1 rfl) ?_
  refine lv_iconst (v := 0) hx hb dX4_spot_2 (by decide) ?_
  refine lv_aload_n hx hb dX4_spot_3 rfl (lv_at hl 0 rfl) ?_
  refine r_get (C := RX4) (T := TX4) (N := 80) hx hb hts ok4 hown hK hR (congrArg Prod.fst (hF.2.1 58 (5, 0) rfl)) rfl 70 (by decide) (hts _ q1703) (fun _ h9 => h9) (v := .int (wI w 58 70)) rfl dX4_spot_4 ?_
  refine lv_iconst (v := 1) hx hb dX4_spot_7 (by decide) ?_
  refine lv_isub hx hb dX4_spot_8 ?_
  refine c_VP (a := 58) (ci := 4) (q := (RX4, TX4, 80)) (rest := []) (st1 := [.int (bI (f_X4_in a1 (0 : Int32) ((wI w 58 70) - (1 : Int32)) w))]) hx hb hml hown hts hK hR hF hL hl.1 (met_X4_in l G z H0 w a1 (0 : Int32) ((wI w 58 70) - (1 : Int32)) _ rfl) (congrArg Prod.fst (hF.2.1 58 (5, 0) rfl)) rfl rfl rfl hd_X4_in q1878 q1880 qs41 q104 q1881 ⟨Nat.le_of_ble_eq_true rfl, Nat.le_of_ble_eq_true rfl⟩ ⟨Nat.le_refl 0, Nat.le_refl 0⟩ rfl rfl (Nat.le_of_ble_eq_true rfl) dX4_spot_9 rfl (fun locs hL => ?_)
  refine lv_if_eq (tgt := 23) hx hb dX4_spot_12 (by decide) (fun c1 => ?_) (fun c1 => ?_)
  · rw [if_neg (bI_n c1)] at h
    refine lv_iconst (v := -1) hx hb dX4_spot_23 (by decide) ?_
    have h := Option.some.inj h
    subst h
    exact W.iret (v := (-1 : Int32)) hx hb hr (fun t ht _ => ⟨rfl, ht⟩) hL dX4_spot_24
  · rw [if_pos (bI_p c1)] at h
    refine lv_aload_n hx hb dX4_spot_15 rfl (lv_at hl 0 rfl) ?_
    refine lv_iload_n hx hb dX4_spot_16 rfl (lv_at hl 3 rfl) ?_
    refine c_VP (a := 58) (ci := 4) (q := (RX4, TX4, 80)) (rest := []) (st1 := [.int (bI (f_X4_isTime a3 w))]) hx hb hml hown hts hK hR hF hL hl.1 (met_X4_isTime l G z H0 w a3 _ rfl) (congrArg Prod.fst (hF.2.1 58 (5, 0) rfl)) rfl rfl rfl hd_X4_isTime q2245 q2247 qs95 q104 q2248 ⟨Nat.le_of_ble_eq_true rfl, Nat.le_of_ble_eq_true rfl⟩ ⟨Nat.le_refl 0, Nat.le_refl 0⟩ rfl rfl (Nat.le_of_ble_eq_true rfl) dX4_spot_17 rfl (fun locs hL => ?_)
    refine lv_if_ne (tgt := 25) hx hb dX4_spot_20 (by decide) (fun c2 => ?_) (fun c2 => ?_)
    · rw [if_pos (bI_p c2)] at h
      refine lv_aload_n hx hb dX4_spot_25 rfl (lv_at hl 0 rfl) ?_
      refine lv_iload_n hx hb dX4_spot_26 rfl (lv_at hl 2 rfl) ?_
      refine c_VP (a := 58) (ci := 4) (q := (RX4, TX4, 80)) (rest := []) (st1 := [.int (bI (f_X4_isDay a2 w))]) hx hb hml hown hts hK hR hF hL hl.1 (met_X4_isDay l G z H0 w a2 _ rfl) (congrArg Prod.fst (hF.2.1 58 (5, 0) rfl)) rfl rfl rfl hd_X4_isDay q2093 q2095 qs76 q104 q2096 ⟨Nat.le_of_ble_eq_true rfl, Nat.le_of_ble_eq_true rfl⟩ ⟨Nat.le_refl 0, Nat.le_refl 0⟩ rfl rfl (Nat.le_of_ble_eq_true rfl) dX4_spot_27 rfl (fun locs hL => ?_)
      refine lv_if_eq (tgt := 47) hx hb dX4_spot_30 (by decide) (fun c3 => ?_) (fun c3 => ?_)
      · rw [if_neg (bI_n c3)] at h
        refine lv_bipush (v := -2) hx hb dX4_spot_47 (by decide) ?_
        have h := Option.some.inj h
        subst h
        exact W.iret (v := (-2 : Int32)) hx hb hr (fun t ht _ => ⟨rfl, ht⟩) hL dX4_spot_49
      · rw [if_pos (bI_p c3)] at h
        refine lv_aload_n hx hb dX4_spot_33 rfl (lv_at hl 0 rfl) ?_
        refine lv_iload_n hx hb dX4_spot_34 rfl (lv_at hl 1 rfl) ?_
        refine lv_iload_n hx hb dX4_spot_35 rfl (lv_at hl 2 rfl) ?_
        refine lv_aload_n hx hb dX4_spot_36 rfl (lv_at hl 0 rfl) ?_
        refine lv_iload_n hx hb dX4_spot_37 rfl (lv_at hl 3 rfl) ?_
        refine c_VP (a := 58) (ci := 4) (q := (RX4, TX4, 80)) (rest := [.int a2, .int a1, .ref (z + 58)]) (st1 := [.int (f_X4_by a3 w), .int a2, .int a1, .ref (z + 58)]) hx hb hml hown hts hK hR hF hL hl.1 (met_X4_by l G z H0 w a3 _ rfl) (congrArg Prod.fst (hF.2.1 58 (5, 0) rfl)) rfl rfl rfl hd_X4_by q2249 q2251 qs96 q104 q2252 ⟨Nat.le_of_ble_eq_true rfl, Nat.le_of_ble_eq_true rfl⟩ ⟨Nat.le_refl 0, Nat.le_refl 0⟩ rfl rfl (Nat.le_of_ble_eq_true rfl) dX4_spot_38 rfl (fun locs hL => ?_)
        obtain ⟨q4, hq5, h⟩ := bnd h
        refine c_VP (a := 58) (ci := 4) (q := (RX4, TX4, 80)) (rest := []) (st1 := [.int q4]) hx hb hml hown hts hK hR hF hL hl.1 (met_X4_spotOf l G z H0 n w a1 a2 (f_X4_by a3 w) q4 hq5) (congrArg Prod.fst (hF.2.1 58 (5, 0) rfl)) rfl rfl rfl hd_X4_spotOf q2237 q2239 qs94 q104 q2240 ⟨Nat.le_of_ble_eq_true rfl, Nat.le_of_ble_eq_true rfl⟩ ⟨Nat.le_refl 0, Nat.le_refl 0⟩ rfl rfl (Nat.le_of_ble_eq_true rfl) dX4_spot_41 rfl (fun locs hL => ?_)
        refine lv_goto (tgt := 49) hx hb dX4_spot_44 (by decide) ?_
        have h := Option.some.inj h
        subst h
        exact W.iret (v := q4) hx hb hr (fun t ht _ => ⟨rfl, ht⟩) hL dX4_spot_49
    · rw [if_neg (bI_n c2)] at h
      refine lv_iconst (v := -1) hx hb dX4_spot_23 (by decide) ?_
      have h := Option.some.inj h
      subst h
      exact W.iret (v := (-1 : Int32)) hx hb hr (fun t ht _ => ⟨rfl, ht⟩) hL dX4_spot_24
def f_X4_lost_J89 (n : Nat) (u1_1 : Int32) (u1_2 : Int32) (u1_3 : Int32) (j7 : Int32) (j6 : Int32) (j5 : Int32) (k0 : Int32) (k1 : Int32) (w : Wd) : Option ((Int32 × Int32 × Int32) ⊕ ((Int32 × Int32 × Int32))) :=
  if j7 = (10 : Int32) then (some (.inl (j6 + (1 : Int32), j5 + (1 : Int32), k1 + k0))) else (some (.inl (j6 + (1 : Int32), j5 + (0 : Int32), k1 + k0)))
def f_X4_lost_L38 (n : Nat) (u1_1 : Int32) (u1_2 : Int32) (u1_3 : Int32) (w : Wd) (s1 : Int32 × Int32 × Int32) : Option ((Int32 × Int32 × Int32) ⊕ ((Int32 × Int32 × Int32))) :=
  if (wI w 58 70) ≤ s1.1 then (some (.inr (s1.1, s1.2.1, s1.2.2))) else (if inb s1.1 60 then (if (wI w 100 s1.1.toNatClampNeg) = u1_1 then ((f_X4_spotOf n s1.1 u1_2 (f_X4_by u1_3 w) w).bind fun q11 => if q11 < 0 then (f_X4_lost_J89 n u1_1 u1_2 u1_3 q11 s1.1 s1.2.1 (0 : Int32) s1.2.2 w) else (f_X4_lost_J89 n u1_1 u1_2 u1_3 q11 s1.1 s1.2.1 (1 : Int32) s1.2.2 w)) else (if (-5 : Int32) < 0 then (f_X4_lost_J89 n u1_1 u1_2 u1_3 (-5 : Int32) s1.1 s1.2.1 (0 : Int32) s1.2.2 w) else (f_X4_lost_J89 n u1_1 u1_2 u1_3 (-5 : Int32) s1.1 s1.2.1 (1 : Int32) s1.2.2 w))) else none)
def f_X4_lost (n : Nat) (a1 : Int32) (a2 : Int32) (a3 : Int32) (w : Wd) : Option (Int32) :=
  if (f_X4_isEdition a1 w) then (if (f_X4_isTime a3 w) then (if (f_X4_isDay a2 w) then ((it n (f_X4_lost_L38 n a1 a2 a3 w) ((0 : Int32), (0 : Int32), (0 : Int32))).bind fun q38_115 => if q38_115.2.2 ≤ 0 then (some (0 : Int32)) else (if q38_115.2.2 = q38_115.2.1 then (some (1 : Int32)) else (some (0 : Int32)))) else (some (-2 : Int32))) else (some (-1 : Int32))) else (some (-1 : Int32))
theorem hd_X4_lost : yX4_lost.cls = RX4 ∧ yX4_lost.cls ≠ "java/lang/invoke/MethodHandle" ∧ yX4_lost.cls ≠ "java/lang/invoke/VarHandle" ∧ (parseMethodDescriptor yX4_lost.desc).map (fun d => d.parameters.length) = some 3 := by decide +kernel
set_option maxHeartbeats 4000000 in
set_option maxRecDepth 100000 in
theorem met_X4_lost (l : Launch) (G : Gw) (z : Nat) (H0 : Heap) (n : Nat) (w : Wd) (a1 : Int32) (a2 : Int32) (a3 : Int32) (q : Int32) (h : f_X4_lost n a1 a2 a3 w = some q) : Met l yX4_lost (ws_ yX4_lost cX4_lost 8 (some .int)) ({ frames := 2, cells := 0, slots := 0, locals := 44 } : Room) (pcW G z H0 w [.ref (z + 58), .int a1, .int a2, .int a3]) (qP (some (.int q))) 0 0 (fun q => z ≤ q) := by
  refine mW (by decide) (Nat.le_of_ble_eq_true rfl) ?_
  intro p e s m below meth c ls hx hb hr hml hown hts hlocks hnm hK hR hF hl
  have hown : s.vm.findClass RX4 = some m.cls := hown
  have hl : lv_has ls 8 [(0, .ref (z + 58)), (1, .int a1), (2, .int a2), (3, .int a3)] := hl
  have hL : lok z [] := lok_nil
  unfold f_X4_lost at h
  generalize ([] : List Loc) = locs at hL ⊢
  refine lv_aload_n hx hb dX4_lost_0 rfl (lv_at hl 0 rfl) ?_
  refine lv_iload_n hx hb dX4_lost_1 rfl (lv_at hl 1 rfl) ?_
  refine c_VP (a := 58) (ci := 4) (q := (RX4, TX4, 80)) (rest := []) (st1 := [.int (bI (f_X4_isEdition a1 w))]) hx hb hml hown hts hK hR hF hL hl.1 (met_X4_isEdition l G z H0 w a1 _ rfl) (congrArg Prod.fst (hF.2.1 58 (5, 0) rfl)) rfl rfl rfl hd_X4_isEdition q1919 q1921 qs45 q104 q1922 ⟨Nat.le_of_ble_eq_true rfl, Nat.le_of_ble_eq_true rfl⟩ ⟨Nat.le_refl 0, Nat.le_refl 0⟩ rfl rfl (Nat.le_of_ble_eq_true rfl) dX4_lost_2 rfl (fun locs hL => ?_)
  refine lv_if_eq (tgt := 16) hx hb dX4_lost_5 (by decide) (fun c1 => ?_) (fun c1 => ?_)
  · rw [if_neg (bI_n c1)] at h
    refine lv_iconst (v := -1) hx hb dX4_lost_16 (by decide) ?_
    have h := Option.some.inj h
    subst h
    exact W.iret (v := (-1 : Int32)) hx hb hr (fun t ht _ => ⟨rfl, ht⟩) hL dX4_lost_17
  · rw [if_pos (bI_p c1)] at h
    refine lv_aload_n hx hb dX4_lost_8 rfl (lv_at hl 0 rfl) ?_
    refine lv_iload_n hx hb dX4_lost_9 rfl (lv_at hl 3 rfl) ?_
    refine c_VP (a := 58) (ci := 4) (q := (RX4, TX4, 80)) (rest := []) (st1 := [.int (bI (f_X4_isTime a3 w))]) hx hb hml hown hts hK hR hF hL hl.1 (met_X4_isTime l G z H0 w a3 _ rfl) (congrArg Prod.fst (hF.2.1 58 (5, 0) rfl)) rfl rfl rfl hd_X4_isTime q2245 q2247 qs95 q104 q2248 ⟨Nat.le_of_ble_eq_true rfl, Nat.le_of_ble_eq_true rfl⟩ ⟨Nat.le_refl 0, Nat.le_refl 0⟩ rfl rfl (Nat.le_of_ble_eq_true rfl) dX4_lost_10 rfl (fun locs hL => ?_)
    refine lv_if_ne (tgt := 18) hx hb dX4_lost_13 (by decide) (fun c2 => ?_) (fun c2 => ?_)
    · rw [if_pos (bI_p c2)] at h
      refine lv_aload_n hx hb dX4_lost_18 rfl (lv_at hl 0 rfl) ?_
      refine lv_iload_n hx hb dX4_lost_19 rfl (lv_at hl 2 rfl) ?_
      refine c_VP (a := 58) (ci := 4) (q := (RX4, TX4, 80)) (rest := []) (st1 := [.int (bI (f_X4_isDay a2 w))]) hx hb hml hown hts hK hR hF hL hl.1 (met_X4_isDay l G z H0 w a2 _ rfl) (congrArg Prod.fst (hF.2.1 58 (5, 0) rfl)) rfl rfl rfl hd_X4_isDay q2093 q2095 qs76 q104 q2096 ⟨Nat.le_of_ble_eq_true rfl, Nat.le_of_ble_eq_true rfl⟩ ⟨Nat.le_refl 0, Nat.le_refl 0⟩ rfl rfl (Nat.le_of_ble_eq_true rfl) dX4_lost_20 rfl (fun locs hL => ?_)
      refine lv_if_ne (tgt := 29) hx hb dX4_lost_23 (by decide) (fun c3 => ?_) (fun c3 => ?_)
      · rw [if_pos (bI_p c3)] at h
        refine lv_iconst (v := 0) hx hb dX4_lost_29 (by decide) ?_
        refine lv_istore (lv' := [(4, .int (0 : Int32)), (0, .ref (z + 58)), (1, .int a1), (2, .int a2), (3, .int a3)]) hx hb dX4_lost_30 hl (by decide) rfl (fun ls hl => ?_)
        refine lv_iconst (v := 0) hx hb dX4_lost_32 (by decide) ?_
        refine lv_istore (lv' := [(5, .int (0 : Int32)), (4, .int (0 : Int32)), (0, .ref (z + 58)), (1, .int a1), (2, .int a2), (3, .int a3)]) hx hb dX4_lost_33 hl (by decide) rfl (fun ls hl => ?_)
        refine lv_iconst (v := 0) hx hb dX4_lost_35 (by decide) ?_
        refine lv_istore (lv' := [(6, .int (0 : Int32)), (5, .int (0 : Int32)), (4, .int (0 : Int32)), (0, .ref (z + 58)), (1, .int a1), (2, .int a2), (3, .int a3)]) hx hb dX4_lost_36 hl (by decide) rfl (fun ls hl => ?_)
        have hX38_115 : ∀ (q38_115 : Int32 × Int32 × Int32), (if q38_115.2.2 ≤ 0 then (some (0 : Int32)) else (if q38_115.2.2 = q38_115.2.1 then (some (1 : Int32)) else (some (0 : Int32)))) = some q → ∀ (locs : List Loc) (ls : Array Slot), lok z locs → lv_has ls 8 [(5, .int q38_115.2.1), (4, .int q38_115.2.2)] → W p l e ({ frames := 2, cells := 0, slots := 0, locals := 44 } : Room) s m ([.ref (z + 58), .int a1, .int a2, .int a3] : List Value).toArray below meth c s.heap locs 0 0 (MQ below (qP (some (.int q))) ([.ref (z + 58), .int a1, .int a2, .int a3] : List Value).toArray s 0 0 (fun q => z ≤ q)) (F0 m 115 ls []) := by
          intro q38_115 h locs ls hL hl
          refine lv_iload hx hb dX4_lost_115 (lv_at hl 1 rfl) ?_
          refine lv_if_le (tgt := 131) hx hb dX4_lost_117 (by decide) (fun c4 => ?_) (fun c4 => ?_)
          · rw [if_pos c4] at h
            refine lv_iconst (v := 0) hx hb dX4_lost_131 (by decide) ?_
            have h := Option.some.inj h
            subst h
            exact W.iret (v := (0 : Int32)) hx hb hr (fun t ht _ => ⟨rfl, ht⟩) hL dX4_lost_132
          · rw [if_neg c4] at h
            refine lv_iload hx hb dX4_lost_120 (lv_at hl 1 rfl) ?_
            refine lv_iload hx hb dX4_lost_122 (lv_at hl 0 rfl) ?_
            refine lv_icmp_ne (tgt := 131) hx hb dX4_lost_124 (by decide) (fun c5 => ?_) (fun c5 => ?_)
            · rw [if_neg c5] at h
              refine lv_iconst (v := 0) hx hb dX4_lost_131 (by decide) ?_
              have h := Option.some.inj h
              subst h
              exact W.iret (v := (0 : Int32)) hx hb hr (fun t ht _ => ⟨rfl, ht⟩) hL dX4_lost_132
            · rw [if_pos c5] at h
              refine lv_iconst (v := 1) hx hb dX4_lost_127 (by decide) ?_
              refine lv_goto (tgt := 132) hx hb dX4_lost_128 (by decide) ?_
              have h := Option.some.inj h
              subst h
              exact W.iret (v := (1 : Int32)) hx hb hr (fun t ht _ => ⟨rfl, ht⟩) hL dX4_lost_132
        obtain ⟨t14, hq15, h⟩ := bnd h
        refine it_W (b := f_X4_lost_L38 n a1 a2 a3 w) (P := fun (s1 : Int32 × Int32 × Int32) => ∀ (locs : List Loc) (ls : Array Slot), lok z locs → lv_has ls 8 [(6, .int s1.1), (5, .int s1.2.1), (4, .int s1.2.2), (0, .ref (z + 58)), (1, .int a1), (2, .int a2), (3, .int a3)] → W p l e ({ frames := 2, cells := 0, slots := 0, locals := 44 } : Room) s m ([.ref (z + 58), .int a1, .int a2, .int a3] : List Value).toArray below meth c s.heap locs 0 0 (MQ below (qP (some (.int q))) ([.ref (z + 58), .int a1, .int a2, .int a3] : List Value).toArray s 0 0 (fun q => z ≤ q)) (F0 m 38 ls [])) (K := fun q38_115 => (if q38_115.2.2 ≤ 0 then (some (0 : Int32)) else (if q38_115.2.2 = q38_115.2.1 then (some (1 : Int32)) else (some (0 : Int32)))) = some q) (fun s1 x1 h hc1 ht1 => ?_) n ((0 : Int32), (0 : Int32), (0 : Int32)) t14 hq15 h locs ls hL (lv_sub hl [0, 1, 2, 3, 4, 5, 6] rfl)
        intro locs ls hL hl
        unfold f_X4_lost_L38 at h
        have hJ89 : ∀ (j7 : Int32) (j6 : Int32) (j5 : Int32) (k0 : Int32) (k1 : Int32) (w : Wd), f_X4_lost_J89 n a1 a2 a3 j7 j6 j5 k0 k1 w = some x1 → Rp G z H0 w s.heap → Fix w → ∀ (locs : List Loc) (ls : Array Slot), lok z locs → lv_has ls 8 [(7, .int j7), (6, .int j6), (5, .int j5), (0, .ref (z + 58)), (1, .int a1), (2, .int a2), (3, .int a3)] → W p l e ({ frames := 2, cells := 0, slots := 0, locals := 44 } : Room) s m ([.ref (z + 58), .int a1, .int a2, .int a3] : List Value).toArray below meth c s.heap locs 0 0 (MQ below (qP (some (.int q))) ([.ref (z + 58), .int a1, .int a2, .int a3] : List Value).toArray s 0 0 (fun q => z ≤ q)) (F0 m 89 ls [.int k0, .int k1]) := by
          intro j7 j6 j5 k0 k1 w h hR hF locs ls hL hl
          unfold f_X4_lost_J89 at h
          refine lv_iadd hx hb dX4_lost_89 ?_
          refine lv_istore (lv' := [(4, .int (k1 + k0)), (7, .int j7), (6, .int j6), (5, .int j5), (0, .ref (z + 58)), (1, .int a1), (2, .int a2), (3, .int a3)]) hx hb dX4_lost_90 hl (by decide) rfl (fun ls hl => ?_)
          refine lv_iload hx hb dX4_lost_92 (lv_at hl 3 rfl) ?_
          refine lv_iload hx hb dX4_lost_94 (lv_at hl 1 rfl) ?_
          refine lv_bipush (v := 10) hx hb dX4_lost_96 (by decide) ?_
          refine lv_icmp_ne (tgt := 105) hx hb dX4_lost_98 (by decide) (fun c10 => ?_) (fun c10 => ?_)
          · rw [if_neg c10] at h
            refine lv_iconst (v := 0) hx hb dX4_lost_105 (by decide) ?_
            refine lv_iadd hx hb dX4_lost_106 ?_
            refine lv_istore (lv' := [(5, .int (j5 + (0 : Int32))), (4, .int (k1 + k0)), (7, .int j7), (6, .int j6), (0, .ref (z + 58)), (1, .int a1), (2, .int a2), (3, .int a3)]) hx hb dX4_lost_107 hl (by decide) rfl (fun ls hl => ?_)
            refine lv_iinc (v := j6 + (1 : Int32)) (lv' := [(6, .int (j6 + (1 : Int32))), (5, .int (j5 + (0 : Int32))), (4, .int (k1 + k0)), (7, .int j7), (0, .ref (z + 58)), (1, .int a1), (2, .int a2), (3, .int a3)]) hx hb dX4_lost_109 hl (k := 3) rfl rfl (by decide) rfl (fun ls hl => ?_)
            refine lv_goto (tgt := 38) hx hb dX4_lost_112 (by decide) ?_
            exact hc1 _ (Option.some.inj h).symm locs ls hL (lv_sub hl [0, 1, 2, 4, 5, 6, 7] rfl)
          · rw [if_pos c10] at h
            refine lv_iconst (v := 1) hx hb dX4_lost_101 (by decide) ?_
            refine lv_goto (tgt := 106) hx hb dX4_lost_102 (by decide) ?_
            refine lv_iadd hx hb dX4_lost_106 ?_
            refine lv_istore (lv' := [(5, .int (j5 + (1 : Int32))), (4, .int (k1 + k0)), (7, .int j7), (6, .int j6), (0, .ref (z + 58)), (1, .int a1), (2, .int a2), (3, .int a3)]) hx hb dX4_lost_107 hl (by decide) rfl (fun ls hl => ?_)
            refine lv_iinc (v := j6 + (1 : Int32)) (lv' := [(6, .int (j6 + (1 : Int32))), (5, .int (j5 + (1 : Int32))), (4, .int (k1 + k0)), (7, .int j7), (0, .ref (z + 58)), (1, .int a1), (2, .int a2), (3, .int a3)]) hx hb dX4_lost_109 hl (k := 3) rfl rfl (by decide) rfl (fun ls hl => ?_)
            refine lv_goto (tgt := 38) hx hb dX4_lost_112 (by decide) ?_
            exact hc1 _ (Option.some.inj h).symm locs ls hL (lv_sub hl [0, 1, 2, 4, 5, 6, 7] rfl)
        refine lv_iload hx hb dX4_lost_38 (lv_at hl 0 rfl) ?_
        refine lv_aload_n hx hb dX4_lost_40 rfl (lv_at hl 3 rfl) ?_
        refine r_get (C := RX4) (T := TX4) (N := 80) hx hb hts ok4 hown hK hR (congrArg Prod.fst (hF.2.1 58 (5, 0) rfl)) rfl 70 (by decide) (hts _ q1703) (fun _ h9 => h9) (v := .int (wI w 58 70)) rfl dX4_lost_41 ?_
        refine lv_icmp_ge (tgt := 115) hx hb dX4_lost_44 (by decide) (fun c6 => ?_) (fun c6 => ?_)
        · rw [if_pos c6] at h
          exact hX38_115 (s1.1, s1.2.1, s1.2.2) (ht1 _ (Option.some.inj h).symm) locs ls hL (lv_sub hl [1, 2] rfl)
        · rw [if_neg c6] at h
          refine lv_aload_n hx hb dX4_lost_47 rfl (lv_at hl 3 rfl) ?_
          refine r_get (C := RX4) (T := TX4) (N := 80) hx hb hts ok4 hown hK hR (congrArg Prod.fst (hF.2.1 58 (5, 0) rfl)) rfl 72 (by decide) (hts _ q1705) (fun _ h9 => h9) (v := .ref (z + 100)) (fv_fix hF rfl rfl) dX4_lost_48 ?_
          refine lv_iload hx hb dX4_lost_51 (lv_at hl 0 rfl) ?_
          obtain ⟨hb7, h⟩ := grd h
          refine r_iald (v := wI w 100 s1.1.toNatClampNeg) hx hb hK hR (hF.2.1 100 (200, 60) rfl) hb7 rfl dX4_lost_53 ?_
          refine lv_iload_n hx hb dX4_lost_54 rfl (lv_at hl 4 rfl) ?_
          refine lv_icmp_ne (tgt := 73) hx hb dX4_lost_55 (by decide) (fun c8 => ?_) (fun c8 => ?_)
          · rw [if_neg c8] at h
            refine lv_bipush (v := -5) hx hb dX4_lost_73 (by decide) ?_
            refine lv_istore (lv' := [(7, .int (-5 : Int32)), (6, .int s1.1), (5, .int s1.2.1), (4, .int s1.2.2), (0, .ref (z + 58)), (1, .int a1), (2, .int a2), (3, .int a3)]) hx hb dX4_lost_75 hl (by decide) rfl (fun ls hl => ?_)
            refine lv_iload hx hb dX4_lost_77 (lv_at hl 3 rfl) ?_
            refine lv_iload hx hb dX4_lost_79 (lv_at hl 0 rfl) ?_
            refine lv_if_lt (tgt := 88) hx hb dX4_lost_81 (by decide) (fun c9 => ?_) (fun c9 => ?_)
            · rw [if_pos c9] at h
              refine lv_iconst (v := 0) hx hb dX4_lost_88 (by decide) ?_
              exact hJ89 (-5 : Int32) s1.1 s1.2.1 (0 : Int32) s1.2.2 w h hR hF locs ls hL (lv_sub hl [0, 1, 2, 4, 5, 6, 7] rfl)
            · rw [if_neg c9] at h
              refine lv_iconst (v := 1) hx hb dX4_lost_84 (by decide) ?_
              refine lv_goto (tgt := 89) hx hb dX4_lost_85 (by decide) ?_
              exact hJ89 (-5 : Int32) s1.1 s1.2.1 (1 : Int32) s1.2.2 w h hR hF locs ls hL (lv_sub hl [0, 1, 2, 4, 5, 6, 7] rfl)
          · rw [if_pos c8] at h
            refine lv_aload_n hx hb dX4_lost_58 rfl (lv_at hl 3 rfl) ?_
            refine lv_iload hx hb dX4_lost_59 (lv_at hl 0 rfl) ?_
            refine lv_iload_n hx hb dX4_lost_61 rfl (lv_at hl 5 rfl) ?_
            refine lv_aload_n hx hb dX4_lost_62 rfl (lv_at hl 3 rfl) ?_
            refine lv_iload_n hx hb dX4_lost_63 rfl (lv_at hl 6 rfl) ?_
            refine c_VP (a := 58) (ci := 4) (q := (RX4, TX4, 80)) (rest := [.int a2, .int s1.1, .ref (z + 58)]) (st1 := [.int (f_X4_by a3 w), .int a2, .int s1.1, .ref (z + 58)]) hx hb hml hown hts hK hR hF hL hl.1 (met_X4_by l G z H0 w a3 _ rfl) (congrArg Prod.fst (hF.2.1 58 (5, 0) rfl)) rfl rfl rfl hd_X4_by q2249 q2251 qs96 q104 q2252 ⟨Nat.le_of_ble_eq_true rfl, Nat.le_of_ble_eq_true rfl⟩ ⟨Nat.le_refl 0, Nat.le_refl 0⟩ rfl rfl (Nat.le_of_ble_eq_true rfl) dX4_lost_64 rfl (fun locs hL => ?_)
            obtain ⟨q11, hq12, h⟩ := bnd h
            refine c_VP (a := 58) (ci := 4) (q := (RX4, TX4, 80)) (rest := []) (st1 := [.int q11]) hx hb hml hown hts hK hR hF hL hl.1 (met_X4_spotOf l G z H0 n w s1.1 a2 (f_X4_by a3 w) q11 hq12) (congrArg Prod.fst (hF.2.1 58 (5, 0) rfl)) rfl rfl rfl hd_X4_spotOf q2237 q2239 qs94 q104 q2240 ⟨Nat.le_of_ble_eq_true rfl, Nat.le_of_ble_eq_true rfl⟩ ⟨Nat.le_refl 0, Nat.le_refl 0⟩ rfl rfl (Nat.le_of_ble_eq_true rfl) dX4_lost_67 rfl (fun locs hL => ?_)
            refine lv_goto (tgt := 75) hx hb dX4_lost_70 (by decide) ?_
            refine lv_istore (lv' := [(7, .int q11), (6, .int s1.1), (5, .int s1.2.1), (4, .int s1.2.2), (0, .ref (z + 58)), (1, .int a1), (2, .int a2), (3, .int a3)]) hx hb dX4_lost_75 hl (by decide) rfl (fun ls hl => ?_)
            refine lv_iload hx hb dX4_lost_77 (lv_at hl 3 rfl) ?_
            refine lv_iload hx hb dX4_lost_79 (lv_at hl 0 rfl) ?_
            refine lv_if_lt (tgt := 88) hx hb dX4_lost_81 (by decide) (fun c13 => ?_) (fun c13 => ?_)
            · rw [if_pos c13] at h
              refine lv_iconst (v := 0) hx hb dX4_lost_88 (by decide) ?_
              exact hJ89 q11 s1.1 s1.2.1 (0 : Int32) s1.2.2 w h hR hF locs ls hL (lv_sub hl [0, 1, 2, 4, 5, 6, 7] rfl)
            · rw [if_neg c13] at h
              refine lv_iconst (v := 1) hx hb dX4_lost_84 (by decide) ?_
              refine lv_goto (tgt := 89) hx hb dX4_lost_85 (by decide) ?_
              exact hJ89 q11 s1.1 s1.2.1 (1 : Int32) s1.2.2 w h hR hF locs ls hL (lv_sub hl [0, 1, 2, 4, 5, 6, 7] rfl)
      · rw [if_neg (bI_n c3)] at h
        refine lv_bipush (v := -2) hx hb dX4_lost_26 (by decide) ?_
        have h := Option.some.inj h
        subst h
        exact W.iret (v := (-2 : Int32)) hx hb hr (fun t ht _ => ⟨rfl, ht⟩) hL dX4_lost_28
    · rw [if_neg (bI_n c2)] at h
      refine lv_iconst (v := -1) hx hb dX4_lost_16 (by decide) ?_
      have h := Option.some.inj h
      subst h
      exact W.iret (v := (-1 : Int32)) hx hb hr (fun t ht _ => ⟨rfl, ht⟩) hL dX4_lost_17
def f_X4_met_L35 (n : Nat) (u1_1 : Int32) (u1_2 : Int32) (u1_3 : Int32) (s1 : Int32 × Int32 × Wd) : Option ((Int32 × Int32 × Wd) ⊕ ((Int32 × Int32 × Wd))) :=
  if (wI s1.2.2 58 70) ≤ s1.1 then (some (.inr (s1.1, s1.2.1, s1.2.2))) else ((f_X4_spotOf n s1.1 u1_2 (f_X4_by u1_3 s1.2.2) s1.2.2).bind fun q5 => if q5 = u1_1 then (if inb s1.1 60 then ((f_X4_isBarred n (wI s1.2.2 100 s1.1.toNatClampNeg) u1_1 u1_2 s1.2.2).bind fun q9 => if q9.1 then (some (.inl (s1.1 + (1 : Int32), s1.2.1 + (1 : Int32), q9.2))) else (some (.inl (s1.1 + (1 : Int32), s1.2.1 + (0 : Int32), q9.2)))) else none) else (some (.inl (s1.1 + (1 : Int32), s1.2.1 + (0 : Int32), s1.2.2))))
def f_X4_met (n : Nat) (a1 : Int32) (a2 : Int32) (a3 : Int32) (w : Wd) : Option (Int32 × Wd) :=
  if (f_X4_isTown a1 w) then (if (f_X4_isTime a3 w) then (if (f_X4_isDay a2 w) then ((it n (f_X4_met_L35 n a1 a2 a3) ((0 : Int32), (0 : Int32), w)).bind fun q35_92 => some (q35_92.2.1, q35_92.2.2)) else (some ((-2 : Int32), w))) else (some ((-1 : Int32), w))) else (some ((-1 : Int32), w))
theorem hd_X4_met : yX4_met.cls = RX4 ∧ yX4_met.cls ≠ "java/lang/invoke/MethodHandle" ∧ yX4_met.cls ≠ "java/lang/invoke/VarHandle" ∧ (parseMethodDescriptor yX4_met.desc).map (fun d => d.parameters.length) = some 3 := by decide +kernel
set_option maxHeartbeats 4000000 in
set_option maxRecDepth 100000 in
theorem met_X4_met (l : Launch) (G : Gw) (z : Nat) (H0 : Heap) (n : Nat) (w : Wd) (a1 : Int32) (a2 : Int32) (a3 : Int32) (q : Int32 × Wd) (h : f_X4_met n a1 a2 a3 w = some q) : Met l yX4_met (ws_ yX4_met cX4_met 6 (some .int)) ({ frames := 9, cells := 0, slots := 0, locals := 200 } : Room) (pcW G z H0 w [.ref (z + 58), .int a1, .int a2, .int a3]) (qW G z H0 q.2 (some (.int q.1))) 0 0 (fun q => z ≤ q) := by
  refine mW (by decide) (Nat.le_of_ble_eq_true rfl) ?_
  intro p e s m below meth c ls hx hb hr hml hown hts hlocks hnm hK hR hF hl
  have hown : s.vm.findClass RX4 = some m.cls := hown
  have hl : lv_has ls 6 [(0, .ref (z + 58)), (1, .int a1), (2, .int a2), (3, .int a3)] := hl
  have hL : lok z [] := lok_nil
  unfold f_X4_met at h
  generalize s.heap = H at hR ⊢
  generalize ([] : List Loc) = locs at hL ⊢
  refine lv_aload_n hx hb dX4_met_0 rfl (lv_at hl 0 rfl) ?_
  refine lv_iload_n hx hb dX4_met_1 rfl (lv_at hl 1 rfl) ?_
  refine c_VP (a := 58) (ci := 4) (q := (RX4, TX4, 80)) (rest := []) (st1 := [.int (bI (f_X4_isTown a1 w))]) hx hb hml hown hts hK hR hF hL hl.1 (met_X4_isTown l G z H0 w a1 _ rfl) (congrArg Prod.fst (hF.2.1 58 (5, 0) rfl)) rfl rfl rfl hd_X4_isTown q1886 q1888 qs42 q104 q1889 ⟨Nat.le_of_ble_eq_true rfl, Nat.le_of_ble_eq_true rfl⟩ ⟨Nat.le_refl 0, Nat.le_refl 0⟩ rfl rfl (Nat.le_of_ble_eq_true rfl) dX4_met_2 rfl (fun locs hL => ?_)
  refine lv_if_eq (tgt := 16) hx hb dX4_met_5 (by decide) (fun c1 => ?_) (fun c1 => ?_)
  · rw [if_neg (bI_n c1)] at h
    refine lv_iconst (v := -1) hx hb dX4_met_16 (by decide) ?_
    have h := Option.some.inj h
    subst h
    exact W.iret (v := (-1 : Int32)) hx hb hr (fun t ht _ => ⟨rfl, by rw [ht]; exact hR, hF⟩) hL dX4_met_17
  · rw [if_pos (bI_p c1)] at h
    refine lv_aload_n hx hb dX4_met_8 rfl (lv_at hl 0 rfl) ?_
    refine lv_iload_n hx hb dX4_met_9 rfl (lv_at hl 3 rfl) ?_
    refine c_VP (a := 58) (ci := 4) (q := (RX4, TX4, 80)) (rest := []) (st1 := [.int (bI (f_X4_isTime a3 w))]) hx hb hml hown hts hK hR hF hL hl.1 (met_X4_isTime l G z H0 w a3 _ rfl) (congrArg Prod.fst (hF.2.1 58 (5, 0) rfl)) rfl rfl rfl hd_X4_isTime q2245 q2247 qs95 q104 q2248 ⟨Nat.le_of_ble_eq_true rfl, Nat.le_of_ble_eq_true rfl⟩ ⟨Nat.le_refl 0, Nat.le_refl 0⟩ rfl rfl (Nat.le_of_ble_eq_true rfl) dX4_met_10 rfl (fun locs hL => ?_)
    refine lv_if_ne (tgt := 18) hx hb dX4_met_13 (by decide) (fun c2 => ?_) (fun c2 => ?_)
    · rw [if_pos (bI_p c2)] at h
      refine lv_aload_n hx hb dX4_met_18 rfl (lv_at hl 0 rfl) ?_
      refine lv_iload_n hx hb dX4_met_19 rfl (lv_at hl 2 rfl) ?_
      refine c_VP (a := 58) (ci := 4) (q := (RX4, TX4, 80)) (rest := []) (st1 := [.int (bI (f_X4_isDay a2 w))]) hx hb hml hown hts hK hR hF hL hl.1 (met_X4_isDay l G z H0 w a2 _ rfl) (congrArg Prod.fst (hF.2.1 58 (5, 0) rfl)) rfl rfl rfl hd_X4_isDay q2093 q2095 qs76 q104 q2096 ⟨Nat.le_of_ble_eq_true rfl, Nat.le_of_ble_eq_true rfl⟩ ⟨Nat.le_refl 0, Nat.le_refl 0⟩ rfl rfl (Nat.le_of_ble_eq_true rfl) dX4_met_20 rfl (fun locs hL => ?_)
      refine lv_if_ne (tgt := 29) hx hb dX4_met_23 (by decide) (fun c3 => ?_) (fun c3 => ?_)
      · rw [if_pos (bI_p c3)] at h
        refine lv_iconst (v := 0) hx hb dX4_met_29 (by decide) ?_
        refine lv_istore (lv' := [(4, .int (0 : Int32)), (0, .ref (z + 58)), (1, .int a1), (2, .int a2), (3, .int a3)]) hx hb dX4_met_30 hl (by decide) rfl (fun ls hl => ?_)
        refine lv_iconst (v := 0) hx hb dX4_met_32 (by decide) ?_
        refine lv_istore (lv' := [(5, .int (0 : Int32)), (4, .int (0 : Int32)), (0, .ref (z + 58)), (1, .int a1), (2, .int a2), (3, .int a3)]) hx hb dX4_met_33 hl (by decide) rfl (fun ls hl => ?_)
        have hX35_92 : ∀ (q35_92 : Int32 × Int32 × Wd), (some (q35_92.2.1, q35_92.2.2)) = some q → ∀ (H : Heap) (locs : List Loc) (ls : Array Slot), Rp G z H0 q35_92.2.2 H → Fix q35_92.2.2 → lok z locs → lv_has ls 6 [(4, .int q35_92.2.1)] → W p l e ({ frames := 9, cells := 0, slots := 0, locals := 200 } : Room) s m ([.ref (z + 58), .int a1, .int a2, .int a3] : List Value).toArray below meth c H locs 0 0 (MQ below (qW G z H0 q.2 (some (.int q.1))) ([.ref (z + 58), .int a1, .int a2, .int a3] : List Value).toArray s 0 0 (fun q => z ≤ q)) (F0 m 92 ls []) := by
          intro q35_92 h H locs ls hR hF hL hl
          refine lv_iload hx hb dX4_met_92 (lv_at hl 0 rfl) ?_
          have h := Option.some.inj h
          subst h
          exact W.iret (v := q35_92.2.1) hx hb hr (fun t ht _ => ⟨rfl, by rw [ht]; exact hR, hF⟩) hL dX4_met_94
        obtain ⟨t12, hq13, h⟩ := bnd h
        refine it_W (b := f_X4_met_L35 n a1 a2 a3) (P := fun (s1 : Int32 × Int32 × Wd) => ∀ (H : Heap) (locs : List Loc) (ls : Array Slot), Rp G z H0 s1.2.2 H → Fix s1.2.2 → lok z locs → lv_has ls 6 [(5, .int s1.1), (4, .int s1.2.1), (0, .ref (z + 58)), (1, .int a1), (2, .int a2), (3, .int a3)] → W p l e ({ frames := 9, cells := 0, slots := 0, locals := 200 } : Room) s m ([.ref (z + 58), .int a1, .int a2, .int a3] : List Value).toArray below meth c H locs 0 0 (MQ below (qW G z H0 q.2 (some (.int q.1))) ([.ref (z + 58), .int a1, .int a2, .int a3] : List Value).toArray s 0 0 (fun q => z ≤ q)) (F0 m 35 ls [])) (K := fun q35_92 => (some (q35_92.2.1, q35_92.2.2)) = some q) (fun s1 x1 h hc1 ht1 => ?_) n ((0 : Int32), (0 : Int32), w) t12 hq13 h H locs ls hR hF hL (lv_sub hl [0, 1, 2, 3, 4, 5] rfl)
        intro H locs ls hR hF hL hl
        unfold f_X4_met_L35 at h
        refine lv_iload hx hb dX4_met_35 (lv_at hl 0 rfl) ?_
        refine lv_aload_n hx hb dX4_met_37 rfl (lv_at hl 2 rfl) ?_
        refine r_get (C := RX4) (T := TX4) (N := 80) hx hb hts ok4 hown hK hR (congrArg Prod.fst (hF.2.1 58 (5, 0) rfl)) rfl 70 (by decide) (hts _ q1703) (fun _ h9 => h9) (v := .int (wI s1.2.2 58 70)) rfl dX4_met_38 ?_
        refine lv_icmp_ge (tgt := 92) hx hb dX4_met_41 (by decide) (fun c4 => ?_) (fun c4 => ?_)
        · rw [if_pos c4] at h
          exact hX35_92 (s1.1, s1.2.1, s1.2.2) (ht1 _ (Option.some.inj h).symm) H locs ls hR hF hL (lv_sub hl [1] rfl)
        · rw [if_neg c4] at h
          refine lv_iload hx hb dX4_met_44 (lv_at hl 1 rfl) ?_
          refine lv_aload_n hx hb dX4_met_46 rfl (lv_at hl 2 rfl) ?_
          refine lv_iload hx hb dX4_met_47 (lv_at hl 0 rfl) ?_
          refine lv_iload_n hx hb dX4_met_49 rfl (lv_at hl 4 rfl) ?_
          refine lv_aload_n hx hb dX4_met_50 rfl (lv_at hl 2 rfl) ?_
          refine lv_iload_n hx hb dX4_met_51 rfl (lv_at hl 5 rfl) ?_
          refine c_VP (a := 58) (ci := 4) (q := (RX4, TX4, 80)) (rest := [.int a2, .int s1.1, .ref (z + 58), .int s1.2.1]) (st1 := [.int (f_X4_by a3 s1.2.2), .int a2, .int s1.1, .ref (z + 58), .int s1.2.1]) hx hb hml hown hts hK hR hF hL hl.1 (met_X4_by l G z H0 s1.2.2 a3 _ rfl) (congrArg Prod.fst (hF.2.1 58 (5, 0) rfl)) rfl rfl rfl hd_X4_by q2249 q2251 qs96 q104 q2252 ⟨Nat.le_of_ble_eq_true rfl, Nat.le_of_ble_eq_true rfl⟩ ⟨Nat.le_refl 0, Nat.le_refl 0⟩ rfl rfl (Nat.le_of_ble_eq_true rfl) dX4_met_52 rfl (fun locs hL => ?_)
          obtain ⟨q5, hq6, h⟩ := bnd h
          refine c_VP (a := 58) (ci := 4) (q := (RX4, TX4, 80)) (rest := [.int s1.2.1]) (st1 := [.int q5, .int s1.2.1]) hx hb hml hown hts hK hR hF hL hl.1 (met_X4_spotOf l G z H0 n s1.2.2 s1.1 a2 (f_X4_by a3 s1.2.2) q5 hq6) (congrArg Prod.fst (hF.2.1 58 (5, 0) rfl)) rfl rfl rfl hd_X4_spotOf q2237 q2239 qs94 q104 q2240 ⟨Nat.le_of_ble_eq_true rfl, Nat.le_of_ble_eq_true rfl⟩ ⟨Nat.le_refl 0, Nat.le_refl 0⟩ rfl rfl (Nat.le_of_ble_eq_true rfl) dX4_met_55 rfl (fun locs hL => ?_)
          refine lv_iload_n hx hb dX4_met_58 rfl (lv_at hl 3 rfl) ?_
          refine lv_icmp_ne (tgt := 82) hx hb dX4_met_59 (by decide) (fun c7 => ?_) (fun c7 => ?_)
          · rw [if_neg c7] at h
            refine lv_iconst (v := 0) hx hb dX4_met_82 (by decide) ?_
            refine lv_iadd hx hb dX4_met_83 ?_
            refine lv_istore (lv' := [(4, .int (s1.2.1 + (0 : Int32))), (5, .int s1.1), (0, .ref (z + 58)), (1, .int a1), (2, .int a2), (3, .int a3)]) hx hb dX4_met_84 hl (by decide) rfl (fun ls hl => ?_)
            refine lv_iinc (v := s1.1 + (1 : Int32)) (lv' := [(5, .int (s1.1 + (1 : Int32))), (4, .int (s1.2.1 + (0 : Int32))), (0, .ref (z + 58)), (1, .int a1), (2, .int a2), (3, .int a3)]) hx hb dX4_met_86 hl (k := 1) rfl rfl (by decide) rfl (fun ls hl => ?_)
            refine lv_goto (tgt := 35) hx hb dX4_met_89 (by decide) ?_
            exact hc1 _ (Option.some.inj h).symm H locs ls hR hF hL (lv_sub hl [0, 1, 2, 3, 4, 5] rfl)
          · rw [if_pos c7] at h
            refine lv_aload_n hx hb dX4_met_62 rfl (lv_at hl 2 rfl) ?_
            refine lv_aload_n hx hb dX4_met_63 rfl (lv_at hl 2 rfl) ?_
            refine r_get (C := RX4) (T := TX4) (N := 80) hx hb hts ok4 hown hK hR (congrArg Prod.fst (hF.2.1 58 (5, 0) rfl)) rfl 72 (by decide) (hts _ q1705) (fun _ h9 => h9) (v := .ref (z + 100)) (fv_fix hF rfl rfl) dX4_met_64 ?_
            refine lv_iload hx hb dX4_met_67 (lv_at hl 0 rfl) ?_
            obtain ⟨hb8, h⟩ := grd h
            refine r_iald (v := wI s1.2.2 100 s1.1.toNatClampNeg) hx hb hK hR (hF.2.1 100 (200, 60) rfl) hb8 rfl dX4_met_69 ?_
            refine lv_iload_n hx hb dX4_met_70 rfl (lv_at hl 3 rfl) ?_
            refine lv_iload_n hx hb dX4_met_71 rfl (lv_at hl 4 rfl) ?_
            obtain ⟨q9, hq10, h⟩ := bnd h
            refine c_VW (a := 58) (ci := 4) (q := (RX4, TX4, 80)) (rest := [.int s1.2.1]) (st1 := [.int (bI q9.1), .int s1.2.1]) hx hb hml hown hts hK hR hF hL hl.1 (met_X4_isBarred l G z H0 n s1.2.2 (wI s1.2.2 100 s1.1.toNatClampNeg) a1 a2 q9 hq10) (congrArg Prod.fst (hF.2.1 58 (5, 0) rfl)) rfl rfl rfl hd_X4_isBarred q2117 q2119 qs81 q104 q2120 ⟨Nat.le_of_ble_eq_true rfl, Nat.le_of_ble_eq_true rfl⟩ ⟨Nat.le_refl 0, Nat.le_refl 0⟩ rfl rfl (Nat.le_of_ble_eq_true rfl) dX4_met_72 rfl (fun H locs hR hF hL => ?_)
            refine lv_if_eq (tgt := 82) hx hb dX4_met_75 (by decide) (fun c11 => ?_) (fun c11 => ?_)
            · rw [if_neg (bI_n c11)] at h
              refine lv_iconst (v := 0) hx hb dX4_met_82 (by decide) ?_
              refine lv_iadd hx hb dX4_met_83 ?_
              refine lv_istore (lv' := [(4, .int (s1.2.1 + (0 : Int32))), (5, .int s1.1), (0, .ref (z + 58)), (1, .int a1), (2, .int a2), (3, .int a3)]) hx hb dX4_met_84 hl (by decide) rfl (fun ls hl => ?_)
              refine lv_iinc (v := s1.1 + (1 : Int32)) (lv' := [(5, .int (s1.1 + (1 : Int32))), (4, .int (s1.2.1 + (0 : Int32))), (0, .ref (z + 58)), (1, .int a1), (2, .int a2), (3, .int a3)]) hx hb dX4_met_86 hl (k := 1) rfl rfl (by decide) rfl (fun ls hl => ?_)
              refine lv_goto (tgt := 35) hx hb dX4_met_89 (by decide) ?_
              exact hc1 _ (Option.some.inj h).symm H locs ls hR hF hL (lv_sub hl [0, 1, 2, 3, 4, 5] rfl)
            · rw [if_pos (bI_p c11)] at h
              refine lv_iconst (v := 1) hx hb dX4_met_78 (by decide) ?_
              refine lv_goto (tgt := 83) hx hb dX4_met_79 (by decide) ?_
              refine lv_iadd hx hb dX4_met_83 ?_
              refine lv_istore (lv' := [(4, .int (s1.2.1 + (1 : Int32))), (5, .int s1.1), (0, .ref (z + 58)), (1, .int a1), (2, .int a2), (3, .int a3)]) hx hb dX4_met_84 hl (by decide) rfl (fun ls hl => ?_)
              refine lv_iinc (v := s1.1 + (1 : Int32)) (lv' := [(5, .int (s1.1 + (1 : Int32))), (4, .int (s1.2.1 + (1 : Int32))), (0, .ref (z + 58)), (1, .int a1), (2, .int a2), (3, .int a3)]) hx hb dX4_met_86 hl (k := 1) rfl rfl (by decide) rfl (fun ls hl => ?_)
              refine lv_goto (tgt := 35) hx hb dX4_met_89 (by decide) ?_
              exact hc1 _ (Option.some.inj h).symm H locs ls hR hF hL (lv_sub hl [0, 1, 2, 3, 4, 5] rfl)
      · rw [if_neg (bI_n c3)] at h
        refine lv_bipush (v := -2) hx hb dX4_met_26 (by decide) ?_
        have h := Option.some.inj h
        subst h
        exact W.iret (v := (-2 : Int32)) hx hb hr (fun t ht _ => ⟨rfl, by rw [ht]; exact hR, hF⟩) hL dX4_met_28
    · rw [if_neg (bI_n c2)] at h
      refine lv_iconst (v := -1) hx hb dX4_met_16 (by decide) ?_
      have h := Option.some.inj h
      subst h
      exact W.iret (v := (-1 : Int32)) hx hb hr (fun t ht _ => ⟨rfl, by rw [ht]; exact hR, hF⟩) hL dX4_met_17
def f_X4_isTape (a1 : Int32) (w : Wd) : Bool :=
  (f_X4_in a1 (0 : Int32) (5 : Int32) w)
theorem hd_X4_isTape : yX4_isTape.cls = RX4 ∧ yX4_isTape.cls ≠ "java/lang/invoke/MethodHandle" ∧ yX4_isTape.cls ≠ "java/lang/invoke/VarHandle" ∧ (parseMethodDescriptor yX4_isTape.desc).map (fun d => d.parameters.length) = some 1 := by decide +kernel
set_option maxHeartbeats 4000000 in
set_option maxRecDepth 100000 in
theorem met_X4_isTape (l : Launch) (G : Gw) (z : Nat) (H0 : Heap)  (w : Wd) (a1 : Int32) (q : Bool) (h : f_X4_isTape a1 w = q) : Met l yX4_isTape (ws_ yX4_isTape cX4_isTape 2 (some .boolean)) ({ frames := 1, cells := 0, slots := 0, locals := 23 } : Room) (pcW G z H0 w [.ref (z + 58), .int a1]) (qP (some (.int (bI q)))) 0 0 (fun q => z ≤ q) := by
  refine mW (by decide) (Nat.le_of_ble_eq_true rfl) ?_
  intro p e s m below meth c ls hx hb hr hml hown hts hlocks hnm hK hR hF hl
  have hown : s.vm.findClass RX4 = some m.cls := hown
  have hl : lv_has ls 2 [(0, .ref (z + 58)), (1, .int a1)] := hl
  have hL : lok z [] := lok_nil
  unfold f_X4_isTape at h
  generalize ([] : List Loc) = locs at hL ⊢
  refine lv_aload_n hx hb dX4_isTape_0 rfl (lv_at hl 0 rfl) ?_
  refine lv_iload_n hx hb dX4_isTape_1 rfl (lv_at hl 1 rfl) ?_
  refine lv_iconst (v := 0) hx hb dX4_isTape_2 (by decide) ?_
  refine lv_iconst (v := 5) hx hb dX4_isTape_3 (by decide) ?_
  refine c_VP (a := 58) (ci := 4) (q := (RX4, TX4, 80)) (rest := []) (st1 := [.int (bI (f_X4_in a1 (0 : Int32) (5 : Int32) w))]) hx hb hml hown hts hK hR hF hL hl.1 (met_X4_in l G z H0 w a1 (0 : Int32) (5 : Int32) _ rfl) (congrArg Prod.fst (hF.2.1 58 (5, 0) rfl)) rfl rfl rfl hd_X4_in q1878 q1880 qs41 q104 q1881 ⟨Nat.le_of_ble_eq_true rfl, Nat.le_of_ble_eq_true rfl⟩ ⟨Nat.le_refl 0, Nat.le_refl 0⟩ rfl rfl (Nat.le_of_ble_eq_true rfl) dX4_isTape_4 rfl (fun locs hL => ?_)
  subst h
  exact W.zret (v := bI (f_X4_in a1 (0 : Int32) (5 : Int32) w)) hx hb hr (bI_nar _) (fun t ht _ => ⟨rfl, ht⟩) hL dX4_isTape_7
def f_X4_catalogue_L61 (n : Nat) (u1_1 : Int32) (u1_2 : Int32) (u1_3 : Int32) (u1_4 : Int32) (w : Wd) (s1 : Int32 × Int64) : Option ((Int32 × Int64) ⊕ ((Int32 × Int64) ⊕ (Int32 × Int64))) :=
  if u1_4 ≤ s1.1 then (some (.inr (.inl (s1.1, s1.2)))) else (if inb u1_2 6 then (if (wI w 104 u1_2.toNatClampNeg) < 0 then (some (.inr (.inr (s1.1, s1.2)))) else (if u1_3 < 0 then (some (.inr (.inr (s1.1, s1.2)))) else (if inb u1_2 6 then (if u1_3 < ((wI w 105 u1_2.toNatClampNeg) - s1.1) then (if inb ((((60 : Int32) * u1_2) + u1_3) + s1.1) 360 then (if ((wL w 106 (((((60 : Int32) * u1_2) + u1_3) + s1.1).toNatClampNeg)).toInt32) = (-1 : Int32) then (some (.inl (s1.1 + (1 : Int32), s1.2))) else (if (f_X4_in ((wL w 106 (((((60 : Int32) * u1_2) + u1_3) + s1.1).toNatClampNeg)).toInt32) (0 : Int32) ((wI w 58 70) - (1 : Int32)) w) then ((f_X4_spotOf n ((wL w 106 (((((60 : Int32) * u1_2) + u1_3) + s1.1).toNatClampNeg)).toInt32) (wI w 58 0) (wI w 58 71) w).bind fun q15 => if q15 = u1_1 then (some (.inl (s1.1 + (1 : Int32), s1.2 + (1000 : Int64)))) else (some (.inl (s1.1 + (1 : Int32), s1.2 + (1 : Int64))))) else (some (.inl (s1.1 + (1 : Int32), s1.2 + (1 : Int64)))))) else none) else (some (.inr (.inr (s1.1, s1.2))))) else none))) else none)
def f_X4_catalogue_J55 (n : Nat) (a1 : Int32) (a2 : Int32) (a3 : Int32) (a4 : Int32) (w : Wd) : Option (Int64) :=
  (it n (f_X4_catalogue_L61 n a1 a2 a3 a4 w) ((0 : Int32), (0 : Int64))).bind fun t61 => (match t61 with | .inl q61_179 => some q61_179.2 | .inr q61_94 => some (q61_94.2 - (1000000 : Int64)))
def f_X4_catalogue (n : Nat) (a1 : Int32) (a2 : Int32) (a3 : Int32) (a4 : Int32) (w : Wd) : Option (Int64) :=
  if (f_X4_isTown a1 w) then (if (f_X4_isTape a2 w) then (if (f_X4_in a4 (1 : Int32) (40 : Int32) w) then (if inb a2 6 then (if (wI w 104 a2.toNatClampNeg) < 0 then (f_X4_catalogue_J55 n a1 a2 a3 a4 w) else (if inb a2 6 then (if (wI w 104 a2.toNatClampNeg) = (1 : Int32) then (f_X4_catalogue_J55 n a1 a2 a3 a4 w) else (some (-9223372036854775807 : Int64))) else none)) else none) else (some (-9223372036854775808 : Int64))) else (some (-9223372036854775808 : Int64))) else (some (-9223372036854775808 : Int64))
theorem hd_X4_catalogue : yX4_catalogue.cls = RX4 ∧ yX4_catalogue.cls ≠ "java/lang/invoke/MethodHandle" ∧ yX4_catalogue.cls ≠ "java/lang/invoke/VarHandle" ∧ (parseMethodDescriptor yX4_catalogue.desc).map (fun d => d.parameters.length) = some 4 := by decide +kernel
set_option maxHeartbeats 4000000 in
set_option maxRecDepth 100000 in
theorem met_X4_catalogue (l : Launch) (G : Gw) (z : Nat) (H0 : Heap) (n : Nat) (w : Wd) (a1 : Int32) (a2 : Int32) (a3 : Int32) (a4 : Int32) (q : Int64) (h : f_X4_catalogue n a1 a2 a3 a4 w = some q) : Met l yX4_catalogue (ws_ yX4_catalogue cX4_catalogue 9 (some .long)) ({ frames := 2, cells := 0, slots := 0, locals := 44 } : Room) (pcW G z H0 w [.ref (z + 58), .int a1, .int a2, .int a3, .int a4]) (qP (some (.long q))) 0 0 (fun q => z ≤ q) := by
  refine mW (by decide) (Nat.le_of_ble_eq_true rfl) ?_
  intro p e s m below meth c ls hx hb hr hml hown hts hlocks hnm hK hR hF hl
  have hown : s.vm.findClass RX4 = some m.cls := hown
  have hl : lv_has ls 9 [(0, .ref (z + 58)), (1, .int a1), (2, .int a2), (3, .int a3), (4, .int a4)] := hl
  have hL : lok z [] := lok_nil
  unfold f_X4_catalogue at h
  generalize ([] : List Loc) = locs at hL ⊢
  have hJ55 : ∀  (w : Wd), f_X4_catalogue_J55 n a1 a2 a3 a4 w = some q → Rp G z H0 w s.heap → Fix w → ∀ (locs : List Loc) (ls : Array Slot), lok z locs → lv_has ls 9 [(0, .ref (z + 58)), (1, .int a1), (2, .int a2), (3, .int a3), (4, .int a4)] → W p l e ({ frames := 2, cells := 0, slots := 0, locals := 44 } : Room) s m ([.ref (z + 58), .int a1, .int a2, .int a3, .int a4] : List Value).toArray below meth c s.heap locs 0 0 (MQ below (qP (some (.long q))) ([.ref (z + 58), .int a1, .int a2, .int a3, .int a4] : List Value).toArray s 0 0 (fun q => z ≤ q)) (F0 m 55 ls []) := by
    intro  w h hR hF locs ls hL hl
    unfold f_X4_catalogue_J55 at h
    refine lv_lconst (v := 0) hx hb dX4_catalogue_55 (by decide) ?_
    refine lv_lstore (lv' := [(5, .long (0 : Int64)), (0, .ref (z + 58)), (1, .int a1), (2, .int a2), (3, .int a3), (4, .int a4)]) hx hb dX4_catalogue_56 hl (by decide) rfl (fun ls hl => ?_)
    refine lv_iconst (v := 0) hx hb dX4_catalogue_58 (by decide) ?_
    refine lv_istore (lv' := [(7, .int (0 : Int32)), (5, .long (0 : Int64)), (0, .ref (z + 58)), (1, .int a1), (2, .int a2), (3, .int a3), (4, .int a4)]) hx hb dX4_catalogue_59 hl (by decide) rfl (fun ls hl => ?_)
    have hX61_179 : ∀ (q61_179 : Int32 × Int64), (some q61_179.2) = some q → ∀ (locs : List Loc) (ls : Array Slot), lok z locs → lv_has ls 9 [(5, .long q61_179.2)] → W p l e ({ frames := 2, cells := 0, slots := 0, locals := 44 } : Room) s m ([.ref (z + 58), .int a1, .int a2, .int a3, .int a4] : List Value).toArray below meth c s.heap locs 0 0 (MQ below (qP (some (.long q))) ([.ref (z + 58), .int a1, .int a2, .int a3, .int a4] : List Value).toArray s 0 0 (fun q => z ≤ q)) (F0 m 179 ls []) := by
      intro q61_179 h locs ls hL hl
      refine lv_lload hx hb dX4_catalogue_179 (lv_at hl 0 rfl) ?_
      have h := Option.some.inj h
      subst h
      exact W.lret (v := q61_179.2) hx hb hr (fun t ht _ => ⟨rfl, ht⟩) hL dX4_catalogue_181
    have hX61_94 : ∀ (q61_94 : Int32 × Int64), (some (q61_94.2 - (1000000 : Int64))) = some q → ∀ (locs : List Loc) (ls : Array Slot), lok z locs → lv_has ls 9 [(5, .long q61_94.2)] → W p l e ({ frames := 2, cells := 0, slots := 0, locals := 44 } : Room) s m ([.ref (z + 58), .int a1, .int a2, .int a3, .int a4] : List Value).toArray below meth c s.heap locs 0 0 (MQ below (qP (some (.long q))) ([.ref (z + 58), .int a1, .int a2, .int a3, .int a4] : List Value).toArray s 0 0 (fun q => z ≤ q)) (F0 m 94 ls []) := by
      intro q61_94 h locs ls hL hl
      refine lv_lload hx hb dX4_catalogue_94 (lv_at hl 0 rfl) ?_
      refine lv_ldc2 (v := 1000000) hx hb hown (hts _ q2271) dX4_catalogue_96 ?_
      refine lv_lsub hx hb dX4_catalogue_99 ?_
      have h := Option.some.inj h
      subst h
      exact W.lret (v := q61_94.2 - (1000000 : Int64)) hx hb hr (fun t ht _ => ⟨rfl, ht⟩) hL dX4_catalogue_100
    obtain ⟨t18, hq19, h⟩ := bnd h
    refine it_W (b := f_X4_catalogue_L61 n a1 a2 a3 a4 w) (P := fun (s1 : Int32 × Int64) => ∀ (locs : List Loc) (ls : Array Slot), lok z locs → lv_has ls 9 [(7, .int s1.1), (5, .long s1.2), (0, .ref (z + 58)), (1, .int a1), (2, .int a2), (3, .int a3), (4, .int a4)] → W p l e ({ frames := 2, cells := 0, slots := 0, locals := 44 } : Room) s m ([.ref (z + 58), .int a1, .int a2, .int a3, .int a4] : List Value).toArray below meth c s.heap locs 0 0 (MQ below (qP (some (.long q))) ([.ref (z + 58), .int a1, .int a2, .int a3, .int a4] : List Value).toArray s 0 0 (fun q => z ≤ q)) (F0 m 61 ls [])) (K := fun t61 => ((match t61 with | .inl q61_179 => some q61_179.2 | .inr q61_94 => some (q61_94.2 - (1000000 : Int64)))) = some q) (fun s1 x1 h hc1 ht1 => ?_) n ((0 : Int32), (0 : Int64)) t18 hq19 h locs ls hL (lv_sub hl [0, 1, 2, 3, 4, 5, 6] rfl)
    intro locs ls hL hl
    unfold f_X4_catalogue_L61 at h
    refine lv_iload hx hb dX4_catalogue_61 (lv_at hl 0 rfl) ?_
    refine lv_iload hx hb dX4_catalogue_63 (lv_at hl 6 rfl) ?_
    refine lv_icmp_ge (tgt := 179) hx hb dX4_catalogue_65 (by decide) (fun c6 => ?_) (fun c6 => ?_)
    · rw [if_pos c6] at h
      exact hX61_179 (s1.1, s1.2) (ht1 _ (Option.some.inj h).symm) locs ls hL (lv_sub hl [1] rfl)
    · rw [if_neg c6] at h
      refine lv_aload_n hx hb dX4_catalogue_68 rfl (lv_at hl 2 rfl) ?_
      refine r_get (C := RX4) (T := TX4) (N := 80) hx hb hts ok4 hown hK hR (congrArg Prod.fst (hF.2.1 58 (5, 0) rfl)) rfl 76 (by decide) (hts _ q1709) (fun _ h9 => h9) (v := .ref (z + 104)) (fv_fix hF rfl rfl) dX4_catalogue_69 ?_
      refine lv_iload_n hx hb dX4_catalogue_72 rfl (lv_at hl 4 rfl) ?_
      obtain ⟨hb7, h⟩ := grd h
      refine r_iald (v := wI w 104 a2.toNatClampNeg) hx hb hK hR (hF.2.1 104 (200, 6) rfl) hb7 rfl dX4_catalogue_73 ?_
      refine lv_if_lt (tgt := 94) hx hb dX4_catalogue_74 (by decide) (fun c8 => ?_) (fun c8 => ?_)
      · rw [if_pos c8] at h
        exact hX61_94 (s1.1, s1.2) (ht1 _ (Option.some.inj h).symm) locs ls hL (lv_sub hl [1] rfl)
      · rw [if_neg c8] at h
        refine lv_iload_n hx hb dX4_catalogue_77 rfl (lv_at hl 5 rfl) ?_
        refine lv_if_lt (tgt := 94) hx hb dX4_catalogue_78 (by decide) (fun c9 => ?_) (fun c9 => ?_)
        · rw [if_pos c9] at h
          exact hX61_94 (s1.1, s1.2) (ht1 _ (Option.some.inj h).symm) locs ls hL (lv_sub hl [1] rfl)
        · rw [if_neg c9] at h
          refine lv_iload_n hx hb dX4_catalogue_81 rfl (lv_at hl 5 rfl) ?_
          refine lv_aload_n hx hb dX4_catalogue_82 rfl (lv_at hl 2 rfl) ?_
          refine r_get (C := RX4) (T := TX4) (N := 80) hx hb hts ok4 hown hK hR (congrArg Prod.fst (hF.2.1 58 (5, 0) rfl)) rfl 77 (by decide) (hts _ q1710) (fun _ h9 => h9) (v := .ref (z + 105)) (fv_fix hF rfl rfl) dX4_catalogue_83 ?_
          refine lv_iload_n hx hb dX4_catalogue_86 rfl (lv_at hl 4 rfl) ?_
          obtain ⟨hb10, h⟩ := grd h
          refine r_iald (v := wI w 105 a2.toNatClampNeg) hx hb hK hR (hF.2.1 105 (200, 6) rfl) hb10 rfl dX4_catalogue_87 ?_
          refine lv_iload hx hb dX4_catalogue_88 (lv_at hl 0 rfl) ?_
          refine lv_isub hx hb dX4_catalogue_90 ?_
          refine lv_icmp_lt (tgt := 101) hx hb dX4_catalogue_91 (by decide) (fun c11 => ?_) (fun c11 => ?_)
          · rw [if_pos c11] at h
            refine lv_aload_n hx hb dX4_catalogue_101 rfl (lv_at hl 2 rfl) ?_
            refine r_get (C := RX4) (T := TX4) (N := 80) hx hb hts ok4 hown hK hR (congrArg Prod.fst (hF.2.1 58 (5, 0) rfl)) rfl 78 (by decide) (hts _ q1711) (fun _ h9 => h9) (v := .ref (z + 106)) (fv_fix hF rfl rfl) dX4_catalogue_102 ?_
            refine lv_bipush (v := 60) hx hb dX4_catalogue_105 (by decide) ?_
            refine lv_iload_n hx hb dX4_catalogue_107 rfl (lv_at hl 4 rfl) ?_
            refine lv_imul hx hb dX4_catalogue_108 ?_
            refine lv_iload_n hx hb dX4_catalogue_109 rfl (lv_at hl 5 rfl) ?_
            refine lv_iadd hx hb dX4_catalogue_110 ?_
            refine lv_iload hx hb dX4_catalogue_111 (lv_at hl 0 rfl) ?_
            refine lv_iadd hx hb dX4_catalogue_113 ?_
            obtain ⟨hb12, h⟩ := grd h
            refine r_lald (v := wL w 106 (((((60 : Int32) * a2) + a3) + s1.1).toNatClampNeg)) hx hb hK hR (hF.2.1 106 (204, 360) rfl) hb12 rfl dX4_catalogue_114 ?_
            refine lv_l2i (v := (wL w 106 (((((60 : Int32) * a2) + a3) + s1.1).toNatClampNeg)).toInt32) hx hb dX4_catalogue_115 rfl ?_
            refine lv_istore (lv' := [(8, .int ((wL w 106 (((((60 : Int32) * a2) + a3) + s1.1).toNatClampNeg)).toInt32)), (7, .int s1.1), (5, .long s1.2), (0, .ref (z + 58)), (1, .int a1), (2, .int a2), (3, .int a3), (4, .int a4)]) hx hb dX4_catalogue_116 hl (by decide) rfl (fun ls hl => ?_)
            refine lv_iload hx hb dX4_catalogue_118 (lv_at hl 0 rfl) ?_
            refine lv_iconst (v := -1) hx hb dX4_catalogue_120 (by decide) ?_
            refine lv_icmp_ne (tgt := 127) hx hb dX4_catalogue_121 (by decide) (fun c13 => ?_) (fun c13 => ?_)
            · rw [if_neg c13] at h
              refine lv_lload hx hb dX4_catalogue_127 (lv_at hl 2 rfl) ?_
              refine lv_aload_n hx hb dX4_catalogue_129 rfl (lv_at hl 3 rfl) ?_
              refine lv_iload hx hb dX4_catalogue_130 (lv_at hl 0 rfl) ?_
              refine lv_iconst (v := 0) hx hb dX4_catalogue_132 (by decide) ?_
              refine lv_aload_n hx hb dX4_catalogue_133 rfl (lv_at hl 3 rfl) ?_
              refine r_get (C := RX4) (T := TX4) (N := 80) hx hb hts ok4 hown hK hR (congrArg Prod.fst (hF.2.1 58 (5, 0) rfl)) rfl 70 (by decide) (hts _ q1703) (fun _ h9 => h9) (v := .int (wI w 58 70)) rfl dX4_catalogue_134 ?_
              refine lv_iconst (v := 1) hx hb dX4_catalogue_137 (by decide) ?_
              refine lv_isub hx hb dX4_catalogue_138 ?_
              refine c_VP (a := 58) (ci := 4) (q := (RX4, TX4, 80)) (rest := [.long s1.2]) (st1 := [.int (bI (f_X4_in ((wL w 106 (((((60 : Int32) * a2) + a3) + s1.1).toNatClampNeg)).toInt32) (0 : Int32) ((wI w 58 70) - (1 : Int32)) w)), .long s1.2]) hx hb hml hown hts hK hR hF hL hl.1 (met_X4_in l G z H0 w ((wL w 106 (((((60 : Int32) * a2) + a3) + s1.1).toNatClampNeg)).toInt32) (0 : Int32) ((wI w 58 70) - (1 : Int32)) _ rfl) (congrArg Prod.fst (hF.2.1 58 (5, 0) rfl)) rfl rfl rfl hd_X4_in q1878 q1880 qs41 q104 q1881 ⟨Nat.le_of_ble_eq_true rfl, Nat.le_of_ble_eq_true rfl⟩ ⟨Nat.le_refl 0, Nat.le_refl 0⟩ rfl rfl (Nat.le_of_ble_eq_true rfl) dX4_catalogue_139 rfl (fun locs hL => ?_)
              refine lv_if_eq (tgt := 169) hx hb dX4_catalogue_142 (by decide) (fun c14 => ?_) (fun c14 => ?_)
              · rw [if_neg (bI_n c14)] at h
                refine lv_lconst (v := 1) hx hb dX4_catalogue_169 (by decide) ?_
                refine lv_ladd hx hb dX4_catalogue_170 ?_
                refine lv_lstore (lv' := [(5, .long (s1.2 + (1 : Int64))), (8, .int ((wL w 106 (((((60 : Int32) * a2) + a3) + s1.1).toNatClampNeg)).toInt32)), (7, .int s1.1), (0, .ref (z + 58)), (1, .int a1), (2, .int a2), (3, .int a3), (4, .int a4)]) hx hb dX4_catalogue_171 hl (by decide) rfl (fun ls hl => ?_)
                refine lv_iinc (v := s1.1 + (1 : Int32)) (lv' := [(7, .int (s1.1 + (1 : Int32))), (5, .long (s1.2 + (1 : Int64))), (8, .int ((wL w 106 (((((60 : Int32) * a2) + a3) + s1.1).toNatClampNeg)).toInt32)), (0, .ref (z + 58)), (1, .int a1), (2, .int a2), (3, .int a3), (4, .int a4)]) hx hb dX4_catalogue_173 hl (k := 2) rfl rfl (by decide) rfl (fun ls hl => ?_)
                refine lv_goto (tgt := 61) hx hb dX4_catalogue_176 (by decide) ?_
                exact hc1 _ (Option.some.inj h).symm locs ls hL (lv_sub hl [0, 1, 3, 4, 5, 6, 7] rfl)
              · rw [if_pos (bI_p c14)] at h
                refine lv_aload_n hx hb dX4_catalogue_145 rfl (lv_at hl 3 rfl) ?_
                refine lv_iload hx hb dX4_catalogue_146 (lv_at hl 0 rfl) ?_
                refine lv_aload_n hx hb dX4_catalogue_148 rfl (lv_at hl 3 rfl) ?_
                refine r_get (C := RX4) (T := TX4) (N := 80) hx hb hts ok4 hown hK hR (congrArg Prod.fst (hF.2.1 58 (5, 0) rfl)) rfl 0 (by decide) (hts _ q1633) (fun _ h9 => h9) (v := .int (wI w 58 0)) rfl dX4_catalogue_149 ?_
                refine lv_aload_n hx hb dX4_catalogue_152 rfl (lv_at hl 3 rfl) ?_
                refine r_get (C := RX4) (T := TX4) (N := 80) hx hb hts ok4 hown hK hR (congrArg Prod.fst (hF.2.1 58 (5, 0) rfl)) rfl 71 (by decide) (hts _ q1704) (fun _ h9 => h9) (v := .int (wI w 58 71)) rfl dX4_catalogue_153 ?_
                obtain ⟨q15, hq16, h⟩ := bnd h
                refine c_VP (a := 58) (ci := 4) (q := (RX4, TX4, 80)) (rest := [.long s1.2]) (st1 := [.int q15, .long s1.2]) hx hb hml hown hts hK hR hF hL hl.1 (met_X4_spotOf l G z H0 n w ((wL w 106 (((((60 : Int32) * a2) + a3) + s1.1).toNatClampNeg)).toInt32) (wI w 58 0) (wI w 58 71) q15 hq16) (congrArg Prod.fst (hF.2.1 58 (5, 0) rfl)) rfl rfl rfl hd_X4_spotOf q2237 q2239 qs94 q104 q2240 ⟨Nat.le_of_ble_eq_true rfl, Nat.le_of_ble_eq_true rfl⟩ ⟨Nat.le_refl 0, Nat.le_refl 0⟩ rfl rfl (Nat.le_of_ble_eq_true rfl) dX4_catalogue_156 rfl (fun locs hL => ?_)
                refine lv_iload_n hx hb dX4_catalogue_159 rfl (lv_at hl 4 rfl) ?_
                refine lv_icmp_ne (tgt := 169) hx hb dX4_catalogue_160 (by decide) (fun c17 => ?_) (fun c17 => ?_)
                · rw [if_neg c17] at h
                  refine lv_lconst (v := 1) hx hb dX4_catalogue_169 (by decide) ?_
                  refine lv_ladd hx hb dX4_catalogue_170 ?_
                  refine lv_lstore (lv' := [(5, .long (s1.2 + (1 : Int64))), (8, .int ((wL w 106 (((((60 : Int32) * a2) + a3) + s1.1).toNatClampNeg)).toInt32)), (7, .int s1.1), (0, .ref (z + 58)), (1, .int a1), (2, .int a2), (3, .int a3), (4, .int a4)]) hx hb dX4_catalogue_171 hl (by decide) rfl (fun ls hl => ?_)
                  refine lv_iinc (v := s1.1 + (1 : Int32)) (lv' := [(7, .int (s1.1 + (1 : Int32))), (5, .long (s1.2 + (1 : Int64))), (8, .int ((wL w 106 (((((60 : Int32) * a2) + a3) + s1.1).toNatClampNeg)).toInt32)), (0, .ref (z + 58)), (1, .int a1), (2, .int a2), (3, .int a3), (4, .int a4)]) hx hb dX4_catalogue_173 hl (k := 2) rfl rfl (by decide) rfl (fun ls hl => ?_)
                  refine lv_goto (tgt := 61) hx hb dX4_catalogue_176 (by decide) ?_
                  exact hc1 _ (Option.some.inj h).symm locs ls hL (lv_sub hl [0, 1, 3, 4, 5, 6, 7] rfl)
                · rw [if_pos c17] at h
                  refine lv_ldc2 (v := 1000) hx hb hown (hts _ q2272) dX4_catalogue_163 ?_
                  refine lv_goto (tgt := 170) hx hb dX4_catalogue_166 (by decide) ?_
                  refine lv_ladd hx hb dX4_catalogue_170 ?_
                  refine lv_lstore (lv' := [(5, .long (s1.2 + (1000 : Int64))), (8, .int ((wL w 106 (((((60 : Int32) * a2) + a3) + s1.1).toNatClampNeg)).toInt32)), (7, .int s1.1), (0, .ref (z + 58)), (1, .int a1), (2, .int a2), (3, .int a3), (4, .int a4)]) hx hb dX4_catalogue_171 hl (by decide) rfl (fun ls hl => ?_)
                  refine lv_iinc (v := s1.1 + (1 : Int32)) (lv' := [(7, .int (s1.1 + (1 : Int32))), (5, .long (s1.2 + (1000 : Int64))), (8, .int ((wL w 106 (((((60 : Int32) * a2) + a3) + s1.1).toNatClampNeg)).toInt32)), (0, .ref (z + 58)), (1, .int a1), (2, .int a2), (3, .int a3), (4, .int a4)]) hx hb dX4_catalogue_173 hl (k := 2) rfl rfl (by decide) rfl (fun ls hl => ?_)
                  refine lv_goto (tgt := 61) hx hb dX4_catalogue_176 (by decide) ?_
                  exact hc1 _ (Option.some.inj h).symm locs ls hL (lv_sub hl [0, 1, 3, 4, 5, 6, 7] rfl)
            · rw [if_pos c13] at h
              refine lv_goto (tgt := 173) hx hb dX4_catalogue_124 (by decide) ?_
              refine lv_iinc (v := s1.1 + (1 : Int32)) (lv' := [(7, .int (s1.1 + (1 : Int32))), (8, .int ((wL w 106 (((((60 : Int32) * a2) + a3) + s1.1).toNatClampNeg)).toInt32)), (5, .long s1.2), (0, .ref (z + 58)), (1, .int a1), (2, .int a2), (3, .int a3), (4, .int a4)]) hx hb dX4_catalogue_173 hl (k := 1) rfl rfl (by decide) rfl (fun ls hl => ?_)
              refine lv_goto (tgt := 61) hx hb dX4_catalogue_176 (by decide) ?_
              exact hc1 _ (Option.some.inj h).symm locs ls hL (lv_sub hl [0, 2, 3, 4, 5, 6, 7] rfl)
          · rw [if_neg c11] at h
            exact hX61_94 (s1.1, s1.2) (ht1 _ (Option.some.inj h).symm) locs ls hL (lv_sub hl [1] rfl)
  refine lv_aload_n hx hb dX4_catalogue_0 rfl (lv_at hl 0 rfl) ?_
  refine lv_iload_n hx hb dX4_catalogue_1 rfl (lv_at hl 1 rfl) ?_
  refine c_VP (a := 58) (ci := 4) (q := (RX4, TX4, 80)) (rest := []) (st1 := [.int (bI (f_X4_isTown a1 w))]) hx hb hml hown hts hK hR hF hL hl.1 (met_X4_isTown l G z H0 w a1 _ rfl) (congrArg Prod.fst (hF.2.1 58 (5, 0) rfl)) rfl rfl rfl hd_X4_isTown q1886 q1888 qs42 q104 q1889 ⟨Nat.le_of_ble_eq_true rfl, Nat.le_of_ble_eq_true rfl⟩ ⟨Nat.le_refl 0, Nat.le_refl 0⟩ rfl rfl (Nat.le_of_ble_eq_true rfl) dX4_catalogue_2 rfl (fun locs hL => ?_)
  refine lv_if_eq (tgt := 28) hx hb dX4_catalogue_5 (by decide) (fun c1 => ?_) (fun c1 => ?_)
  · rw [if_neg (bI_n c1)] at h
    refine lv_ldc2 (v := -9223372036854775808) hx hb hown (hts _ q2269) dX4_catalogue_28 ?_
    have h := Option.some.inj h
    subst h
    exact W.lret (v := (-9223372036854775808 : Int64)) hx hb hr (fun t ht _ => ⟨rfl, ht⟩) hL dX4_catalogue_31
  · rw [if_pos (bI_p c1)] at h
    refine lv_aload_n hx hb dX4_catalogue_8 rfl (lv_at hl 0 rfl) ?_
    refine lv_iload_n hx hb dX4_catalogue_9 rfl (lv_at hl 2 rfl) ?_
    refine c_VP (a := 58) (ci := 4) (q := (RX4, TX4, 80)) (rest := []) (st1 := [.int (bI (f_X4_isTape a2 w))]) hx hb hml hown hts hK hR hF hL hl.1 (met_X4_isTape l G z H0 w a2 _ rfl) (congrArg Prod.fst (hF.2.1 58 (5, 0) rfl)) rfl rfl rfl hd_X4_isTape q2265 q2267 qs97 q104 q2268 ⟨Nat.le_of_ble_eq_true rfl, Nat.le_of_ble_eq_true rfl⟩ ⟨Nat.le_refl 0, Nat.le_refl 0⟩ rfl rfl (Nat.le_of_ble_eq_true rfl) dX4_catalogue_10 rfl (fun locs hL => ?_)
    refine lv_if_eq (tgt := 28) hx hb dX4_catalogue_13 (by decide) (fun c2 => ?_) (fun c2 => ?_)
    · rw [if_neg (bI_n c2)] at h
      refine lv_ldc2 (v := -9223372036854775808) hx hb hown (hts _ q2269) dX4_catalogue_28 ?_
      have h := Option.some.inj h
      subst h
      exact W.lret (v := (-9223372036854775808 : Int64)) hx hb hr (fun t ht _ => ⟨rfl, ht⟩) hL dX4_catalogue_31
    · rw [if_pos (bI_p c2)] at h
      refine lv_aload_n hx hb dX4_catalogue_16 rfl (lv_at hl 0 rfl) ?_
      refine lv_iload hx hb dX4_catalogue_17 (lv_at hl 4 rfl) ?_
      refine lv_iconst (v := 1) hx hb dX4_catalogue_19 (by decide) ?_
      refine lv_bipush (v := 40) hx hb dX4_catalogue_20 (by decide) ?_
      refine c_VP (a := 58) (ci := 4) (q := (RX4, TX4, 80)) (rest := []) (st1 := [.int (bI (f_X4_in a4 (1 : Int32) (40 : Int32) w))]) hx hb hml hown hts hK hR hF hL hl.1 (met_X4_in l G z H0 w a4 (1 : Int32) (40 : Int32) _ rfl) (congrArg Prod.fst (hF.2.1 58 (5, 0) rfl)) rfl rfl rfl hd_X4_in q1878 q1880 qs41 q104 q1881 ⟨Nat.le_of_ble_eq_true rfl, Nat.le_of_ble_eq_true rfl⟩ ⟨Nat.le_refl 0, Nat.le_refl 0⟩ rfl rfl (Nat.le_of_ble_eq_true rfl) dX4_catalogue_22 rfl (fun locs hL => ?_)
      refine lv_if_ne (tgt := 32) hx hb dX4_catalogue_25 (by decide) (fun c3 => ?_) (fun c3 => ?_)
      · rw [if_pos (bI_p c3)] at h
        refine lv_aload_n hx hb dX4_catalogue_32 rfl (lv_at hl 0 rfl) ?_
        refine r_get (C := RX4) (T := TX4) (N := 80) hx hb hts ok4 hown hK hR (congrArg Prod.fst (hF.2.1 58 (5, 0) rfl)) rfl 76 (by decide) (hts _ q1709) (fun _ h9 => h9) (v := .ref (z + 104)) (fv_fix hF rfl rfl) dX4_catalogue_33 ?_
        refine lv_iload_n hx hb dX4_catalogue_36 rfl (lv_at hl 2 rfl) ?_
        obtain ⟨hb4, h⟩ := grd h
        refine r_iald (v := wI w 104 a2.toNatClampNeg) hx hb hK hR (hF.2.1 104 (200, 6) rfl) hb4 rfl dX4_catalogue_37 ?_
        refine lv_if_lt (tgt := 55) hx hb dX4_catalogue_38 (by decide) (fun c5 => ?_) (fun c5 => ?_)
        · rw [if_pos c5] at h
          exact hJ55  w h hR hF locs ls hL (lv_sub hl [0, 1, 2, 3, 4] rfl)
        · rw [if_neg c5] at h
          refine lv_aload_n hx hb dX4_catalogue_41 rfl (lv_at hl 0 rfl) ?_
          refine r_get (C := RX4) (T := TX4) (N := 80) hx hb hts ok4 hown hK hR (congrArg Prod.fst (hF.2.1 58 (5, 0) rfl)) rfl 76 (by decide) (hts _ q1709) (fun _ h9 => h9) (v := .ref (z + 104)) (fv_fix hF rfl rfl) dX4_catalogue_42 ?_
          refine lv_iload_n hx hb dX4_catalogue_45 rfl (lv_at hl 2 rfl) ?_
          obtain ⟨hb20, h⟩ := grd h
          refine r_iald (v := wI w 104 a2.toNatClampNeg) hx hb hK hR (hF.2.1 104 (200, 6) rfl) hb20 rfl dX4_catalogue_46 ?_
          refine lv_iconst (v := 1) hx hb dX4_catalogue_47 (by decide) ?_
          refine lv_icmp_eq (tgt := 55) hx hb dX4_catalogue_48 (by decide) (fun c21 => ?_) (fun c21 => ?_)
          · rw [if_pos c21] at h
            exact hJ55  w h hR hF locs ls hL (lv_sub hl [0, 1, 2, 3, 4] rfl)
          · rw [if_neg c21] at h
            refine lv_ldc2 (v := -9223372036854775807) hx hb hown (hts _ q2270) dX4_catalogue_51 ?_
            have h := Option.some.inj h
            subst h
            exact W.lret (v := (-9223372036854775807 : Int64)) hx hb hr (fun t ht _ => ⟨rfl, ht⟩) hL dX4_catalogue_54
      · rw [if_neg (bI_n c3)] at h
        refine lv_ldc2 (v := -9223372036854775808) hx hb hown (hts _ q2269) dX4_catalogue_28 ?_
        have h := Option.some.inj h
        subst h
        exact W.lret (v := (-9223372036854775808 : Int64)) hx hb hr (fun t ht _ => ⟨rfl, ht⟩) hL dX4_catalogue_31
def f_X4_count (a1 : Int32) (w : Wd) : Int32 :=
  if a1 = 0 then (wI w 58 0) else (if a1 = 1 then (wI w 58 1) else (if a1 = 2 then (wI w 58 2) else (if a1 = 3 then (wI w 58 3) else (if a1 = 4 then (wI w 58 70) else (if a1 = 5 then (wI w 58 17) else (if a1 = 6 then (wI w 58 25) else (if a1 = 7 then (wI w 58 27) else (if a1 = 8 then (wI w 58 50) else (if a1 = 9 then (wI w 58 55) else (if a1 = 10 then (wI w 58 26) else (if a1 = 11 then (wI w 58 67) else (if a1 = 12 then (wI w 58 71) else (if a1 = 13 then (wI w 58 18) else ((-2 : Int32)))))))))))))))
theorem hd_X4_count : yX4_count.cls = RX4 ∧ yX4_count.cls ≠ "java/lang/invoke/MethodHandle" ∧ yX4_count.cls ≠ "java/lang/invoke/VarHandle" ∧ (parseMethodDescriptor yX4_count.desc).map (fun d => d.parameters.length) = some 1 := by decide +kernel
set_option maxHeartbeats 4000000 in
set_option maxRecDepth 100000 in
theorem met_X4_count (l : Launch) (G : Gw) (z : Nat) (H0 : Heap)  (w : Wd) (a1 : Int32) (q : Int32) (h : f_X4_count a1 w = q) : Met l yX4_count (ws_ yX4_count cX4_count 2 (some .int)) ({ frames := 0, cells := 0, slots := 0, locals := 0 } : Room) (pcW G z H0 w [.ref (z + 58), .int a1]) (qP (some (.int q))) 0 0 (fun q => z ≤ q) := by
  refine mW (by decide) (Nat.le_of_ble_eq_true rfl) ?_
  intro p e s m below meth c ls hx hb hr hml hown hts hlocks hnm hK hR hF hl
  have hown : s.vm.findClass RX4 = some m.cls := hown
  have hl : lv_has ls 2 [(0, .ref (z + 58)), (1, .int a1)] := hl
  have hL : lok z [] := lok_nil
  unfold f_X4_count at h
  generalize ([] : List Loc) = locs at hL ⊢
  refine lv_iload_n hx hb dX4_count_0 rfl (lv_at hl 1 rfl) ?_
  by_cases c1 : a1 = 0
  · rw [if_pos c1] at h
    refine lv_tableIn (off := 71) (tgt := 72) hx hb dX4_count_1 (by rw [c1]; decide) (by rw [c1]; decide) (by rw [c1]; rfl) (by decide) ?_
    refine lv_aload_n hx hb dX4_count_72 rfl (lv_at hl 0 rfl) ?_
    refine r_get (C := RX4) (T := TX4) (N := 80) hx hb hts ok4 hown hK hR (congrArg Prod.fst (hF.2.1 58 (5, 0) rfl)) rfl 0 (by decide) (hts _ q1633) (fun _ h9 => h9) (v := .int (wI w 58 0)) rfl dX4_count_73 ?_
    subst h
    exact W.iret (v := wI w 58 0) hx hb hr (fun t ht _ => ⟨rfl, ht⟩) hL dX4_count_76
  rw [if_neg c1] at h
  by_cases c2 : a1 = 1
  · rw [if_pos c2] at h
    refine lv_tableIn (off := 76) (tgt := 77) hx hb dX4_count_1 (by rw [c2]; decide) (by rw [c2]; decide) (by rw [c2]; rfl) (by decide) ?_
    refine lv_aload_n hx hb dX4_count_77 rfl (lv_at hl 0 rfl) ?_
    refine r_get (C := RX4) (T := TX4) (N := 80) hx hb hts ok4 hown hK hR (congrArg Prod.fst (hF.2.1 58 (5, 0) rfl)) rfl 1 (by decide) (hts _ q1634) (fun _ h9 => h9) (v := .int (wI w 58 1)) rfl dX4_count_78 ?_
    subst h
    exact W.iret (v := wI w 58 1) hx hb hr (fun t ht _ => ⟨rfl, ht⟩) hL dX4_count_81
  rw [if_neg c2] at h
  by_cases c3 : a1 = 2
  · rw [if_pos c3] at h
    refine lv_tableIn (off := 81) (tgt := 82) hx hb dX4_count_1 (by rw [c3]; decide) (by rw [c3]; decide) (by rw [c3]; rfl) (by decide) ?_
    refine lv_aload_n hx hb dX4_count_82 rfl (lv_at hl 0 rfl) ?_
    refine r_get (C := RX4) (T := TX4) (N := 80) hx hb hts ok4 hown hK hR (congrArg Prod.fst (hF.2.1 58 (5, 0) rfl)) rfl 2 (by decide) (hts _ q1635) (fun _ h9 => h9) (v := .int (wI w 58 2)) rfl dX4_count_83 ?_
    subst h
    exact W.iret (v := wI w 58 2) hx hb hr (fun t ht _ => ⟨rfl, ht⟩) hL dX4_count_86
  rw [if_neg c3] at h
  by_cases c4 : a1 = 3
  · rw [if_pos c4] at h
    refine lv_tableIn (off := 86) (tgt := 87) hx hb dX4_count_1 (by rw [c4]; decide) (by rw [c4]; decide) (by rw [c4]; rfl) (by decide) ?_
    refine lv_aload_n hx hb dX4_count_87 rfl (lv_at hl 0 rfl) ?_
    refine r_get (C := RX4) (T := TX4) (N := 80) hx hb hts ok4 hown hK hR (congrArg Prod.fst (hF.2.1 58 (5, 0) rfl)) rfl 3 (by decide) (hts _ q1636) (fun _ h9 => h9) (v := .int (wI w 58 3)) rfl dX4_count_88 ?_
    subst h
    exact W.iret (v := wI w 58 3) hx hb hr (fun t ht _ => ⟨rfl, ht⟩) hL dX4_count_91
  rw [if_neg c4] at h
  by_cases c5 : a1 = 4
  · rw [if_pos c5] at h
    refine lv_tableIn (off := 91) (tgt := 92) hx hb dX4_count_1 (by rw [c5]; decide) (by rw [c5]; decide) (by rw [c5]; rfl) (by decide) ?_
    refine lv_aload_n hx hb dX4_count_92 rfl (lv_at hl 0 rfl) ?_
    refine r_get (C := RX4) (T := TX4) (N := 80) hx hb hts ok4 hown hK hR (congrArg Prod.fst (hF.2.1 58 (5, 0) rfl)) rfl 70 (by decide) (hts _ q1703) (fun _ h9 => h9) (v := .int (wI w 58 70)) rfl dX4_count_93 ?_
    subst h
    exact W.iret (v := wI w 58 70) hx hb hr (fun t ht _ => ⟨rfl, ht⟩) hL dX4_count_96
  rw [if_neg c5] at h
  by_cases c6 : a1 = 5
  · rw [if_pos c6] at h
    refine lv_tableIn (off := 96) (tgt := 97) hx hb dX4_count_1 (by rw [c6]; decide) (by rw [c6]; decide) (by rw [c6]; rfl) (by decide) ?_
    refine lv_aload_n hx hb dX4_count_97 rfl (lv_at hl 0 rfl) ?_
    refine r_get (C := RX4) (T := TX4) (N := 80) hx hb hts ok4 hown hK hR (congrArg Prod.fst (hF.2.1 58 (5, 0) rfl)) rfl 17 (by decide) (hts _ q1650) (fun _ h9 => h9) (v := .int (wI w 58 17)) rfl dX4_count_98 ?_
    subst h
    exact W.iret (v := wI w 58 17) hx hb hr (fun t ht _ => ⟨rfl, ht⟩) hL dX4_count_101
  rw [if_neg c6] at h
  by_cases c7 : a1 = 6
  · rw [if_pos c7] at h
    refine lv_tableIn (off := 101) (tgt := 102) hx hb dX4_count_1 (by rw [c7]; decide) (by rw [c7]; decide) (by rw [c7]; rfl) (by decide) ?_
    refine lv_aload_n hx hb dX4_count_102 rfl (lv_at hl 0 rfl) ?_
    refine r_get (C := RX4) (T := TX4) (N := 80) hx hb hts ok4 hown hK hR (congrArg Prod.fst (hF.2.1 58 (5, 0) rfl)) rfl 25 (by decide) (hts _ q1658) (fun _ h9 => h9) (v := .int (wI w 58 25)) rfl dX4_count_103 ?_
    subst h
    exact W.iret (v := wI w 58 25) hx hb hr (fun t ht _ => ⟨rfl, ht⟩) hL dX4_count_106
  rw [if_neg c7] at h
  by_cases c8 : a1 = 7
  · rw [if_pos c8] at h
    refine lv_tableIn (off := 106) (tgt := 107) hx hb dX4_count_1 (by rw [c8]; decide) (by rw [c8]; decide) (by rw [c8]; rfl) (by decide) ?_
    refine lv_aload_n hx hb dX4_count_107 rfl (lv_at hl 0 rfl) ?_
    refine r_get (C := RX4) (T := TX4) (N := 80) hx hb hts ok4 hown hK hR (congrArg Prod.fst (hF.2.1 58 (5, 0) rfl)) rfl 27 (by decide) (hts _ q1660) (fun _ h9 => h9) (v := .int (wI w 58 27)) rfl dX4_count_108 ?_
    subst h
    exact W.iret (v := wI w 58 27) hx hb hr (fun t ht _ => ⟨rfl, ht⟩) hL dX4_count_111
  rw [if_neg c8] at h
  by_cases c9 : a1 = 8
  · rw [if_pos c9] at h
    refine lv_tableIn (off := 111) (tgt := 112) hx hb dX4_count_1 (by rw [c9]; decide) (by rw [c9]; decide) (by rw [c9]; rfl) (by decide) ?_
    refine lv_aload_n hx hb dX4_count_112 rfl (lv_at hl 0 rfl) ?_
    refine r_get (C := RX4) (T := TX4) (N := 80) hx hb hts ok4 hown hK hR (congrArg Prod.fst (hF.2.1 58 (5, 0) rfl)) rfl 50 (by decide) (hts _ q1683) (fun _ h9 => h9) (v := .int (wI w 58 50)) rfl dX4_count_113 ?_
    subst h
    exact W.iret (v := wI w 58 50) hx hb hr (fun t ht _ => ⟨rfl, ht⟩) hL dX4_count_116
  rw [if_neg c9] at h
  by_cases c10 : a1 = 9
  · rw [if_pos c10] at h
    refine lv_tableIn (off := 116) (tgt := 117) hx hb dX4_count_1 (by rw [c10]; decide) (by rw [c10]; decide) (by rw [c10]; rfl) (by decide) ?_
    refine lv_aload_n hx hb dX4_count_117 rfl (lv_at hl 0 rfl) ?_
    refine r_get (C := RX4) (T := TX4) (N := 80) hx hb hts ok4 hown hK hR (congrArg Prod.fst (hF.2.1 58 (5, 0) rfl)) rfl 55 (by decide) (hts _ q1688) (fun _ h9 => h9) (v := .int (wI w 58 55)) rfl dX4_count_118 ?_
    subst h
    exact W.iret (v := wI w 58 55) hx hb hr (fun t ht _ => ⟨rfl, ht⟩) hL dX4_count_121
  rw [if_neg c10] at h
  by_cases c11 : a1 = 10
  · rw [if_pos c11] at h
    refine lv_tableIn (off := 121) (tgt := 122) hx hb dX4_count_1 (by rw [c11]; decide) (by rw [c11]; decide) (by rw [c11]; rfl) (by decide) ?_
    refine lv_aload_n hx hb dX4_count_122 rfl (lv_at hl 0 rfl) ?_
    refine r_get (C := RX4) (T := TX4) (N := 80) hx hb hts ok4 hown hK hR (congrArg Prod.fst (hF.2.1 58 (5, 0) rfl)) rfl 26 (by decide) (hts _ q1659) (fun _ h9 => h9) (v := .int (wI w 58 26)) rfl dX4_count_123 ?_
    subst h
    exact W.iret (v := wI w 58 26) hx hb hr (fun t ht _ => ⟨rfl, ht⟩) hL dX4_count_126
  rw [if_neg c11] at h
  by_cases c12 : a1 = 11
  · rw [if_pos c12] at h
    refine lv_tableIn (off := 126) (tgt := 127) hx hb dX4_count_1 (by rw [c12]; decide) (by rw [c12]; decide) (by rw [c12]; rfl) (by decide) ?_
    refine lv_aload_n hx hb dX4_count_127 rfl (lv_at hl 0 rfl) ?_
    refine r_get (C := RX4) (T := TX4) (N := 80) hx hb hts ok4 hown hK hR (congrArg Prod.fst (hF.2.1 58 (5, 0) rfl)) rfl 67 (by decide) (hts _ q1700) (fun _ h9 => h9) (v := .int (wI w 58 67)) rfl dX4_count_128 ?_
    subst h
    exact W.iret (v := wI w 58 67) hx hb hr (fun t ht _ => ⟨rfl, ht⟩) hL dX4_count_131
  rw [if_neg c12] at h
  by_cases c13 : a1 = 12
  · rw [if_pos c13] at h
    refine lv_tableIn (off := 131) (tgt := 132) hx hb dX4_count_1 (by rw [c13]; decide) (by rw [c13]; decide) (by rw [c13]; rfl) (by decide) ?_
    refine lv_aload_n hx hb dX4_count_132 rfl (lv_at hl 0 rfl) ?_
    refine r_get (C := RX4) (T := TX4) (N := 80) hx hb hts ok4 hown hK hR (congrArg Prod.fst (hF.2.1 58 (5, 0) rfl)) rfl 71 (by decide) (hts _ q1704) (fun _ h9 => h9) (v := .int (wI w 58 71)) rfl dX4_count_133 ?_
    subst h
    exact W.iret (v := wI w 58 71) hx hb hr (fun t ht _ => ⟨rfl, ht⟩) hL dX4_count_136
  rw [if_neg c13] at h
  by_cases c14 : a1 = 13
  · rw [if_pos c14] at h
    refine lv_tableIn (off := 136) (tgt := 137) hx hb dX4_count_1 (by rw [c14]; decide) (by rw [c14]; decide) (by rw [c14]; rfl) (by decide) ?_
    refine lv_aload_n hx hb dX4_count_137 rfl (lv_at hl 0 rfl) ?_
    refine r_get (C := RX4) (T := TX4) (N := 80) hx hb hts ok4 hown hK hR (congrArg Prod.fst (hF.2.1 58 (5, 0) rfl)) rfl 18 (by decide) (hts _ q1651) (fun _ h9 => h9) (v := .int (wI w 58 18)) rfl dX4_count_138 ?_
    subst h
    exact W.iret (v := wI w 58 18) hx hb hr (fun t ht _ => ⟨rfl, ht⟩) hL dX4_count_141
  rw [if_neg c14] at h
  refine lv_tableOut (tgt := 142) hx hb dX4_count_1 (by have c1_ := lv_neT c1 (show (0 : Int32).toInt = 0 by decide); have c2_ := lv_neT c2 (show (1 : Int32).toInt = 1 by decide); have c3_ := lv_neT c3 (show (2 : Int32).toInt = 2 by decide); have c4_ := lv_neT c4 (show (3 : Int32).toInt = 3 by decide); have c5_ := lv_neT c5 (show (4 : Int32).toInt = 4 by decide); have c6_ := lv_neT c6 (show (5 : Int32).toInt = 5 by decide); have c7_ := lv_neT c7 (show (6 : Int32).toInt = 6 by decide); have c8_ := lv_neT c8 (show (7 : Int32).toInt = 7 by decide); have c9_ := lv_neT c9 (show (8 : Int32).toInt = 8 by decide); have c10_ := lv_neT c10 (show (9 : Int32).toInt = 9 by decide); have c11_ := lv_neT c11 (show (10 : Int32).toInt = 10 by decide); have c12_ := lv_neT c12 (show (11 : Int32).toInt = 11 by decide); have c13_ := lv_neT c13 (show (12 : Int32).toInt = 12 by decide); have c14_ := lv_neT c14 (show (13 : Int32).toInt = 13 by decide); omega) (by decide) ?_
  refine lv_bipush (v := -2) hx hb dX4_count_142 (by decide) ?_
  subst h
  exact W.iret (v := (-2 : Int32)) hx hb hr (fun t ht _ => ⟨rfl, ht⟩) hL dX4_count_144
def f_X4_tape_L69 (n : Nat) (u1_1 : Int32) (s1 : Int32 × Wd) : Option ((Int32 × Wd) ⊕ ((Int32 × Wd))) :=
  if (60 : Int32) ≤ s1.1 then (some (.inr (s1.1, s1.2))) else (if inb (((60 : Int32) * u1_1) + s1.1) 360 then (some (.inl (s1.1 + (1 : Int32), sL s1.2 106 ((((60 : Int32) * u1_1) + s1.1).toNatClampNeg) (0 : Int64)))) else none)
def f_X4_tape_J65 (n : Nat) (a1 : Int32) (a2 : Int32) (a3 : Int32) (k0 : Int32) (k1 : Int32) (w : Wd) : Option (Int32 × Wd) :=
  if inb k1 6 then ((it n (f_X4_tape_L69 n a1) ((0 : Int32), sI w 105 k1.toNatClampNeg k0)).bind fun q69_95 => some ((1 : Int32), q69_95.2)) else none
def f_X4_tape_J44 (n : Nat) (a1 : Int32) (a2 : Int32) (a3 : Int32) (w : Wd) : Option (Int32 × Wd) :=
  if inb a1 6 then (if 0 ≤ a2 then (f_X4_tape_J65 n a1 a2 a3 a3 a1 (sI w 104 a1.toNatClampNeg a2)) else (f_X4_tape_J65 n a1 a2 a3 (0 : Int32) a1 (sI w 104 a1.toNatClampNeg a2))) else none
def f_X4_tape (n : Nat) (a1 : Int32) (a2 : Int32) (a3 : Int32) (w : Wd) : Option (Int32 × Wd) :=
  if (f_X4_isTape a1 w) then (if (f_X4_in a2 (-1 : Int32) (4 : Int32) w) then (if a2 < 0 then (if a2 < 0 then (f_X4_tape_J44 n a1 a2 a3 w) else (if 0 ≤ a3 then (f_X4_tape_J44 n a1 a2 a3 w) else (some ((-14 : Int32), w)))) else (if a3 ≤ (60 : Int32) then (if a2 < 0 then (f_X4_tape_J44 n a1 a2 a3 w) else (if 0 ≤ a3 then (f_X4_tape_J44 n a1 a2 a3 w) else (some ((-14 : Int32), w)))) else (some ((-2 : Int32), w)))) else (some ((-2 : Int32), w))) else (some ((-1 : Int32), w))
theorem hd_X4_tape : yX4_tape.cls = RX4 ∧ yX4_tape.cls ≠ "java/lang/invoke/MethodHandle" ∧ yX4_tape.cls ≠ "java/lang/invoke/VarHandle" ∧ (parseMethodDescriptor yX4_tape.desc).map (fun d => d.parameters.length) = some 3 := by decide +kernel
set_option maxHeartbeats 4000000 in
set_option maxRecDepth 100000 in
theorem met_X4_tape (l : Launch) (G : Gw) (z : Nat) (H0 : Heap) (n : Nat) (w : Wd) (a1 : Int32) (a2 : Int32) (a3 : Int32) (q : Int32 × Wd) (h : f_X4_tape n a1 a2 a3 w = some q) : Met l yX4_tape (ws_ yX4_tape cX4_tape 5 (some .int)) ({ frames := 2, cells := 0, slots := 0, locals := 44 } : Room) (pcW G z H0 w [.ref (z + 58), .int a1, .int a2, .int a3]) (qW G z H0 q.2 (some (.int q.1))) 0 0 (fun q => z ≤ q) := by
  refine mW (by decide) (Nat.le_of_ble_eq_true rfl) ?_
  intro p e s m below meth c ls hx hb hr hml hown hts hlocks hnm hK hR hF hl
  have hown : s.vm.findClass RX4 = some m.cls := hown
  have hl : lv_has ls 5 [(0, .ref (z + 58)), (1, .int a1), (2, .int a2), (3, .int a3)] := hl
  have hL : lok z [] := lok_nil
  unfold f_X4_tape at h
  generalize s.heap = H at hR ⊢
  generalize ([] : List Loc) = locs at hL ⊢
  have hJ65 : ∀ (k0 : Int32) (k1 : Int32) (w : Wd), f_X4_tape_J65 n a1 a2 a3 k0 k1 w = some q → ∀ (H : Heap) (locs : List Loc) (ls : Array Slot), Rp G z H0 w H → Fix w → lok z locs → lv_has ls 5 [(0, .ref (z + 58)), (1, .int a1)] → W p l e ({ frames := 2, cells := 0, slots := 0, locals := 44 } : Room) s m ([.ref (z + 58), .int a1, .int a2, .int a3] : List Value).toArray below meth c H locs 0 0 (MQ below (qW G z H0 q.2 (some (.int q.1))) ([.ref (z + 58), .int a1, .int a2, .int a3] : List Value).toArray s 0 0 (fun q => z ≤ q)) (F0 m 65 ls [.int k0, .int k1, .ref (z + 105)]) := by
    intro k0 k1 w h H locs ls hR hF hL hl
    unfold f_X4_tape_J65 at h
    obtain ⟨hb7, h⟩ := grd h
    refine r_iast hx hb hK hR hL (hF.2.1 105 (200, 6) rfl) hb7 dX4_tape_65 (fun H locs hR hL => ?_)
    have hF := hF.sI 105 (k1.toNatClampNeg) k0
    refine lv_iconst (v := 0) hx hb dX4_tape_66 (by decide) ?_
    refine lv_istore (lv' := [(4, .int (0 : Int32)), (0, .ref (z + 58)), (1, .int a1)]) hx hb dX4_tape_67 hl (by decide) rfl (fun ls hl => ?_)
    have hX69_95 : ∀ (q69_95 : Int32 × Wd), (some ((1 : Int32), q69_95.2)) = some q → ∀ (H : Heap) (locs : List Loc) (ls : Array Slot), Rp G z H0 q69_95.2 H → Fix q69_95.2 → lok z locs → lv_has ls 5 [] → W p l e ({ frames := 2, cells := 0, slots := 0, locals := 44 } : Room) s m ([.ref (z + 58), .int a1, .int a2, .int a3] : List Value).toArray below meth c H locs 0 0 (MQ below (qW G z H0 q.2 (some (.int q.1))) ([.ref (z + 58), .int a1, .int a2, .int a3] : List Value).toArray s 0 0 (fun q => z ≤ q)) (F0 m 95 ls []) := by
      intro q69_95 h H locs ls hR hF hL hl
      refine lv_iconst (v := 1) hx hb dX4_tape_95 (by decide) ?_
      have h := Option.some.inj h
      subst h
      exact W.iret (v := (1 : Int32)) hx hb hr (fun t ht _ => ⟨rfl, by rw [ht]; exact hR, hF⟩) hL dX4_tape_96
    obtain ⟨t10, hq11, h⟩ := bnd h
    refine it_W (b := f_X4_tape_L69 n a1) (P := fun (s1 : Int32 × Wd) => ∀ (H : Heap) (locs : List Loc) (ls : Array Slot), Rp G z H0 s1.2 H → Fix s1.2 → lok z locs → lv_has ls 5 [(4, .int s1.1), (0, .ref (z + 58)), (1, .int a1)] → W p l e ({ frames := 2, cells := 0, slots := 0, locals := 44 } : Room) s m ([.ref (z + 58), .int a1, .int a2, .int a3] : List Value).toArray below meth c H locs 0 0 (MQ below (qW G z H0 q.2 (some (.int q.1))) ([.ref (z + 58), .int a1, .int a2, .int a3] : List Value).toArray s 0 0 (fun q => z ≤ q)) (F0 m 69 ls [])) (K := fun q69_95 => (some ((1 : Int32), q69_95.2)) = some q) (fun s1 x1 h hc1 ht1 => ?_) n ((0 : Int32), sI w 105 k1.toNatClampNeg k0) t10 hq11 h H locs ls hR hF hL (lv_sub hl [0, 1, 2] rfl)
    intro H locs ls hR hF hL hl
    unfold f_X4_tape_L69 at h
    refine lv_iload hx hb dX4_tape_69 (lv_at hl 0 rfl) ?_
    refine lv_bipush (v := 60) hx hb dX4_tape_71 (by decide) ?_
    refine lv_icmp_ge (tgt := 95) hx hb dX4_tape_73 (by decide) (fun c8 => ?_) (fun c8 => ?_)
    · rw [if_pos c8] at h
      exact hX69_95 (s1.1, s1.2) (ht1 _ (Option.some.inj h).symm) H locs ls hR hF hL (lv_sub hl [] rfl)
    · rw [if_neg c8] at h
      refine lv_aload_n hx hb dX4_tape_76 rfl (lv_at hl 1 rfl) ?_
      refine r_get (C := RX4) (T := TX4) (N := 80) hx hb hts ok4 hown hK hR (congrArg Prod.fst (hF.2.1 58 (5, 0) rfl)) rfl 78 (by decide) (hts _ q1711) (fun _ h9 => h9) (v := .ref (z + 106)) (fv_fix hF rfl rfl) dX4_tape_77 ?_
      refine lv_bipush (v := 60) hx hb dX4_tape_80 (by decide) ?_
      refine lv_iload_n hx hb dX4_tape_82 rfl (lv_at hl 2 rfl) ?_
      refine lv_imul hx hb dX4_tape_83 ?_
      refine lv_iload hx hb dX4_tape_84 (lv_at hl 0 rfl) ?_
      refine lv_iadd hx hb dX4_tape_86 ?_
      refine lv_lconst (v := 0) hx hb dX4_tape_87 (by decide) ?_
      obtain ⟨hb9, h⟩ := grd h
      refine r_last hx hb hK hR hL (hF.2.1 106 (204, 360) rfl) hb9 dX4_tape_88 (fun H locs hR hL => ?_)
      have hF := hF.sL 106 ((((60 : Int32) * a1) + s1.1).toNatClampNeg) (0 : Int64)
      refine lv_iinc (v := s1.1 + (1 : Int32)) (lv' := [(4, .int (s1.1 + (1 : Int32))), (0, .ref (z + 58)), (1, .int a1)]) hx hb dX4_tape_89 hl (k := 0) rfl rfl (by decide) rfl (fun ls hl => ?_)
      refine lv_goto (tgt := 69) hx hb dX4_tape_92 (by decide) ?_
      exact hc1 _ (Option.some.inj h).symm H locs ls hR hF hL (lv_sub hl [0, 1, 2] rfl)
  have hJ44 : ∀  (w : Wd), f_X4_tape_J44 n a1 a2 a3 w = some q → ∀ (H : Heap) (locs : List Loc) (ls : Array Slot), Rp G z H0 w H → Fix w → lok z locs → lv_has ls 5 [(0, .ref (z + 58)), (1, .int a1), (2, .int a2), (3, .int a3)] → W p l e ({ frames := 2, cells := 0, slots := 0, locals := 44 } : Room) s m ([.ref (z + 58), .int a1, .int a2, .int a3] : List Value).toArray below meth c H locs 0 0 (MQ below (qW G z H0 q.2 (some (.int q.1))) ([.ref (z + 58), .int a1, .int a2, .int a3] : List Value).toArray s 0 0 (fun q => z ≤ q)) (F0 m 44 ls []) := by
    intro  w h H locs ls hR hF hL hl
    unfold f_X4_tape_J44 at h
    refine lv_aload_n hx hb dX4_tape_44 rfl (lv_at hl 0 rfl) ?_
    refine r_get (C := RX4) (T := TX4) (N := 80) hx hb hts ok4 hown hK hR (congrArg Prod.fst (hF.2.1 58 (5, 0) rfl)) rfl 76 (by decide) (hts _ q1709) (fun _ h9 => h9) (v := .ref (z + 104)) (fv_fix hF rfl rfl) dX4_tape_45 ?_
    refine lv_iload_n hx hb dX4_tape_48 rfl (lv_at hl 1 rfl) ?_
    refine lv_iload_n hx hb dX4_tape_49 rfl (lv_at hl 2 rfl) ?_
    obtain ⟨hb5, h⟩ := grd h
    refine r_iast hx hb hK hR hL (hF.2.1 104 (200, 6) rfl) hb5 dX4_tape_50 (fun H locs hR hL => ?_)
    have hF := hF.sI 104 (a1.toNatClampNeg) a2
    refine lv_aload_n hx hb dX4_tape_51 rfl (lv_at hl 0 rfl) ?_
    refine r_get (C := RX4) (T := TX4) (N := 80) hx hb hts ok4 hown hK hR (congrArg Prod.fst (hF.2.1 58 (5, 0) rfl)) rfl 77 (by decide) (hts _ q1710) (fun _ h9 => h9) (v := .ref (z + 105)) (fv_fix hF rfl rfl) dX4_tape_52 ?_
    refine lv_iload_n hx hb dX4_tape_55 rfl (lv_at hl 1 rfl) ?_
    refine lv_iload_n hx hb dX4_tape_56 rfl (lv_at hl 2 rfl) ?_
    refine lv_if_ge (tgt := 64) hx hb dX4_tape_57 (by decide) (fun c6 => ?_) (fun c6 => ?_)
    · rw [if_pos c6] at h
      refine lv_iload_n hx hb dX4_tape_64 rfl (lv_at hl 3 rfl) ?_
      exact hJ65 a3 a1 (sI w 104 a1.toNatClampNeg a2) h H locs ls hR hF hL (lv_sub hl [0, 1] rfl)
    · rw [if_neg c6] at h
      refine lv_iconst (v := 0) hx hb dX4_tape_60 (by decide) ?_
      refine lv_goto (tgt := 65) hx hb dX4_tape_61 (by decide) ?_
      exact hJ65 (0 : Int32) a1 (sI w 104 a1.toNatClampNeg a2) h H locs ls hR hF hL (lv_sub hl [0, 1] rfl)
  refine lv_aload_n hx hb dX4_tape_0 rfl (lv_at hl 0 rfl) ?_
  refine lv_iload_n hx hb dX4_tape_1 rfl (lv_at hl 1 rfl) ?_
  refine c_VP (a := 58) (ci := 4) (q := (RX4, TX4, 80)) (rest := []) (st1 := [.int (bI (f_X4_isTape a1 w))]) hx hb hml hown hts hK hR hF hL hl.1 (met_X4_isTape l G z H0 w a1 _ rfl) (congrArg Prod.fst (hF.2.1 58 (5, 0) rfl)) rfl rfl rfl hd_X4_isTape q2265 q2267 qs97 q104 q2268 ⟨Nat.le_of_ble_eq_true rfl, Nat.le_of_ble_eq_true rfl⟩ ⟨Nat.le_refl 0, Nat.le_refl 0⟩ rfl rfl (Nat.le_of_ble_eq_true rfl) dX4_tape_2 rfl (fun locs hL => ?_)
  refine lv_if_ne (tgt := 10) hx hb dX4_tape_5 (by decide) (fun c1 => ?_) (fun c1 => ?_)
  · rw [if_pos (bI_p c1)] at h
    refine lv_aload_n hx hb dX4_tape_10 rfl (lv_at hl 0 rfl) ?_
    refine lv_iload_n hx hb dX4_tape_11 rfl (lv_at hl 2 rfl) ?_
    refine lv_iconst (v := -1) hx hb dX4_tape_12 (by decide) ?_
    refine lv_iconst (v := 4) hx hb dX4_tape_13 (by decide) ?_
    refine c_VP (a := 58) (ci := 4) (q := (RX4, TX4, 80)) (rest := []) (st1 := [.int (bI (f_X4_in a2 (-1 : Int32) (4 : Int32) w))]) hx hb hml hown hts hK hR hF hL hl.1 (met_X4_in l G z H0 w a2 (-1 : Int32) (4 : Int32) _ rfl) (congrArg Prod.fst (hF.2.1 58 (5, 0) rfl)) rfl rfl rfl hd_X4_in q1878 q1880 qs41 q104 q1881 ⟨Nat.le_of_ble_eq_true rfl, Nat.le_of_ble_eq_true rfl⟩ ⟨Nat.le_refl 0, Nat.le_refl 0⟩ rfl rfl (Nat.le_of_ble_eq_true rfl) dX4_tape_14 rfl (fun locs hL => ?_)
    refine lv_if_eq (tgt := 30) hx hb dX4_tape_17 (by decide) (fun c2 => ?_) (fun c2 => ?_)
    · rw [if_neg (bI_n c2)] at h
      refine lv_bipush (v := -2) hx hb dX4_tape_30 (by decide) ?_
      have h := Option.some.inj h
      subst h
      exact W.iret (v := (-2 : Int32)) hx hb hr (fun t ht _ => ⟨rfl, by rw [ht]; exact hR, hF⟩) hL dX4_tape_32
    · rw [if_pos (bI_p c2)] at h
      refine lv_iload_n hx hb dX4_tape_20 rfl (lv_at hl 2 rfl) ?_
      refine lv_if_lt (tgt := 33) hx hb dX4_tape_21 (by decide) (fun c3 => ?_) (fun c3 => ?_)
      · rw [if_pos c3] at h
        refine lv_iload_n hx hb dX4_tape_33 rfl (lv_at hl 2 rfl) ?_
        refine lv_if_lt (tgt := 44) hx hb dX4_tape_34 (by decide) (fun c4 => ?_) (fun c4 => ?_)
        · rw [if_pos c4] at h
          exact hJ44  w h H locs ls hR hF hL (lv_sub hl [0, 1, 2, 3] rfl)
        · rw [if_neg c4] at h
          refine lv_iload_n hx hb dX4_tape_37 rfl (lv_at hl 3 rfl) ?_
          refine lv_if_ge (tgt := 44) hx hb dX4_tape_38 (by decide) (fun c12 => ?_) (fun c12 => ?_)
          · rw [if_pos c12] at h
            exact hJ44  w h H locs ls hR hF hL (lv_sub hl [0, 1, 2, 3] rfl)
          · rw [if_neg c12] at h
            refine lv_bipush (v := -14) hx hb dX4_tape_41 (by decide) ?_
            have h := Option.some.inj h
            subst h
            exact W.iret (v := (-14 : Int32)) hx hb hr (fun t ht _ => ⟨rfl, by rw [ht]; exact hR, hF⟩) hL dX4_tape_43
      · rw [if_neg c3] at h
        refine lv_iload_n hx hb dX4_tape_24 rfl (lv_at hl 3 rfl) ?_
        refine lv_bipush (v := 60) hx hb dX4_tape_25 (by decide) ?_
        refine lv_icmp_le (tgt := 33) hx hb dX4_tape_27 (by decide) (fun c13 => ?_) (fun c13 => ?_)
        · rw [if_pos c13] at h
          refine lv_iload_n hx hb dX4_tape_33 rfl (lv_at hl 2 rfl) ?_
          refine lv_if_lt (tgt := 44) hx hb dX4_tape_34 (by decide) (fun c14 => ?_) (fun c14 => ?_)
          · rw [if_pos c14] at h
            exact hJ44  w h H locs ls hR hF hL (lv_sub hl [0, 1, 2, 3] rfl)
          · rw [if_neg c14] at h
            refine lv_iload_n hx hb dX4_tape_37 rfl (lv_at hl 3 rfl) ?_
            refine lv_if_ge (tgt := 44) hx hb dX4_tape_38 (by decide) (fun c15 => ?_) (fun c15 => ?_)
            · rw [if_pos c15] at h
              exact hJ44  w h H locs ls hR hF hL (lv_sub hl [0, 1, 2, 3] rfl)
            · rw [if_neg c15] at h
              refine lv_bipush (v := -14) hx hb dX4_tape_41 (by decide) ?_
              have h := Option.some.inj h
              subst h
              exact W.iret (v := (-14 : Int32)) hx hb hr (fun t ht _ => ⟨rfl, by rw [ht]; exact hR, hF⟩) hL dX4_tape_43
        · rw [if_neg c13] at h
          refine lv_bipush (v := -2) hx hb dX4_tape_30 (by decide) ?_
          have h := Option.some.inj h
          subst h
          exact W.iret (v := (-2 : Int32)) hx hb hr (fun t ht _ => ⟨rfl, by rw [ht]; exact hR, hF⟩) hL dX4_tape_32
  · rw [if_neg (bI_n c1)] at h
    refine lv_iconst (v := -1) hx hb dX4_tape_8 (by decide) ?_
    have h := Option.some.inj h
    subst h
    exact W.iret (v := (-1 : Int32)) hx hb hr (fun t ht _ => ⟨rfl, by rw [ht]; exact hR, hF⟩) hL dX4_tape_9
def f_X4_narrow (a1 : Int32) (a2 : Int64) (w : Wd) : Int64 :=
  if a1 = 0 then a2.toInt32.toInt8.toInt32.toInt64 else (if a1 = (1 : Int32) then a2.toInt32.toInt16.toInt32.toInt64 else (if a1 = (2 : Int32) then a2.toInt32.toInt64 else (if a1 = (4 : Int32) then (if (lg_cmp a2 (0 : Int64)) = 0 then ((0 : Int64)) else ((1 : Int64))) else a2)))
theorem hd_X4_narrow : yX4_narrow.cls = RX4 ∧ yX4_narrow.cls ≠ "java/lang/invoke/MethodHandle" ∧ yX4_narrow.cls ≠ "java/lang/invoke/VarHandle" ∧ (parseMethodDescriptor yX4_narrow.desc).map (fun d => d.parameters.length) = some 2 := by decide +kernel
set_option maxHeartbeats 4000000 in
set_option maxRecDepth 100000 in
theorem met_X4_narrow (l : Launch) (G : Gw) (z : Nat) (H0 : Heap)  (w : Wd) (a1 : Int32) (a2 : Int64) (q : Int64) (h : f_X4_narrow a1 a2 w = q) : Met l yX4_narrow (ws_ yX4_narrow cX4_narrow 4 (some .long)) ({ frames := 0, cells := 0, slots := 0, locals := 0 } : Room) (pcW G z H0 w [.ref (z + 58), .int a1, .long a2]) (qP (some (.long q))) 0 0 (fun q => z ≤ q) := by
  refine mW (by decide) (Nat.le_of_ble_eq_true rfl) ?_
  intro p e s m below meth c ls hx hb hr hml hown hts hlocks hnm hK hR hF hl
  have hown : s.vm.findClass RX4 = some m.cls := hown
  have hl : lv_has ls 4 [(0, .ref (z + 58)), (1, .int a1), (2, .long a2)] := hl
  have hL : lok z [] := lok_nil
  unfold f_X4_narrow at h
  generalize ([] : List Loc) = locs at hL ⊢
  refine lv_iload_n hx hb dX4_narrow_0 rfl (lv_at hl 1 rfl) ?_
  refine lv_if_ne (tgt := 11) hx hb dX4_narrow_1 (by decide) (fun c1 => ?_) (fun c1 => ?_)
  · rw [if_neg c1] at h
    refine lv_iload_n hx hb dX4_narrow_11 rfl (lv_at hl 1 rfl) ?_
    refine lv_iconst (v := 1) hx hb dX4_narrow_12 (by decide) ?_
    refine lv_icmp_ne (tgt := 23) hx hb dX4_narrow_13 (by decide) (fun c2 => ?_) (fun c2 => ?_)
    · rw [if_neg c2] at h
      refine lv_iload_n hx hb dX4_narrow_23 rfl (lv_at hl 1 rfl) ?_
      refine lv_iconst (v := 2) hx hb dX4_narrow_24 (by decide) ?_
      refine lv_icmp_ne (tgt := 34) hx hb dX4_narrow_25 (by decide) (fun c3 => ?_) (fun c3 => ?_)
      · rw [if_neg c3] at h
        refine lv_iload_n hx hb dX4_narrow_34 rfl (lv_at hl 1 rfl) ?_
        refine lv_iconst (v := 4) hx hb dX4_narrow_35 (by decide) ?_
        refine lv_icmp_ne (tgt := 53) hx hb dX4_narrow_36 (by decide) (fun c4 => ?_) (fun c4 => ?_)
        · rw [if_neg c4] at h
          refine lv_lload_n hx hb dX4_narrow_53 rfl (lv_at hl 2 rfl) ?_
          subst h
          exact W.lret (v := a2) hx hb hr (fun t ht _ => ⟨rfl, ht⟩) hL dX4_narrow_54
        · rw [if_pos c4] at h
          refine lv_lload_n hx hb dX4_narrow_39 rfl (lv_at hl 2 rfl) ?_
          refine lv_lconst (v := 0) hx hb dX4_narrow_40 (by decide) ?_
          refine W.lcmp hx hb dX4_narrow_41 ?_
          refine lv_if_eq (tgt := 49) hx hb dX4_narrow_42 (by decide) (fun c5 => ?_) (fun c5 => ?_)
          · rw [if_pos c5] at h
            refine lv_lconst (v := 0) hx hb dX4_narrow_49 (by decide) ?_
            refine lv_goto (tgt := 54) hx hb dX4_narrow_50 (by decide) ?_
            subst h
            exact W.lret (v := (0 : Int64)) hx hb hr (fun t ht _ => ⟨rfl, ht⟩) hL dX4_narrow_54
          · rw [if_neg c5] at h
            refine lv_lconst (v := 1) hx hb dX4_narrow_45 (by decide) ?_
            refine lv_goto (tgt := 54) hx hb dX4_narrow_46 (by decide) ?_
            subst h
            exact W.lret (v := (1 : Int64)) hx hb hr (fun t ht _ => ⟨rfl, ht⟩) hL dX4_narrow_54
      · rw [if_pos c3] at h
        refine lv_lload_n hx hb dX4_narrow_28 rfl (lv_at hl 2 rfl) ?_
        refine lv_l2i (v := a2.toInt32) hx hb dX4_narrow_29 rfl ?_
        refine lv_i2l (v := a2.toInt32.toInt64) hx hb dX4_narrow_30 rfl ?_
        refine lv_goto (tgt := 54) hx hb dX4_narrow_31 (by decide) ?_
        subst h
        exact W.lret (v := a2.toInt32.toInt64) hx hb hr (fun t ht _ => ⟨rfl, ht⟩) hL dX4_narrow_54
    · rw [if_pos c2] at h
      refine lv_lload_n hx hb dX4_narrow_16 rfl (lv_at hl 2 rfl) ?_
      refine lv_l2i (v := a2.toInt32) hx hb dX4_narrow_17 rfl ?_
      refine lv_i2s (v := a2.toInt32.toInt16.toInt32) hx hb dX4_narrow_18 rfl ?_
      refine lv_i2l (v := a2.toInt32.toInt16.toInt32.toInt64) hx hb dX4_narrow_19 rfl ?_
      refine lv_goto (tgt := 54) hx hb dX4_narrow_20 (by decide) ?_
      subst h
      exact W.lret (v := a2.toInt32.toInt16.toInt32.toInt64) hx hb hr (fun t ht _ => ⟨rfl, ht⟩) hL dX4_narrow_54
  · rw [if_pos c1] at h
    refine lv_lload_n hx hb dX4_narrow_4 rfl (lv_at hl 2 rfl) ?_
    refine lv_l2i (v := a2.toInt32) hx hb dX4_narrow_5 rfl ?_
    refine lv_i2b (v := a2.toInt32.toInt8.toInt32) hx hb dX4_narrow_6 rfl ?_
    refine lv_i2l (v := a2.toInt32.toInt8.toInt32.toInt64) hx hb dX4_narrow_7 rfl ?_
    refine lv_goto (tgt := 54) hx hb dX4_narrow_8 (by decide) ?_
    subst h
    exact W.lret (v := a2.toInt32.toInt8.toInt32.toInt64) hx hb hr (fun t ht _ => ⟨rfl, ht⟩) hL dX4_narrow_54
def f_X4_item (a1 : Int32) (a2 : Int32) (a3 : Int64) (w : Wd) : Option (Int32 × Wd) :=
  if (f_X4_isTape a1 w) then (if inb a1 6 then (if 0 ≤ (wI w 104 a1.toNatClampNeg) then (if inb a1 6 then (if (f_X4_in a2 (0 : Int32) ((wI w 105 a1.toNatClampNeg) - (1 : Int32)) w) then (if inb a1 6 then (if inb (((60 : Int32) * a1) + a2) 360 then (some ((1 : Int32), sL w 106 ((((60 : Int32) * a1) + a2).toNatClampNeg) (f_X4_narrow (wI w 104 a1.toNatClampNeg) a3 w))) else none) else none) else (some ((-13 : Int32), w))) else none) else (some ((-11 : Int32), w))) else none) else (some ((-1 : Int32), w))
theorem hd_X4_item : yX4_item.cls = RX4 ∧ yX4_item.cls ≠ "java/lang/invoke/MethodHandle" ∧ yX4_item.cls ≠ "java/lang/invoke/VarHandle" ∧ (parseMethodDescriptor yX4_item.desc).map (fun d => d.parameters.length) = some 3 := by decide +kernel
set_option maxHeartbeats 4000000 in
set_option maxRecDepth 100000 in
theorem met_X4_item (l : Launch) (G : Gw) (z : Nat) (H0 : Heap)  (w : Wd) (a1 : Int32) (a2 : Int32) (a3 : Int64) (q : Int32 × Wd) (h : f_X4_item a1 a2 a3 w = some q) : Met l yX4_item (ws_ yX4_item cX4_item 5 (some .int)) ({ frames := 2, cells := 0, slots := 0, locals := 44 } : Room) (pcW G z H0 w [.ref (z + 58), .int a1, .int a2, .long a3]) (qW G z H0 q.2 (some (.int q.1))) 0 0 (fun q => z ≤ q) := by
  refine mW (by decide) (Nat.le_of_ble_eq_true rfl) ?_
  intro p e s m below meth c ls hx hb hr hml hown hts hlocks hnm hK hR hF hl
  have hown : s.vm.findClass RX4 = some m.cls := hown
  have hl : lv_has ls 5 [(0, .ref (z + 58)), (1, .int a1), (2, .int a2), (3, .long a3)] := hl
  have hL : lok z [] := lok_nil
  unfold f_X4_item at h
  generalize s.heap = H at hR ⊢
  generalize ([] : List Loc) = locs at hL ⊢
  refine lv_aload_n hx hb dX4_item_0 rfl (lv_at hl 0 rfl) ?_
  refine lv_iload_n hx hb dX4_item_1 rfl (lv_at hl 1 rfl) ?_
  refine c_VP (a := 58) (ci := 4) (q := (RX4, TX4, 80)) (rest := []) (st1 := [.int (bI (f_X4_isTape a1 w))]) hx hb hml hown hts hK hR hF hL hl.1 (met_X4_isTape l G z H0 w a1 _ rfl) (congrArg Prod.fst (hF.2.1 58 (5, 0) rfl)) rfl rfl rfl hd_X4_isTape q2265 q2267 qs97 q104 q2268 ⟨Nat.le_of_ble_eq_true rfl, Nat.le_of_ble_eq_true rfl⟩ ⟨Nat.le_refl 0, Nat.le_refl 0⟩ rfl rfl (Nat.le_of_ble_eq_true rfl) dX4_item_2 rfl (fun locs hL => ?_)
  refine lv_if_ne (tgt := 10) hx hb dX4_item_5 (by decide) (fun c1 => ?_) (fun c1 => ?_)
  · rw [if_pos (bI_p c1)] at h
    refine lv_aload_n hx hb dX4_item_10 rfl (lv_at hl 0 rfl) ?_
    refine r_get (C := RX4) (T := TX4) (N := 80) hx hb hts ok4 hown hK hR (congrArg Prod.fst (hF.2.1 58 (5, 0) rfl)) rfl 76 (by decide) (hts _ q1709) (fun _ h9 => h9) (v := .ref (z + 104)) (fv_fix hF rfl rfl) dX4_item_11 ?_
    refine lv_iload_n hx hb dX4_item_14 rfl (lv_at hl 1 rfl) ?_
    obtain ⟨hb2, h⟩ := grd h
    refine r_iald (v := wI w 104 a1.toNatClampNeg) hx hb hK hR (hF.2.1 104 (200, 6) rfl) hb2 rfl dX4_item_15 ?_
    refine lv_if_ge (tgt := 22) hx hb dX4_item_16 (by decide) (fun c3 => ?_) (fun c3 => ?_)
    · rw [if_pos c3] at h
      refine lv_aload_n hx hb dX4_item_22 rfl (lv_at hl 0 rfl) ?_
      refine lv_iload_n hx hb dX4_item_23 rfl (lv_at hl 2 rfl) ?_
      refine lv_iconst (v := 0) hx hb dX4_item_24 (by decide) ?_
      refine lv_aload_n hx hb dX4_item_25 rfl (lv_at hl 0 rfl) ?_
      refine r_get (C := RX4) (T := TX4) (N := 80) hx hb hts ok4 hown hK hR (congrArg Prod.fst (hF.2.1 58 (5, 0) rfl)) rfl 77 (by decide) (hts _ q1710) (fun _ h9 => h9) (v := .ref (z + 105)) (fv_fix hF rfl rfl) dX4_item_26 ?_
      refine lv_iload_n hx hb dX4_item_29 rfl (lv_at hl 1 rfl) ?_
      obtain ⟨hb4, h⟩ := grd h
      refine r_iald (v := wI w 105 a1.toNatClampNeg) hx hb hK hR (hF.2.1 105 (200, 6) rfl) hb4 rfl dX4_item_30 ?_
      refine lv_iconst (v := 1) hx hb dX4_item_31 (by decide) ?_
      refine lv_isub hx hb dX4_item_32 ?_
      refine c_VP (a := 58) (ci := 4) (q := (RX4, TX4, 80)) (rest := []) (st1 := [.int (bI (f_X4_in a2 (0 : Int32) ((wI w 105 a1.toNatClampNeg) - (1 : Int32)) w))]) hx hb hml hown hts hK hR hF hL hl.1 (met_X4_in l G z H0 w a2 (0 : Int32) ((wI w 105 a1.toNatClampNeg) - (1 : Int32)) _ rfl) (congrArg Prod.fst (hF.2.1 58 (5, 0) rfl)) rfl rfl rfl hd_X4_in q1878 q1880 qs41 q104 q1881 ⟨Nat.le_of_ble_eq_true rfl, Nat.le_of_ble_eq_true rfl⟩ ⟨Nat.le_refl 0, Nat.le_refl 0⟩ rfl rfl (Nat.le_of_ble_eq_true rfl) dX4_item_33 rfl (fun locs hL => ?_)
      refine lv_if_ne (tgt := 42) hx hb dX4_item_36 (by decide) (fun c5 => ?_) (fun c5 => ?_)
      · rw [if_pos (bI_p c5)] at h
        refine lv_aload_n hx hb dX4_item_42 rfl (lv_at hl 0 rfl) ?_
        refine r_get (C := RX4) (T := TX4) (N := 80) hx hb hts ok4 hown hK hR (congrArg Prod.fst (hF.2.1 58 (5, 0) rfl)) rfl 78 (by decide) (hts _ q1711) (fun _ h9 => h9) (v := .ref (z + 106)) (fv_fix hF rfl rfl) dX4_item_43 ?_
        refine lv_bipush (v := 60) hx hb dX4_item_46 (by decide) ?_
        refine lv_iload_n hx hb dX4_item_48 rfl (lv_at hl 1 rfl) ?_
        refine lv_imul hx hb dX4_item_49 ?_
        refine lv_iload_n hx hb dX4_item_50 rfl (lv_at hl 2 rfl) ?_
        refine lv_iadd hx hb dX4_item_51 ?_
        refine lv_aload_n hx hb dX4_item_52 rfl (lv_at hl 0 rfl) ?_
        refine lv_aload_n hx hb dX4_item_53 rfl (lv_at hl 0 rfl) ?_
        refine r_get (C := RX4) (T := TX4) (N := 80) hx hb hts ok4 hown hK hR (congrArg Prod.fst (hF.2.1 58 (5, 0) rfl)) rfl 76 (by decide) (hts _ q1709) (fun _ h9 => h9) (v := .ref (z + 104)) (fv_fix hF rfl rfl) dX4_item_54 ?_
        refine lv_iload_n hx hb dX4_item_57 rfl (lv_at hl 1 rfl) ?_
        obtain ⟨hb6, h⟩ := grd h
        refine r_iald (v := wI w 104 a1.toNatClampNeg) hx hb hK hR (hF.2.1 104 (200, 6) rfl) hb6 rfl dX4_item_58 ?_
        refine lv_lload_n hx hb dX4_item_59 rfl (lv_at hl 3 rfl) ?_
        refine c_VP (a := 58) (ci := 4) (q := (RX4, TX4, 80)) (rest := [.int (((60 : Int32) * a1) + a2), .ref (z + 106)]) (st1 := [.long (f_X4_narrow (wI w 104 a1.toNatClampNeg) a3 w), .int (((60 : Int32) * a1) + a2), .ref (z + 106)]) hx hb hml hown hts hK hR hF hL hl.1 (met_X4_narrow l G z H0 w (wI w 104 a1.toNatClampNeg) a3 _ rfl) (congrArg Prod.fst (hF.2.1 58 (5, 0) rfl)) rfl rfl rfl hd_X4_narrow q2285 q2287 qs98 q104 q2288 ⟨Nat.le_of_ble_eq_true rfl, Nat.le_of_ble_eq_true rfl⟩ ⟨Nat.le_refl 0, Nat.le_refl 0⟩ rfl rfl (Nat.le_of_ble_eq_true rfl) dX4_item_60 rfl (fun locs hL => ?_)
        obtain ⟨hb7, h⟩ := grd h
        refine r_last hx hb hK hR hL (hF.2.1 106 (204, 360) rfl) hb7 dX4_item_63 (fun H locs hR hL => ?_)
        have hF := hF.sL 106 ((((60 : Int32) * a1) + a2).toNatClampNeg) (f_X4_narrow (wI w 104 a1.toNatClampNeg) a3 w)
        refine lv_iconst (v := 1) hx hb dX4_item_64 (by decide) ?_
        have h := Option.some.inj h
        subst h
        exact W.iret (v := (1 : Int32)) hx hb hr (fun t ht _ => ⟨rfl, by rw [ht]; exact hR, hF⟩) hL dX4_item_65
      · rw [if_neg (bI_n c5)] at h
        refine lv_bipush (v := -13) hx hb dX4_item_39 (by decide) ?_
        have h := Option.some.inj h
        subst h
        exact W.iret (v := (-13 : Int32)) hx hb hr (fun t ht _ => ⟨rfl, by rw [ht]; exact hR, hF⟩) hL dX4_item_41
    · rw [if_neg c3] at h
      refine lv_bipush (v := -11) hx hb dX4_item_19 (by decide) ?_
      have h := Option.some.inj h
      subst h
      exact W.iret (v := (-11 : Int32)) hx hb hr (fun t ht _ => ⟨rfl, by rw [ht]; exact hR, hF⟩) hL dX4_item_21
  · rw [if_neg (bI_n c1)] at h
    refine lv_iconst (v := -1) hx hb dX4_item_8 (by decide) ?_
    have h := Option.some.inj h
    subst h
    exact W.iret (v := (-1 : Int32)) hx hb hr (fun t ht _ => ⟨rfl, by rw [ht]; exact hR, hF⟩) hL dX4_item_9
def f_X4_read (a1 : Int32) (a2 : Int32) (w : Wd) : Option (Int64) :=
  if (f_X4_isTape a1 w) then (if inb a1 6 then (if (wI w 104 a1.toNatClampNeg) < 0 then (some (-9223372036854775808 : Int64)) else (if inb a1 6 then (if (f_X4_in a2 (0 : Int32) ((wI w 105 a1.toNatClampNeg) - (1 : Int32)) w) then (if inb (((60 : Int32) * a1) + a2) 360 then (some (wL w 106 ((((60 : Int32) * a1) + a2).toNatClampNeg))) else none) else (some (-9223372036854775808 : Int64))) else none)) else none) else (some (-9223372036854775808 : Int64))
theorem hd_X4_read : yX4_read.cls = RX4 ∧ yX4_read.cls ≠ "java/lang/invoke/MethodHandle" ∧ yX4_read.cls ≠ "java/lang/invoke/VarHandle" ∧ (parseMethodDescriptor yX4_read.desc).map (fun d => d.parameters.length) = some 2 := by decide +kernel
set_option maxHeartbeats 4000000 in
set_option maxRecDepth 100000 in
theorem met_X4_read (l : Launch) (G : Gw) (z : Nat) (H0 : Heap)  (w : Wd) (a1 : Int32) (a2 : Int32) (q : Int64) (h : f_X4_read a1 a2 w = some q) : Met l yX4_read (ws_ yX4_read cX4_read 3 (some .long)) ({ frames := 2, cells := 0, slots := 0, locals := 44 } : Room) (pcW G z H0 w [.ref (z + 58), .int a1, .int a2]) (qP (some (.long q))) 0 0 (fun q => z ≤ q) := by
  refine mW (by decide) (Nat.le_of_ble_eq_true rfl) ?_
  intro p e s m below meth c ls hx hb hr hml hown hts hlocks hnm hK hR hF hl
  have hown : s.vm.findClass RX4 = some m.cls := hown
  have hl : lv_has ls 3 [(0, .ref (z + 58)), (1, .int a1), (2, .int a2)] := hl
  have hL : lok z [] := lok_nil
  unfold f_X4_read at h
  generalize ([] : List Loc) = locs at hL ⊢
  refine lv_aload_n hx hb dX4_read_0 rfl (lv_at hl 0 rfl) ?_
  refine lv_iload_n hx hb dX4_read_1 rfl (lv_at hl 1 rfl) ?_
  refine c_VP (a := 58) (ci := 4) (q := (RX4, TX4, 80)) (rest := []) (st1 := [.int (bI (f_X4_isTape a1 w))]) hx hb hml hown hts hK hR hF hL hl.1 (met_X4_isTape l G z H0 w a1 _ rfl) (congrArg Prod.fst (hF.2.1 58 (5, 0) rfl)) rfl rfl rfl hd_X4_isTape q2265 q2267 qs97 q104 q2268 ⟨Nat.le_of_ble_eq_true rfl, Nat.le_of_ble_eq_true rfl⟩ ⟨Nat.le_refl 0, Nat.le_refl 0⟩ rfl rfl (Nat.le_of_ble_eq_true rfl) dX4_read_2 rfl (fun locs hL => ?_)
  refine lv_if_eq (tgt := 34) hx hb dX4_read_5 (by decide) (fun c1 => ?_) (fun c1 => ?_)
  · rw [if_neg (bI_n c1)] at h
    refine lv_ldc2 (v := -9223372036854775808) hx hb hown (hts _ q2269) dX4_read_34 ?_
    refine lv_goto (tgt := 51) hx hb dX4_read_37 (by decide) ?_
    have h := Option.some.inj h
    subst h
    exact W.lret (v := (-9223372036854775808 : Int64)) hx hb hr (fun t ht _ => ⟨rfl, ht⟩) hL dX4_read_51
  · rw [if_pos (bI_p c1)] at h
    refine lv_aload_n hx hb dX4_read_8 rfl (lv_at hl 0 rfl) ?_
    refine r_get (C := RX4) (T := TX4) (N := 80) hx hb hts ok4 hown hK hR (congrArg Prod.fst (hF.2.1 58 (5, 0) rfl)) rfl 76 (by decide) (hts _ q1709) (fun _ h9 => h9) (v := .ref (z + 104)) (fv_fix hF rfl rfl) dX4_read_9 ?_
    refine lv_iload_n hx hb dX4_read_12 rfl (lv_at hl 1 rfl) ?_
    obtain ⟨hb2, h⟩ := grd h
    refine r_iald (v := wI w 104 a1.toNatClampNeg) hx hb hK hR (hF.2.1 104 (200, 6) rfl) hb2 rfl dX4_read_13 ?_
    refine lv_if_lt (tgt := 34) hx hb dX4_read_14 (by decide) (fun c3 => ?_) (fun c3 => ?_)
    · rw [if_pos c3] at h
      refine lv_ldc2 (v := -9223372036854775808) hx hb hown (hts _ q2269) dX4_read_34 ?_
      refine lv_goto (tgt := 51) hx hb dX4_read_37 (by decide) ?_
      have h := Option.some.inj h
      subst h
      exact W.lret (v := (-9223372036854775808 : Int64)) hx hb hr (fun t ht _ => ⟨rfl, ht⟩) hL dX4_read_51
    · rw [if_neg c3] at h
      refine lv_aload_n hx hb dX4_read_17 rfl (lv_at hl 0 rfl) ?_
      refine lv_iload_n hx hb dX4_read_18 rfl (lv_at hl 2 rfl) ?_
      refine lv_iconst (v := 0) hx hb dX4_read_19 (by decide) ?_
      refine lv_aload_n hx hb dX4_read_20 rfl (lv_at hl 0 rfl) ?_
      refine r_get (C := RX4) (T := TX4) (N := 80) hx hb hts ok4 hown hK hR (congrArg Prod.fst (hF.2.1 58 (5, 0) rfl)) rfl 77 (by decide) (hts _ q1710) (fun _ h9 => h9) (v := .ref (z + 105)) (fv_fix hF rfl rfl) dX4_read_21 ?_
      refine lv_iload_n hx hb dX4_read_24 rfl (lv_at hl 1 rfl) ?_
      obtain ⟨hb4, h⟩ := grd h
      refine r_iald (v := wI w 105 a1.toNatClampNeg) hx hb hK hR (hF.2.1 105 (200, 6) rfl) hb4 rfl dX4_read_25 ?_
      refine lv_iconst (v := 1) hx hb dX4_read_26 (by decide) ?_
      refine lv_isub hx hb dX4_read_27 ?_
      refine c_VP (a := 58) (ci := 4) (q := (RX4, TX4, 80)) (rest := []) (st1 := [.int (bI (f_X4_in a2 (0 : Int32) ((wI w 105 a1.toNatClampNeg) - (1 : Int32)) w))]) hx hb hml hown hts hK hR hF hL hl.1 (met_X4_in l G z H0 w a2 (0 : Int32) ((wI w 105 a1.toNatClampNeg) - (1 : Int32)) _ rfl) (congrArg Prod.fst (hF.2.1 58 (5, 0) rfl)) rfl rfl rfl hd_X4_in q1878 q1880 qs41 q104 q1881 ⟨Nat.le_of_ble_eq_true rfl, Nat.le_of_ble_eq_true rfl⟩ ⟨Nat.le_refl 0, Nat.le_refl 0⟩ rfl rfl (Nat.le_of_ble_eq_true rfl) dX4_read_28 rfl (fun locs hL => ?_)
      refine lv_if_ne (tgt := 40) hx hb dX4_read_31 (by decide) (fun c5 => ?_) (fun c5 => ?_)
      · rw [if_pos (bI_p c5)] at h
        refine lv_aload_n hx hb dX4_read_40 rfl (lv_at hl 0 rfl) ?_
        refine r_get (C := RX4) (T := TX4) (N := 80) hx hb hts ok4 hown hK hR (congrArg Prod.fst (hF.2.1 58 (5, 0) rfl)) rfl 78 (by decide) (hts _ q1711) (fun _ h9 => h9) (v := .ref (z + 106)) (fv_fix hF rfl rfl) dX4_read_41 ?_
        refine lv_bipush (v := 60) hx hb dX4_read_44 (by decide) ?_
        refine lv_iload_n hx hb dX4_read_46 rfl (lv_at hl 1 rfl) ?_
        refine lv_imul hx hb dX4_read_47 ?_
        refine lv_iload_n hx hb dX4_read_48 rfl (lv_at hl 2 rfl) ?_
        refine lv_iadd hx hb dX4_read_49 ?_
        obtain ⟨hb6, h⟩ := grd h
        refine r_lald (v := wL w 106 ((((60 : Int32) * a1) + a2).toNatClampNeg)) hx hb hK hR (hF.2.1 106 (204, 360) rfl) hb6 rfl dX4_read_50 ?_
        have h := Option.some.inj h
        subst h
        exact W.lret (v := wL w 106 ((((60 : Int32) * a1) + a2).toNatClampNeg)) hx hb hr (fun t ht _ => ⟨rfl, ht⟩) hL dX4_read_51
      · rw [if_neg (bI_n c5)] at h
        refine lv_ldc2 (v := -9223372036854775808) hx hb hown (hts _ q2269) dX4_read_34 ?_
        refine lv_goto (tgt := 51) hx hb dX4_read_37 (by decide) ?_
        have h := Option.some.inj h
        subst h
        exact W.lret (v := (-9223372036854775808 : Int64)) hx hb hr (fun t ht _ => ⟨rfl, ht⟩) hL dX4_read_51
def f_X4_shift_L141 (n : Nat) (u1_3 : Int32) (u1_4 : Int32) (u1_5 : Int32) (s1 : Int32 × Wd) : Option ((Int32 × Wd) ⊕ ((Int32 × Wd))) :=
  if u1_5 ≤ s1.1 then (some (.inr (s1.1, s1.2))) else (if inb s1.1 60 then (if inb ((((60 : Int32) * u1_3) + u1_4) + s1.1) 360 then (some (.inl (s1.1 + (1 : Int32), sL s1.2 106 (((((60 : Int32) * u1_3) + u1_4) + s1.1).toNatClampNeg) (wL s1.2 107 s1.1.toNatClampNeg)))) else none) else none)
def f_X4_shift_L104 (n : Nat) (u1_1 : Int32) (u1_2 : Int32) (u1_3 : Int32) (u1_4 : Int32) (u1_5 : Int32) (s1 : Int32 × Wd) : Option ((Int32 × Wd) ⊕ ((Int32 × Wd))) :=
  if u1_5 ≤ s1.1 then (some (.inr (s1.1, s1.2))) else (if inb ((((60 : Int32) * u1_1) + u1_2) + s1.1) 360 then (if inb s1.1 60 then (some (.inl (s1.1 + (1 : Int32), sL s1.2 107 s1.1.toNatClampNeg (wL s1.2 106 (((((60 : Int32) * u1_1) + u1_2) + s1.1).toNatClampNeg))))) else none) else none)
def f_X4_shift (n : Nat) (a1 : Int32) (a2 : Int32) (a3 : Int32) (a4 : Int32) (a5 : Int32) (w : Wd) : Option (Int32 × Wd) :=
  if (f_X4_isTape a1 w) then (if (f_X4_isTape a3 w) then (if inb a1 6 then (if (wI w 104 a1.toNatClampNeg) < 0 then (some ((-11 : Int32), w)) else (if inb a3 6 then (if 0 ≤ (wI w 104 a3.toNatClampNeg) then (if inb a1 6 then (if inb a3 6 then (if (wI w 104 a1.toNatClampNeg) = (wI w 104 a3.toNatClampNeg) then (if a5 < 0 then (some ((-13 : Int32), w)) else (if a2 < 0 then (some ((-13 : Int32), w)) else (if a4 < 0 then (some ((-13 : Int32), w)) else (if inb a1 6 then (if ((wI w 105 a1.toNatClampNeg) - a5) < a2 then (some ((-13 : Int32), w)) else (if inb a3 6 then (if a4 ≤ ((wI w 105 a3.toNatClampNeg) - a5) then ((it n (f_X4_shift_L104 n a1 a2 a3 a4 a5) ((0 : Int32), w)).bind fun q104_138 => (it n (f_X4_shift_L141 n a3 a4 a5) ((0 : Int32), q104_138.2)).bind fun q141_176 => some (a5, q141_176.2)) else (some ((-13 : Int32), w))) else none)) else none)))) else (some ((-12 : Int32), w))) else none) else none) else (some ((-11 : Int32), w))) else none)) else none) else (some ((-1 : Int32), w))) else (some ((-1 : Int32), w))
theorem hd_X4_shift : yX4_shift.cls = RX4 ∧ yX4_shift.cls ≠ "java/lang/invoke/MethodHandle" ∧ yX4_shift.cls ≠ "java/lang/invoke/VarHandle" ∧ (parseMethodDescriptor yX4_shift.desc).map (fun d => d.parameters.length) = some 5 := by decide +kernel
set_option maxHeartbeats 4000000 in
set_option maxRecDepth 100000 in
theorem met_X4_shift (l : Launch) (G : Gw) (z : Nat) (H0 : Heap) (n : Nat) (w : Wd) (a1 : Int32) (a2 : Int32) (a3 : Int32) (a4 : Int32) (a5 : Int32) (q : Int32 × Wd) (h : f_X4_shift n a1 a2 a3 a4 a5 w = some q) : Met l yX4_shift (ws_ yX4_shift cX4_shift 7 (some .int)) ({ frames := 2, cells := 0, slots := 0, locals := 44 } : Room) (pcW G z H0 w [.ref (z + 58), .int a1, .int a2, .int a3, .int a4, .int a5]) (qW G z H0 q.2 (some (.int q.1))) 0 0 (fun q => z ≤ q) := by
  refine mW (by decide) (Nat.le_of_ble_eq_true rfl) ?_
  intro p e s m below meth c ls hx hb hr hml hown hts hlocks hnm hK hR hF hl
  have hown : s.vm.findClass RX4 = some m.cls := hown
  have hl : lv_has ls 7 [(0, .ref (z + 58)), (1, .int a1), (2, .int a2), (3, .int a3), (4, .int a4), (5, .int a5)] := hl
  have hL : lok z [] := lok_nil
  unfold f_X4_shift at h
  generalize s.heap = H at hR ⊢
  generalize ([] : List Loc) = locs at hL ⊢
  refine lv_aload_n hx hb dX4_shift_0 rfl (lv_at hl 0 rfl) ?_
  refine lv_iload_n hx hb dX4_shift_1 rfl (lv_at hl 1 rfl) ?_
  refine c_VP (a := 58) (ci := 4) (q := (RX4, TX4, 80)) (rest := []) (st1 := [.int (bI (f_X4_isTape a1 w))]) hx hb hml hown hts hK hR hF hL hl.1 (met_X4_isTape l G z H0 w a1 _ rfl) (congrArg Prod.fst (hF.2.1 58 (5, 0) rfl)) rfl rfl rfl hd_X4_isTape q2265 q2267 qs97 q104 q2268 ⟨Nat.le_of_ble_eq_true rfl, Nat.le_of_ble_eq_true rfl⟩ ⟨Nat.le_refl 0, Nat.le_refl 0⟩ rfl rfl (Nat.le_of_ble_eq_true rfl) dX4_shift_2 rfl (fun locs hL => ?_)
  refine lv_if_eq (tgt := 16) hx hb dX4_shift_5 (by decide) (fun c1 => ?_) (fun c1 => ?_)
  · rw [if_neg (bI_n c1)] at h
    refine lv_iconst (v := -1) hx hb dX4_shift_16 (by decide) ?_
    have h := Option.some.inj h
    subst h
    exact W.iret (v := (-1 : Int32)) hx hb hr (fun t ht _ => ⟨rfl, by rw [ht]; exact hR, hF⟩) hL dX4_shift_17
  · rw [if_pos (bI_p c1)] at h
    refine lv_aload_n hx hb dX4_shift_8 rfl (lv_at hl 0 rfl) ?_
    refine lv_iload_n hx hb dX4_shift_9 rfl (lv_at hl 3 rfl) ?_
    refine c_VP (a := 58) (ci := 4) (q := (RX4, TX4, 80)) (rest := []) (st1 := [.int (bI (f_X4_isTape a3 w))]) hx hb hml hown hts hK hR hF hL hl.1 (met_X4_isTape l G z H0 w a3 _ rfl) (congrArg Prod.fst (hF.2.1 58 (5, 0) rfl)) rfl rfl rfl hd_X4_isTape q2265 q2267 qs97 q104 q2268 ⟨Nat.le_of_ble_eq_true rfl, Nat.le_of_ble_eq_true rfl⟩ ⟨Nat.le_refl 0, Nat.le_refl 0⟩ rfl rfl (Nat.le_of_ble_eq_true rfl) dX4_shift_10 rfl (fun locs hL => ?_)
    refine lv_if_ne (tgt := 18) hx hb dX4_shift_13 (by decide) (fun c2 => ?_) (fun c2 => ?_)
    · rw [if_pos (bI_p c2)] at h
      refine lv_aload_n hx hb dX4_shift_18 rfl (lv_at hl 0 rfl) ?_
      refine r_get (C := RX4) (T := TX4) (N := 80) hx hb hts ok4 hown hK hR (congrArg Prod.fst (hF.2.1 58 (5, 0) rfl)) rfl 76 (by decide) (hts _ q1709) (fun _ h9 => h9) (v := .ref (z + 104)) (fv_fix hF rfl rfl) dX4_shift_19 ?_
      refine lv_iload_n hx hb dX4_shift_22 rfl (lv_at hl 1 rfl) ?_
      obtain ⟨hb3, h⟩ := grd h
      refine r_iald (v := wI w 104 a1.toNatClampNeg) hx hb hK hR (hF.2.1 104 (200, 6) rfl) hb3 rfl dX4_shift_23 ?_
      refine lv_if_lt (tgt := 36) hx hb dX4_shift_24 (by decide) (fun c4 => ?_) (fun c4 => ?_)
      · rw [if_pos c4] at h
        refine lv_bipush (v := -11) hx hb dX4_shift_36 (by decide) ?_
        have h := Option.some.inj h
        subst h
        exact W.iret (v := (-11 : Int32)) hx hb hr (fun t ht _ => ⟨rfl, by rw [ht]; exact hR, hF⟩) hL dX4_shift_38
      · rw [if_neg c4] at h
        refine lv_aload_n hx hb dX4_shift_27 rfl (lv_at hl 0 rfl) ?_
        refine r_get (C := RX4) (T := TX4) (N := 80) hx hb hts ok4 hown hK hR (congrArg Prod.fst (hF.2.1 58 (5, 0) rfl)) rfl 76 (by decide) (hts _ q1709) (fun _ h9 => h9) (v := .ref (z + 104)) (fv_fix hF rfl rfl) dX4_shift_28 ?_
        refine lv_iload_n hx hb dX4_shift_31 rfl (lv_at hl 3 rfl) ?_
        obtain ⟨hb5, h⟩ := grd h
        refine r_iald (v := wI w 104 a3.toNatClampNeg) hx hb hK hR (hF.2.1 104 (200, 6) rfl) hb5 rfl dX4_shift_32 ?_
        refine lv_if_ge (tgt := 39) hx hb dX4_shift_33 (by decide) (fun c6 => ?_) (fun c6 => ?_)
        · rw [if_pos c6] at h
          refine lv_aload_n hx hb dX4_shift_39 rfl (lv_at hl 0 rfl) ?_
          refine r_get (C := RX4) (T := TX4) (N := 80) hx hb hts ok4 hown hK hR (congrArg Prod.fst (hF.2.1 58 (5, 0) rfl)) rfl 76 (by decide) (hts _ q1709) (fun _ h9 => h9) (v := .ref (z + 104)) (fv_fix hF rfl rfl) dX4_shift_40 ?_
          refine lv_iload_n hx hb dX4_shift_43 rfl (lv_at hl 1 rfl) ?_
          obtain ⟨hb7, h⟩ := grd h
          refine r_iald (v := wI w 104 a1.toNatClampNeg) hx hb hK hR (hF.2.1 104 (200, 6) rfl) hb7 rfl dX4_shift_44 ?_
          refine lv_aload_n hx hb dX4_shift_45 rfl (lv_at hl 0 rfl) ?_
          refine r_get (C := RX4) (T := TX4) (N := 80) hx hb hts ok4 hown hK hR (congrArg Prod.fst (hF.2.1 58 (5, 0) rfl)) rfl 76 (by decide) (hts _ q1709) (fun _ h9 => h9) (v := .ref (z + 104)) (fv_fix hF rfl rfl) dX4_shift_46 ?_
          refine lv_iload_n hx hb dX4_shift_49 rfl (lv_at hl 3 rfl) ?_
          obtain ⟨hb8, h⟩ := grd h
          refine r_iald (v := wI w 104 a3.toNatClampNeg) hx hb hK hR (hF.2.1 104 (200, 6) rfl) hb8 rfl dX4_shift_50 ?_
          refine lv_icmp_eq (tgt := 57) hx hb dX4_shift_51 (by decide) (fun c9 => ?_) (fun c9 => ?_)
          · rw [if_pos c9] at h
            refine lv_iload hx hb dX4_shift_57 (lv_at hl 5 rfl) ?_
            refine lv_if_lt (tgt := 98) hx hb dX4_shift_59 (by decide) (fun c10 => ?_) (fun c10 => ?_)
            · rw [if_pos c10] at h
              refine lv_bipush (v := -13) hx hb dX4_shift_98 (by decide) ?_
              have h := Option.some.inj h
              subst h
              exact W.iret (v := (-13 : Int32)) hx hb hr (fun t ht _ => ⟨rfl, by rw [ht]; exact hR, hF⟩) hL dX4_shift_100
            · rw [if_neg c10] at h
              refine lv_iload_n hx hb dX4_shift_62 rfl (lv_at hl 2 rfl) ?_
              refine lv_if_lt (tgt := 98) hx hb dX4_shift_63 (by decide) (fun c11 => ?_) (fun c11 => ?_)
              · rw [if_pos c11] at h
                refine lv_bipush (v := -13) hx hb dX4_shift_98 (by decide) ?_
                have h := Option.some.inj h
                subst h
                exact W.iret (v := (-13 : Int32)) hx hb hr (fun t ht _ => ⟨rfl, by rw [ht]; exact hR, hF⟩) hL dX4_shift_100
              · rw [if_neg c11] at h
                refine lv_iload hx hb dX4_shift_66 (lv_at hl 4 rfl) ?_
                refine lv_if_lt (tgt := 98) hx hb dX4_shift_68 (by decide) (fun c12 => ?_) (fun c12 => ?_)
                · rw [if_pos c12] at h
                  refine lv_bipush (v := -13) hx hb dX4_shift_98 (by decide) ?_
                  have h := Option.some.inj h
                  subst h
                  exact W.iret (v := (-13 : Int32)) hx hb hr (fun t ht _ => ⟨rfl, by rw [ht]; exact hR, hF⟩) hL dX4_shift_100
                · rw [if_neg c12] at h
                  refine lv_iload_n hx hb dX4_shift_71 rfl (lv_at hl 2 rfl) ?_
                  refine lv_aload_n hx hb dX4_shift_72 rfl (lv_at hl 0 rfl) ?_
                  refine r_get (C := RX4) (T := TX4) (N := 80) hx hb hts ok4 hown hK hR (congrArg Prod.fst (hF.2.1 58 (5, 0) rfl)) rfl 77 (by decide) (hts _ q1710) (fun _ h9 => h9) (v := .ref (z + 105)) (fv_fix hF rfl rfl) dX4_shift_73 ?_
                  refine lv_iload_n hx hb dX4_shift_76 rfl (lv_at hl 1 rfl) ?_
                  obtain ⟨hb13, h⟩ := grd h
                  refine r_iald (v := wI w 105 a1.toNatClampNeg) hx hb hK hR (hF.2.1 105 (200, 6) rfl) hb13 rfl dX4_shift_77 ?_
                  refine lv_iload hx hb dX4_shift_78 (lv_at hl 5 rfl) ?_
                  refine lv_isub hx hb dX4_shift_80 ?_
                  refine lv_icmp_gt (tgt := 98) hx hb dX4_shift_81 (by decide) (fun c14 => ?_) (fun c14 => ?_)
                  · rw [if_pos c14] at h
                    refine lv_bipush (v := -13) hx hb dX4_shift_98 (by decide) ?_
                    have h := Option.some.inj h
                    subst h
                    exact W.iret (v := (-13 : Int32)) hx hb hr (fun t ht _ => ⟨rfl, by rw [ht]; exact hR, hF⟩) hL dX4_shift_100
                  · rw [if_neg c14] at h
                    refine lv_iload hx hb dX4_shift_84 (lv_at hl 4 rfl) ?_
                    refine lv_aload_n hx hb dX4_shift_86 rfl (lv_at hl 0 rfl) ?_
                    refine r_get (C := RX4) (T := TX4) (N := 80) hx hb hts ok4 hown hK hR (congrArg Prod.fst (hF.2.1 58 (5, 0) rfl)) rfl 77 (by decide) (hts _ q1710) (fun _ h9 => h9) (v := .ref (z + 105)) (fv_fix hF rfl rfl) dX4_shift_87 ?_
                    refine lv_iload_n hx hb dX4_shift_90 rfl (lv_at hl 3 rfl) ?_
                    obtain ⟨hb15, h⟩ := grd h
                    refine r_iald (v := wI w 105 a3.toNatClampNeg) hx hb hK hR (hF.2.1 105 (200, 6) rfl) hb15 rfl dX4_shift_91 ?_
                    refine lv_iload hx hb dX4_shift_92 (lv_at hl 5 rfl) ?_
                    refine lv_isub hx hb dX4_shift_94 ?_
                    refine lv_icmp_le (tgt := 101) hx hb dX4_shift_95 (by decide) (fun c16 => ?_) (fun c16 => ?_)
                    · rw [if_pos c16] at h
                      refine lv_iconst (v := 0) hx hb dX4_shift_101 (by decide) ?_
                      refine lv_istore (lv' := [(6, .int (0 : Int32)), (0, .ref (z + 58)), (1, .int a1), (2, .int a2), (3, .int a3), (4, .int a4), (5, .int a5)]) hx hb dX4_shift_102 hl (by decide) rfl (fun ls hl => ?_)
                      have hX104_138 : ∀ (q104_138 : Int32 × Wd), ((it n (f_X4_shift_L141 n a3 a4 a5) ((0 : Int32), q104_138.2)).bind fun q141_176 => some (a5, q141_176.2)) = some q → ∀ (H : Heap) (locs : List Loc) (ls : Array Slot), Rp G z H0 q104_138.2 H → Fix q104_138.2 → lok z locs → lv_has ls 7 [(0, .ref (z + 58)), (3, .int a3), (4, .int a4), (5, .int a5)] → W p l e ({ frames := 2, cells := 0, slots := 0, locals := 44 } : Room) s m ([.ref (z + 58), .int a1, .int a2, .int a3, .int a4, .int a5] : List Value).toArray below meth c H locs 0 0 (MQ below (qW G z H0 q.2 (some (.int q.1))) ([.ref (z + 58), .int a1, .int a2, .int a3, .int a4, .int a5] : List Value).toArray s 0 0 (fun q => z ≤ q)) (F0 m 138 ls []) := by
                        intro q104_138 h H locs ls hR hF hL hl
                        refine lv_iconst (v := 0) hx hb dX4_shift_138 (by decide) ?_
                        refine lv_istore (lv' := [(6, .int (0 : Int32)), (0, .ref (z + 58)), (3, .int a3), (4, .int a4), (5, .int a5)]) hx hb dX4_shift_139 hl (by decide) rfl (fun ls hl => ?_)
                        have hX141_176 : ∀ (q141_176 : Int32 × Wd), (some (a5, q141_176.2)) = some q → ∀ (H : Heap) (locs : List Loc) (ls : Array Slot), Rp G z H0 q141_176.2 H → Fix q141_176.2 → lok z locs → lv_has ls 7 [(5, .int a5)] → W p l e ({ frames := 2, cells := 0, slots := 0, locals := 44 } : Room) s m ([.ref (z + 58), .int a1, .int a2, .int a3, .int a4, .int a5] : List Value).toArray below meth c H locs 0 0 (MQ below (qW G z H0 q.2 (some (.int q.1))) ([.ref (z + 58), .int a1, .int a2, .int a3, .int a4, .int a5] : List Value).toArray s 0 0 (fun q => z ≤ q)) (F0 m 176 ls []) := by
                          intro q141_176 h H locs ls hR hF hL hl
                          refine lv_iload hx hb dX4_shift_176 (lv_at hl 0 rfl) ?_
                          have h := Option.some.inj h
                          subst h
                          exact W.iret (v := a5) hx hb hr (fun t ht _ => ⟨rfl, by rw [ht]; exact hR, hF⟩) hL dX4_shift_178
                        obtain ⟨t20, hq21, h⟩ := bnd h
                        refine it_W (b := f_X4_shift_L141 n a3 a4 a5) (P := fun (s1 : Int32 × Wd) => ∀ (H : Heap) (locs : List Loc) (ls : Array Slot), Rp G z H0 s1.2 H → Fix s1.2 → lok z locs → lv_has ls 7 [(6, .int s1.1), (0, .ref (z + 58)), (3, .int a3), (4, .int a4), (5, .int a5)] → W p l e ({ frames := 2, cells := 0, slots := 0, locals := 44 } : Room) s m ([.ref (z + 58), .int a1, .int a2, .int a3, .int a4, .int a5] : List Value).toArray below meth c H locs 0 0 (MQ below (qW G z H0 q.2 (some (.int q.1))) ([.ref (z + 58), .int a1, .int a2, .int a3, .int a4, .int a5] : List Value).toArray s 0 0 (fun q => z ≤ q)) (F0 m 141 ls [])) (K := fun q141_176 => (some (a5, q141_176.2)) = some q) (fun s1 x1 h hc1 ht1 => ?_) n ((0 : Int32), q104_138.2) t20 hq21 h H locs ls hR hF hL (lv_sub hl [0, 1, 2, 3, 4] rfl)
                        intro H locs ls hR hF hL hl
                        unfold f_X4_shift_L141 at h
                        refine lv_iload hx hb dX4_shift_141 (lv_at hl 0 rfl) ?_
                        refine lv_iload hx hb dX4_shift_143 (lv_at hl 4 rfl) ?_
                        refine lv_icmp_ge (tgt := 176) hx hb dX4_shift_145 (by decide) (fun c17 => ?_) (fun c17 => ?_)
                        · rw [if_pos c17] at h
                          exact hX141_176 (s1.1, s1.2) (ht1 _ (Option.some.inj h).symm) H locs ls hR hF hL (lv_sub hl [4] rfl)
                        · rw [if_neg c17] at h
                          refine lv_aload_n hx hb dX4_shift_148 rfl (lv_at hl 1 rfl) ?_
                          refine r_get (C := RX4) (T := TX4) (N := 80) hx hb hts ok4 hown hK hR (congrArg Prod.fst (hF.2.1 58 (5, 0) rfl)) rfl 78 (by decide) (hts _ q1711) (fun _ h9 => h9) (v := .ref (z + 106)) (fv_fix hF rfl rfl) dX4_shift_149 ?_
                          refine lv_bipush (v := 60) hx hb dX4_shift_152 (by decide) ?_
                          refine lv_iload_n hx hb dX4_shift_154 rfl (lv_at hl 2 rfl) ?_
                          refine lv_imul hx hb dX4_shift_155 ?_
                          refine lv_iload hx hb dX4_shift_156 (lv_at hl 3 rfl) ?_
                          refine lv_iadd hx hb dX4_shift_158 ?_
                          refine lv_iload hx hb dX4_shift_159 (lv_at hl 0 rfl) ?_
                          refine lv_iadd hx hb dX4_shift_161 ?_
                          refine lv_aload_n hx hb dX4_shift_162 rfl (lv_at hl 1 rfl) ?_
                          refine r_get (C := RX4) (T := TX4) (N := 80) hx hb hts ok4 hown hK hR (congrArg Prod.fst (hF.2.1 58 (5, 0) rfl)) rfl 79 (by decide) (hts _ q1712) (fun _ h9 => h9) (v := .ref (z + 107)) (fv_fix hF rfl rfl) dX4_shift_163 ?_
                          refine lv_iload hx hb dX4_shift_166 (lv_at hl 0 rfl) ?_
                          obtain ⟨hb18, h⟩ := grd h
                          refine r_lald (v := wL s1.2 107 s1.1.toNatClampNeg) hx hb hK hR (hF.2.1 107 (204, 60) rfl) hb18 rfl dX4_shift_168 ?_
                          obtain ⟨hb19, h⟩ := grd h
                          refine r_last hx hb hK hR hL (hF.2.1 106 (204, 360) rfl) hb19 dX4_shift_169 (fun H locs hR hL => ?_)
                          have hF := hF.sL 106 (((((60 : Int32) * a3) + a4) + s1.1).toNatClampNeg) (wL s1.2 107 s1.1.toNatClampNeg)
                          refine lv_iinc (v := s1.1 + (1 : Int32)) (lv' := [(6, .int (s1.1 + (1 : Int32))), (0, .ref (z + 58)), (3, .int a3), (4, .int a4), (5, .int a5)]) hx hb dX4_shift_170 hl (k := 0) rfl rfl (by decide) rfl (fun ls hl => ?_)
                          refine lv_goto (tgt := 141) hx hb dX4_shift_173 (by decide) ?_
                          exact hc1 _ (Option.some.inj h).symm H locs ls hR hF hL (lv_sub hl [0, 1, 2, 3, 4] rfl)
                      obtain ⟨t25, hq26, h⟩ := bnd h
                      refine it_W (b := f_X4_shift_L104 n a1 a2 a3 a4 a5) (P := fun (s1 : Int32 × Wd) => ∀ (H : Heap) (locs : List Loc) (ls : Array Slot), Rp G z H0 s1.2 H → Fix s1.2 → lok z locs → lv_has ls 7 [(6, .int s1.1), (0, .ref (z + 58)), (1, .int a1), (2, .int a2), (3, .int a3), (4, .int a4), (5, .int a5)] → W p l e ({ frames := 2, cells := 0, slots := 0, locals := 44 } : Room) s m ([.ref (z + 58), .int a1, .int a2, .int a3, .int a4, .int a5] : List Value).toArray below meth c H locs 0 0 (MQ below (qW G z H0 q.2 (some (.int q.1))) ([.ref (z + 58), .int a1, .int a2, .int a3, .int a4, .int a5] : List Value).toArray s 0 0 (fun q => z ≤ q)) (F0 m 104 ls [])) (K := fun q104_138 => ((it n (f_X4_shift_L141 n a3 a4 a5) ((0 : Int32), q104_138.2)).bind fun q141_176 => some (a5, q141_176.2)) = some q) (fun s1 x1 h hc1 ht1 => ?_) n ((0 : Int32), w) t25 hq26 h H locs ls hR hF hL (lv_sub hl [0, 1, 2, 3, 4, 5, 6] rfl)
                      intro H locs ls hR hF hL hl
                      unfold f_X4_shift_L104 at h
                      refine lv_iload hx hb dX4_shift_104 (lv_at hl 0 rfl) ?_
                      refine lv_iload hx hb dX4_shift_106 (lv_at hl 6 rfl) ?_
                      refine lv_icmp_ge (tgt := 138) hx hb dX4_shift_108 (by decide) (fun c22 => ?_) (fun c22 => ?_)
                      · rw [if_pos c22] at h
                        exact hX104_138 (s1.1, s1.2) (ht1 _ (Option.some.inj h).symm) H locs ls hR hF hL (lv_sub hl [1, 4, 5, 6] rfl)
                      · rw [if_neg c22] at h
                        refine lv_aload_n hx hb dX4_shift_111 rfl (lv_at hl 1 rfl) ?_
                        refine r_get (C := RX4) (T := TX4) (N := 80) hx hb hts ok4 hown hK hR (congrArg Prod.fst (hF.2.1 58 (5, 0) rfl)) rfl 79 (by decide) (hts _ q1712) (fun _ h9 => h9) (v := .ref (z + 107)) (fv_fix hF rfl rfl) dX4_shift_112 ?_
                        refine lv_iload hx hb dX4_shift_115 (lv_at hl 0 rfl) ?_
                        refine lv_aload_n hx hb dX4_shift_117 rfl (lv_at hl 1 rfl) ?_
                        refine r_get (C := RX4) (T := TX4) (N := 80) hx hb hts ok4 hown hK hR (congrArg Prod.fst (hF.2.1 58 (5, 0) rfl)) rfl 78 (by decide) (hts _ q1711) (fun _ h9 => h9) (v := .ref (z + 106)) (fv_fix hF rfl rfl) dX4_shift_118 ?_
                        refine lv_bipush (v := 60) hx hb dX4_shift_121 (by decide) ?_
                        refine lv_iload_n hx hb dX4_shift_123 rfl (lv_at hl 2 rfl) ?_
                        refine lv_imul hx hb dX4_shift_124 ?_
                        refine lv_iload_n hx hb dX4_shift_125 rfl (lv_at hl 3 rfl) ?_
                        refine lv_iadd hx hb dX4_shift_126 ?_
                        refine lv_iload hx hb dX4_shift_127 (lv_at hl 0 rfl) ?_
                        refine lv_iadd hx hb dX4_shift_129 ?_
                        obtain ⟨hb23, h⟩ := grd h
                        refine r_lald (v := wL s1.2 106 (((((60 : Int32) * a1) + a2) + s1.1).toNatClampNeg)) hx hb hK hR (hF.2.1 106 (204, 360) rfl) hb23 rfl dX4_shift_130 ?_
                        obtain ⟨hb24, h⟩ := grd h
                        refine r_last hx hb hK hR hL (hF.2.1 107 (204, 60) rfl) hb24 dX4_shift_131 (fun H locs hR hL => ?_)
                        have hF := hF.sL 107 (s1.1.toNatClampNeg) (wL s1.2 106 (((((60 : Int32) * a1) + a2) + s1.1).toNatClampNeg))
                        refine lv_iinc (v := s1.1 + (1 : Int32)) (lv' := [(6, .int (s1.1 + (1 : Int32))), (0, .ref (z + 58)), (1, .int a1), (2, .int a2), (3, .int a3), (4, .int a4), (5, .int a5)]) hx hb dX4_shift_132 hl (k := 0) rfl rfl (by decide) rfl (fun ls hl => ?_)
                        refine lv_goto (tgt := 104) hx hb dX4_shift_135 (by decide) ?_
                        exact hc1 _ (Option.some.inj h).symm H locs ls hR hF hL (lv_sub hl [0, 1, 2, 3, 4, 5, 6] rfl)
                    · rw [if_neg c16] at h
                      refine lv_bipush (v := -13) hx hb dX4_shift_98 (by decide) ?_
                      have h := Option.some.inj h
                      subst h
                      exact W.iret (v := (-13 : Int32)) hx hb hr (fun t ht _ => ⟨rfl, by rw [ht]; exact hR, hF⟩) hL dX4_shift_100
          · rw [if_neg c9] at h
            refine lv_bipush (v := -12) hx hb dX4_shift_54 (by decide) ?_
            have h := Option.some.inj h
            subst h
            exact W.iret (v := (-12 : Int32)) hx hb hr (fun t ht _ => ⟨rfl, by rw [ht]; exact hR, hF⟩) hL dX4_shift_56
        · rw [if_neg c6] at h
          refine lv_bipush (v := -11) hx hb dX4_shift_36 (by decide) ?_
          have h := Option.some.inj h
          subst h
          exact W.iret (v := (-11 : Int32)) hx hb hr (fun t ht _ => ⟨rfl, by rw [ht]; exact hR, hF⟩) hL dX4_shift_38
    · rw [if_neg (bI_n c2)] at h
      refine lv_iconst (v := -1) hx hb dX4_shift_16 (by decide) ?_
      have h := Option.some.inj h
      subst h
      exact W.iret (v := (-1 : Int32)) hx hb hr (fun t ht _ => ⟨rfl, by rw [ht]; exact hR, hF⟩) hL dX4_shift_17
