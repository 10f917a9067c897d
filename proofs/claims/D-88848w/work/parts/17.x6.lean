def f_X0_catalogue (B n : Nat) (a1 : Int32) (a2 : Int32) (a3 : Int32) (a4 : Int32) (w : Wd) : Option ((Int64 ⊕ Nat) × Wd) :=
  if (f_X0_isTown a1 w) then (if (f_X0_isTape a2 w) then (if (f_X0_in a4 (1 : Int32) (40 : Int32) w) then (if inb a2 6 then ((wR w 19 a2.toNatClampNeg).bind fun r5 => if (wT w r5).1 = 4 then (if isRow w (wR w r5 0) = true then (if castOk w (wR w r5 0) [202] = false then (if wZ w + 3 ≤ B then (some (.inl (-9223372036854775807 : Int64), sN (sX w 2) 28 0)) else none) else ((f_X0_looks B n a1 (wR w r5 0) a3 a4 w).bind fun q22 => (match q22 with | (.inl v17, qw19) => if wZ w ≤ wZ qw19 ∧ wZ qw19 ≤ B then (some (.inl v17, qw19)) else none | (.inr x18, qw19) => if wZ w ≤ wZ qw19 ∧ wZ qw19 ≤ B then none else none))) else none) else none) else none) else (some (.inl (-9223372036854775808 : Int64), w))) else (some (.inl (-9223372036854775808 : Int64), w))) else (some (.inl (-9223372036854775808 : Int64), w))
theorem hd_X0_catalogue : yX0_catalogue.cls ≠ "java/lang/invoke/MethodHandle" ∧ yX0_catalogue.cls ≠ "java/lang/invoke/VarHandle" ∧ (parseMethodDescriptor yX0_catalogue.desc).map (fun d => d.parameters.length) = some 4 := by decide +kernel
set_option maxHeartbeats 4000000 in
set_option maxRecDepth 100000 in
theorem met_X0_catalogue (l : Launch) (htr : ∀ e, l.admits e → e.platform.stackTraces = false) (G : Gw) (z : Nat) (H0 : Heap) (B n : Nat) (w : Wd) (a1 : Int32) (a2 : Int32) (a3 : Int32) (a4 : Int32) (q : (Int64 ⊕ Nat) × Wd) (h : f_X0_catalogue B n a1 a2 a3 a4 w = some q)  (hB : wZ w ≤ B) : MetT l yX0_catalogue (wsW_ yX0_catalogue cX0_catalogue 6 (some .long) [(29, 49, 50, 234)]) ({ frames := 10, cells := B - wZ w, slots := 80 * (B - wZ w), locals := 10300 } : Room) (pcT G z H0 w [.ref (z + 0), .int a1, .int a2, .int a3, .int a4]) (qT G z H0 q.2 (cvL q.1)) (wZ q.2 - wZ w) (80 * (wZ q.2 - wZ w)) (fun q => z ≤ q) := by
  refine mTH (by decide) (Nat.le_of_ble_eq_true rfl) ?_
  intro p e s m below meth c ls hx hb hr hml hown hts hlocks hnm htb hK hR hF hN hS hl
  have hown : s.vm.findClass RX0 = some m.cls := hown
  have hl : lv_has ls 6 [(0, .ref (z + 0)), (1, .int a1), (2, .int a2), (3, .int a3), (4, .int a4)] := hl
  have hL : lok z [] := lok_nil
  unfold f_X0_catalogue at h
  obtain ⟨z0, hz0⟩ : ∃ z0, wZ w = z0 := ⟨_, rfl⟩
  rw [hz0]
  refine W.widen (k := wZ w - z0) (n := 80 * (wZ w - z0)) (Nat.zero_le _) (Nat.zero_le _) ?_
  have hZ : z0 ≤ wZ w ∧ wZ w ≤ B := ⟨by omega, hB⟩
  have hold : ∀ q : Nat, q < z → s.heap[q]? = H0[q]? := hR.2.1
  generalize s.heap = H at hR ⊢
  generalize ([] : List Loc) = locs at hL ⊢
  refine lv_iload_n hx hb dX0_catalogue_0 rfl (lv_at hl 1 rfl) ?_
  refine k_P (st1 := [.int (bI (f_X0_isTown a1 w))]) (va_runS (As := [.int a1]) (rest := []) ⟨hx, hb, hml, hown, hts⟩ (met_X0_isTown l G z H0 w a1 _ rfl) (va_cwS 1 hts (lw_S q351 q352 q100 q353) rfl rfl rfl hd_X0_isTown ⟨Nat.le_of_ble_eq_true rfl, Nat.le_of_ble_eq_true rfl⟩) (preS hK hR hF hN) rfl rfl hl.1 rfl (lv_room (Nat.le_of_ble_eq_true rfl)) dX0_catalogue_1 ⟨by dsimp only; omega, by dsimp only; omega⟩) hL rfl (fun locs hL => ?_)
  refine W.wid (b := wZ w) (Nat.le_refl _) hZ.1 (Nat.le_refl _) ?_
  refine lv_if_eq (tgt := 25) hx hb dX0_catalogue_4 (by decide) (fun c1 => ?_) (fun c1 => ?_)
  · rw [if_neg (bI_n c1)] at h
    refine lv_ldc2 (v := -9223372036854775808) hx hb hown (hts _ q1522) dX0_catalogue_25 ?_
    have h := Option.some.inj h
    subst h
    exact W.toT (W.lret (v := (-9223372036854775808 : Int64)) hx hb hr (fun t ht _ => ⟨rfl, by rw [ht]; exact hR, hF⟩) hL dX0_catalogue_28)
  · rw [if_pos (bI_p c1)] at h
    refine lv_iload_n hx hb dX0_catalogue_7 rfl (lv_at hl 2 rfl) ?_
    refine k_P (st1 := [.int (bI (f_X0_isTape a2 w))]) (va_runS (As := [.int a2]) (rest := []) ⟨hx, hb, hml, hown, hts⟩ (met_X0_isTape l G z H0 w a2 _ rfl) (va_cwS 1 hts (lw_S q1519 q1520 q100 q1521) rfl rfl rfl hd_X0_isTape ⟨Nat.le_of_ble_eq_true rfl, Nat.le_of_ble_eq_true rfl⟩) (preS hK hR hF hN) rfl rfl hl.1 rfl (lv_room (Nat.le_of_ble_eq_true rfl)) dX0_catalogue_8 ⟨by dsimp only; omega, by dsimp only; omega⟩) hL rfl (fun locs hL => ?_)
    refine W.wid (b := wZ w) (Nat.le_refl _) hZ.1 (Nat.le_refl _) ?_
    refine lv_if_eq (tgt := 25) hx hb dX0_catalogue_11 (by decide) (fun c2 => ?_) (fun c2 => ?_)
    · rw [if_neg (bI_n c2)] at h
      refine lv_ldc2 (v := -9223372036854775808) hx hb hown (hts _ q1522) dX0_catalogue_25 ?_
      have h := Option.some.inj h
      subst h
      exact W.toT (W.lret (v := (-9223372036854775808 : Int64)) hx hb hr (fun t ht _ => ⟨rfl, by rw [ht]; exact hR, hF⟩) hL dX0_catalogue_28)
    · rw [if_pos (bI_p c2)] at h
      refine lv_iload hx hb dX0_catalogue_14 (lv_at hl 4 rfl) ?_
      refine lv_iconst (v := 1) hx hb dX0_catalogue_16 (by decide) ?_
      refine lv_bipush (v := 40) hx hb dX0_catalogue_17 (by decide) ?_
      refine k_P (st1 := [.int (bI (f_X0_in a4 (1 : Int32) (40 : Int32) w))]) (va_runS (As := [.int a4, .int (1 : Int32), .int (40 : Int32)]) (rest := []) ⟨hx, hb, hml, hown, hts⟩ (met_X0_in l G z H0 w a4 (1 : Int32) (40 : Int32) _ rfl) (va_cwS 3 hts (lw_S q344 q345 q100 q346) rfl rfl rfl hd_X0_in ⟨Nat.le_of_ble_eq_true rfl, Nat.le_of_ble_eq_true rfl⟩) (preS hK hR hF hN) rfl rfl hl.1 rfl (lv_room (Nat.le_of_ble_eq_true rfl)) dX0_catalogue_19 ⟨by dsimp only; omega, by dsimp only; omega⟩) hL rfl (fun locs hL => ?_)
      refine W.wid (b := wZ w) (Nat.le_refl _) hZ.1 (Nat.le_refl _) ?_
      refine lv_if_ne (tgt := 29) hx hb dX0_catalogue_22 (by decide) (fun c3 => ?_) (fun c3 => ?_)
      · rw [if_pos (bI_p c3)] at h
        refine lv_aload_n hx hb dX0_catalogue_29 rfl (lv_at hl 0 rfl) ?_
        refine lv_iload_n hx hb dX0_catalogue_30 rfl (lv_at hl 1 rfl) ?_
        refine lv_aload_n hx hb dX0_catalogue_31 rfl (lv_at hl 0 rfl) ?_
        refine x_get (k := 16) (o := "BarredBooks") (n := "tapes") (d := "[LBarredBooks$Tape;") (fin := true) (ty := (.array (.object "BarredBooks$Tape"))) (host := "BarredBooks") hx hb hts hown hK hR rfl (Fam.one (r := (RX0, TX0, 40)) (congrArg Prod.fst (hF.2.1 0 (1, 0) rfl)) rfl ok0 (by decide)) (Or.inl (hts _ q235)) (fun _ h9 => h9) (v := .ref (z + 19)) (fv_fix hF rfl rfl) dX0_catalogue_32 ?_
        refine lv_iload_n hx hb dX0_catalogue_35 rfl (lv_at hl 2 rfl) ?_
        obtain ⟨hb4, h⟩ := grd h
        refine x_aald (v := rfv z (wR w 19 a2.toNatClampNeg)) (t := 12) hx hb hK hR rfl (hF.2.1 19 (212, 6) rfl) (by decide) rfl hb4 rfl dX0_catalogue_36 ?_
        obtain ⟨r5, hr6, h⟩ := bnd h
        obtain ⟨hg7, h⟩ := grd h
        refine x_get (k := 0) (o := "BarredBooks$Tape") (n := "row") (d := "Ljava/lang/Object;") (fin := false) (ty := (.object "java/lang/Object")) (host := "BarredBooks") hx hb hts hown hK hR (rfv_some hr6) (Fam.one (r := (RX3, TX3, 1)) hg7 rfl ok3 (by decide)) (Or.inr (hN.at q215 rfl)) (fun _ h9 => h9) (v := rfv z (wR w r5 0)) rfl dX0_catalogue_37 ?_
        obtain ⟨hcd8, h⟩ := grd h
        by_cases hco9 : castOk w (wR w r5 0) [202] = false
        · rw [if_pos hco9] at h
          obtain ⟨a11, hv10, hnt9⟩ := castOk_no hco9
          have h9 := isRow_some hcd8 hv10
          obtain ⟨hz14, h⟩ := grd h
          suffices hkN : ∀ (st9 : List Value) (text : String), (st9.map fun v => v.category).sum ≤ 8 → ((text == notModelled) = false ∧ (stringBytes (stringToUtf16 text)).size ≤ 230) → WN p l e ({ frames := 10, cells := B - z0, slots := 80 * (B - z0), locals := 10300 } : Room) s m ([.ref (z + 0), .int a1, .int a2, .int a3, .int a4] : List Value).toArray below meth c H locs (wZ w - z0) (80 * (wZ w - z0)) (MQT below (qT G z H0 q.2 (cvL q.1)) ([.ref (z + 0), .int a1, .int a2, .int a3, .int a4] : List Value).toArray s (wZ q.2 - z0) (80 * (wZ q.2 - z0)) (fun q => z ≤ q)) (F0 m 40 ls st9) "java/lang/ClassCastException" (some text) by
            have c13 : (wT w a11).1 = 200 ∨ (wT w a11).1 = 201 ∨ (wT w a11).1 = 203 ∨ (wT w a11).1 = 204 := by
              simp only [List.mem_cons, List.not_mem_nil, or_false] at hnt9
              omega
            rcases c13 with c13 | c13 | c13 | c13
            · exact x_castF (C := "[I") hx hb hown (hts _ q1523) hS (hN.nc 9 rfl) (nm_at 9 rfl) (nm_at 8 rfl) (r_recvA (t := 0) (by decide) hK hR (wT_pair c13)) (rfv_some hv10) dX0_catalogue_40 (fun text ht => hkN _ text (by simp [cat_rfv, cat_i, cat_r, cat_l, cat_n]) ht)
            · exact x_castF (C := "[B") hx hb hown (hts _ q1523) hS (hN.nc 0 rfl) (nm_at 7 rfl) (nm_at 8 rfl) (r_recvA (t := 1) (by decide) hK hR (wT_pair c13)) (rfv_some hv10) dX0_catalogue_40 (fun text ht => hkN _ text (by simp [cat_rfv, cat_i, cat_r, cat_l, cat_n]) ht)
            · exact x_castF (C := "[Z") hx hb hown (hts _ q1523) hS (hN.nc 17 rfl) (nm_at 11 rfl) (nm_at 8 rfl) (r_recvA (t := 3) (by decide) hK hR (wT_pair c13)) (rfv_some hv10) dX0_catalogue_40 (fun text ht => hkN _ text (by simp [cat_rfv, cat_i, cat_r, cat_l, cat_n]) ht)
            · exact x_castF (C := "[J") hx hb hown (hts _ q1523) hS (hN.nc 13 rfl) (nm_at 10 rfl) (nm_at 8 rfl) (r_recvA (t := 4) (by decide) hK hR (wT_pair c13)) (rfv_some hv10) dX0_catalogue_40 (fun text ht => hkN _ text (by simp [cat_rfv, cat_i, cat_r, cat_l, cat_n]) ht)
          intro st9 text hs9 ht9
          refine wn_cce hx htr hts hN hold hS hK hR hL ht9 (hl.1.trans hml.symm) (Nat.le_of_ble_eq_true rfl) (by dsimp only; omega) (by dsimp only; omega) (by dsimp only; omega) (fun H locs hR hL => ?_)
          have hF := (hF.sX 2).sN 28 0
          have ez15 : wZ (sN (sX w 2) 28 0) = wZ w + 3 := rfl
          refine WT.widen (k := wZ (sN (sX w 2) 28 0) - z0) (n := 80 * (wZ (sN (sX w 2) 28 0) - z0)) (by omega) (by omega) ?_
          have hZ : z0 ≤ wZ (sN (sX w 2) 28 0) ∧ wZ (sN (sX w 2) 28 0) ≤ B := ⟨by omega, by omega⟩
          have hg16 : (wT (sN (sX w 2) 28 0) (wZ w + 2)).1 = 28 := by rw [wT_sN, wZ_sX, if_pos rfl]
          refine x_caught (q := 50) hR hK hg16 rfl hown (by rw [htb]; exact (Cat.self hK rfl (by decide +kernel) (by decide) (hts _ q586))) ?_
          refine lv_astore (lv' := [(5, .ref (z + wZ w + 2)), (0, .ref (z + 0)), (1, .int a1), (2, .int a2), (3, .int a3), (4, .int a4)]) hx hb dX0_catalogue_50 hl (by decide) rfl (fun ls hl => ?_)
          refine lv_ldc2 (v := -9223372036854775807) hx hb hown (hts _ q1531) dX0_catalogue_52 ?_
          have h := Option.some.inj h
          subst h
          exact W.toT (W.lret (v := (-9223372036854775807 : Int64)) hx hb hr (fun t ht _ => ⟨rfl, by rw [ht]; exact hR, hF⟩) hL dX0_catalogue_55)
        rw [if_neg hco9] at h
        suffices hk12 : W p l e ({ frames := 10, cells := B - z0, slots := 80 * (B - z0), locals := 10300 } : Room) s m ([.ref (z + 0), .int a1, .int a2, .int a3, .int a4] : List Value).toArray below meth c H locs (wZ w - z0) (80 * (wZ w - z0)) (MQT below (qT G z H0 q.2 (cvL q.1)) ([.ref (z + 0), .int a1, .int a2, .int a3, .int a4] : List Value).toArray s (wZ q.2 - z0) (80 * (wZ q.2 - z0)) (fun q => z ≤ q)) (F0 m 43 ls [rfv z (wR w r5 0), .int a1, .ref (z + 0)]) by
          rcases opt_cases (wR w r5 0) with hv10 | ⟨a11, hv10⟩
          · exact x_castNull hx hb (rfv_none hv10) dX0_catalogue_40 hk12
          · have h8 := castOk_some hco9 hv10
            have c13 : (wT w a11).1 = 202 := by simpa using h8
            exact x_castA (t := 2) hx hb hown (hts _ q1523) hK hR (rfv_some hv10) (by decide) rfl c13 dX0_catalogue_40 hk12
        refine lv_iload_n hx hb dX0_catalogue_43 rfl (lv_at hl 3 rfl) ?_
        refine lv_iload hx hb dX0_catalogue_44 (lv_at hl 4 rfl) ?_
        obtain ⟨⟨v17 | x18, qw19⟩, hq20, h⟩ := bnd h
        rotate_left
        · dsimp only at h
          obtain ⟨hz21, h⟩ := grd h
          cases h
        dsimp only at h
        obtain ⟨hz21, h⟩ := grd h
        refine k_TR (v := (some (.long v17))) (w := qw19) (mc := wZ qw19 - wZ w) (ms := 80 * (wZ qw19 - wZ w)) (st1 := [.long v17]) (runT_VW (As := [.int a1, rfv z (wR w r5 0), .int a3, .int a4]) (rest := []) ⟨hx, hb, hml, hown, hts⟩ (met_X0_looks l htr G z H0 B n w a1 (wR w r5 0) a3 a4 (.inl v17, qw19) hq20 hZ.2) hd_X0_looks q1524 q1526 qs38 q100 q1527 ⟨Nat.le_of_ble_eq_true rfl, Nat.le_of_ble_eq_true rfl⟩ (preVT (q := (RX0, TX0, 40)) hK hR hF hN hS (congrArg Prod.fst (hF.2.1 0 (1, 0) rfl)) rfl) rfl rfl hl.1 rfl (lv_room (Nat.le_of_ble_eq_true rfl)) dX0_catalogue_46 ⟨by dsimp only; omega, by dsimp only; omega⟩) hL rfl (fun H locs hR hF hL => ?_)
        refine W.wid (b := wZ qw19) (by omega) hZ.1 (Nat.le_refl _) ?_
        have hZ : z0 ≤ wZ qw19 ∧ wZ qw19 ≤ B := ⟨by omega, hz21.2⟩
        have h := Option.some.inj h
        subst h
        exact W.toT (W.lret (v := v17) hx hb hr (fun t ht _ => ⟨rfl, by rw [ht]; exact hR, hF⟩) hL dX0_catalogue_49)
      · rw [if_neg (bI_n c3)] at h
        refine lv_ldc2 (v := -9223372036854775808) hx hb hown (hts _ q1522) dX0_catalogue_25 ?_
        have h := Option.some.inj h
        subst h
        exact W.toT (W.lret (v := (-9223372036854775808 : Int64)) hx hb hr (fun t ht _ => ⟨rfl, by rw [ht]; exact hR, hF⟩) hL dX0_catalogue_28)
def f_X0_tape_J32 (B n : Nat) (a1 : Int32) (a2 : Int32) (a3 : Int32) (w : Wd) : Option ((Int32 ⊕ Nat) × Wd) :=
  if inb a1 6 then (if a2 = (-1 : Int32) then ((wR w 19 a1.toNatClampNeg).bind fun r17 => if (wT w r17).1 = 4 then (if fixR r17 0 = none then (some (.inl (1 : Int32), sR w r17 0 none)) else none) else none) else ((f_X0_rowOf B n a2 a3 w).bind fun q11 => (match q11 with | (.inl v6, qw8) => if wZ w ≤ wZ qw8 ∧ wZ qw8 ≤ B then ((wR w 19 a1.toNatClampNeg).bind fun r13 => if (wT qw8 r13).1 = 4 then (if fixR r13 0 = none then (some (.inl (1 : Int32), sR qw8 r13 0 v6)) else none) else none) else none | (.inr x7, qw8) => if wZ w ≤ wZ qw8 ∧ wZ qw8 ≤ B then (if (wT qw8 x7).1 = 30 then (some (.inl (-14 : Int32), qw8)) else none) else none))) else none
def f_X0_tape (B n : Nat) (a1 : Int32) (a2 : Int32) (a3 : Int32) (w : Wd) : Option ((Int32 ⊕ Nat) × Wd) :=
  if (f_X0_isTape a1 w) then (if (f_X0_in a2 (-1 : Int32) (4 : Int32) w) then (if a2 = (-1 : Int32) then (f_X0_tape_J32 B n a1 a2 a3 w) else (if a3 ≤ (60 : Int32) then (f_X0_tape_J32 B n a1 a2 a3 w) else (some (.inl (-2 : Int32), w)))) else (some (.inl (-2 : Int32), w))) else (some (.inl (-1 : Int32), w))
theorem hd_X0_tape : yX0_tape.cls ≠ "java/lang/invoke/MethodHandle" ∧ yX0_tape.cls ≠ "java/lang/invoke/VarHandle" ∧ (parseMethodDescriptor yX0_tape.desc).map (fun d => d.parameters.length) = some 3 := by decide +kernel
set_option maxHeartbeats 4000000 in
set_option maxRecDepth 100000 in
theorem met_X0_tape (l : Launch) (htr : ∀ e, l.admits e → e.platform.stackTraces = false) (G : Gw) (z : Nat) (H0 : Heap) (B n : Nat) (w : Wd) (a1 : Int32) (a2 : Int32) (a3 : Int32) (q : (Int32 ⊕ Nat) × Wd) (h : f_X0_tape B n a1 a2 a3 w = some q)  (hB : wZ w ≤ B) : MetT l yX0_tape (wsW_ yX0_tape cX0_tape 5 (some .int) [(32, 56, 57, 487)]) ({ frames := 10, cells := B - wZ w, slots := 80 * (B - wZ w), locals := 10291 } : Room) (pcT G z H0 w [.ref (z + 0), .int a1, .int a2, .int a3]) (qT G z H0 q.2 (cvI q.1)) (wZ q.2 - wZ w) (80 * (wZ q.2 - wZ w)) (fun q => z ≤ q) := by
  refine mTH (by decide) (Nat.le_of_ble_eq_true rfl) ?_
  intro p e s m below meth c ls hx hb hr hml hown hts hlocks hnm htb hK hR hF hN hS hl
  have hown : s.vm.findClass RX0 = some m.cls := hown
  have hl : lv_has ls 5 [(0, .ref (z + 0)), (1, .int a1), (2, .int a2), (3, .int a3)] := hl
  have hL : lok z [] := lok_nil
  unfold f_X0_tape at h
  obtain ⟨z0, hz0⟩ : ∃ z0, wZ w = z0 := ⟨_, rfl⟩
  rw [hz0]
  refine W.widen (k := wZ w - z0) (n := 80 * (wZ w - z0)) (Nat.zero_le _) (Nat.zero_le _) ?_
  have hZ : z0 ≤ wZ w ∧ wZ w ≤ B := ⟨by omega, hB⟩
  have hold : ∀ q : Nat, q < z → s.heap[q]? = H0[q]? := hR.2.1
  generalize s.heap = H at hR ⊢
  generalize ([] : List Loc) = locs at hL ⊢
  have hJ32 : ∀  (w : Wd), f_X0_tape_J32 B n a1 a2 a3 w = some q → ∀ (H : Heap) (locs : List Loc) (ls : Array Slot), Rp G z H0 w H → Fix w → lok z locs → (z0 ≤ wZ w ∧ wZ w ≤ B) → lv_has ls 5 [(0, .ref (z + 0)), (1, .int a1), (2, .int a2), (3, .int a3)] → W p l e ({ frames := 10, cells := B - z0, slots := 80 * (B - z0), locals := 10291 } : Room) s m ([.ref (z + 0), .int a1, .int a2, .int a3] : List Value).toArray below meth c H locs (wZ w - z0) (80 * (wZ w - z0)) (MQT below (qT G z H0 q.2 (cvI q.1)) ([.ref (z + 0), .int a1, .int a2, .int a3] : List Value).toArray s (wZ q.2 - z0) (80 * (wZ q.2 - z0)) (fun q => z ≤ q)) (F0 m 32 ls []) := by
    intro  w h H locs ls hR hF hL hZ hl
    unfold f_X0_tape_J32 at h
    refine lv_aload_n hx hb dX0_tape_32 rfl (lv_at hl 0 rfl) ?_
    refine x_get (k := 16) (o := "BarredBooks") (n := "tapes") (d := "[LBarredBooks$Tape;") (fin := true) (ty := (.array (.object "BarredBooks$Tape"))) (host := "BarredBooks") hx hb hts hown hK hR rfl (Fam.one (r := (RX0, TX0, 40)) (congrArg Prod.fst (hF.2.1 0 (1, 0) rfl)) rfl ok0 (by decide)) (Or.inl (hts _ q235)) (fun _ h9 => h9) (v := .ref (z + 19)) (fv_fix hF rfl rfl) dX0_tape_33 ?_
    refine lv_iload_n hx hb dX0_tape_36 rfl (lv_at hl 1 rfl) ?_
    obtain ⟨hb4, h⟩ := grd h
    refine x_aald (v := rfv z (wR w 19 a1.toNatClampNeg)) (t := 12) hx hb hK hR rfl (hF.2.1 19 (212, 6) rfl) (by decide) rfl hb4 rfl dX0_tape_37 ?_
    refine lv_iload_n hx hb dX0_tape_38 rfl (lv_at hl 2 rfl) ?_
    refine lv_iconst (v := -1) hx hb dX0_tape_39 (by decide) ?_
    refine lv_icmp_ne (tgt := 47) hx hb dX0_tape_40 (by decide) (fun c5 => ?_) (fun c5 => ?_)
    · rw [if_neg c5] at h
      refine lv_iload_n hx hb dX0_tape_47 rfl (lv_at hl 2 rfl) ?_
      refine lv_iload_n hx hb dX0_tape_48 rfl (lv_at hl 3 rfl) ?_
      obtain ⟨⟨v6 | x7, qw8⟩, hq9, h⟩ := bnd h
      rotate_left
      · dsimp only at h
        obtain ⟨hz10, h⟩ := grd h
        obtain ⟨hg12, h⟩ := grd h
        refine k_TT (w := qw8) (x := x7) (mc := wZ qw8 - wZ w) (ms := 80 * (wZ qw8 - wZ w)) (runT_S (As := [.int a2, .int a3]) (rest := [rfv z (wR w 19 a1.toNatClampNeg)]) ⟨hx, hb, hml, hown, hts⟩ (met_X0_rowOf l htr G z H0 B n w a2 a3 (.inr x7, qw8) hq9 hZ.2) hd_X0_rowOf q1554 q1555 q100 q1556 ⟨Nat.le_of_ble_eq_true rfl, Nat.le_of_ble_eq_true rfl⟩ (preST hK hR hF hN hS) rfl rfl hl.1 rfl (lv_room (by simp [cat_rfv, cat_i, cat_r, cat_l, cat_n])) dX0_tape_49 ⟨by dsimp only; omega, by dsimp only; omega⟩) hL (fun H locs hR hF hL => ?_)
        refine WT.widen (k := wZ qw8 - z0) (n := 80 * (wZ qw8 - z0)) (by omega) (by omega) ?_
        have hZ : z0 ≤ wZ qw8 ∧ wZ qw8 ≤ B := ⟨by omega, hz10.2⟩
        refine x_caught (q := 57) hR hK hg12 rfl hown (by rw [htb]; exact (Cat.self hK rfl (by decide +kernel) (by decide) (hts _ q1540))) ?_
        refine lv_astore (lv' := [(4, .ref (z + x7)), (0, .ref (z + 0)), (1, .int a1), (2, .int a2), (3, .int a3)]) hx hb dX0_tape_57 hl (by decide) rfl (fun ls hl => ?_)
        refine lv_bipush (v := -14) hx hb dX0_tape_59 (by decide) ?_
        have h := Option.some.inj h
        subst h
        exact W.toT (W.iret (v := (-14 : Int32)) hx hb hr (fun t ht _ => ⟨rfl, by rw [ht]; exact hR, hF⟩) hL dX0_tape_61)
      dsimp only at h
      obtain ⟨hz10, h⟩ := grd h
      refine k_TR (v := (some (rfv z v6))) (w := qw8) (mc := wZ qw8 - wZ w) (ms := 80 * (wZ qw8 - wZ w)) (st1 := [rfv z v6, rfv z (wR w 19 a1.toNatClampNeg)]) (runT_S (As := [.int a2, .int a3]) (rest := [rfv z (wR w 19 a1.toNatClampNeg)]) ⟨hx, hb, hml, hown, hts⟩ (met_X0_rowOf l htr G z H0 B n w a2 a3 (.inl v6, qw8) hq9 hZ.2) hd_X0_rowOf q1554 q1555 q100 q1556 ⟨Nat.le_of_ble_eq_true rfl, Nat.le_of_ble_eq_true rfl⟩ (preST hK hR hF hN hS) rfl rfl hl.1 rfl (lv_room (by simp [cat_rfv, cat_i, cat_r, cat_l, cat_n])) dX0_tape_49 ⟨by dsimp only; omega, by dsimp only; omega⟩) hL rfl (fun H locs hR hF hL => ?_)
      refine W.wid (b := wZ qw8) (by omega) hZ.1 (Nat.le_refl _) ?_
      have hZ : z0 ≤ wZ qw8 ∧ wZ qw8 ≤ B := ⟨by omega, hz10.2⟩
      obtain ⟨r13, hr14, h⟩ := bnd h
      obtain ⟨hg15, h⟩ := grd h
      obtain ⟨hd16, h⟩ := grd h
      refine x_putR (k := 0) (o := "BarredBooks$Tape") (n := "row") (d := "Ljava/lang/Object;") (fin := false) (ty := (.object "java/lang/Object")) (v := v6) (host := "BarredBooks") hx hb hts hown hK hR hL (rfv_some hr14) (Fam.one (r := (RX3, TX3, 1)) hg15 rfl ok3 (by decide)) (Or.inr ⟨hN.at q215 rfl, rfl⟩) (fun _ h9 => h9) (Or.inl rfl) rfl rfl dX0_tape_52 (fun H locs hR hL => ?_)
      rw [← wT_sR _ r13 0 v6] at hg15
      have hF := hF.sR (a := r13) (f := 0) (v := v6) hd16
      refine lv_iconst (v := 1) hx hb dX0_tape_55 (by decide) ?_
      have h := Option.some.inj h
      subst h
      refine W.widen (k := wZ (sR qw8 r13 0 v6) - z0) (n := 80 * (wZ (sR qw8 r13 0 v6) - z0)) (Nat.le_refl _) (Nat.le_refl _) ?_
      exact W.toT (W.iret (v := (1 : Int32)) hx hb hr (fun t ht _ => ⟨rfl, by rw [ht]; exact hR, hF⟩) hL dX0_tape_56)
    · rw [if_pos c5] at h
      refine lv_null hx hb dX0_tape_43 ?_
      refine lv_goto (tgt := 52) hx hb dX0_tape_44 (by decide) ?_
      obtain ⟨r17, hr18, h⟩ := bnd h
      obtain ⟨hg19, h⟩ := grd h
      obtain ⟨hd20, h⟩ := grd h
      refine x_putR (k := 0) (o := "BarredBooks$Tape") (n := "row") (d := "Ljava/lang/Object;") (fin := false) (ty := (.object "java/lang/Object")) (v := none) (host := "BarredBooks") hx hb hts hown hK hR hL (rfv_some hr18) (Fam.one (r := (RX3, TX3, 1)) hg19 rfl ok3 (by decide)) (Or.inr ⟨hN.at q215 rfl, rfl⟩) (fun _ h9 => h9) (Or.inl rfl) rfl rfl dX0_tape_52 (fun H locs hR hL => ?_)
      rw [← wT_sR _ r17 0 none] at hg19
      have hF := hF.sR (a := r17) (f := 0) (v := none) hd20
      refine lv_iconst (v := 1) hx hb dX0_tape_55 (by decide) ?_
      have h := Option.some.inj h
      subst h
      refine W.widen (k := wZ (sR w r17 0 none) - z0) (n := 80 * (wZ (sR w r17 0 none) - z0)) (Nat.le_refl _) (Nat.le_refl _) ?_
      exact W.toT (W.iret (v := (1 : Int32)) hx hb hr (fun t ht _ => ⟨rfl, by rw [ht]; exact hR, hF⟩) hL dX0_tape_56)
  refine lv_iload_n hx hb dX0_tape_0 rfl (lv_at hl 1 rfl) ?_
  refine k_P (st1 := [.int (bI (f_X0_isTape a1 w))]) (va_runS (As := [.int a1]) (rest := []) ⟨hx, hb, hml, hown, hts⟩ (met_X0_isTape l G z H0 w a1 _ rfl) (va_cwS 1 hts (lw_S q1519 q1520 q100 q1521) rfl rfl rfl hd_X0_isTape ⟨Nat.le_of_ble_eq_true rfl, Nat.le_of_ble_eq_true rfl⟩) (preS hK hR hF hN) rfl rfl hl.1 rfl (lv_room (Nat.le_of_ble_eq_true rfl)) dX0_tape_1 ⟨by dsimp only; omega, by dsimp only; omega⟩) hL rfl (fun locs hL => ?_)
  refine W.wid (b := wZ w) (Nat.le_refl _) hZ.1 (Nat.le_refl _) ?_
  refine lv_if_ne (tgt := 9) hx hb dX0_tape_4 (by decide) (fun c1 => ?_) (fun c1 => ?_)
  · rw [if_pos (bI_p c1)] at h
    refine lv_iload_n hx hb dX0_tape_9 rfl (lv_at hl 2 rfl) ?_
    refine lv_iconst (v := -1) hx hb dX0_tape_10 (by decide) ?_
    refine lv_iconst (v := 4) hx hb dX0_tape_11 (by decide) ?_
    refine k_P (st1 := [.int (bI (f_X0_in a2 (-1 : Int32) (4 : Int32) w))]) (va_runS (As := [.int a2, .int (-1 : Int32), .int (4 : Int32)]) (rest := []) ⟨hx, hb, hml, hown, hts⟩ (met_X0_in l G z H0 w a2 (-1 : Int32) (4 : Int32) _ rfl) (va_cwS 3 hts (lw_S q344 q345 q100 q346) rfl rfl rfl hd_X0_in ⟨Nat.le_of_ble_eq_true rfl, Nat.le_of_ble_eq_true rfl⟩) (preS hK hR hF hN) rfl rfl hl.1 rfl (lv_room (Nat.le_of_ble_eq_true rfl)) dX0_tape_12 ⟨by dsimp only; omega, by dsimp only; omega⟩) hL rfl (fun locs hL => ?_)
    refine W.wid (b := wZ w) (Nat.le_refl _) hZ.1 (Nat.le_refl _) ?_
    refine lv_if_eq (tgt := 29) hx hb dX0_tape_15 (by decide) (fun c2 => ?_) (fun c2 => ?_)
    · rw [if_neg (bI_n c2)] at h
      refine lv_bipush (v := -2) hx hb dX0_tape_29 (by decide) ?_
      have h := Option.some.inj h
      subst h
      exact W.toT (W.iret (v := (-2 : Int32)) hx hb hr (fun t ht _ => ⟨rfl, by rw [ht]; exact hR, hF⟩) hL dX0_tape_31)
    · rw [if_pos (bI_p c2)] at h
      refine lv_iload_n hx hb dX0_tape_18 rfl (lv_at hl 2 rfl) ?_
      refine lv_iconst (v := -1) hx hb dX0_tape_19 (by decide) ?_
      refine lv_icmp_eq (tgt := 32) hx hb dX0_tape_20 (by decide) (fun c3 => ?_) (fun c3 => ?_)
      · rw [if_pos c3] at h
        exact hJ32  w h H locs ls hR hF hL hZ (lv_sub hl [0, 1, 2, 3] rfl)
      · rw [if_neg c3] at h
        refine lv_iload_n hx hb dX0_tape_23 rfl (lv_at hl 3 rfl) ?_
        refine lv_bipush (v := 60) hx hb dX0_tape_24 (by decide) ?_
        refine lv_icmp_le (tgt := 32) hx hb dX0_tape_26 (by decide) (fun c21 => ?_) (fun c21 => ?_)
        · rw [if_pos c21] at h
          exact hJ32  w h H locs ls hR hF hL hZ (lv_sub hl [0, 1, 2, 3] rfl)
        · rw [if_neg c21] at h
          refine lv_bipush (v := -2) hx hb dX0_tape_29 (by decide) ?_
          have h := Option.some.inj h
          subst h
          exact W.toT (W.iret (v := (-2 : Int32)) hx hb hr (fun t ht _ => ⟨rfl, by rw [ht]; exact hR, hF⟩) hL dX0_tape_31)
  · rw [if_neg (bI_n c1)] at h
    refine lv_iconst (v := -1) hx hb dX0_tape_7 (by decide) ?_
    have h := Option.some.inj h
    subst h
    exact W.toT (W.iret (v := (-1 : Int32)) hx hb hr (fun t ht _ => ⟨rfl, by rw [ht]; exact hR, hF⟩) hL dX0_tape_8)
