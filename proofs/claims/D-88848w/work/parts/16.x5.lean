def f_X0_takenFor (B n : Nat) (a1 : Option Nat) (a2 : Int32) (w : Wd) : Option ((Option Nat ⊕ Nat) × Wd) :=
  if a2 = 0 then (if cardOk w a1 = true then (if castOk w a1 [9, 10, 11, 12, 13, 14, 15] = false then (if wZ w + 3 ≤ B then (some (.inr (wZ w + 2), sN (sX w 2) 28 0)) else none) else (some (.inl a1, w))) else none) else (if a2 = 1 then (if cardOk w a1 = true then (if castOk w a1 [10, 11, 12, 15] = false then (if wZ w + 3 ≤ B then (some (.inr (wZ w + 2), sN (sX w 2) 28 0)) else none) else (some (.inl a1, w))) else none) else (if a2 = 2 then (if cardOk w a1 = true then (if castOk w a1 [11] = false then (if wZ w + 3 ≤ B then (some (.inr (wZ w + 2), sN (sX w 2) 28 0)) else none) else (some (.inl a1, w))) else none) else (if a2 = 3 then (if cardOk w a1 = true then (if castOk w a1 [12, 15] = false then (if wZ w + 3 ≤ B then (some (.inr (wZ w + 2), sN (sX w 2) 28 0)) else none) else (some (.inl a1, w))) else none) else (if a2 = 4 then (if cardOk w a1 = true then (if castOk w a1 [15] = false then (if wZ w + 3 ≤ B then (some (.inr (wZ w + 2), sN (sX w 2) 28 0)) else none) else (some (.inl a1, w))) else none) else (if a2 = 5 then (if cardOk w a1 = true then (if castOk w a1 [13] = false then (if wZ w + 3 ≤ B then (some (.inr (wZ w + 2), sN (sX w 2) 28 0)) else none) else (some (.inl a1, w))) else none) else (if cardOk w a1 = true then (if castOk w a1 [14] = false then (if wZ w + 3 ≤ B then (some (.inr (wZ w + 2), sN (sX w 2) 28 0)) else none) else (some (.inl a1, w))) else none))))))
theorem hd_X0_takenFor : yX0_takenFor.cls ≠ "java/lang/invoke/MethodHandle" ∧ yX0_takenFor.cls ≠ "java/lang/invoke/VarHandle" ∧ (parseMethodDescriptor yX0_takenFor.desc).map (fun d => d.parameters.length) = some 2 := by decide +kernel
set_option maxHeartbeats 4000000 in
set_option maxRecDepth 100000 in
theorem met_X0_takenFor (l : Launch) (htr : ∀ e, l.admits e → e.platform.stackTraces = false) (G : Gw) (z : Nat) (H0 : Heap) (B n : Nat) (w : Wd) (a1 : Option Nat) (a2 : Int32) (q : (Option Nat ⊕ Nat) × Wd) (h : f_X0_takenFor B n a1 a2 w = some q)  (hB : wZ w ≤ B) : MetT l yX0_takenFor (ws_ yX0_takenFor cX0_takenFor 2 (some (.object "BarredBooks$Card"))) ({ frames := 9, cells := B - wZ w, slots := 80 * (B - wZ w), locals := 10270 } : Room) (pcT G z H0 w [rfv z a1, .int a2]) (qT G z H0 q.2 (cvR z q.1)) (wZ q.2 - wZ w) (80 * (wZ q.2 - wZ w)) (fun q => z ≤ q) := by
  refine mT (by decide) (by simp [lg_sl, cat_rfv, cat_i, cat_r, cat_l, cat_n]) ?_
  intro p e s m below meth c ls hx hb hr hml hown hts hlocks hnm hnoh hK hR hF hN hS hl
  have hown : s.vm.findClass RX0 = some m.cls := hown
  have hl : lv_has ls 2 [(0, rfv z a1), (1, .int a2)] := by simpa [lv_args, cat_rfv, cat_i, cat_r, cat_l, cat_n] using hl
  have hL : lok z [] := lok_nil
  unfold f_X0_takenFor at h
  obtain ⟨z0, hz0⟩ : ∃ z0, wZ w = z0 := ⟨_, rfl⟩
  rw [hz0]
  refine W.widen (k := wZ w - z0) (n := 80 * (wZ w - z0)) (Nat.zero_le _) (Nat.zero_le _) ?_
  have hZ : z0 ≤ wZ w ∧ wZ w ≤ B := ⟨by omega, hB⟩
  have hold : ∀ q : Nat, q < z → s.heap[q]? = H0[q]? := hR.2.1
  generalize s.heap = H at hR ⊢
  generalize ([] : List Loc) = locs at hL ⊢
  refine lv_iload_n hx hb dX0_takenFor_0 rfl (lv_at hl 1 rfl) ?_
  by_cases c1 : a2 = 0
  · rw [if_pos c1] at h
    refine lv_tableIn (off := 39) (tgt := 40) hx hb dX0_takenFor_1 (by rw [c1]; decide) (by rw [c1]; decide) (by rw [c1]; rfl) (by decide) ?_
    refine x_aload_n hx hb dX0_takenFor_40 rfl (lv_at hl 0 rfl) ?_
    obtain ⟨hcd2, h⟩ := grd h
    by_cases hco3 : castOk w a1 [9, 10, 11, 12, 13, 14, 15] = false
    · rw [if_pos hco3] at h
      obtain ⟨a5, hv4, hnt9⟩ := castOk_no hco3
      have h9 := cardOk_some hcd2 hv4
      obtain ⟨hz8, h⟩ := grd h
      suffices hkN : ∀ (st9 : List Value) (text : String), (st9.map fun v => v.category).sum ≤ 8 → ((text == notModelled) = false ∧ (stringBytes (stringToUtf16 text)).size ≤ 230) → WN p l e ({ frames := 9, cells := B - z0, slots := 80 * (B - z0), locals := 10270 } : Room) s m ([rfv z a1, .int a2] : List Value).toArray below meth c H locs (wZ w - z0) (80 * (wZ w - z0)) (MQT below (qT G z H0 q.2 (cvR z q.1)) ([rfv z a1, .int a2] : List Value).toArray s (wZ q.2 - z0) (80 * (wZ q.2 - z0)) (fun q => z ≤ q)) (F0 m 41 ls st9) "java/lang/ClassCastException" (some text) by
        exfalso
        simp only [List.mem_cons, List.not_mem_nil, or_false] at hnt9
        omega
      intro st9 text hs9 ht9
      refine wn_cce hx htr hts hN hold hS hK hR hL ht9 (hl.1.trans hml.symm) (Nat.le_of_ble_eq_true rfl) (by dsimp only; omega) (by dsimp only; omega) (by dsimp only; omega) (fun H locs hR hL => ?_)
      have hF := (hF.sX 2).sN 28 0
      have ez9 : wZ (sN (sX w 2) 28 0) = wZ w + 3 := rfl
      refine WT.widen (k := wZ (sN (sX w 2) 28 0) - z0) (n := 80 * (wZ (sN (sX w 2) 28 0) - z0)) (by omega) (by omega) ?_
      have h := Option.some.inj h
      subst h
      exact WT.leave (fun x9 hx9 => hnoh x9 hx9 41) (fun t ht _ => ⟨rfl, by rw [ht]; exact hR, hF⟩) hL hlocks
    rw [if_neg hco3] at h
    suffices hk6 : W p l e ({ frames := 9, cells := B - z0, slots := 80 * (B - z0), locals := 10270 } : Room) s m ([rfv z a1, .int a2] : List Value).toArray below meth c H locs (wZ w - z0) (80 * (wZ w - z0)) (MQT below (qT G z H0 q.2 (cvR z q.1)) ([rfv z a1, .int a2] : List Value).toArray s (wZ q.2 - z0) (80 * (wZ q.2 - z0)) (fun q => z ≤ q)) (F0 m 44 ls [rfv z a1]) by
      rcases opt_cases a1 with hv4 | ⟨a5, hv4⟩
      · exact x_castNull hx hb (rfv_none hv4) dX0_takenFor_41 hk6
      · have h8 := castOk_some hco3 hv4
        have c7 : (wT w a5).1 = 9 ∨ (wT w a5).1 = 10 ∨ (wT w a5).1 = 11 ∨ (wT w a5).1 = 12 ∨ (wT w a5).1 = 13 ∨ (wT w a5).1 = 14 ∨ (wT w a5).1 = 15 := by simpa using h8
        rcases c7 with c7 | c7 | c7 | c7 | c7 | c7 | c7
        · exact x_cast (nm := "BarredBooks$Card") (ci := 8) (r := (RX8, TX8, 4)) hx hb hown (hts _ q166) hK hR (rfv_some hv4) c7 rfl (Or.inl rfl) dX0_takenFor_41 hk6
        · exact x_cast (nm := "BarredBooks$Card") (ci := 9) (r := (RX9, TX9, 4)) hx hb hown (hts _ q166) hK hR (rfv_some hv4) c7 rfl (Or.inr (hN.at q2309 rfl)) dX0_takenFor_41 hk6
        · exact x_cast (nm := "BarredBooks$Card") (ci := 10) (r := (RX10, TX10, 4)) hx hb hown (hts _ q166) hK hR (rfv_some hv4) c7 rfl (Or.inr (hN.at q2305 rfl)) dX0_takenFor_41 hk6
        · exact x_cast (nm := "BarredBooks$Card") (ci := 11) (r := (RX11, TX11, 5)) hx hb hown (hts _ q166) hK hR (rfv_some hv4) c7 rfl (Or.inr (hN.at q2310 rfl)) dX0_takenFor_41 hk6
        · exact x_cast (nm := "BarredBooks$Card") (ci := 12) (r := (RX12, TX12, 4)) hx hb hown (hts _ q166) hK hR (rfv_some hv4) c7 rfl (Or.inr (hN.at q2307 rfl)) dX0_takenFor_41 hk6
        · exact x_cast (nm := "BarredBooks$Card") (ci := 13) (r := (RX13, TX13, 4)) hx hb hown (hts _ q166) hK hR (rfv_some hv4) c7 rfl (Or.inr (hN.at q2306 rfl)) dX0_takenFor_41 hk6
        · exact x_cast (nm := "BarredBooks$Card") (ci := 14) (r := (RX14, TX14, 5)) hx hb hown (hts _ q166) hK hR (rfv_some hv4) c7 rfl (Or.inr (hN.at q2308 rfl)) dX0_takenFor_41 hk6
    have h := Option.some.inj h
    subst h
    exact W.toT (x_aret (r := a1) hx hb hr rfl (fun t ht _ => ⟨rfl, by rw [ht]; exact hR, hF⟩) hL dX0_takenFor_44 hlocks)
  rw [if_neg c1] at h
  by_cases c10 : a2 = 1
  · rw [if_pos c10] at h
    refine lv_tableIn (off := 44) (tgt := 45) hx hb dX0_takenFor_1 (by rw [c10]; decide) (by rw [c10]; decide) (by rw [c10]; rfl) (by decide) ?_
    refine x_aload_n hx hb dX0_takenFor_45 rfl (lv_at hl 0 rfl) ?_
    obtain ⟨hcd11, h⟩ := grd h
    by_cases hco12 : castOk w a1 [10, 11, 12, 15] = false
    · rw [if_pos hco12] at h
      obtain ⟨a14, hv13, hnt9⟩ := castOk_no hco12
      have h9 := cardOk_some hcd11 hv13
      obtain ⟨hz17, h⟩ := grd h
      suffices hkN : ∀ (st9 : List Value) (text : String), (st9.map fun v => v.category).sum ≤ 8 → ((text == notModelled) = false ∧ (stringBytes (stringToUtf16 text)).size ≤ 230) → WN p l e ({ frames := 9, cells := B - z0, slots := 80 * (B - z0), locals := 10270 } : Room) s m ([rfv z a1, .int a2] : List Value).toArray below meth c H locs (wZ w - z0) (80 * (wZ w - z0)) (MQT below (qT G z H0 q.2 (cvR z q.1)) ([rfv z a1, .int a2] : List Value).toArray s (wZ q.2 - z0) (80 * (wZ q.2 - z0)) (fun q => z ≤ q)) (F0 m 46 ls st9) "java/lang/ClassCastException" (some text) by
        have c16 : (wT w a14).1 = 9 ∨ (wT w a14).1 = 13 ∨ (wT w a14).1 = 14 := by
          simp only [List.mem_cons, List.not_mem_nil, or_false] at hnt9
          omega
        rcases c16 with c16 | c16 | c16
        · exact x_castF (C := "BarredBooks$Card") hx hb hown (hts _ q524) hS (hN.nc 20 rfl) (nm_at 0 rfl) (nm_at 1 rfl) (r_recv hK hR c16 rfl) (rfv_some hv13) dX0_takenFor_46 (fun text ht => hkN _ text (by simp [cat_rfv, cat_i, cat_r, cat_l, cat_n]) ht)
        · exact x_castF (C := "BarredBooks$Leave") hx hb hown (hts _ q524) hS (hN.nc 42 rfl) (nm_at 5 rfl) (nm_at 1 rfl) (r_recv hK hR c16 rfl) (rfv_some hv13) dX0_takenFor_46 (fun text ht => hkN _ text (by simp [cat_rfv, cat_i, cat_r, cat_l, cat_n]) ht)
        · exact x_castF (C := "BarredBooks$Found") hx hb hown (hts _ q524) hS (hN.nc 47 rfl) (nm_at 6 rfl) (nm_at 1 rfl) (r_recv hK hR c16 rfl) (rfv_some hv13) dX0_takenFor_46 (fun text ht => hkN _ text (by simp [cat_rfv, cat_i, cat_r, cat_l, cat_n]) ht)
      intro st9 text hs9 ht9
      refine wn_cce hx htr hts hN hold hS hK hR hL ht9 (hl.1.trans hml.symm) (Nat.le_of_ble_eq_true rfl) (by dsimp only; omega) (by dsimp only; omega) (by dsimp only; omega) (fun H locs hR hL => ?_)
      have hF := (hF.sX 2).sN 28 0
      have ez18 : wZ (sN (sX w 2) 28 0) = wZ w + 3 := rfl
      refine WT.widen (k := wZ (sN (sX w 2) 28 0) - z0) (n := 80 * (wZ (sN (sX w 2) 28 0) - z0)) (by omega) (by omega) ?_
      have h := Option.some.inj h
      subst h
      exact WT.leave (fun x9 hx9 => hnoh x9 hx9 46) (fun t ht _ => ⟨rfl, by rw [ht]; exact hR, hF⟩) hL hlocks
    rw [if_neg hco12] at h
    suffices hk15 : W p l e ({ frames := 9, cells := B - z0, slots := 80 * (B - z0), locals := 10270 } : Room) s m ([rfv z a1, .int a2] : List Value).toArray below meth c H locs (wZ w - z0) (80 * (wZ w - z0)) (MQT below (qT G z H0 q.2 (cvR z q.1)) ([rfv z a1, .int a2] : List Value).toArray s (wZ q.2 - z0) (80 * (wZ q.2 - z0)) (fun q => z ≤ q)) (F0 m 49 ls [rfv z a1]) by
      rcases opt_cases a1 with hv13 | ⟨a14, hv13⟩
      · exact x_castNull hx hb (rfv_none hv13) dX0_takenFor_46 hk15
      · have h8 := castOk_some hco12 hv13
        have c16 : (wT w a14).1 = 10 ∨ (wT w a14).1 = 11 ∨ (wT w a14).1 = 12 ∨ (wT w a14).1 = 15 := by simpa using h8
        rcases c16 with c16 | c16 | c16 | c16
        · exact x_cast (nm := "BarredBooks$Printed") (ci := 9) (r := (RX9, TX9, 4)) hx hb hown (hts _ q524) hK hR (rfv_some hv13) c16 rfl (Or.inl rfl) dX0_takenFor_46 hk15
        · exact x_cast (nm := "BarredBooks$Printed") (ci := 10) (r := (RX10, TX10, 4)) hx hb hown (hts _ q524) hK hR (rfv_some hv13) c16 rfl (Or.inr (hN.at q2311 rfl)) dX0_takenFor_46 hk15
        · exact x_cast (nm := "BarredBooks$Printed") (ci := 11) (r := (RX11, TX11, 5)) hx hb hown (hts _ q524) hK hR (rfv_some hv13) c16 rfl (Or.inr (hN.at q2313 rfl)) dX0_takenFor_46 hk15
        · exact x_cast (nm := "BarredBooks$Printed") (ci := 14) (r := (RX14, TX14, 5)) hx hb hown (hts _ q524) hK hR (rfv_some hv13) c16 rfl (Or.inr (hN.at q2312 rfl)) dX0_takenFor_46 hk15
    have h := Option.some.inj h
    subst h
    exact W.toT (x_aret (r := a1) hx hb hr rfl (fun t ht _ => ⟨rfl, by rw [ht]; exact hR, hF⟩) hL dX0_takenFor_49 hlocks)
  rw [if_neg c10] at h
  by_cases c19 : a2 = 2
  · rw [if_pos c19] at h
    refine lv_tableIn (off := 49) (tgt := 50) hx hb dX0_takenFor_1 (by rw [c19]; decide) (by rw [c19]; decide) (by rw [c19]; rfl) (by decide) ?_
    refine x_aload_n hx hb dX0_takenFor_50 rfl (lv_at hl 0 rfl) ?_
    obtain ⟨hcd20, h⟩ := grd h
    by_cases hco21 : castOk w a1 [11] = false
    · rw [if_pos hco21] at h
      obtain ⟨a23, hv22, hnt9⟩ := castOk_no hco21
      have h9 := cardOk_some hcd20 hv22
      obtain ⟨hz26, h⟩ := grd h
      suffices hkN : ∀ (st9 : List Value) (text : String), (st9.map fun v => v.category).sum ≤ 8 → ((text == notModelled) = false ∧ (stringBytes (stringToUtf16 text)).size ≤ 230) → WN p l e ({ frames := 9, cells := B - z0, slots := 80 * (B - z0), locals := 10270 } : Room) s m ([rfv z a1, .int a2] : List Value).toArray below meth c H locs (wZ w - z0) (80 * (wZ w - z0)) (MQT below (qT G z H0 q.2 (cvR z q.1)) ([rfv z a1, .int a2] : List Value).toArray s (wZ q.2 - z0) (80 * (wZ q.2 - z0)) (fun q => z ≤ q)) (F0 m 51 ls st9) "java/lang/ClassCastException" (some text) by
        have c25 : (wT w a23).1 = 9 ∨ (wT w a23).1 = 10 ∨ (wT w a23).1 = 12 ∨ (wT w a23).1 = 13 ∨ (wT w a23).1 = 14 ∨ (wT w a23).1 = 15 := by
          simp only [List.mem_cons, List.not_mem_nil, or_false] at hnt9
          omega
        rcases c25 with c25 | c25 | c25 | c25 | c25 | c25
        · exact x_castF (C := "BarredBooks$Card") hx hb hown (hts _ q535) hS (hN.nc 21 rfl) (nm_at 0 rfl) (nm_at 2 rfl) (r_recv hK hR c25 rfl) (rfv_some hv22) dX0_takenFor_51 (fun text ht => hkN _ text (by simp [cat_rfv, cat_i, cat_r, cat_l, cat_n]) ht)
        · exact x_castF (C := "BarredBooks$Printed") hx hb hown (hts _ q535) hS (hN.nc 26 rfl) (nm_at 1 rfl) (nm_at 2 rfl) (r_recv hK hR c25 rfl) (rfv_some hv22) dX0_takenFor_51 (fun text ht => hkN _ text (by simp [cat_rfv, cat_i, cat_r, cat_l, cat_n]) ht)
        · exact x_castF (C := "BarredBooks$Struck") hx hb hown (hts _ q535) hS (hN.nc 35 rfl) (nm_at 3 rfl) (nm_at 2 rfl) (r_recv hK hR c25 rfl) (rfv_some hv22) dX0_takenFor_51 (fun text ht => hkN _ text (by simp [cat_rfv, cat_i, cat_r, cat_l, cat_n]) ht)
        · exact x_castF (C := "BarredBooks$Leave") hx hb hown (hts _ q535) hS (hN.nc 43 rfl) (nm_at 5 rfl) (nm_at 2 rfl) (r_recv hK hR c25 rfl) (rfv_some hv22) dX0_takenFor_51 (fun text ht => hkN _ text (by simp [cat_rfv, cat_i, cat_r, cat_l, cat_n]) ht)
        · exact x_castF (C := "BarredBooks$Found") hx hb hown (hts _ q535) hS (hN.nc 48 rfl) (nm_at 6 rfl) (nm_at 2 rfl) (r_recv hK hR c25 rfl) (rfv_some hv22) dX0_takenFor_51 (fun text ht => hkN _ text (by simp [cat_rfv, cat_i, cat_r, cat_l, cat_n]) ht)
        · exact x_castF (C := "BarredBooks$Mended") hx hb hown (hts _ q535) hS (hN.nc 39 rfl) (nm_at 4 rfl) (nm_at 2 rfl) (r_recv hK hR c25 rfl) (rfv_some hv22) dX0_takenFor_51 (fun text ht => hkN _ text (by simp [cat_rfv, cat_i, cat_r, cat_l, cat_n]) ht)
      intro st9 text hs9 ht9
      refine wn_cce hx htr hts hN hold hS hK hR hL ht9 (hl.1.trans hml.symm) (Nat.le_of_ble_eq_true rfl) (by dsimp only; omega) (by dsimp only; omega) (by dsimp only; omega) (fun H locs hR hL => ?_)
      have hF := (hF.sX 2).sN 28 0
      have ez27 : wZ (sN (sX w 2) 28 0) = wZ w + 3 := rfl
      refine WT.widen (k := wZ (sN (sX w 2) 28 0) - z0) (n := 80 * (wZ (sN (sX w 2) 28 0) - z0)) (by omega) (by omega) ?_
      have h := Option.some.inj h
      subst h
      exact WT.leave (fun x9 hx9 => hnoh x9 hx9 51) (fun t ht _ => ⟨rfl, by rw [ht]; exact hR, hF⟩) hL hlocks
    rw [if_neg hco21] at h
    suffices hk24 : W p l e ({ frames := 9, cells := B - z0, slots := 80 * (B - z0), locals := 10270 } : Room) s m ([rfv z a1, .int a2] : List Value).toArray below meth c H locs (wZ w - z0) (80 * (wZ w - z0)) (MQT below (qT G z H0 q.2 (cvR z q.1)) ([rfv z a1, .int a2] : List Value).toArray s (wZ q.2 - z0) (80 * (wZ q.2 - z0)) (fun q => z ≤ q)) (F0 m 54 ls [rfv z a1]) by
      rcases opt_cases a1 with hv22 | ⟨a23, hv22⟩
      · exact x_castNull hx hb (rfv_none hv22) dX0_takenFor_51 hk24
      · have h8 := castOk_some hco21 hv22
        have c25 : (wT w a23).1 = 11 := by simpa using h8
        exact x_cast (nm := "BarredBooks$Barred") (ci := 10) (r := (RX10, TX10, 4)) hx hb hown (hts _ q535) hK hR (rfv_some hv22) c25 rfl (Or.inl rfl) dX0_takenFor_51 hk24
    have h := Option.some.inj h
    subst h
    exact W.toT (x_aret (r := a1) hx hb hr rfl (fun t ht _ => ⟨rfl, by rw [ht]; exact hR, hF⟩) hL dX0_takenFor_54 hlocks)
  rw [if_neg c19] at h
  by_cases c28 : a2 = 3
  · rw [if_pos c28] at h
    refine lv_tableIn (off := 54) (tgt := 55) hx hb dX0_takenFor_1 (by rw [c28]; decide) (by rw [c28]; decide) (by rw [c28]; rfl) (by decide) ?_
    refine x_aload_n hx hb dX0_takenFor_55 rfl (lv_at hl 0 rfl) ?_
    obtain ⟨hcd29, h⟩ := grd h
    by_cases hco30 : castOk w a1 [12, 15] = false
    · rw [if_pos hco30] at h
      obtain ⟨a32, hv31, hnt9⟩ := castOk_no hco30
      have h9 := cardOk_some hcd29 hv31
      obtain ⟨hz35, h⟩ := grd h
      suffices hkN : ∀ (st9 : List Value) (text : String), (st9.map fun v => v.category).sum ≤ 8 → ((text == notModelled) = false ∧ (stringBytes (stringToUtf16 text)).size ≤ 230) → WN p l e ({ frames := 9, cells := B - z0, slots := 80 * (B - z0), locals := 10270 } : Room) s m ([rfv z a1, .int a2] : List Value).toArray below meth c H locs (wZ w - z0) (80 * (wZ w - z0)) (MQT below (qT G z H0 q.2 (cvR z q.1)) ([rfv z a1, .int a2] : List Value).toArray s (wZ q.2 - z0) (80 * (wZ q.2 - z0)) (fun q => z ≤ q)) (F0 m 56 ls st9) "java/lang/ClassCastException" (some text) by
        have c34 : (wT w a32).1 = 9 ∨ (wT w a32).1 = 10 ∨ (wT w a32).1 = 11 ∨ (wT w a32).1 = 13 ∨ (wT w a32).1 = 14 := by
          simp only [List.mem_cons, List.not_mem_nil, or_false] at hnt9
          omega
        rcases c34 with c34 | c34 | c34 | c34 | c34
        · exact x_castF (C := "BarredBooks$Card") hx hb hown (hts _ q546) hS (hN.nc 22 rfl) (nm_at 0 rfl) (nm_at 3 rfl) (r_recv hK hR c34 rfl) (rfv_some hv31) dX0_takenFor_56 (fun text ht => hkN _ text (by simp [cat_rfv, cat_i, cat_r, cat_l, cat_n]) ht)
        · exact x_castF (C := "BarredBooks$Printed") hx hb hown (hts _ q546) hS (hN.nc 27 rfl) (nm_at 1 rfl) (nm_at 3 rfl) (r_recv hK hR c34 rfl) (rfv_some hv31) dX0_takenFor_56 (fun text ht => hkN _ text (by simp [cat_rfv, cat_i, cat_r, cat_l, cat_n]) ht)
        · exact x_castF (C := "BarredBooks$Barred") hx hb hown (hts _ q546) hS (hN.nc 31 rfl) (nm_at 2 rfl) (nm_at 3 rfl) (r_recv hK hR c34 rfl) (rfv_some hv31) dX0_takenFor_56 (fun text ht => hkN _ text (by simp [cat_rfv, cat_i, cat_r, cat_l, cat_n]) ht)
        · exact x_castF (C := "BarredBooks$Leave") hx hb hown (hts _ q546) hS (hN.nc 44 rfl) (nm_at 5 rfl) (nm_at 3 rfl) (r_recv hK hR c34 rfl) (rfv_some hv31) dX0_takenFor_56 (fun text ht => hkN _ text (by simp [cat_rfv, cat_i, cat_r, cat_l, cat_n]) ht)
        · exact x_castF (C := "BarredBooks$Found") hx hb hown (hts _ q546) hS (hN.nc 49 rfl) (nm_at 6 rfl) (nm_at 3 rfl) (r_recv hK hR c34 rfl) (rfv_some hv31) dX0_takenFor_56 (fun text ht => hkN _ text (by simp [cat_rfv, cat_i, cat_r, cat_l, cat_n]) ht)
      intro st9 text hs9 ht9
      refine wn_cce hx htr hts hN hold hS hK hR hL ht9 (hl.1.trans hml.symm) (Nat.le_of_ble_eq_true rfl) (by dsimp only; omega) (by dsimp only; omega) (by dsimp only; omega) (fun H locs hR hL => ?_)
      have hF := (hF.sX 2).sN 28 0
      have ez36 : wZ (sN (sX w 2) 28 0) = wZ w + 3 := rfl
      refine WT.widen (k := wZ (sN (sX w 2) 28 0) - z0) (n := 80 * (wZ (sN (sX w 2) 28 0) - z0)) (by omega) (by omega) ?_
      have h := Option.some.inj h
      subst h
      exact WT.leave (fun x9 hx9 => hnoh x9 hx9 56) (fun t ht _ => ⟨rfl, by rw [ht]; exact hR, hF⟩) hL hlocks
    rw [if_neg hco30] at h
    suffices hk33 : W p l e ({ frames := 9, cells := B - z0, slots := 80 * (B - z0), locals := 10270 } : Room) s m ([rfv z a1, .int a2] : List Value).toArray below meth c H locs (wZ w - z0) (80 * (wZ w - z0)) (MQT below (qT G z H0 q.2 (cvR z q.1)) ([rfv z a1, .int a2] : List Value).toArray s (wZ q.2 - z0) (80 * (wZ q.2 - z0)) (fun q => z ≤ q)) (F0 m 59 ls [rfv z a1]) by
      rcases opt_cases a1 with hv31 | ⟨a32, hv31⟩
      · exact x_castNull hx hb (rfv_none hv31) dX0_takenFor_56 hk33
      · have h8 := castOk_some hco30 hv31
        have c34 : (wT w a32).1 = 12 ∨ (wT w a32).1 = 15 := by simpa using h8
        rcases c34 with c34 | c34
        · exact x_cast (nm := "BarredBooks$Struck") (ci := 11) (r := (RX11, TX11, 5)) hx hb hown (hts _ q546) hK hR (rfv_some hv31) c34 rfl (Or.inl rfl) dX0_takenFor_56 hk33
        · exact x_cast (nm := "BarredBooks$Struck") (ci := 14) (r := (RX14, TX14, 5)) hx hb hown (hts _ q546) hK hR (rfv_some hv31) c34 rfl (Or.inr (hN.at q2304 rfl)) dX0_takenFor_56 hk33
    have h := Option.some.inj h
    subst h
    exact W.toT (x_aret (r := a1) hx hb hr rfl (fun t ht _ => ⟨rfl, by rw [ht]; exact hR, hF⟩) hL dX0_takenFor_59 hlocks)
  rw [if_neg c28] at h
  by_cases c37 : a2 = 4
  · rw [if_pos c37] at h
    refine lv_tableIn (off := 59) (tgt := 60) hx hb dX0_takenFor_1 (by rw [c37]; decide) (by rw [c37]; decide) (by rw [c37]; rfl) (by decide) ?_
    refine x_aload_n hx hb dX0_takenFor_60 rfl (lv_at hl 0 rfl) ?_
    obtain ⟨hcd38, h⟩ := grd h
    by_cases hco39 : castOk w a1 [15] = false
    · rw [if_pos hco39] at h
      obtain ⟨a41, hv40, hnt9⟩ := castOk_no hco39
      have h9 := cardOk_some hcd38 hv40
      obtain ⟨hz44, h⟩ := grd h
      suffices hkN : ∀ (st9 : List Value) (text : String), (st9.map fun v => v.category).sum ≤ 8 → ((text == notModelled) = false ∧ (stringBytes (stringToUtf16 text)).size ≤ 230) → WN p l e ({ frames := 9, cells := B - z0, slots := 80 * (B - z0), locals := 10270 } : Room) s m ([rfv z a1, .int a2] : List Value).toArray below meth c H locs (wZ w - z0) (80 * (wZ w - z0)) (MQT below (qT G z H0 q.2 (cvR z q.1)) ([rfv z a1, .int a2] : List Value).toArray s (wZ q.2 - z0) (80 * (wZ q.2 - z0)) (fun q => z ≤ q)) (F0 m 61 ls st9) "java/lang/ClassCastException" (some text) by
        have c43 : (wT w a41).1 = 9 ∨ (wT w a41).1 = 10 ∨ (wT w a41).1 = 11 ∨ (wT w a41).1 = 12 ∨ (wT w a41).1 = 13 ∨ (wT w a41).1 = 14 := by
          simp only [List.mem_cons, List.not_mem_nil, or_false] at hnt9
          omega
        rcases c43 with c43 | c43 | c43 | c43 | c43 | c43
        · exact x_castF (C := "BarredBooks$Card") hx hb hown (hts _ q676) hS (hN.nc 23 rfl) (nm_at 0 rfl) (nm_at 4 rfl) (r_recv hK hR c43 rfl) (rfv_some hv40) dX0_takenFor_61 (fun text ht => hkN _ text (by simp [cat_rfv, cat_i, cat_r, cat_l, cat_n]) ht)
        · exact x_castF (C := "BarredBooks$Printed") hx hb hown (hts _ q676) hS (hN.nc 28 rfl) (nm_at 1 rfl) (nm_at 4 rfl) (r_recv hK hR c43 rfl) (rfv_some hv40) dX0_takenFor_61 (fun text ht => hkN _ text (by simp [cat_rfv, cat_i, cat_r, cat_l, cat_n]) ht)
        · exact x_castF (C := "BarredBooks$Barred") hx hb hown (hts _ q676) hS (hN.nc 32 rfl) (nm_at 2 rfl) (nm_at 4 rfl) (r_recv hK hR c43 rfl) (rfv_some hv40) dX0_takenFor_61 (fun text ht => hkN _ text (by simp [cat_rfv, cat_i, cat_r, cat_l, cat_n]) ht)
        · exact x_castF (C := "BarredBooks$Struck") hx hb hown (hts _ q676) hS (hN.nc 36 rfl) (nm_at 3 rfl) (nm_at 4 rfl) (r_recv hK hR c43 rfl) (rfv_some hv40) dX0_takenFor_61 (fun text ht => hkN _ text (by simp [cat_rfv, cat_i, cat_r, cat_l, cat_n]) ht)
        · exact x_castF (C := "BarredBooks$Leave") hx hb hown (hts _ q676) hS (hN.nc 45 rfl) (nm_at 5 rfl) (nm_at 4 rfl) (r_recv hK hR c43 rfl) (rfv_some hv40) dX0_takenFor_61 (fun text ht => hkN _ text (by simp [cat_rfv, cat_i, cat_r, cat_l, cat_n]) ht)
        · exact x_castF (C := "BarredBooks$Found") hx hb hown (hts _ q676) hS (hN.nc 50 rfl) (nm_at 6 rfl) (nm_at 4 rfl) (r_recv hK hR c43 rfl) (rfv_some hv40) dX0_takenFor_61 (fun text ht => hkN _ text (by simp [cat_rfv, cat_i, cat_r, cat_l, cat_n]) ht)
      intro st9 text hs9 ht9
      refine wn_cce hx htr hts hN hold hS hK hR hL ht9 (hl.1.trans hml.symm) (Nat.le_of_ble_eq_true rfl) (by dsimp only; omega) (by dsimp only; omega) (by dsimp only; omega) (fun H locs hR hL => ?_)
      have hF := (hF.sX 2).sN 28 0
      have ez45 : wZ (sN (sX w 2) 28 0) = wZ w + 3 := rfl
      refine WT.widen (k := wZ (sN (sX w 2) 28 0) - z0) (n := 80 * (wZ (sN (sX w 2) 28 0) - z0)) (by omega) (by omega) ?_
      have h := Option.some.inj h
      subst h
      exact WT.leave (fun x9 hx9 => hnoh x9 hx9 61) (fun t ht _ => ⟨rfl, by rw [ht]; exact hR, hF⟩) hL hlocks
    rw [if_neg hco39] at h
    suffices hk42 : W p l e ({ frames := 9, cells := B - z0, slots := 80 * (B - z0), locals := 10270 } : Room) s m ([rfv z a1, .int a2] : List Value).toArray below meth c H locs (wZ w - z0) (80 * (wZ w - z0)) (MQT below (qT G z H0 q.2 (cvR z q.1)) ([rfv z a1, .int a2] : List Value).toArray s (wZ q.2 - z0) (80 * (wZ q.2 - z0)) (fun q => z ≤ q)) (F0 m 64 ls [rfv z a1]) by
      rcases opt_cases a1 with hv40 | ⟨a41, hv40⟩
      · exact x_castNull hx hb (rfv_none hv40) dX0_takenFor_61 hk42
      · have h8 := castOk_some hco39 hv40
        have c43 : (wT w a41).1 = 15 := by simpa using h8
        exact x_cast (nm := "BarredBooks$Mended") (ci := 14) (r := (RX14, TX14, 5)) hx hb hown (hts _ q676) hK hR (rfv_some hv40) c43 rfl (Or.inl rfl) dX0_takenFor_61 hk42
    have h := Option.some.inj h
    subst h
    exact W.toT (x_aret (r := a1) hx hb hr rfl (fun t ht _ => ⟨rfl, by rw [ht]; exact hR, hF⟩) hL dX0_takenFor_64 hlocks)
  rw [if_neg c37] at h
  by_cases c46 : a2 = 5
  · rw [if_pos c46] at h
    refine lv_tableIn (off := 64) (tgt := 65) hx hb dX0_takenFor_1 (by rw [c46]; decide) (by rw [c46]; decide) (by rw [c46]; rfl) (by decide) ?_
    refine x_aload_n hx hb dX0_takenFor_65 rfl (lv_at hl 0 rfl) ?_
    obtain ⟨hcd47, h⟩ := grd h
    by_cases hco48 : castOk w a1 [13] = false
    · rw [if_pos hco48] at h
      obtain ⟨a50, hv49, hnt9⟩ := castOk_no hco48
      have h9 := cardOk_some hcd47 hv49
      obtain ⟨hz53, h⟩ := grd h
      suffices hkN : ∀ (st9 : List Value) (text : String), (st9.map fun v => v.category).sum ≤ 8 → ((text == notModelled) = false ∧ (stringBytes (stringToUtf16 text)).size ≤ 230) → WN p l e ({ frames := 9, cells := B - z0, slots := 80 * (B - z0), locals := 10270 } : Room) s m ([rfv z a1, .int a2] : List Value).toArray below meth c H locs (wZ w - z0) (80 * (wZ w - z0)) (MQT below (qT G z H0 q.2 (cvR z q.1)) ([rfv z a1, .int a2] : List Value).toArray s (wZ q.2 - z0) (80 * (wZ q.2 - z0)) (fun q => z ≤ q)) (F0 m 66 ls st9) "java/lang/ClassCastException" (some text) by
        have c52 : (wT w a50).1 = 9 ∨ (wT w a50).1 = 10 ∨ (wT w a50).1 = 11 ∨ (wT w a50).1 = 12 ∨ (wT w a50).1 = 14 ∨ (wT w a50).1 = 15 := by
          simp only [List.mem_cons, List.not_mem_nil, or_false] at hnt9
          omega
        rcases c52 with c52 | c52 | c52 | c52 | c52 | c52
        · exact x_castF (C := "BarredBooks$Card") hx hb hown (hts _ q560) hS (hN.nc 24 rfl) (nm_at 0 rfl) (nm_at 5 rfl) (r_recv hK hR c52 rfl) (rfv_some hv49) dX0_takenFor_66 (fun text ht => hkN _ text (by simp [cat_rfv, cat_i, cat_r, cat_l, cat_n]) ht)
        · exact x_castF (C := "BarredBooks$Printed") hx hb hown (hts _ q560) hS (hN.nc 29 rfl) (nm_at 1 rfl) (nm_at 5 rfl) (r_recv hK hR c52 rfl) (rfv_some hv49) dX0_takenFor_66 (fun text ht => hkN _ text (by simp [cat_rfv, cat_i, cat_r, cat_l, cat_n]) ht)
        · exact x_castF (C := "BarredBooks$Barred") hx hb hown (hts _ q560) hS (hN.nc 33 rfl) (nm_at 2 rfl) (nm_at 5 rfl) (r_recv hK hR c52 rfl) (rfv_some hv49) dX0_takenFor_66 (fun text ht => hkN _ text (by simp [cat_rfv, cat_i, cat_r, cat_l, cat_n]) ht)
        · exact x_castF (C := "BarredBooks$Struck") hx hb hown (hts _ q560) hS (hN.nc 37 rfl) (nm_at 3 rfl) (nm_at 5 rfl) (r_recv hK hR c52 rfl) (rfv_some hv49) dX0_takenFor_66 (fun text ht => hkN _ text (by simp [cat_rfv, cat_i, cat_r, cat_l, cat_n]) ht)
        · exact x_castF (C := "BarredBooks$Found") hx hb hown (hts _ q560) hS (hN.nc 51 rfl) (nm_at 6 rfl) (nm_at 5 rfl) (r_recv hK hR c52 rfl) (rfv_some hv49) dX0_takenFor_66 (fun text ht => hkN _ text (by simp [cat_rfv, cat_i, cat_r, cat_l, cat_n]) ht)
        · exact x_castF (C := "BarredBooks$Mended") hx hb hown (hts _ q560) hS (hN.nc 40 rfl) (nm_at 4 rfl) (nm_at 5 rfl) (r_recv hK hR c52 rfl) (rfv_some hv49) dX0_takenFor_66 (fun text ht => hkN _ text (by simp [cat_rfv, cat_i, cat_r, cat_l, cat_n]) ht)
      intro st9 text hs9 ht9
      refine wn_cce hx htr hts hN hold hS hK hR hL ht9 (hl.1.trans hml.symm) (Nat.le_of_ble_eq_true rfl) (by dsimp only; omega) (by dsimp only; omega) (by dsimp only; omega) (fun H locs hR hL => ?_)
      have hF := (hF.sX 2).sN 28 0
      have ez54 : wZ (sN (sX w 2) 28 0) = wZ w + 3 := rfl
      refine WT.widen (k := wZ (sN (sX w 2) 28 0) - z0) (n := 80 * (wZ (sN (sX w 2) 28 0) - z0)) (by omega) (by omega) ?_
      have h := Option.some.inj h
      subst h
      exact WT.leave (fun x9 hx9 => hnoh x9 hx9 66) (fun t ht _ => ⟨rfl, by rw [ht]; exact hR, hF⟩) hL hlocks
    rw [if_neg hco48] at h
    suffices hk51 : W p l e ({ frames := 9, cells := B - z0, slots := 80 * (B - z0), locals := 10270 } : Room) s m ([rfv z a1, .int a2] : List Value).toArray below meth c H locs (wZ w - z0) (80 * (wZ w - z0)) (MQT below (qT G z H0 q.2 (cvR z q.1)) ([rfv z a1, .int a2] : List Value).toArray s (wZ q.2 - z0) (80 * (wZ q.2 - z0)) (fun q => z ≤ q)) (F0 m 69 ls [rfv z a1]) by
      rcases opt_cases a1 with hv49 | ⟨a50, hv49⟩
      · exact x_castNull hx hb (rfv_none hv49) dX0_takenFor_66 hk51
      · have h8 := castOk_some hco48 hv49
        have c52 : (wT w a50).1 = 13 := by simpa using h8
        exact x_cast (nm := "BarredBooks$Leave") (ci := 12) (r := (RX12, TX12, 4)) hx hb hown (hts _ q560) hK hR (rfv_some hv49) c52 rfl (Or.inl rfl) dX0_takenFor_66 hk51
    have h := Option.some.inj h
    subst h
    exact W.toT (x_aret (r := a1) hx hb hr rfl (fun t ht _ => ⟨rfl, by rw [ht]; exact hR, hF⟩) hL dX0_takenFor_69 hlocks)
  rw [if_neg c46] at h
  refine lv_tableOut (tgt := 70) hx hb dX0_takenFor_1 (by have c1_ := lv_neT c1 (show (0 : Int32).toInt = 0 by decide); have c10_ := lv_neT c10 (show (1 : Int32).toInt = 1 by decide); have c19_ := lv_neT c19 (show (2 : Int32).toInt = 2 by decide); have c28_ := lv_neT c28 (show (3 : Int32).toInt = 3 by decide); have c37_ := lv_neT c37 (show (4 : Int32).toInt = 4 by decide); have c46_ := lv_neT c46 (show (5 : Int32).toInt = 5 by decide); omega) (by decide) ?_
  refine x_aload_n hx hb dX0_takenFor_70 rfl (lv_at hl 0 rfl) ?_
  obtain ⟨hcd55, h⟩ := grd h
  by_cases hco56 : castOk w a1 [14] = false
  · rw [if_pos hco56] at h
    obtain ⟨a58, hv57, hnt9⟩ := castOk_no hco56
    have h9 := cardOk_some hcd55 hv57
    obtain ⟨hz61, h⟩ := grd h
    suffices hkN : ∀ (st9 : List Value) (text : String), (st9.map fun v => v.category).sum ≤ 8 → ((text == notModelled) = false ∧ (stringBytes (stringToUtf16 text)).size ≤ 230) → WN p l e ({ frames := 9, cells := B - z0, slots := 80 * (B - z0), locals := 10270 } : Room) s m ([rfv z a1, .int a2] : List Value).toArray below meth c H locs (wZ w - z0) (80 * (wZ w - z0)) (MQT below (qT G z H0 q.2 (cvR z q.1)) ([rfv z a1, .int a2] : List Value).toArray s (wZ q.2 - z0) (80 * (wZ q.2 - z0)) (fun q => z ≤ q)) (F0 m 71 ls st9) "java/lang/ClassCastException" (some text) by
      have c60 : (wT w a58).1 = 9 ∨ (wT w a58).1 = 10 ∨ (wT w a58).1 = 11 ∨ (wT w a58).1 = 12 ∨ (wT w a58).1 = 13 ∨ (wT w a58).1 = 15 := by
        simp only [List.mem_cons, List.not_mem_nil, or_false] at hnt9
        omega
      rcases c60 with c60 | c60 | c60 | c60 | c60 | c60
      · exact x_castF (C := "BarredBooks$Card") hx hb hown (hts _ q571) hS (hN.nc 25 rfl) (nm_at 0 rfl) (nm_at 6 rfl) (r_recv hK hR c60 rfl) (rfv_some hv57) dX0_takenFor_71 (fun text ht => hkN _ text (by simp [cat_rfv, cat_i, cat_r, cat_l, cat_n]) ht)
      · exact x_castF (C := "BarredBooks$Printed") hx hb hown (hts _ q571) hS (hN.nc 30 rfl) (nm_at 1 rfl) (nm_at 6 rfl) (r_recv hK hR c60 rfl) (rfv_some hv57) dX0_takenFor_71 (fun text ht => hkN _ text (by simp [cat_rfv, cat_i, cat_r, cat_l, cat_n]) ht)
      · exact x_castF (C := "BarredBooks$Barred") hx hb hown (hts _ q571) hS (hN.nc 34 rfl) (nm_at 2 rfl) (nm_at 6 rfl) (r_recv hK hR c60 rfl) (rfv_some hv57) dX0_takenFor_71 (fun text ht => hkN _ text (by simp [cat_rfv, cat_i, cat_r, cat_l, cat_n]) ht)
      · exact x_castF (C := "BarredBooks$Struck") hx hb hown (hts _ q571) hS (hN.nc 38 rfl) (nm_at 3 rfl) (nm_at 6 rfl) (r_recv hK hR c60 rfl) (rfv_some hv57) dX0_takenFor_71 (fun text ht => hkN _ text (by simp [cat_rfv, cat_i, cat_r, cat_l, cat_n]) ht)
      · exact x_castF (C := "BarredBooks$Leave") hx hb hown (hts _ q571) hS (hN.nc 46 rfl) (nm_at 5 rfl) (nm_at 6 rfl) (r_recv hK hR c60 rfl) (rfv_some hv57) dX0_takenFor_71 (fun text ht => hkN _ text (by simp [cat_rfv, cat_i, cat_r, cat_l, cat_n]) ht)
      · exact x_castF (C := "BarredBooks$Mended") hx hb hown (hts _ q571) hS (hN.nc 41 rfl) (nm_at 4 rfl) (nm_at 6 rfl) (r_recv hK hR c60 rfl) (rfv_some hv57) dX0_takenFor_71 (fun text ht => hkN _ text (by simp [cat_rfv, cat_i, cat_r, cat_l, cat_n]) ht)
    intro st9 text hs9 ht9
    refine wn_cce hx htr hts hN hold hS hK hR hL ht9 (hl.1.trans hml.symm) (Nat.le_of_ble_eq_true rfl) (by dsimp only; omega) (by dsimp only; omega) (by dsimp only; omega) (fun H locs hR hL => ?_)
    have hF := (hF.sX 2).sN 28 0
    have ez62 : wZ (sN (sX w 2) 28 0) = wZ w + 3 := rfl
    refine WT.widen (k := wZ (sN (sX w 2) 28 0) - z0) (n := 80 * (wZ (sN (sX w 2) 28 0) - z0)) (by omega) (by omega) ?_
    have h := Option.some.inj h
    subst h
    exact WT.leave (fun x9 hx9 => hnoh x9 hx9 71) (fun t ht _ => ⟨rfl, by rw [ht]; exact hR, hF⟩) hL hlocks
  rw [if_neg hco56] at h
  suffices hk59 : W p l e ({ frames := 9, cells := B - z0, slots := 80 * (B - z0), locals := 10270 } : Room) s m ([rfv z a1, .int a2] : List Value).toArray below meth c H locs (wZ w - z0) (80 * (wZ w - z0)) (MQT below (qT G z H0 q.2 (cvR z q.1)) ([rfv z a1, .int a2] : List Value).toArray s (wZ q.2 - z0) (80 * (wZ q.2 - z0)) (fun q => z ≤ q)) (F0 m 74 ls [rfv z a1]) by
    rcases opt_cases a1 with hv57 | ⟨a58, hv57⟩
    · exact x_castNull hx hb (rfv_none hv57) dX0_takenFor_71 hk59
    · have h8 := castOk_some hco56 hv57
      have c60 : (wT w a58).1 = 14 := by simpa using h8
      exact x_cast (nm := "BarredBooks$Found") (ci := 13) (r := (RX13, TX13, 4)) hx hb hown (hts _ q571) hK hR (rfv_some hv57) c60 rfl (Or.inl rfl) dX0_takenFor_71 hk59
  have h := Option.some.inj h
  subst h
  exact W.toT (x_aret (r := a1) hx hb hr rfl (fun t ht _ => ⟨rfl, by rw [ht]; exact hR, hF⟩) hL dX0_takenFor_74 hlocks)
def f_X0_rowOf (B n : Nat) (a1 : Int32) (a2 : Int32) (w : Wd) : Option ((Option Nat ⊕ Nat) × Wd) :=
  if a1 = 0 then (if a2 < 0 then (if wZ w + 3 ≤ B then (some (.inr (wZ w + 2), sN (sX w 2) 30 0)) else none) else (if a2.toNatClampNeg ≤ 80 ∧ wZ w + 1 ≤ B then (some (.inl (some (wZ w)), sN w 201 (a2.toNatClampNeg))) else none)) else (if a1 = 1 then (if a2 < 0 then (if wZ w + 3 ≤ B then (some (.inr (wZ w + 2), sN (sX w 2) 30 0)) else none) else (if a2.toNatClampNeg ≤ 80 ∧ wZ w + 1 ≤ B then (some (.inl (some (wZ w)), sN w 202 (a2.toNatClampNeg))) else none)) else (if a1 = 2 then (if a2 < 0 then (if wZ w + 3 ≤ B then (some (.inr (wZ w + 2), sN (sX w 2) 30 0)) else none) else (if a2.toNatClampNeg ≤ 80 ∧ wZ w + 1 ≤ B then (some (.inl (some (wZ w)), sN w 200 (a2.toNatClampNeg))) else none)) else (if a1 = 3 then (if a2 < 0 then (if wZ w + 3 ≤ B then (some (.inr (wZ w + 2), sN (sX w 2) 30 0)) else none) else (if a2.toNatClampNeg ≤ 80 ∧ wZ w + 1 ≤ B then (some (.inl (some (wZ w)), sN w 204 (a2.toNatClampNeg))) else none)) else (if a2 < 0 then (if wZ w + 3 ≤ B then (some (.inr (wZ w + 2), sN (sX w 2) 30 0)) else none) else (if a2.toNatClampNeg ≤ 80 ∧ wZ w + 1 ≤ B then (some (.inl (some (wZ w)), sN w 203 (a2.toNatClampNeg))) else none)))))
theorem hd_X0_rowOf : yX0_rowOf.cls ≠ "java/lang/invoke/MethodHandle" ∧ yX0_rowOf.cls ≠ "java/lang/invoke/VarHandle" ∧ (parseMethodDescriptor yX0_rowOf.desc).map (fun d => d.parameters.length) = some 2 := by decide +kernel
set_option maxHeartbeats 4000000 in
set_option maxRecDepth 100000 in
theorem met_X0_rowOf (l : Launch) (htr : ∀ e, l.admits e → e.platform.stackTraces = false) (G : Gw) (z : Nat) (H0 : Heap) (B n : Nat) (w : Wd) (a1 : Int32) (a2 : Int32) (q : (Option Nat ⊕ Nat) × Wd) (h : f_X0_rowOf B n a1 a2 w = some q)  (hB : wZ w ≤ B) : MetT l yX0_rowOf (ws_ yX0_rowOf cX0_rowOf 2 (some (.object "java/lang/Object"))) ({ frames := 9, cells := B - wZ w, slots := 80 * (B - wZ w), locals := 10270 } : Room) (pcT G z H0 w [.int a1, .int a2]) (qT G z H0 q.2 (cvR z q.1)) (wZ q.2 - wZ w) (80 * (wZ q.2 - wZ w)) (fun q => z ≤ q) := by
  refine mT (by decide) (Nat.le_of_ble_eq_true rfl) ?_
  intro p e s m below meth c ls hx hb hr hml hown hts hlocks hnm hnoh hK hR hF hN hS hl
  have hown : s.vm.findClass RX0 = some m.cls := hown
  have hl : lv_has ls 2 [(0, .int a1), (1, .int a2)] := hl
  have hL : lok z [] := lok_nil
  unfold f_X0_rowOf at h
  obtain ⟨z0, hz0⟩ : ∃ z0, wZ w = z0 := ⟨_, rfl⟩
  rw [hz0]
  refine W.widen (k := wZ w - z0) (n := 80 * (wZ w - z0)) (Nat.zero_le _) (Nat.zero_le _) ?_
  have hZ : z0 ≤ wZ w ∧ wZ w ≤ B := ⟨by omega, hB⟩
  have hold : ∀ q : Nat, q < z → s.heap[q]? = H0[q]? := hR.2.1
  generalize s.heap = H at hR ⊢
  generalize ([] : List Loc) = locs at hL ⊢
  refine lv_iload_n hx hb dX0_rowOf_0 rfl (lv_at hl 0 rfl) ?_
  by_cases c1 : a1 = 0
  · rw [if_pos c1] at h
    refine lv_tableIn (off := 31) (tgt := 32) hx hb dX0_rowOf_1 (by rw [c1]; decide) (by rw [c1]; decide) (by rw [c1]; rfl) (by decide) ?_
    refine lv_iload_n hx hb dX0_rowOf_32 rfl (lv_at hl 1 rfl) ?_
    by_cases hv2 : a2 < 0
    · rw [if_pos hv2] at h
      obtain ⟨hz3, h⟩ := grd h
      refine x_newaNeg hx hb hv2 dX0_rowOf_33 ?_
      refine wn_neg hx htr hts hN hold hS hK hR hL (neg_ok hv2) (hl.1.trans hml.symm) (Nat.le_of_ble_eq_true rfl) (Nat.le_of_ble_eq_true rfl) (by dsimp only; omega) (by dsimp only; omega) (fun H locs hR hL => ?_)
      have hF := (hF.sX 2).sN 30 0
      have ez4 : wZ (sN (sX w 2) 30 0) = wZ w + 3 := rfl
      refine WT.widen (k := wZ (sN (sX w 2) 30 0) - z0) (n := 80 * (wZ (sN (sX w 2) 30 0) - z0)) (by omega) (by omega) ?_
      have h := Option.some.inj h
      subst h
      exact WT.leave (fun x9 hx9 => hnoh x9 hx9 33) (fun t ht _ => ⟨rfl, by rw [ht]; exact hR, hF⟩) hL hlocks
    rw [if_neg hv2] at h
    obtain ⟨hz5, h⟩ := grd h
    refine x_newa (atype := .byte) (t := 1) (N := (a2.toNatClampNeg)) hx hb (hts _ q202) hK hR rfl (by decide) (by decide) hv2 rfl (by omega) (by dsimp only; omega) (by dsimp only; omega) dX0_rowOf_33 (fun H hR => ?_)
    have hF := hF.sN 201 (a2.toNatClampNeg)
    have ez6 : wZ (sN w 201 (a2.toNatClampNeg)) = wZ w + 1 := rfl
    refine W.wid (b := wZ (sN w 201 (a2.toNatClampNeg))) (by omega) hZ.1 (by omega) ?_
    have hZ : z0 ≤ wZ (sN w 201 (a2.toNatClampNeg)) ∧ wZ (sN w 201 (a2.toNatClampNeg)) ≤ B := ⟨by omega, by omega⟩
    have h := Option.some.inj h
    subst h
    exact W.toT (x_aret (r := some (wZ w)) hx hb hr rfl (fun t ht _ => ⟨rfl, by rw [ht]; exact hR, hF⟩) hL dX0_rowOf_35 hlocks)
  rw [if_neg c1] at h
  by_cases c7 : a1 = 1
  · rw [if_pos c7] at h
    refine lv_tableIn (off := 35) (tgt := 36) hx hb dX0_rowOf_1 (by rw [c7]; decide) (by rw [c7]; decide) (by rw [c7]; rfl) (by decide) ?_
    refine lv_iload_n hx hb dX0_rowOf_36 rfl (lv_at hl 1 rfl) ?_
    by_cases hv8 : a2 < 0
    · rw [if_pos hv8] at h
      obtain ⟨hz9, h⟩ := grd h
      refine x_newaNeg hx hb hv8 dX0_rowOf_37 ?_
      refine wn_neg hx htr hts hN hold hS hK hR hL (neg_ok hv8) (hl.1.trans hml.symm) (Nat.le_of_ble_eq_true rfl) (Nat.le_of_ble_eq_true rfl) (by dsimp only; omega) (by dsimp only; omega) (fun H locs hR hL => ?_)
      have hF := (hF.sX 2).sN 30 0
      have ez10 : wZ (sN (sX w 2) 30 0) = wZ w + 3 := rfl
      refine WT.widen (k := wZ (sN (sX w 2) 30 0) - z0) (n := 80 * (wZ (sN (sX w 2) 30 0) - z0)) (by omega) (by omega) ?_
      have h := Option.some.inj h
      subst h
      exact WT.leave (fun x9 hx9 => hnoh x9 hx9 37) (fun t ht _ => ⟨rfl, by rw [ht]; exact hR, hF⟩) hL hlocks
    rw [if_neg hv8] at h
    obtain ⟨hz11, h⟩ := grd h
    refine x_newa (atype := .short) (t := 2) (N := (a2.toNatClampNeg)) hx hb (hts _ q1557) hK hR rfl (by decide) (by decide) hv8 rfl (by omega) (by dsimp only; omega) (by dsimp only; omega) dX0_rowOf_37 (fun H hR => ?_)
    have hF := hF.sN 202 (a2.toNatClampNeg)
    have ez12 : wZ (sN w 202 (a2.toNatClampNeg)) = wZ w + 1 := rfl
    refine W.wid (b := wZ (sN w 202 (a2.toNatClampNeg))) (by omega) hZ.1 (by omega) ?_
    have hZ : z0 ≤ wZ (sN w 202 (a2.toNatClampNeg)) ∧ wZ (sN w 202 (a2.toNatClampNeg)) ≤ B := ⟨by omega, by omega⟩
    have h := Option.some.inj h
    subst h
    exact W.toT (x_aret (r := some (wZ w)) hx hb hr rfl (fun t ht _ => ⟨rfl, by rw [ht]; exact hR, hF⟩) hL dX0_rowOf_39 hlocks)
  rw [if_neg c7] at h
  by_cases c13 : a1 = 2
  · rw [if_pos c13] at h
    refine lv_tableIn (off := 39) (tgt := 40) hx hb dX0_rowOf_1 (by rw [c13]; decide) (by rw [c13]; decide) (by rw [c13]; rfl) (by decide) ?_
    refine lv_iload_n hx hb dX0_rowOf_40 rfl (lv_at hl 1 rfl) ?_
    by_cases hv14 : a2 < 0
    · rw [if_pos hv14] at h
      obtain ⟨hz15, h⟩ := grd h
      refine x_newaNeg hx hb hv14 dX0_rowOf_41 ?_
      refine wn_neg hx htr hts hN hold hS hK hR hL (neg_ok hv14) (hl.1.trans hml.symm) (Nat.le_of_ble_eq_true rfl) (Nat.le_of_ble_eq_true rfl) (by dsimp only; omega) (by dsimp only; omega) (fun H locs hR hL => ?_)
      have hF := (hF.sX 2).sN 30 0
      have ez16 : wZ (sN (sX w 2) 30 0) = wZ w + 3 := rfl
      refine WT.widen (k := wZ (sN (sX w 2) 30 0) - z0) (n := 80 * (wZ (sN (sX w 2) 30 0) - z0)) (by omega) (by omega) ?_
      have h := Option.some.inj h
      subst h
      exact WT.leave (fun x9 hx9 => hnoh x9 hx9 41) (fun t ht _ => ⟨rfl, by rw [ht]; exact hR, hF⟩) hL hlocks
    rw [if_neg hv14] at h
    obtain ⟨hz17, h⟩ := grd h
    refine x_newa (atype := .int) (t := 0) (N := (a2.toNatClampNeg)) hx hb (hts _ q183) hK hR rfl (by decide) (by decide) hv14 rfl (by omega) (by dsimp only; omega) (by dsimp only; omega) dX0_rowOf_41 (fun H hR => ?_)
    have hF := hF.sN 200 (a2.toNatClampNeg)
    have ez18 : wZ (sN w 200 (a2.toNatClampNeg)) = wZ w + 1 := rfl
    refine W.wid (b := wZ (sN w 200 (a2.toNatClampNeg))) (by omega) hZ.1 (by omega) ?_
    have hZ : z0 ≤ wZ (sN w 200 (a2.toNatClampNeg)) ∧ wZ (sN w 200 (a2.toNatClampNeg)) ≤ B := ⟨by omega, by omega⟩
    have h := Option.some.inj h
    subst h
    exact W.toT (x_aret (r := some (wZ w)) hx hb hr rfl (fun t ht _ => ⟨rfl, by rw [ht]; exact hR, hF⟩) hL dX0_rowOf_43 hlocks)
  rw [if_neg c13] at h
  by_cases c19 : a1 = 3
  · rw [if_pos c19] at h
    refine lv_tableIn (off := 43) (tgt := 44) hx hb dX0_rowOf_1 (by rw [c19]; decide) (by rw [c19]; decide) (by rw [c19]; rfl) (by decide) ?_
    refine lv_iload_n hx hb dX0_rowOf_44 rfl (lv_at hl 1 rfl) ?_
    by_cases hv20 : a2 < 0
    · rw [if_pos hv20] at h
      obtain ⟨hz21, h⟩ := grd h
      refine x_newaNeg hx hb hv20 dX0_rowOf_45 ?_
      refine wn_neg hx htr hts hN hold hS hK hR hL (neg_ok hv20) (hl.1.trans hml.symm) (Nat.le_of_ble_eq_true rfl) (Nat.le_of_ble_eq_true rfl) (by dsimp only; omega) (by dsimp only; omega) (fun H locs hR hL => ?_)
      have hF := (hF.sX 2).sN 30 0
      have ez22 : wZ (sN (sX w 2) 30 0) = wZ w + 3 := rfl
      refine WT.widen (k := wZ (sN (sX w 2) 30 0) - z0) (n := 80 * (wZ (sN (sX w 2) 30 0) - z0)) (by omega) (by omega) ?_
      have h := Option.some.inj h
      subst h
      exact WT.leave (fun x9 hx9 => hnoh x9 hx9 45) (fun t ht _ => ⟨rfl, by rw [ht]; exact hR, hF⟩) hL hlocks
    rw [if_neg hv20] at h
    obtain ⟨hz23, h⟩ := grd h
    refine x_newa (atype := .long) (t := 4) (N := (a2.toNatClampNeg)) hx hb (hts _ q1558) hK hR rfl (by decide) (by decide) hv20 rfl (by omega) (by dsimp only; omega) (by dsimp only; omega) dX0_rowOf_45 (fun H hR => ?_)
    have hF := hF.sN 204 (a2.toNatClampNeg)
    have ez24 : wZ (sN w 204 (a2.toNatClampNeg)) = wZ w + 1 := rfl
    refine W.wid (b := wZ (sN w 204 (a2.toNatClampNeg))) (by omega) hZ.1 (by omega) ?_
    have hZ : z0 ≤ wZ (sN w 204 (a2.toNatClampNeg)) ∧ wZ (sN w 204 (a2.toNatClampNeg)) ≤ B := ⟨by omega, by omega⟩
    have h := Option.some.inj h
    subst h
    exact W.toT (x_aret (r := some (wZ w)) hx hb hr rfl (fun t ht _ => ⟨rfl, by rw [ht]; exact hR, hF⟩) hL dX0_rowOf_47 hlocks)
  rw [if_neg c19] at h
  refine lv_tableOut (tgt := 48) hx hb dX0_rowOf_1 (by have c1_ := lv_neT c1 (show (0 : Int32).toInt = 0 by decide); have c7_ := lv_neT c7 (show (1 : Int32).toInt = 1 by decide); have c13_ := lv_neT c13 (show (2 : Int32).toInt = 2 by decide); have c19_ := lv_neT c19 (show (3 : Int32).toInt = 3 by decide); omega) (by decide) ?_
  refine lv_iload_n hx hb dX0_rowOf_48 rfl (lv_at hl 1 rfl) ?_
  by_cases hv25 : a2 < 0
  · rw [if_pos hv25] at h
    obtain ⟨hz26, h⟩ := grd h
    refine x_newaNeg hx hb hv25 dX0_rowOf_49 ?_
    refine wn_neg hx htr hts hN hold hS hK hR hL (neg_ok hv25) (hl.1.trans hml.symm) (Nat.le_of_ble_eq_true rfl) (Nat.le_of_ble_eq_true rfl) (by dsimp only; omega) (by dsimp only; omega) (fun H locs hR hL => ?_)
    have hF := (hF.sX 2).sN 30 0
    have ez27 : wZ (sN (sX w 2) 30 0) = wZ w + 3 := rfl
    refine WT.widen (k := wZ (sN (sX w 2) 30 0) - z0) (n := 80 * (wZ (sN (sX w 2) 30 0) - z0)) (by omega) (by omega) ?_
    have h := Option.some.inj h
    subst h
    exact WT.leave (fun x9 hx9 => hnoh x9 hx9 49) (fun t ht _ => ⟨rfl, by rw [ht]; exact hR, hF⟩) hL hlocks
  rw [if_neg hv25] at h
  obtain ⟨hz28, h⟩ := grd h
  refine x_newa (atype := .boolean) (t := 3) (N := (a2.toNatClampNeg)) hx hb (hts _ q1559) hK hR rfl (by decide) (by decide) hv25 rfl (by omega) (by dsimp only; omega) (by dsimp only; omega) dX0_rowOf_49 (fun H hR => ?_)
  have hF := hF.sN 203 (a2.toNatClampNeg)
  have ez29 : wZ (sN w 203 (a2.toNatClampNeg)) = wZ w + 1 := rfl
  refine W.wid (b := wZ (sN w 203 (a2.toNatClampNeg))) (by omega) hZ.1 (by omega) ?_
  have hZ : z0 ≤ wZ (sN w 203 (a2.toNatClampNeg)) ∧ wZ (sN w 203 (a2.toNatClampNeg)) ≤ B := ⟨by omega, by omega⟩
  have h := Option.some.inj h
  subst h
  exact W.toT (x_aret (r := some (wZ w)) hx hb hr rfl (fun t ht _ => ⟨rfl, by rw [ht]; exact hR, hF⟩) hL dX0_rowOf_51 hlocks)
def f_X0_mend (B n : Nat) (a1 : Int32) (a2 : Int32) (w : Wd) : Option ((Int32 ⊕ Nat) × Wd) :=
  if (f_X0_isCard a1 w) then (if (f_X0_in a2 (0 : Int32) (99 : Int32) w) then (if inb a1 50 then (if cardOk w (wR w 13 a1.toNatClampNeg) = true then (if castOk w (wR w 13 a1.toNatClampNeg) [12, 15] = false then (if wZ w + 3 ≤ B then (some (.inl (-12 : Int32), sN (sX w 2) 28 0)) else none) else ((wR w 13 a1.toNatClampNeg).bind fun r13 => if 9 ≤ (wT w r13).1 ∧ (wT w r13).1 ≤ 15 then (if decide ((wT w r13).1 = 15) then (some (.inl (-12 : Int32), w)) else (if (wT w r13).1 = 12 then (if ((wI w r13 4) + a2) ≤ (wI w r13 3) then (if ((wI w r13 4) + a2) = (wI w r13 3) then (if wZ w + 1 ≤ B then ((f_X14_init (wZ (sI w r13 4 ((wI w r13 4) + a2))) (wR w 13 a1.toNatClampNeg) (sN (sI w r13 4 ((wI w r13 4) + a2)) 15 0)).bind fun q26 => if wZ (sN (sI w r13 4 ((wI w r13 4) + a2)) 15 0) ≤ wZ q26 ∧ wZ q26 ≤ B then (if inb a1 50 then (if 9 ≤ (wT q26 (wZ (sI w r13 4 ((wI w r13 4) + a2)))).1 ∧ (wT q26 (wZ (sI w r13 4 ((wI w r13 4) + a2)))).1 ≤ 15 then (if (wT (sR q26 13 a1.toNatClampNeg (some (wZ (sI w r13 4 ((wI w r13 4) + a2))))) r13).1 = 12 then (some (.inl (wI q26 r13 4), sR q26 13 a1.toNatClampNeg (some (wZ (sI w r13 4 ((wI w r13 4) + a2)))))) else none) else none) else none) else none) else none) else (some (.inl ((wI w r13 4) + a2), sI w r13 4 ((wI w r13 4) + a2)))) else (some (.inl (-3 : Int32), w))) else none)) else none)) else none) else none) else (some (.inl (-2 : Int32), w))) else (some (.inl (-1 : Int32), w))
theorem hd_X0_mend : yX0_mend.cls ≠ "java/lang/invoke/MethodHandle" ∧ yX0_mend.cls ≠ "java/lang/invoke/VarHandle" ∧ (parseMethodDescriptor yX0_mend.desc).map (fun d => d.parameters.length) = some 2 := by decide +kernel
set_option maxHeartbeats 4000000 in
set_option maxRecDepth 100000 in
theorem met_X0_mend (l : Launch) (htr : ∀ e, l.admits e → e.platform.stackTraces = false) (G : Gw) (z : Nat) (H0 : Heap) (B n : Nat) (w : Wd) (a1 : Int32) (a2 : Int32) (q : (Int32 ⊕ Nat) × Wd) (h : f_X0_mend B n a1 a2 w = some q)  (hB : wZ w ≤ B) : MetT l yX0_mend (wsW_ yX0_mend cX0_mend 4 (some .int) [(23, 42, 99, 234), (43, 58, 99, 234), (59, 98, 99, 234)]) ({ frames := 9, cells := B - wZ w, slots := 80 * (B - wZ w), locals := 10270 } : Room) (pcT G z H0 w [.ref (z + 0), .int a1, .int a2]) (qT G z H0 q.2 (cvI q.1)) (wZ q.2 - wZ w) (80 * (wZ q.2 - wZ w)) (fun q => z ≤ q) := by
  refine mTH (by decide) (Nat.le_of_ble_eq_true rfl) ?_
  intro p e s m below meth c ls hx hb hr hml hown hts hlocks hnm htb hK hR hF hN hS hl
  have hown : s.vm.findClass RX0 = some m.cls := hown
  have hl : lv_has ls 4 [(0, .ref (z + 0)), (1, .int a1), (2, .int a2)] := hl
  have hL : lok z [] := lok_nil
  unfold f_X0_mend at h
  obtain ⟨z0, hz0⟩ : ∃ z0, wZ w = z0 := ⟨_, rfl⟩
  rw [hz0]
  refine W.widen (k := wZ w - z0) (n := 80 * (wZ w - z0)) (Nat.zero_le _) (Nat.zero_le _) ?_
  have hZ : z0 ≤ wZ w ∧ wZ w ≤ B := ⟨by omega, hB⟩
  have hold : ∀ q : Nat, q < z → s.heap[q]? = H0[q]? := hR.2.1
  generalize s.heap = H at hR ⊢
  generalize ([] : List Loc) = locs at hL ⊢
  refine lv_aload_n hx hb dX0_mend_0 rfl (lv_at hl 0 rfl) ?_
  refine lv_iload_n hx hb dX0_mend_1 rfl (lv_at hl 1 rfl) ?_
  refine k_P (st1 := [.int (bI (f_X0_isCard a1 w))]) (va_runV (As := [.int a1]) (rest := []) ⟨hx, hb, hml, hown, hts⟩ (met_X0_isCard l G z H0 w a1 _ rfl) (cwV 1 hts (lw_V q672 q674 qs5 q100 q675) rfl rfl rfl ⟨rfl, hd_X0_isCard⟩ ⟨Nat.le_of_ble_eq_true rfl, Nat.le_of_ble_eq_true rfl⟩) (preV (q := (RX0, TX0, 40)) hK hR hF hN (congrArg Prod.fst (hF.2.1 0 (1, 0) rfl)) rfl) rfl rfl hl.1 rfl (lv_room (Nat.le_of_ble_eq_true rfl)) dX0_mend_2 ⟨by dsimp only; omega, by dsimp only; omega⟩) hL rfl (fun locs hL => ?_)
  refine W.wid (b := wZ w) (Nat.le_refl _) hZ.1 (Nat.le_refl _) ?_
  refine lv_if_ne (tgt := 10) hx hb dX0_mend_5 (by decide) (fun c1 => ?_) (fun c1 => ?_)
  · rw [if_pos (bI_p c1)] at h
    refine lv_iload_n hx hb dX0_mend_10 rfl (lv_at hl 2 rfl) ?_
    refine lv_iconst (v := 0) hx hb dX0_mend_11 (by decide) ?_
    refine lv_bipush (v := 99) hx hb dX0_mend_12 (by decide) ?_
    refine k_P (st1 := [.int (bI (f_X0_in a2 (0 : Int32) (99 : Int32) w))]) (va_runS (As := [.int a2, .int (0 : Int32), .int (99 : Int32)]) (rest := []) ⟨hx, hb, hml, hown, hts⟩ (met_X0_in l G z H0 w a2 (0 : Int32) (99 : Int32) _ rfl) (va_cwS 3 hts (lw_S q344 q345 q100 q346) rfl rfl rfl hd_X0_in ⟨Nat.le_of_ble_eq_true rfl, Nat.le_of_ble_eq_true rfl⟩) (preS hK hR hF hN) rfl rfl hl.1 rfl (lv_room (Nat.le_of_ble_eq_true rfl)) dX0_mend_14 ⟨by dsimp only; omega, by dsimp only; omega⟩) hL rfl (fun locs hL => ?_)
    refine W.wid (b := wZ w) (Nat.le_refl _) hZ.1 (Nat.le_refl _) ?_
    refine lv_if_ne (tgt := 23) hx hb dX0_mend_17 (by decide) (fun c2 => ?_) (fun c2 => ?_)
    · rw [if_pos (bI_p c2)] at h
      refine lv_aload_n hx hb dX0_mend_23 rfl (lv_at hl 0 rfl) ?_
      refine x_get (k := 8) (o := "BarredBooks") (n := "cards") (d := "[LBarredBooks$Card;") (fin := true) (ty := (.array (.object "BarredBooks$Card"))) (host := "BarredBooks") hx hb hts hown hK hR rfl (Fam.one (r := (RX0, TX0, 40)) (congrArg Prod.fst (hF.2.1 0 (1, 0) rfl)) rfl ok0 (by decide)) (Or.inl (hts _ q227)) (fun _ h9 => h9) (v := .ref (z + 13)) (fv_fix hF rfl rfl) dX0_mend_24 ?_
      refine lv_iload_n hx hb dX0_mend_27 rfl (lv_at hl 1 rfl) ?_
      obtain ⟨hb3, h⟩ := grd h
      refine x_aald (v := rfv z (wR w 13 a1.toNatClampNeg)) (t := 10) hx hb hK hR rfl (hF.2.1 13 (210, 50) rfl) (by decide) rfl hb3 rfl dX0_mend_28 ?_
      obtain ⟨hcd4, h⟩ := grd h
      by_cases hco5 : castOk w (wR w 13 a1.toNatClampNeg) [12, 15] = false
      · rw [if_pos hco5] at h
        obtain ⟨a7, hv6, hnt9⟩ := castOk_no hco5
        have h9 := cardOk_some hcd4 hv6
        obtain ⟨hz10, h⟩ := grd h
        suffices hkN : ∀ (st9 : List Value) (text : String), (st9.map fun v => v.category).sum ≤ 8 → ((text == notModelled) = false ∧ (stringBytes (stringToUtf16 text)).size ≤ 230) → WN p l e ({ frames := 9, cells := B - z0, slots := 80 * (B - z0), locals := 10270 } : Room) s m ([.ref (z + 0), .int a1, .int a2] : List Value).toArray below meth c H locs (wZ w - z0) (80 * (wZ w - z0)) (MQT below (qT G z H0 q.2 (cvI q.1)) ([.ref (z + 0), .int a1, .int a2] : List Value).toArray s (wZ q.2 - z0) (80 * (wZ q.2 - z0)) (fun q => z ≤ q)) (F0 m 29 ls st9) "java/lang/ClassCastException" (some text) by
          have c9 : (wT w a7).1 = 9 ∨ (wT w a7).1 = 10 ∨ (wT w a7).1 = 11 ∨ (wT w a7).1 = 13 ∨ (wT w a7).1 = 14 := by
            simp only [List.mem_cons, List.not_mem_nil, or_false] at hnt9
            omega
          rcases c9 with c9 | c9 | c9 | c9 | c9
          · exact x_castF (C := "BarredBooks$Card") hx hb hown (hts _ q546) hS (hN.nc 22 rfl) (nm_at 0 rfl) (nm_at 3 rfl) (r_recv hK hR c9 rfl) (rfv_some hv6) dX0_mend_29 (fun text ht => hkN _ text (by simp [cat_rfv, cat_i, cat_r, cat_l, cat_n]) ht)
          · exact x_castF (C := "BarredBooks$Printed") hx hb hown (hts _ q546) hS (hN.nc 27 rfl) (nm_at 1 rfl) (nm_at 3 rfl) (r_recv hK hR c9 rfl) (rfv_some hv6) dX0_mend_29 (fun text ht => hkN _ text (by simp [cat_rfv, cat_i, cat_r, cat_l, cat_n]) ht)
          · exact x_castF (C := "BarredBooks$Barred") hx hb hown (hts _ q546) hS (hN.nc 31 rfl) (nm_at 2 rfl) (nm_at 3 rfl) (r_recv hK hR c9 rfl) (rfv_some hv6) dX0_mend_29 (fun text ht => hkN _ text (by simp [cat_rfv, cat_i, cat_r, cat_l, cat_n]) ht)
          · exact x_castF (C := "BarredBooks$Leave") hx hb hown (hts _ q546) hS (hN.nc 44 rfl) (nm_at 5 rfl) (nm_at 3 rfl) (r_recv hK hR c9 rfl) (rfv_some hv6) dX0_mend_29 (fun text ht => hkN _ text (by simp [cat_rfv, cat_i, cat_r, cat_l, cat_n]) ht)
          · exact x_castF (C := "BarredBooks$Found") hx hb hown (hts _ q546) hS (hN.nc 49 rfl) (nm_at 6 rfl) (nm_at 3 rfl) (r_recv hK hR c9 rfl) (rfv_some hv6) dX0_mend_29 (fun text ht => hkN _ text (by simp [cat_rfv, cat_i, cat_r, cat_l, cat_n]) ht)
        intro st9 text hs9 ht9
        refine wn_cce hx htr hts hN hold hS hK hR hL ht9 (hl.1.trans hml.symm) (Nat.le_of_ble_eq_true rfl) (by dsimp only; omega) (by dsimp only; omega) (by dsimp only; omega) (fun H locs hR hL => ?_)
        have hF := (hF.sX 2).sN 28 0
        have ez11 : wZ (sN (sX w 2) 28 0) = wZ w + 3 := rfl
        refine WT.widen (k := wZ (sN (sX w 2) 28 0) - z0) (n := 80 * (wZ (sN (sX w 2) 28 0) - z0)) (by omega) (by omega) ?_
        have hZ : z0 ≤ wZ (sN (sX w 2) 28 0) ∧ wZ (sN (sX w 2) 28 0) ≤ B := ⟨by omega, by omega⟩
        have hg12 : (wT (sN (sX w 2) 28 0) (wZ w + 2)).1 = 28 := by rw [wT_sN, wZ_sX, if_pos rfl]
        refine x_caught (q := 99) hR hK hg12 rfl hown (by rw [htb]; exact (Cat.self hK rfl (by decide +kernel) (by decide) (hts _ q586))) ?_
        refine lv_astore_n (lv' := [(3, .ref (z + wZ w + 2)), (0, .ref (z + 0)), (1, .int a1), (2, .int a2)]) hx hb dX0_mend_99 rfl hl (by decide) rfl (fun ls hl => ?_)
        refine lv_bipush (v := -12) hx hb dX0_mend_100 (by decide) ?_
        have h := Option.some.inj h
        subst h
        exact W.toT (W.iret (v := (-12 : Int32)) hx hb hr (fun t ht _ => ⟨rfl, by rw [ht]; exact hR, hF⟩) hL dX0_mend_102)
      rw [if_neg hco5] at h
      suffices hk8 : W p l e ({ frames := 9, cells := B - z0, slots := 80 * (B - z0), locals := 10270 } : Room) s m ([.ref (z + 0), .int a1, .int a2] : List Value).toArray below meth c H locs (wZ w - z0) (80 * (wZ w - z0)) (MQT below (qT G z H0 q.2 (cvI q.1)) ([.ref (z + 0), .int a1, .int a2] : List Value).toArray s (wZ q.2 - z0) (80 * (wZ q.2 - z0)) (fun q => z ≤ q)) (F0 m 32 ls [rfv z (wR w 13 a1.toNatClampNeg)]) by
        rcases opt_cases (wR w 13 a1.toNatClampNeg) with hv6 | ⟨a7, hv6⟩
        · exact x_castNull hx hb (rfv_none hv6) dX0_mend_29 hk8
        · have h8 := castOk_some hco5 hv6
          have c9 : (wT w a7).1 = 12 ∨ (wT w a7).1 = 15 := by simpa using h8
          rcases c9 with c9 | c9
          · exact x_cast (nm := "BarredBooks$Struck") (ci := 11) (r := (RX11, TX11, 5)) hx hb hown (hts _ q546) hK hR (rfv_some hv6) c9 rfl (Or.inl rfl) dX0_mend_29 hk8
          · exact x_cast (nm := "BarredBooks$Struck") (ci := 14) (r := (RX14, TX14, 5)) hx hb hown (hts _ q546) hK hR (rfv_some hv6) c9 rfl (Or.inr (hN.at q2304 rfl)) dX0_mend_29 hk8
      refine x_astore_n (lv' := [(3, rfv z (wR w 13 a1.toNatClampNeg)), (0, .ref (z + 0)), (1, .int a1), (2, .int a2)]) hx hb dX0_mend_32 rfl hl (by decide) rfl (fun ls hl => ?_)
      refine x_aload_n hx hb dX0_mend_33 rfl (lv_at hl 0 rfl) ?_
      obtain ⟨r13, hr14, h⟩ := bnd h
      obtain ⟨hg15, h⟩ := grd h
      suffices hk16 : W p l e ({ frames := 9, cells := B - z0, slots := 80 * (B - z0), locals := 10270 } : Room) s m ([.ref (z + 0), .int a1, .int a2] : List Value).toArray below meth c H locs (wZ w - z0) (80 * (wZ w - z0)) (MQT below (qT G z H0 q.2 (cvI q.1)) ([.ref (z + 0), .int a1, .int a2] : List Value).toArray s (wZ q.2 - z0) (80 * (wZ q.2 - z0)) (fun q => z ≤ q)) (F0 m 37 ls [.int (bI (decide ((wT w r13).1 = 15)))]) by
        have c17 : (wT w r13).1 = 9 ∨ (wT w r13).1 = 10 ∨ (wT w r13).1 = 11 ∨ (wT w r13).1 = 12 ∨ (wT w r13).1 = 13 ∨ (wT w r13).1 = 14 ∨ (wT w r13).1 = 15 := by omega
        rcases c17 with c17 | c17 | c17 | c17 | c17 | c17 | c17
        · have e1 : decide ((wT w r13).1 = 15) = false := decide_eq_false (by omega)
          rw [e1] at hk16
          exact x_instN (nm := "BarredBooks$Mended") (ci := 8) (r := (RX8, TX8, 4)) hx hb hown (hts _ q676) hK hR (rfv_some hr14) c17 rfl (hN.nc 23 rfl) dX0_mend_34 hk16
        · have e1 : decide ((wT w r13).1 = 15) = false := decide_eq_false (by omega)
          rw [e1] at hk16
          exact x_instN (nm := "BarredBooks$Mended") (ci := 9) (r := (RX9, TX9, 4)) hx hb hown (hts _ q676) hK hR (rfv_some hr14) c17 rfl (hN.nc 28 rfl) dX0_mend_34 hk16
        · have e1 : decide ((wT w r13).1 = 15) = false := decide_eq_false (by omega)
          rw [e1] at hk16
          exact x_instN (nm := "BarredBooks$Mended") (ci := 10) (r := (RX10, TX10, 4)) hx hb hown (hts _ q676) hK hR (rfv_some hr14) c17 rfl (hN.nc 32 rfl) dX0_mend_34 hk16
        · have e1 : decide ((wT w r13).1 = 15) = false := decide_eq_false (by omega)
          rw [e1] at hk16
          exact x_instN (nm := "BarredBooks$Mended") (ci := 11) (r := (RX11, TX11, 5)) hx hb hown (hts _ q676) hK hR (rfv_some hr14) c17 rfl (hN.nc 36 rfl) dX0_mend_34 hk16
        · have e1 : decide ((wT w r13).1 = 15) = false := decide_eq_false (by omega)
          rw [e1] at hk16
          exact x_instN (nm := "BarredBooks$Mended") (ci := 12) (r := (RX12, TX12, 4)) hx hb hown (hts _ q676) hK hR (rfv_some hr14) c17 rfl (hN.nc 45 rfl) dX0_mend_34 hk16
        · have e1 : decide ((wT w r13).1 = 15) = false := decide_eq_false (by omega)
          rw [e1] at hk16
          exact x_instN (nm := "BarredBooks$Mended") (ci := 13) (r := (RX13, TX13, 4)) hx hb hown (hts _ q676) hK hR (rfv_some hr14) c17 rfl (hN.nc 50 rfl) dX0_mend_34 hk16
        · have e1 : decide ((wT w r13).1 = 15) = true := decide_eq_true (by omega)
          rw [e1] at hk16
          exact x_instY (nm := "BarredBooks$Mended") (ci := 14) (r := (RX14, TX14, 5)) hx hb hown (hts _ q676) hK hR (rfv_some hr14) c17 rfl (Or.inl rfl) dX0_mend_34 hk16
      refine lv_if_eq (tgt := 43) hx hb dX0_mend_37 (by decide) (fun c18 => ?_) (fun c18 => ?_)
      · rw [if_neg (bI_n c18)] at h
        refine x_aload_n hx hb dX0_mend_43 rfl (lv_at hl 0 rfl) ?_
        obtain ⟨hg19, h⟩ := grd h
        refine x_get (k := 4) (o := "BarredBooks$Struck") (n := "mended") (d := "I") (fin := false) (ty := .int) (host := "BarredBooks") hx hb hts hown hK hR (rfv_some hr14) (Fam.one (r := (RX11, TX11, 5)) hg19 rfl ok11 (by decide)) (Or.inr (hN.at q552 rfl)) (fun _ h9 => h9) (v := .int (wI w r13 4)) rfl dX0_mend_44 ?_
        refine lv_iload_n hx hb dX0_mend_47 rfl (lv_at hl 3 rfl) ?_
        refine lv_iadd hx hb dX0_mend_48 ?_
        refine x_aload_n hx hb dX0_mend_49 rfl (lv_at hl 0 rfl) ?_
        refine x_get (k := 3) (o := "BarredBooks$Card") (n := "v") (d := "I") (fin := true) (ty := .int) (host := "BarredBooks") hx hb hts hown hK hR (rfv_some hr14) (Fam.one (r := (RX11, TX11, 5)) hg19 rfl ok11 (by decide)) (Or.inl (hts _ q514)) (u_same (hts _ q512)) (v := .int (wI w r13 3)) rfl dX0_mend_50 ?_
        refine lv_icmp_le (tgt := 59) hx hb dX0_mend_53 (by decide) (fun c20 => ?_) (fun c20 => ?_)
        · rw [if_pos c20] at h
          refine x_aload_n hx hb dX0_mend_59 rfl (lv_at hl 0 rfl) ?_
          refine lv_dup hx hb dX0_mend_60 (cat_rfv _ _) ?_
          refine x_get (k := 4) (o := "BarredBooks$Struck") (n := "mended") (d := "I") (fin := false) (ty := .int) (host := "BarredBooks") hx hb hts hown hK hR (rfv_some hr14) (Fam.one (r := (RX11, TX11, 5)) hg19 rfl ok11 (by decide)) (Or.inr (hN.at q552 rfl)) (fun _ h9 => h9) (v := .int (wI w r13 4)) rfl dX0_mend_61 ?_
          refine lv_iload_n hx hb dX0_mend_64 rfl (lv_at hl 3 rfl) ?_
          refine lv_iadd hx hb dX0_mend_65 ?_
          refine x_putI (k := 4) (o := "BarredBooks$Struck") (n := "mended") (d := "I") (fin := false) (ty := .int) (host := "BarredBooks") hx hb hts hown hK hR hL (rfv_some hr14) (Fam.one (r := (RX11, TX11, 5)) hg19 rfl ok11 (by decide)) (Or.inr ⟨hN.at q552 rfl, rfl⟩) (fun _ h9 => h9) (Or.inl rfl) rfl rfl rfl dX0_mend_66 (fun H locs hR hL => ?_)
          rw [← wT_sI _ r13 4 ((wI w r13 4) + a2)] at hg19
          have hF := hF.sI r13 4 ((wI w r13 4) + a2)
          refine x_aload_n hx hb dX0_mend_69 rfl (lv_at hl 0 rfl) ?_
          refine x_get (k := 4) (o := "BarredBooks$Struck") (n := "mended") (d := "I") (fin := false) (ty := .int) (host := "BarredBooks") hx hb hts hown hK hR (rfv_some hr14) (Fam.one (r := (RX11, TX11, 5)) hg19 rfl ok11 (by decide)) (Or.inr (hN.at q552 rfl)) (fun _ h9 => h9) (v := .int ((wI w r13 4) + a2)) (by simp [fv, ftS, wI_sI, wL_sL, wI_sL, wL_sI]) dX0_mend_70 ?_
          refine x_aload_n hx hb dX0_mend_73 rfl (lv_at hl 0 rfl) ?_
          refine x_get (k := 3) (o := "BarredBooks$Card") (n := "v") (d := "I") (fin := true) (ty := .int) (host := "BarredBooks") hx hb hts hown hK hR (rfv_some hr14) (Fam.one (r := (RX11, TX11, 5)) hg19 rfl ok11 (by decide)) (Or.inl (hts _ q514)) (u_same (hts _ q512)) (v := .int (wI w r13 3)) (by simp [fv, ftS, wI_sI, wI_sR, wI_sL, wL_sL, wL_sI, wL_sR, wR_sR, wR_sI, wR_sL]) dX0_mend_74 ?_
          refine lv_icmp_ne (tgt := 94) hx hb dX0_mend_77 (by decide) (fun c21 => ?_) (fun c21 => ?_)
          · rw [if_neg c21] at h
            refine x_aload_n hx hb dX0_mend_94 rfl (lv_at hl 0 rfl) ?_
            refine x_get (k := 4) (o := "BarredBooks$Struck") (n := "mended") (d := "I") (fin := false) (ty := .int) (host := "BarredBooks") hx hb hts hown hK hR (rfv_some hr14) (Fam.one (r := (RX11, TX11, 5)) hg19 rfl ok11 (by decide)) (Or.inr (hN.at q552 rfl)) (fun _ h9 => h9) (v := .int ((wI w r13 4) + a2)) (by simp [fv, ftS, wI_sI, wL_sL, wI_sL, wL_sI]) dX0_mend_95 ?_
            have h := Option.some.inj h
            subst h
            refine W.widen (k := wZ (sI w r13 4 ((wI w r13 4) + a2)) - z0) (n := 80 * (wZ (sI w r13 4 ((wI w r13 4) + a2)) - z0)) (Nat.le_refl _) (Nat.le_refl _) ?_
            exact W.toT (W.iret (v := (wI w r13 4) + a2) hx hb hr (fun t ht _ => ⟨rfl, by rw [ht]; exact hR, hF⟩) hL dX0_mend_98)
          · rw [if_pos c21] at h
            refine lv_aload_n hx hb dX0_mend_80 rfl (lv_at hl 1 rfl) ?_
            refine x_get (k := 8) (o := "BarredBooks") (n := "cards") (d := "[LBarredBooks$Card;") (fin := true) (ty := (.array (.object "BarredBooks$Card"))) (host := "BarredBooks") hx hb hts hown hK hR rfl (Fam.one (r := (RX0, TX0, 40)) (congrArg Prod.fst (hF.2.1 0 (1, 0) rfl)) rfl ok0 (by decide)) (Or.inl (hts _ q227)) (fun _ h9 => h9) (v := .ref (z + 13)) (fv_fix hF rfl rfl) dX0_mend_81 ?_
            refine lv_iload_n hx hb dX0_mend_84 rfl (lv_at hl 2 rfl) ?_
            obtain ⟨hz22, h⟩ := grd h
            have hs23 : wT (sN (sI w r13 4 ((wI w r13 4) + a2)) 15 0) r13 = wT (sI w r13 4 ((wI w r13 4) + a2)) r13 := tag_sN hR (by rw [hg19]; decide)
            refine x_new (C := RX14) (T := TX14) (N := 5) (nS := 5) (ci := 14) hx hb hts ok14 hown (hts _ q676) (hts _ q677) (hts _ q120) hK hR rfl (ty_ok14) (by dsimp only; omega) (by dsimp only; omega) dX0_mend_85 (fun H hR => ?_)
            have hF := hF.sN 15 0
            rw [← hs23] at hg19
            have ez24 : wZ (sN (sI w r13 4 ((wI w r13 4) + a2)) 15 0) = wZ w + 1 := rfl
            refine W.wid (b := wZ (sN (sI w r13 4 ((wI w r13 4) + a2)) 15 0)) (by omega) hZ.1 (by decide) ?_
            have hZ : z0 ≤ wZ (sN (sI w r13 4 ((wI w r13 4) + a2)) 15 0) ∧ wZ (sN (sI w r13 4 ((wI w r13 4) + a2)) 15 0) ≤ B := ⟨by omega, by omega⟩
            have hg25 : (wT (sN (sI w r13 4 ((wI w r13 4) + a2)) 15 0) (wZ (sI w r13 4 ((wI w r13 4) + a2)))).1 = 15 := by rw [wT_sN, if_pos rfl]
            refine lv_dup hx hb dX0_mend_88 rfl ?_
            refine x_aload_n hx hb dX0_mend_89 rfl (lv_at hl 0 rfl) ?_
            obtain ⟨q26, hq27, h⟩ := bnd h
            obtain ⟨hz28, h⟩ := grd h
            refine k_W (st1 := [.ref (z + wZ (sI w r13 4 ((wI w r13 4) + a2))), .int a1, .ref (z + 13)]) (va_runI (As := [rfv z (wR w 13 a1.toNatClampNeg)]) (rest := [.ref (z + wZ (sI w r13 4 ((wI w r13 4) + a2))), .int a1, .ref (z + 13)]) ⟨hx, hb, hml, hown, hts⟩ (met_X14_init l G z H0 (sN (sI w r13 4 ((wI w r13 4) + a2)) 15 0) (wZ (sI w r13 4 ((wI w r13 4) + a2))) (wR w 13 a1.toNatClampNeg) q26 hq27 hg25) (cwI 1 hts (lw_meth q680) rfl rfl rfl (hts _ q120) (hts _ q678) (hts _ q679) rfl hd_X14_init ⟨Nat.le_of_ble_eq_true rfl, Nat.le_of_ble_eq_true rfl⟩) (preS hK hR hF hN) rfl rfl hl.1 rfl (lv_room (Nat.le_of_ble_eq_true rfl)) dX0_mend_90 ⟨by dsimp only; omega, by dsimp only; omega⟩) hL rfl (fun H locs hR hF hL => ?_)
            refine W.wid (b := wZ q26) (by omega) hZ.1 (by decide) ?_
            have hZ : z0 ≤ wZ q26 ∧ wZ q26 ≤ B := ⟨by omega, hz28.2⟩
            obtain ⟨hb29, h⟩ := grd h
            obtain ⟨hg30, h⟩ := grd h
            suffices hk31 : ∀ (H : Heap) (locs : List Loc), Rp G z H0 (sR q26 13 a1.toNatClampNeg (some (wZ (sI w r13 4 ((wI w r13 4) + a2))))) H → lok z locs → W p l e ({ frames := 9, cells := B - z0, slots := 80 * (B - z0), locals := 10270 } : Room) s m ([.ref (z + 0), .int a1, .int a2] : List Value).toArray below meth c H locs (wZ q26 - z0) (80 * (wZ q26 - z0)) (MQT below (qT G z H0 q.2 (cvI q.1)) ([.ref (z + 0), .int a1, .int a2] : List Value).toArray s (wZ q.2 - z0) (80 * (wZ q.2 - z0)) (fun q => z ≤ q)) (F0 m 94 ls []) by
              have c32 : (wT q26 (wZ (sI w r13 4 ((wI w r13 4) + a2)))).1 = 9 ∨ (wT q26 (wZ (sI w r13 4 ((wI w r13 4) + a2)))).1 = 10 ∨ (wT q26 (wZ (sI w r13 4 ((wI w r13 4) + a2)))).1 = 11 ∨ (wT q26 (wZ (sI w r13 4 ((wI w r13 4) + a2)))).1 = 12 ∨ (wT q26 (wZ (sI w r13 4 ((wI w r13 4) + a2)))).1 = 13 ∨ (wT q26 (wZ (sI w r13 4 ((wI w r13 4) + a2)))).1 = 14 ∨ (wT q26 (wZ (sI w r13 4 ((wI w r13 4) + a2)))).1 = 15 := by omega
              rcases c32 with c32 | c32 | c32 | c32 | c32 | c32 | c32
              · exact x_aast (t := 10) (E := "BarredBooks$Card") (ci := 8) (r := (RX8, TX8, 4)) hx hb hK hR hL rfl (hF.2.1 13 (210, 50) rfl) (by decide) rfl rfl c32 rfl (Or.inl rfl) hb29 dX0_mend_93 hk31
              · exact x_aast (t := 10) (E := "BarredBooks$Card") (ci := 9) (r := (RX9, TX9, 4)) hx hb hK hR hL rfl (hF.2.1 13 (210, 50) rfl) (by decide) rfl rfl c32 rfl (Or.inr (hN.at q2309 rfl)) hb29 dX0_mend_93 hk31
              · exact x_aast (t := 10) (E := "BarredBooks$Card") (ci := 10) (r := (RX10, TX10, 4)) hx hb hK hR hL rfl (hF.2.1 13 (210, 50) rfl) (by decide) rfl rfl c32 rfl (Or.inr (hN.at q2305 rfl)) hb29 dX0_mend_93 hk31
              · exact x_aast (t := 10) (E := "BarredBooks$Card") (ci := 11) (r := (RX11, TX11, 5)) hx hb hK hR hL rfl (hF.2.1 13 (210, 50) rfl) (by decide) rfl rfl c32 rfl (Or.inr (hN.at q2310 rfl)) hb29 dX0_mend_93 hk31
              · exact x_aast (t := 10) (E := "BarredBooks$Card") (ci := 12) (r := (RX12, TX12, 4)) hx hb hK hR hL rfl (hF.2.1 13 (210, 50) rfl) (by decide) rfl rfl c32 rfl (Or.inr (hN.at q2307 rfl)) hb29 dX0_mend_93 hk31
              · exact x_aast (t := 10) (E := "BarredBooks$Card") (ci := 13) (r := (RX13, TX13, 4)) hx hb hK hR hL rfl (hF.2.1 13 (210, 50) rfl) (by decide) rfl rfl c32 rfl (Or.inr (hN.at q2306 rfl)) hb29 dX0_mend_93 hk31
              · exact x_aast (t := 10) (E := "BarredBooks$Card") (ci := 14) (r := (RX14, TX14, 5)) hx hb hK hR hL rfl (hF.2.1 13 (210, 50) rfl) (by decide) rfl rfl c32 rfl (Or.inr (hN.at q2308 rfl)) hb29 dX0_mend_93 hk31
            intro H locs hR hL
            rw [← wT_sR _ 13 a1.toNatClampNeg (some (wZ (sI w r13 4 ((wI w r13 4) + a2))))] at hg30
            have hF := hF.sR (a := 13) (f := a1.toNatClampNeg) (v := some (wZ (sI w r13 4 ((wI w r13 4) + a2)))) rfl
            refine x_aload_n hx hb dX0_mend_94 rfl (lv_at hl 0 rfl) ?_
            obtain ⟨hg33, h⟩ := grd h
            refine x_get (k := 4) (o := "BarredBooks$Struck") (n := "mended") (d := "I") (fin := false) (ty := .int) (host := "BarredBooks") hx hb hts hown hK hR (rfv_some hr14) (Fam.one (r := (RX11, TX11, 5)) hg33 rfl ok11 (by decide)) (Or.inr (hN.at q552 rfl)) (fun _ h9 => h9) (v := .int (wI q26 r13 4)) rfl dX0_mend_95 ?_
            have h := Option.some.inj h
            subst h
            refine W.widen (k := wZ (sR q26 13 a1.toNatClampNeg (some (wZ (sI w r13 4 ((wI w r13 4) + a2))))) - z0) (n := 80 * (wZ (sR q26 13 a1.toNatClampNeg (some (wZ (sI w r13 4 ((wI w r13 4) + a2))))) - z0)) (Nat.le_refl _) (Nat.le_refl _) ?_
            exact W.toT (W.iret (v := wI q26 r13 4) hx hb hr (fun t ht _ => ⟨rfl, by rw [ht]; exact hR, hF⟩) hL dX0_mend_98)
        · rw [if_neg c20] at h
          refine lv_bipush (v := -3) hx hb dX0_mend_56 (by decide) ?_
          have h := Option.some.inj h
          subst h
          exact W.toT (W.iret (v := (-3 : Int32)) hx hb hr (fun t ht _ => ⟨rfl, by rw [ht]; exact hR, hF⟩) hL dX0_mend_58)
      · rw [if_pos (bI_p c18)] at h
        refine lv_bipush (v := -12) hx hb dX0_mend_40 (by decide) ?_
        have h := Option.some.inj h
        subst h
        exact W.toT (W.iret (v := (-12 : Int32)) hx hb hr (fun t ht _ => ⟨rfl, by rw [ht]; exact hR, hF⟩) hL dX0_mend_42)
    · rw [if_neg (bI_n c2)] at h
      refine lv_bipush (v := -2) hx hb dX0_mend_20 (by decide) ?_
      have h := Option.some.inj h
      subst h
      exact W.toT (W.iret (v := (-2 : Int32)) hx hb hr (fun t ht _ => ⟨rfl, by rw [ht]; exact hR, hF⟩) hL dX0_mend_22)
  · rw [if_neg (bI_n c1)] at h
    refine lv_iconst (v := -1) hx hb dX0_mend_8 (by decide) ?_
    have h := Option.some.inj h
    subst h
    exact W.toT (W.iret (v := (-1 : Int32)) hx hb hr (fun t ht _ => ⟨rfl, by rw [ht]; exact hR, hF⟩) hL dX0_mend_9)
def f_X0_taken (B n : Nat) (a1 : Int32) (a2 : Int32) (w : Wd) : Option ((Int32 ⊕ Nat) × Wd) :=
  if (f_X0_in a2 (0 : Int32) (6 : Int32) w) then (if (f_X0_isCard a1 w) then (if inb a1 50 then ((f_X0_takenFor B n (wR w 13 a1.toNatClampNeg) a2 w).bind fun q32 => (match q32 with | (.inl v27, qw29) => if wZ w ≤ wZ qw29 ∧ wZ qw29 ≤ B then (if v27 = none then (if wZ qw29 + 1 ≤ B then (some (.inl (-11 : Int32), sN (sX qw29 0) 29 0)) else none) else ((v27).bind fun r38 => (v_X8_kind r38 qw29).bind fun q40 => some (.inl q40, qw29))) else none | (.inr x28, qw29) => if wZ w ≤ wZ qw29 ∧ wZ qw29 ≤ B then (if (wT qw29 x28).1 = 28 then (some (.inl (-12 : Int32), qw29)) else none) else none)) else none) else ((f_X0_takenFor B n none a2 w).bind fun q8 => (match q8 with | (.inl v3, qw5) => if wZ w ≤ wZ qw5 ∧ wZ qw5 ≤ B then (if v3 = none then (if wZ qw5 + 1 ≤ B then (some (.inl (-11 : Int32), sN (sX qw5 0) 29 0)) else none) else ((v3).bind fun r14 => (v_X8_kind r14 qw5).bind fun q16 => some (.inl q16, qw5))) else none | (.inr x4, qw5) => if wZ w ≤ wZ qw5 ∧ wZ qw5 ≤ B then (if (wT qw5 x4).1 = 28 then (some (.inl (-12 : Int32), qw5)) else none) else none))) else (some (.inl (-2 : Int32), w))
theorem hd_X0_taken : yX0_taken.cls ≠ "java/lang/invoke/MethodHandle" ∧ yX0_taken.cls ≠ "java/lang/invoke/VarHandle" ∧ (parseMethodDescriptor yX0_taken.desc).map (fun d => d.parameters.length) = some 2 := by decide +kernel
set_option maxHeartbeats 4000000 in
set_option maxRecDepth 100000 in
theorem met_X0_taken (l : Launch) (htr : ∀ e, l.admits e → e.platform.stackTraces = false) (G : Gw) (z : Nat) (H0 : Heap) (B n : Nat) (w : Wd) (a1 : Int32) (a2 : Int32) (q : (Int32 ⊕ Nat) × Wd) (h : f_X0_taken B n a1 a2 w = some q)  (hB : wZ w ≤ B) : MetT l yX0_taken (wsW_ yX0_taken cX0_taken 4 (some .int) [(13, 38, 39, 260), (13, 38, 43, 234)]) ({ frames := 10, cells := B - wZ w, slots := 80 * (B - wZ w), locals := 10291 } : Room) (pcT G z H0 w [.ref (z + 0), .int a1, .int a2]) (qT G z H0 q.2 (cvI q.1)) (wZ q.2 - wZ w) (80 * (wZ q.2 - wZ w)) (fun q => z ≤ q) := by
  refine mTH (by decide) (Nat.le_of_ble_eq_true rfl) ?_
  intro p e s m below meth c ls hx hb hr hml hown hts hlocks hnm htb hK hR hF hN hS hl
  have hown : s.vm.findClass RX0 = some m.cls := hown
  have hl : lv_has ls 4 [(0, .ref (z + 0)), (1, .int a1), (2, .int a2)] := hl
  have hL : lok z [] := lok_nil
  unfold f_X0_taken at h
  obtain ⟨z0, hz0⟩ : ∃ z0, wZ w = z0 := ⟨_, rfl⟩
  rw [hz0]
  refine W.widen (k := wZ w - z0) (n := 80 * (wZ w - z0)) (Nat.zero_le _) (Nat.zero_le _) ?_
  have hZ : z0 ≤ wZ w ∧ wZ w ≤ B := ⟨by omega, hB⟩
  have hold : ∀ q : Nat, q < z → s.heap[q]? = H0[q]? := hR.2.1
  generalize s.heap = H at hR ⊢
  generalize ([] : List Loc) = locs at hL ⊢
  refine lv_iload_n hx hb dX0_taken_0 rfl (lv_at hl 2 rfl) ?_
  refine lv_iconst (v := 0) hx hb dX0_taken_1 (by decide) ?_
  refine lv_bipush (v := 6) hx hb dX0_taken_2 (by decide) ?_
  refine k_P (st1 := [.int (bI (f_X0_in a2 (0 : Int32) (6 : Int32) w))]) (va_runS (As := [.int a2, .int (0 : Int32), .int (6 : Int32)]) (rest := []) ⟨hx, hb, hml, hown, hts⟩ (met_X0_in l G z H0 w a2 (0 : Int32) (6 : Int32) _ rfl) (va_cwS 3 hts (lw_S q344 q345 q100 q346) rfl rfl rfl hd_X0_in ⟨Nat.le_of_ble_eq_true rfl, Nat.le_of_ble_eq_true rfl⟩) (preS hK hR hF hN) rfl rfl hl.1 rfl (lv_room (Nat.le_of_ble_eq_true rfl)) dX0_taken_4 ⟨by dsimp only; omega, by dsimp only; omega⟩) hL rfl (fun locs hL => ?_)
  refine W.wid (b := wZ w) (Nat.le_refl _) hZ.1 (Nat.le_refl _) ?_
  refine lv_if_ne (tgt := 13) hx hb dX0_taken_7 (by decide) (fun c1 => ?_) (fun c1 => ?_)
  · rw [if_pos (bI_p c1)] at h
    refine lv_aload_n hx hb dX0_taken_13 rfl (lv_at hl 0 rfl) ?_
    refine lv_iload_n hx hb dX0_taken_14 rfl (lv_at hl 1 rfl) ?_
    refine k_P (st1 := [.int (bI (f_X0_isCard a1 w))]) (va_runV (As := [.int a1]) (rest := []) ⟨hx, hb, hml, hown, hts⟩ (met_X0_isCard l G z H0 w a1 _ rfl) (cwV 1 hts (lw_V q672 q674 qs5 q100 q675) rfl rfl rfl ⟨rfl, hd_X0_isCard⟩ ⟨Nat.le_of_ble_eq_true rfl, Nat.le_of_ble_eq_true rfl⟩) (preV (q := (RX0, TX0, 40)) hK hR hF hN (congrArg Prod.fst (hF.2.1 0 (1, 0) rfl)) rfl) rfl rfl hl.1 rfl (lv_room (Nat.le_of_ble_eq_true rfl)) dX0_taken_15 ⟨by dsimp only; omega, by dsimp only; omega⟩) hL rfl (fun locs hL => ?_)
    refine W.wid (b := wZ w) (Nat.le_refl _) hZ.1 (Nat.le_refl _) ?_
    refine lv_if_eq (tgt := 30) hx hb dX0_taken_18 (by decide) (fun c2 => ?_) (fun c2 => ?_)
    · rw [if_neg (bI_n c2)] at h
      refine lv_null hx hb dX0_taken_30 ?_
      refine lv_iload_n hx hb dX0_taken_31 rfl (lv_at hl 2 rfl) ?_
      obtain ⟨⟨v3 | x4, qw5⟩, hq6, h⟩ := bnd h
      rotate_left
      · dsimp only at h
        obtain ⟨hz7, h⟩ := grd h
        obtain ⟨hg9, h⟩ := grd h
        refine k_TT (w := qw5) (x := x4) (mc := wZ qw5 - wZ w) (ms := 80 * (wZ qw5 - wZ w)) (runT_S (As := [.null, .int a2]) (rest := []) ⟨hx, hb, hml, hown, hts⟩ (met_X0_takenFor l htr G z H0 B n w none a2 (.inr x4, qw5) hq6 hZ.2) hd_X0_takenFor q830 q831 q100 q832 ⟨Nat.le_of_ble_eq_true rfl, Nat.le_of_ble_eq_true rfl⟩ (preST hK hR hF hN hS) rfl rfl hl.1 rfl (lv_room (Nat.le_of_ble_eq_true rfl)) dX0_taken_32 ⟨by dsimp only; omega, by dsimp only; omega⟩) hL (fun H locs hR hF hL => ?_)
        refine WT.widen (k := wZ qw5 - z0) (n := 80 * (wZ qw5 - z0)) (by omega) (by omega) ?_
        have hZ : z0 ≤ wZ qw5 ∧ wZ qw5 ≤ B := ⟨by omega, hz7.2⟩
        refine x_caught (q := 43) hR hK hg9 rfl hown (by rw [htb]; exact (Cat.no hK rfl (hN.nc 57 rfl) (by decide +kernel) (by decide) (hts _ q805) (Cat.self hK rfl (by decide +kernel) (by decide) (hts _ q586)))) ?_
        refine lv_astore_n (lv' := [(3, .ref (z + x4)), (0, .ref (z + 0)), (1, .int a1), (2, .int a2)]) hx hb dX0_taken_43 rfl hl (by decide) rfl (fun ls hl => ?_)
        refine lv_bipush (v := -12) hx hb dX0_taken_44 (by decide) ?_
        have h := Option.some.inj h
        subst h
        exact W.toT (W.iret (v := (-12 : Int32)) hx hb hr (fun t ht _ => ⟨rfl, by rw [ht]; exact hR, hF⟩) hL dX0_taken_46)
      dsimp only at h
      obtain ⟨hz7, h⟩ := grd h
      refine k_TR (v := (some (rfv z v3))) (w := qw5) (mc := wZ qw5 - wZ w) (ms := 80 * (wZ qw5 - wZ w)) (st1 := [rfv z v3]) (runT_S (As := [.null, .int a2]) (rest := []) ⟨hx, hb, hml, hown, hts⟩ (met_X0_takenFor l htr G z H0 B n w none a2 (.inl v3, qw5) hq6 hZ.2) hd_X0_takenFor q830 q831 q100 q832 ⟨Nat.le_of_ble_eq_true rfl, Nat.le_of_ble_eq_true rfl⟩ (preST hK hR hF hN hS) rfl rfl hl.1 rfl (lv_room (Nat.le_of_ble_eq_true rfl)) dX0_taken_32 ⟨by dsimp only; omega, by dsimp only; omega⟩) hL rfl (fun H locs hR hF hL => ?_)
      refine W.wid (b := wZ qw5) (by omega) hZ.1 (Nat.le_refl _) ?_
      have hZ : z0 ≤ wZ qw5 ∧ wZ qw5 ≤ B := ⟨by omega, hz7.2⟩
      by_cases hv10 : v3 = none
      · rw [if_pos hv10] at h
        obtain ⟨hz11, h⟩ := grd h
        refine x_invNull hx hb hown hts q692 q693 q694 q714 hd_X8_kind (rfv_none hv10) dX0_taken_35 ?_
        refine wn_npe hx htr hts hN hold hS hK hR hL (hl.1.trans hml.symm) (Nat.le_of_ble_eq_true rfl) (Nat.le_of_ble_eq_true rfl) (by dsimp only; omega) (by dsimp only; omega) (fun H locs hR hL => ?_)
        have hF := (hF.sX 0).sN 29 0
        have ez12 : wZ (sN (sX qw5 0) 29 0) = wZ qw5 + 1 := rfl
        refine WT.widen (k := wZ (sN (sX qw5 0) 29 0) - z0) (n := 80 * (wZ (sN (sX qw5 0) 29 0) - z0)) (by omega) (by omega) ?_
        have hZ : z0 ≤ wZ (sN (sX qw5 0) 29 0) ∧ wZ (sN (sX qw5 0) 29 0) ≤ B := ⟨by omega, by omega⟩
        have hg13 : (wT (sN (sX qw5 0) 29 0) (wZ qw5 + 0)).1 = 29 := by rw [wT_sN, wZ_sX, if_pos rfl]
        refine x_caught (q := 39) hR hK hg13 rfl hown (by rw [htb]; exact (Cat.self hK rfl (by decide +kernel) (by decide) (hts _ q805))) ?_
        refine lv_astore_n (lv' := [(3, .ref (z + wZ qw5 + 0)), (0, .ref (z + 0)), (1, .int a1), (2, .int a2)]) hx hb dX0_taken_39 rfl hl (by decide) rfl (fun ls hl => ?_)
        refine lv_bipush (v := -11) hx hb dX0_taken_40 (by decide) ?_
        have h := Option.some.inj h
        subst h
        exact W.toT (W.iret (v := (-11 : Int32)) hx hb hr (fun t ht _ => ⟨rfl, by rw [ht]; exact hR, hF⟩) hL dX0_taken_42)
      rw [if_neg hv10] at h
      obtain ⟨r14, hr15, h⟩ := bnd h
      obtain ⟨q16, hq17, h⟩ := bnd h
      have hv18 : va_Run p l e ({ frames := 10, cells := B - z0, slots := 80 * (B - z0), locals := 10291 } : Room) s m ([.ref (z + 0), .int a1, .int a2] : List Value).toArray below meth c H locs (wZ qw5 - z0) (80 * (wZ qw5 - z0)) 0 0 (F0 m 35 ls [rfv z v3]) [] (qP (some (.int q16)) ([.ref (z + r14)] : List Value).toArray) (fun q => z ≤ q) := by
        unfold v_X8_kind at hq17
        by_cases c19 : (wT qw5 r14).1 = 9
        · rw [if_pos c19] at hq17
          have hq17 := Option.some.inj hq17
          exact (va_runV (As := []) (rest := []) ⟨hx, hb, hml, hown, hts⟩ (met_X8_kind l G z H0 qw5 r14 q16 hq17 (by omega)) (cwV 0 hts (lw_V q692 q693 q694 q109 q714) rfl rfl rfl ⟨rfl, hd_X8_kind⟩ ⟨Nat.le_of_ble_eq_true rfl, Nat.le_of_ble_eq_true rfl⟩) (preV (q := (RX8, TX8, 4)) hK hR hF hN c19 rfl) rfl rfl hl.1 (by rw [(rfv_some hr15)]; rfl) (lv_room (Nat.le_of_ble_eq_true rfl)) dX0_taken_35 ⟨by dsimp only; omega, by dsimp only; omega⟩)
        rw [if_neg c19] at hq17
        by_cases c20 : (wT qw5 r14).1 = 10
        · rw [if_pos c20] at hq17
          have hq17 := Option.some.inj hq17
          exact (va_runU (As := []) (rest := []) ⟨hx, hb, hml, hown, hts⟩ (met_X9_kind l G z H0 qw5 r14 q16 hq17 (by omega)) (va_cwO 0 hts (lw_O q692 q695 q693 q708 q709 q110 q710) rfl rfl rfl q714 (by decide +kernel) ⟨Nat.le_of_ble_eq_true rfl, Nat.le_of_ble_eq_true rfl⟩) (preV (q := (RX9, TX9, 4)) hK hR hF hN c20 rfl) rfl rfl hl.1 (by rw [(rfv_some hr15)]; rfl) (lv_room (Nat.le_of_ble_eq_true rfl)) dX0_taken_35 ⟨by dsimp only; omega, by dsimp only; omega⟩)
        rw [if_neg c20] at hq17
        by_cases c21 : (wT qw5 r14).1 = 11
        · rw [if_pos c21] at hq17
          have hq17 := Option.some.inj hq17
          exact (va_runU (As := []) (rest := []) ⟨hx, hb, hml, hown, hts⟩ (met_X10_kind l G z H0 qw5 r14 q16 hq17 c21) (va_cwO 0 hts (lw_O q692 q695 q693 q696 q697 q111 q698) rfl rfl rfl q714 (by decide +kernel) ⟨Nat.le_of_ble_eq_true rfl, Nat.le_of_ble_eq_true rfl⟩) (preV (q := (RX10, TX10, 4)) hK hR hF hN c21 rfl) rfl rfl hl.1 (by rw [(rfv_some hr15)]; rfl) (lv_room (Nat.le_of_ble_eq_true rfl)) dX0_taken_35 ⟨by dsimp only; omega, by dsimp only; omega⟩)
        rw [if_neg c21] at hq17
        by_cases c22 : (wT qw5 r14).1 = 12
        · rw [if_pos c22] at hq17
          have hq17 := Option.some.inj hq17
          exact (va_runU (As := []) (rest := []) ⟨hx, hb, hml, hown, hts⟩ (met_X11_kind l G z H0 qw5 r14 q16 hq17 (by omega)) (va_cwO 0 hts (lw_O q692 q695 q693 q711 q712 q112 q713) rfl rfl rfl q714 (by decide +kernel) ⟨Nat.le_of_ble_eq_true rfl, Nat.le_of_ble_eq_true rfl⟩) (preV (q := (RX11, TX11, 5)) hK hR hF hN c22 rfl) rfl rfl hl.1 (by rw [(rfv_some hr15)]; rfl) (lv_room (Nat.le_of_ble_eq_true rfl)) dX0_taken_35 ⟨by dsimp only; omega, by dsimp only; omega⟩)
        rw [if_neg c22] at hq17
        by_cases c23 : (wT qw5 r14).1 = 13
        · rw [if_pos c23] at hq17
          have hq17 := Option.some.inj hq17
          exact (va_runU (As := []) (rest := []) ⟨hx, hb, hml, hown, hts⟩ (met_X12_kind l G z H0 qw5 r14 q16 hq17 c23) (va_cwO 0 hts (lw_O q692 q695 q693 q702 q703 q113 q704) rfl rfl rfl q714 (by decide +kernel) ⟨Nat.le_of_ble_eq_true rfl, Nat.le_of_ble_eq_true rfl⟩) (preV (q := (RX12, TX12, 4)) hK hR hF hN c23 rfl) rfl rfl hl.1 (by rw [(rfv_some hr15)]; rfl) (lv_room (Nat.le_of_ble_eq_true rfl)) dX0_taken_35 ⟨by dsimp only; omega, by dsimp only; omega⟩)
        rw [if_neg c23] at hq17
        by_cases c24 : (wT qw5 r14).1 = 14
        · rw [if_pos c24] at hq17
          have hq17 := Option.some.inj hq17
          exact (va_runU (As := []) (rest := []) ⟨hx, hb, hml, hown, hts⟩ (met_X13_kind l G z H0 qw5 r14 q16 hq17 c24) (va_cwO 0 hts (lw_O q692 q695 q693 q699 q700 q114 q701) rfl rfl rfl q714 (by decide +kernel) ⟨Nat.le_of_ble_eq_true rfl, Nat.le_of_ble_eq_true rfl⟩) (preV (q := (RX13, TX13, 4)) hK hR hF hN c24 rfl) rfl rfl hl.1 (by rw [(rfv_some hr15)]; rfl) (lv_room (Nat.le_of_ble_eq_true rfl)) dX0_taken_35 ⟨by dsimp only; omega, by dsimp only; omega⟩)
        rw [if_neg c24] at hq17
        by_cases c25 : (wT qw5 r14).1 = 15
        · rw [if_pos c25] at hq17
          have hq17 := Option.some.inj hq17
          exact (va_runU (As := []) (rest := []) ⟨hx, hb, hml, hown, hts⟩ (met_X14_kind l G z H0 qw5 r14 q16 hq17 c25) (va_cwO 0 hts (lw_O q692 q695 q693 q705 q706 q120 q707) rfl rfl rfl q714 (by decide +kernel) ⟨Nat.le_of_ble_eq_true rfl, Nat.le_of_ble_eq_true rfl⟩) (preV (q := (RX14, TX14, 5)) hK hR hF hN c25 rfl) rfl rfl hl.1 (by rw [(rfv_some hr15)]; rfl) (lv_room (Nat.le_of_ble_eq_true rfl)) dX0_taken_35 ⟨by dsimp only; omega, by dsimp only; omega⟩)
        rw [if_neg c25] at hq17
        cases hq17
      refine k_P (st1 := [.int q16]) hv18 hL rfl (fun locs hL => ?_)
      refine W.wid (b := wZ qw5) (Nat.le_refl _) hZ.1 (Nat.le_refl _) ?_
      have h := Option.some.inj h
      subst h
      exact W.toT (W.iret (v := q16) hx hb hr (fun t ht _ => ⟨rfl, by rw [ht]; exact hR, hF⟩) hL dX0_taken_38)
    · rw [if_pos (bI_p c2)] at h
      refine lv_aload_n hx hb dX0_taken_21 rfl (lv_at hl 0 rfl) ?_
      refine x_get (k := 8) (o := "BarredBooks") (n := "cards") (d := "[LBarredBooks$Card;") (fin := true) (ty := (.array (.object "BarredBooks$Card"))) (host := "BarredBooks") hx hb hts hown hK hR rfl (Fam.one (r := (RX0, TX0, 40)) (congrArg Prod.fst (hF.2.1 0 (1, 0) rfl)) rfl ok0 (by decide)) (Or.inl (hts _ q227)) (fun _ h9 => h9) (v := .ref (z + 13)) (fv_fix hF rfl rfl) dX0_taken_22 ?_
      refine lv_iload_n hx hb dX0_taken_25 rfl (lv_at hl 1 rfl) ?_
      obtain ⟨hb26, h⟩ := grd h
      refine x_aald (v := rfv z (wR w 13 a1.toNatClampNeg)) (t := 10) hx hb hK hR rfl (hF.2.1 13 (210, 50) rfl) (by decide) rfl hb26 rfl dX0_taken_26 ?_
      refine lv_goto (tgt := 31) hx hb dX0_taken_27 (by decide) ?_
      refine lv_iload_n hx hb dX0_taken_31 rfl (lv_at hl 2 rfl) ?_
      obtain ⟨⟨v27 | x28, qw29⟩, hq30, h⟩ := bnd h
      rotate_left
      · dsimp only at h
        obtain ⟨hz31, h⟩ := grd h
        obtain ⟨hg33, h⟩ := grd h
        refine k_TT (w := qw29) (x := x28) (mc := wZ qw29 - wZ w) (ms := 80 * (wZ qw29 - wZ w)) (runT_S (As := [rfv z (wR w 13 a1.toNatClampNeg), .int a2]) (rest := []) ⟨hx, hb, hml, hown, hts⟩ (met_X0_takenFor l htr G z H0 B n w (wR w 13 a1.toNatClampNeg) a2 (.inr x28, qw29) hq30 hZ.2) hd_X0_takenFor q830 q831 q100 q832 ⟨Nat.le_of_ble_eq_true rfl, Nat.le_of_ble_eq_true rfl⟩ (preST hK hR hF hN hS) rfl rfl hl.1 rfl (lv_room (Nat.le_of_ble_eq_true rfl)) dX0_taken_32 ⟨by dsimp only; omega, by dsimp only; omega⟩) hL (fun H locs hR hF hL => ?_)
        refine WT.widen (k := wZ qw29 - z0) (n := 80 * (wZ qw29 - z0)) (by omega) (by omega) ?_
        have hZ : z0 ≤ wZ qw29 ∧ wZ qw29 ≤ B := ⟨by omega, hz31.2⟩
        refine x_caught (q := 43) hR hK hg33 rfl hown (by rw [htb]; exact (Cat.no hK rfl (hN.nc 57 rfl) (by decide +kernel) (by decide) (hts _ q805) (Cat.self hK rfl (by decide +kernel) (by decide) (hts _ q586)))) ?_
        refine lv_astore_n (lv' := [(3, .ref (z + x28)), (0, .ref (z + 0)), (1, .int a1), (2, .int a2)]) hx hb dX0_taken_43 rfl hl (by decide) rfl (fun ls hl => ?_)
        refine lv_bipush (v := -12) hx hb dX0_taken_44 (by decide) ?_
        have h := Option.some.inj h
        subst h
        exact W.toT (W.iret (v := (-12 : Int32)) hx hb hr (fun t ht _ => ⟨rfl, by rw [ht]; exact hR, hF⟩) hL dX0_taken_46)
      dsimp only at h
      obtain ⟨hz31, h⟩ := grd h
      refine k_TR (v := (some (rfv z v27))) (w := qw29) (mc := wZ qw29 - wZ w) (ms := 80 * (wZ qw29 - wZ w)) (st1 := [rfv z v27]) (runT_S (As := [rfv z (wR w 13 a1.toNatClampNeg), .int a2]) (rest := []) ⟨hx, hb, hml, hown, hts⟩ (met_X0_takenFor l htr G z H0 B n w (wR w 13 a1.toNatClampNeg) a2 (.inl v27, qw29) hq30 hZ.2) hd_X0_takenFor q830 q831 q100 q832 ⟨Nat.le_of_ble_eq_true rfl, Nat.le_of_ble_eq_true rfl⟩ (preST hK hR hF hN hS) rfl rfl hl.1 rfl (lv_room (Nat.le_of_ble_eq_true rfl)) dX0_taken_32 ⟨by dsimp only; omega, by dsimp only; omega⟩) hL rfl (fun H locs hR hF hL => ?_)
      refine W.wid (b := wZ qw29) (by omega) hZ.1 (Nat.le_refl _) ?_
      have hZ : z0 ≤ wZ qw29 ∧ wZ qw29 ≤ B := ⟨by omega, hz31.2⟩
      by_cases hv34 : v27 = none
      · rw [if_pos hv34] at h
        obtain ⟨hz35, h⟩ := grd h
        refine x_invNull hx hb hown hts q692 q693 q694 q714 hd_X8_kind (rfv_none hv34) dX0_taken_35 ?_
        refine wn_npe hx htr hts hN hold hS hK hR hL (hl.1.trans hml.symm) (Nat.le_of_ble_eq_true rfl) (Nat.le_of_ble_eq_true rfl) (by dsimp only; omega) (by dsimp only; omega) (fun H locs hR hL => ?_)
        have hF := (hF.sX 0).sN 29 0
        have ez36 : wZ (sN (sX qw29 0) 29 0) = wZ qw29 + 1 := rfl
        refine WT.widen (k := wZ (sN (sX qw29 0) 29 0) - z0) (n := 80 * (wZ (sN (sX qw29 0) 29 0) - z0)) (by omega) (by omega) ?_
        have hZ : z0 ≤ wZ (sN (sX qw29 0) 29 0) ∧ wZ (sN (sX qw29 0) 29 0) ≤ B := ⟨by omega, by omega⟩
        have hg37 : (wT (sN (sX qw29 0) 29 0) (wZ qw29 + 0)).1 = 29 := by rw [wT_sN, wZ_sX, if_pos rfl]
        refine x_caught (q := 39) hR hK hg37 rfl hown (by rw [htb]; exact (Cat.self hK rfl (by decide +kernel) (by decide) (hts _ q805))) ?_
        refine lv_astore_n (lv' := [(3, .ref (z + wZ qw29 + 0)), (0, .ref (z + 0)), (1, .int a1), (2, .int a2)]) hx hb dX0_taken_39 rfl hl (by decide) rfl (fun ls hl => ?_)
        refine lv_bipush (v := -11) hx hb dX0_taken_40 (by decide) ?_
        have h := Option.some.inj h
        subst h
        exact W.toT (W.iret (v := (-11 : Int32)) hx hb hr (fun t ht _ => ⟨rfl, by rw [ht]; exact hR, hF⟩) hL dX0_taken_42)
      rw [if_neg hv34] at h
      obtain ⟨r38, hr39, h⟩ := bnd h
      obtain ⟨q40, hq41, h⟩ := bnd h
      have hv42 : va_Run p l e ({ frames := 10, cells := B - z0, slots := 80 * (B - z0), locals := 10291 } : Room) s m ([.ref (z + 0), .int a1, .int a2] : List Value).toArray below meth c H locs (wZ qw29 - z0) (80 * (wZ qw29 - z0)) 0 0 (F0 m 35 ls [rfv z v27]) [] (qP (some (.int q40)) ([.ref (z + r38)] : List Value).toArray) (fun q => z ≤ q) := by
        unfold v_X8_kind at hq41
        by_cases c43 : (wT qw29 r38).1 = 9
        · rw [if_pos c43] at hq41
          have hq41 := Option.some.inj hq41
          exact (va_runV (As := []) (rest := []) ⟨hx, hb, hml, hown, hts⟩ (met_X8_kind l G z H0 qw29 r38 q40 hq41 (by omega)) (cwV 0 hts (lw_V q692 q693 q694 q109 q714) rfl rfl rfl ⟨rfl, hd_X8_kind⟩ ⟨Nat.le_of_ble_eq_true rfl, Nat.le_of_ble_eq_true rfl⟩) (preV (q := (RX8, TX8, 4)) hK hR hF hN c43 rfl) rfl rfl hl.1 (by rw [(rfv_some hr39)]; rfl) (lv_room (Nat.le_of_ble_eq_true rfl)) dX0_taken_35 ⟨by dsimp only; omega, by dsimp only; omega⟩)
        rw [if_neg c43] at hq41
        by_cases c44 : (wT qw29 r38).1 = 10
        · rw [if_pos c44] at hq41
          have hq41 := Option.some.inj hq41
          exact (va_runU (As := []) (rest := []) ⟨hx, hb, hml, hown, hts⟩ (met_X9_kind l G z H0 qw29 r38 q40 hq41 (by omega)) (va_cwO 0 hts (lw_O q692 q695 q693 q708 q709 q110 q710) rfl rfl rfl q714 (by decide +kernel) ⟨Nat.le_of_ble_eq_true rfl, Nat.le_of_ble_eq_true rfl⟩) (preV (q := (RX9, TX9, 4)) hK hR hF hN c44 rfl) rfl rfl hl.1 (by rw [(rfv_some hr39)]; rfl) (lv_room (Nat.le_of_ble_eq_true rfl)) dX0_taken_35 ⟨by dsimp only; omega, by dsimp only; omega⟩)
        rw [if_neg c44] at hq41
        by_cases c45 : (wT qw29 r38).1 = 11
        · rw [if_pos c45] at hq41
          have hq41 := Option.some.inj hq41
          exact (va_runU (As := []) (rest := []) ⟨hx, hb, hml, hown, hts⟩ (met_X10_kind l G z H0 qw29 r38 q40 hq41 c45) (va_cwO 0 hts (lw_O q692 q695 q693 q696 q697 q111 q698) rfl rfl rfl q714 (by decide +kernel) ⟨Nat.le_of_ble_eq_true rfl, Nat.le_of_ble_eq_true rfl⟩) (preV (q := (RX10, TX10, 4)) hK hR hF hN c45 rfl) rfl rfl hl.1 (by rw [(rfv_some hr39)]; rfl) (lv_room (Nat.le_of_ble_eq_true rfl)) dX0_taken_35 ⟨by dsimp only; omega, by dsimp only; omega⟩)
        rw [if_neg c45] at hq41
        by_cases c46 : (wT qw29 r38).1 = 12
        · rw [if_pos c46] at hq41
          have hq41 := Option.some.inj hq41
          exact (va_runU (As := []) (rest := []) ⟨hx, hb, hml, hown, hts⟩ (met_X11_kind l G z H0 qw29 r38 q40 hq41 (by omega)) (va_cwO 0 hts (lw_O q692 q695 q693 q711 q712 q112 q713) rfl rfl rfl q714 (by decide +kernel) ⟨Nat.le_of_ble_eq_true rfl, Nat.le_of_ble_eq_true rfl⟩) (preV (q := (RX11, TX11, 5)) hK hR hF hN c46 rfl) rfl rfl hl.1 (by rw [(rfv_some hr39)]; rfl) (lv_room (Nat.le_of_ble_eq_true rfl)) dX0_taken_35 ⟨by dsimp only; omega, by dsimp only; omega⟩)
        rw [if_neg c46] at hq41
        by_cases c47 : (wT qw29 r38).1 = 13
        · rw [if_pos c47] at hq41
          have hq41 := Option.some.inj hq41
          exact (va_runU (As := []) (rest := []) ⟨hx, hb, hml, hown, hts⟩ (met_X12_kind l G z H0 qw29 r38 q40 hq41 c47) (va_cwO 0 hts (lw_O q692 q695 q693 q702 q703 q113 q704) rfl rfl rfl q714 (by decide +kernel) ⟨Nat.le_of_ble_eq_true rfl, Nat.le_of_ble_eq_true rfl⟩) (preV (q := (RX12, TX12, 4)) hK hR hF hN c47 rfl) rfl rfl hl.1 (by rw [(rfv_some hr39)]; rfl) (lv_room (Nat.le_of_ble_eq_true rfl)) dX0_taken_35 ⟨by dsimp only; omega, by dsimp only; omega⟩)
        rw [if_neg c47] at hq41
        by_cases c48 : (wT qw29 r38).1 = 14
        · rw [if_pos c48] at hq41
          have hq41 := Option.some.inj hq41
          exact (va_runU (As := []) (rest := []) ⟨hx, hb, hml, hown, hts⟩ (met_X13_kind l G z H0 qw29 r38 q40 hq41 c48) (va_cwO 0 hts (lw_O q692 q695 q693 q699 q700 q114 q701) rfl rfl rfl q714 (by decide +kernel) ⟨Nat.le_of_ble_eq_true rfl, Nat.le_of_ble_eq_true rfl⟩) (preV (q := (RX13, TX13, 4)) hK hR hF hN c48 rfl) rfl rfl hl.1 (by rw [(rfv_some hr39)]; rfl) (lv_room (Nat.le_of_ble_eq_true rfl)) dX0_taken_35 ⟨by dsimp only; omega, by dsimp only; omega⟩)
        rw [if_neg c48] at hq41
        by_cases c49 : (wT qw29 r38).1 = 15
        · rw [if_pos c49] at hq41
          have hq41 := Option.some.inj hq41
          exact (va_runU (As := []) (rest := []) ⟨hx, hb, hml, hown, hts⟩ (met_X14_kind l G z H0 qw29 r38 q40 hq41 c49) (va_cwO 0 hts (lw_O q692 q695 q693 q705 q706 q120 q707) rfl rfl rfl q714 (by decide +kernel) ⟨Nat.le_of_ble_eq_true rfl, Nat.le_of_ble_eq_true rfl⟩) (preV (q := (RX14, TX14, 5)) hK hR hF hN c49 rfl) rfl rfl hl.1 (by rw [(rfv_some hr39)]; rfl) (lv_room (Nat.le_of_ble_eq_true rfl)) dX0_taken_35 ⟨by dsimp only; omega, by dsimp only; omega⟩)
        rw [if_neg c49] at hq41
        cases hq41
      refine k_P (st1 := [.int q40]) hv42 hL rfl (fun locs hL => ?_)
      refine W.wid (b := wZ qw29) (Nat.le_refl _) hZ.1 (Nat.le_refl _) ?_
      have h := Option.some.inj h
      subst h
      exact W.toT (W.iret (v := q40) hx hb hr (fun t ht _ => ⟨rfl, by rw [ht]; exact hR, hF⟩) hL dX0_taken_38)
  · rw [if_neg (bI_n c1)] at h
    refine lv_bipush (v := -2) hx hb dX0_taken_10 (by decide) ?_
    have h := Option.some.inj h
    subst h
    exact W.toT (W.iret (v := (-2 : Int32)) hx hb hr (fun t ht _ => ⟨rfl, by rw [ht]; exact hR, hF⟩) hL dX0_taken_12)
def f_X0_looks_J37 (B n : Nat) (a1 : Int32) (a2 : Option Nat) (a3 : Int32) (a4 : Int32) (j5 : Int64) (w : Wd) : Option ((Int64 ⊕ Nat) × Wd) :=
  if wZ w + 1 ≤ B then (some (.inl (j5 - (1000000 : Int64)), sI (sN w 18 0) (wZ w) 0 (-13 : Int32))) else none
def f_X0_looks_L6 (B n : Nat) (u1_1 : Int32) (u1_2 : Option Nat) (u1_3 : Int32) (u1_4 : Int32) (s1 : Int32 × Int64 × Wd) : Option ((Int32 × Int64 × Wd) ⊕ ((Int32 × Int64 × Wd) ⊕ (Int32 × Int64 × Wd) ⊕ (Int32 × Int64 × Wd))) :=
  if u1_4 ≤ s1.1 then (some (.inr (.inl (s1.1, s1.2.1, s1.2.2)))) else (if (lg_cmp (u1_3.toInt64 + s1.1.toInt64) (0 : Int64)) < 0 then (some (.inr (.inr (.inl (s1.1, s1.2.1, s1.2.2))))) else (if u1_2 = none then (if wZ s1.2.2 + 1 ≤ B then (some (.inr (.inr (.inr ((0 : Int32), s1.2.1, sN (sX s1.2.2 0) 29 0))))) else none) else ((u1_2).bind fun r7 => if (wT s1.2.2 r7).1 = 202 then (if (lg_cmp (u1_3.toInt64 + s1.1.toInt64) ((Int32.ofNat ((wT s1.2.2 r7).2)).toInt64)) < 0 then (if inb ((u1_3.toInt64 + s1.1.toInt64).toInt32) (wT s1.2.2 r7).2 then (if (wI s1.2.2 r7 (((u1_3.toInt64 + s1.1.toInt64).toInt32).toNatClampNeg)) = (-1 : Int32) then (some (.inl (s1.1 + (1 : Int32), s1.2.1, s1.2.2))) else (if (f_X0_isCopy (wI s1.2.2 r7 (((u1_3.toInt64 + s1.1.toInt64).toInt32).toNatClampNeg)) s1.2.2) then ((f_X0_spotOf n (wI s1.2.2 r7 (((u1_3.toInt64 + s1.1.toInt64).toInt32).toNatClampNeg)) (wI s1.2.2 0 0) (-1 : Int32) s1.2.2).bind fun q14 => if q14 = u1_1 then (some (.inl (s1.1 + (1 : Int32), s1.2.1 + (1000 : Int64), s1.2.2))) else (some (.inl (s1.1 + (1 : Int32), s1.2.1 + (1 : Int64), s1.2.2)))) else (some (.inl (s1.1 + (1 : Int32), s1.2.1 + (1 : Int64), s1.2.2))))) else none) else (some (.inr (.inr (.inl (s1.1, s1.2.1, s1.2.2)))))) else none)))
def f_X0_looks (B n : Nat) (a1 : Int32) (a2 : Option Nat) (a3 : Int32) (a4 : Int32) (w : Wd) : Option ((Int64 ⊕ Nat) × Wd) :=
  (it n (f_X0_looks_L6 B n a1 a2 a3 a4) ((0 : Int32), (0 : Int64), w)).bind fun t6 => (match t6 with | .inl q6_105 => some (.inl q6_105.2.1, q6_105.2.2) | .inr t6_ => (match t6_ with | .inl q6_37 => f_X0_looks_J37 B n a1 a2 a3 a4 q6_37.2.1 q6_37.2.2 | .inr q6_110 => some (.inl (q6_110.2.1 - (1000000 : Int64)), q6_110.2.2)))
theorem hd_X0_looks : yX0_looks.cls ≠ "java/lang/invoke/MethodHandle" ∧ yX0_looks.cls ≠ "java/lang/invoke/VarHandle" ∧ (parseMethodDescriptor yX0_looks.desc).map (fun d => d.parameters.length) = some 4 := by decide +kernel
set_option maxHeartbeats 4000000 in
set_option maxRecDepth 100000 in
theorem met_X0_looks (l : Launch) (htr : ∀ e, l.admits e → e.platform.stackTraces = false) (G : Gw) (z : Nat) (H0 : Heap) (B n : Nat) (w : Wd) (a1 : Int32) (a2 : Option Nat) (a3 : Int32) (a4 : Int32) (q : (Int64 ⊕ Nat) × Wd) (h : f_X0_looks B n a1 a2 a3 a4 w = some q)  (hB : wZ w ≤ B) : MetT l yX0_looks (wsW_ yX0_looks cX0_looks 11 (some .long) [(3, 105, 108, 260), (3, 105, 121, 283)]) ({ frames := 9, cells := B - wZ w, slots := 80 * (B - wZ w), locals := 10270 } : Room) (pcT G z H0 w [.ref (z + 0), .int a1, rfv z a2, .int a3, .int a4]) (qT G z H0 q.2 (cvL q.1)) (wZ q.2 - wZ w) (80 * (wZ q.2 - wZ w)) (fun q => z ≤ q) := by
  refine mTH (by decide) (by simp [lg_sl, cat_rfv, cat_i, cat_r, cat_l, cat_n]) ?_
  intro p e s m below meth c ls hx hb hr hml hown hts hlocks hnm htb hK hR hF hN hS hl
  have hown : s.vm.findClass RX0 = some m.cls := hown
  have hl : lv_has ls 11 [(0, .ref (z + 0)), (1, .int a1), (2, rfv z a2), (3, .int a3), (4, .int a4)] := by simpa [lv_args, cat_rfv, cat_i, cat_r, cat_l, cat_n] using hl
  have hL : lok z [] := lok_nil
  unfold f_X0_looks at h
  obtain ⟨z0, hz0⟩ : ∃ z0, wZ w = z0 := ⟨_, rfl⟩
  rw [hz0]
  refine W.widen (k := wZ w - z0) (n := 80 * (wZ w - z0)) (Nat.zero_le _) (Nat.zero_le _) ?_
  have hZ : z0 ≤ wZ w ∧ wZ w ≤ B := ⟨by omega, hB⟩
  have hold : ∀ q : Nat, q < z → s.heap[q]? = H0[q]? := hR.2.1
  generalize s.heap = H at hR ⊢
  generalize ([] : List Loc) = locs at hL ⊢
  have hJ37 : ∀ (j5 : Int64) (w : Wd), f_X0_looks_J37 B n a1 a2 a3 a4 j5 w = some q → ∀ (H : Heap) (locs : List Loc) (ls : Array Slot), Rp G z H0 w H → Fix w → lok z locs → (z0 ≤ wZ w ∧ wZ w ≤ B) → lv_has ls 11 [(5, .long j5)] → W p l e ({ frames := 9, cells := B - z0, slots := 80 * (B - z0), locals := 10270 } : Room) s m ([.ref (z + 0), .int a1, rfv z a2, .int a3, .int a4] : List Value).toArray below meth c H locs (wZ w - z0) (80 * (wZ w - z0)) (MQT below (qT G z H0 q.2 (cvL q.1)) ([.ref (z + 0), .int a1, rfv z a2, .int a3, .int a4] : List Value).toArray s (wZ q.2 - z0) (80 * (wZ q.2 - z0)) (fun q => z ≤ q)) (F0 m 37 ls []) := by
    intro j5 w h H locs ls hR hF hL hZ hl
    unfold f_X0_looks_J37 at h
    obtain ⟨hz17, h⟩ := grd h
    refine x_newOff hx hb hts hown (hts _ q841) hK hR (by dsimp only; omega) (by dsimp only; omega) dX0_looks_37 (fun H hR hfr18 => ?_)
    have hF := hF.sN 18 0
    have ez19 : wZ (sN w 18 0) = wZ w + 1 := rfl
    refine W.wid (b := wZ (sN w 18 0)) (by omega) hZ.1 (by decide) ?_
    have hZ : z0 ≤ wZ (sN w 18 0) ∧ wZ (sN w 18 0) ≤ B := ⟨by omega, by omega⟩
    have hg20 : (wT (sN w 18 0) (wZ w)).1 = 18 := by rw [wT_sN, if_pos rfl]
    refine lv_dup hx hb dX0_looks_40 rfl ?_
    refine lv_bipush (v := -13) hx hb dX0_looks_41 (by decide) ?_
    refine k_W (st1 := [.ref (z + wZ w)]) (va_runI (As := [.int (-13 : Int32)]) (rest := [.ref (z + wZ w)]) ⟨hx, hb, hml, hown, hts⟩ (met_X17_init l htr G z H0 (sN w 18 0) (wZ w) (-13 : Int32) hg20) (cwI 1 hts (lw_meth q994) rfl rfl rfl (hts _ q130) (hts _ q1528) (hts _ q993) rfl hd_X17_init ⟨Nat.le_of_ble_eq_true rfl, Nat.le_of_ble_eq_true rfl⟩) (preO hK hR hF hN hS hfr18) rfl rfl hl.1 rfl (lv_room (Nat.le_of_ble_eq_true rfl)) dX0_looks_43 ⟨by dsimp only; omega, by dsimp only; omega⟩) hL rfl (fun H locs hR hF hL => ?_)
    rw [← wT_sI _ (wZ w) 0 (-13 : Int32)] at hg20
    refine W.wid (b := wZ (sN w 18 0)) (Nat.le_refl _) hZ.1 (Nat.le_refl _) ?_
    refine x_athrow hx hb rfl dX0_looks_46 ?_
    refine x_caught (q := 121) hR hK hg20 rfl hown (by rw [htb]; exact (Cat.no hK rfl (hN.nc 68 rfl) (by decide +kernel) (by decide) (hts _ q805) (Cat.self hK rfl (by decide +kernel) (by decide) (hts _ q841)))) ?_
    refine lv_astore (lv' := [(7, .ref (z + wZ w)), (5, .long j5)]) hx hb dX0_looks_121 hl (by decide) rfl (fun ls hl => ?_)
    refine lv_lload hx hb dX0_looks_123 (lv_at hl 1 rfl) ?_
    refine lv_ldc2 (v := 1000000) hx hb hown (hts _ q1530) dX0_looks_125 ?_
    refine lv_lsub hx hb dX0_looks_128 ?_
    refine lv_lstore (lv' := [(5, .long (j5 - (1000000 : Int64))), (7, .ref (z + wZ w))]) hx hb dX0_looks_129 hl (by decide) rfl (fun ls hl => ?_)
    refine lv_lload hx hb dX0_looks_131 (lv_at hl 0 rfl) ?_
    have h := Option.some.inj h
    subst h
    refine W.widen (k := wZ (sI (sN w 18 0) (wZ w) 0 (-13 : Int32)) - z0) (n := 80 * (wZ (sI (sN w 18 0) (wZ w) 0 (-13 : Int32)) - z0)) (Nat.le_refl _) (Nat.le_refl _) ?_
    exact W.toT (W.lret (v := j5 - (1000000 : Int64)) hx hb hr (fun t ht _ => ⟨rfl, by rw [ht]; exact hR, hF⟩) hL dX0_looks_133)
  refine lv_lconst (v := 0) hx hb dX0_looks_0 (by decide) ?_
  refine lv_lstore (lv' := [(5, .long (0 : Int64)), (0, .ref (z + 0)), (1, .int a1), (2, rfv z a2), (3, .int a3), (4, .int a4)]) hx hb dX0_looks_1 hl (by decide) rfl (fun ls hl => ?_)
  refine lv_iconst (v := 0) hx hb dX0_looks_3 (by decide) ?_
  refine lv_istore (lv' := [(7, .int (0 : Int32)), (5, .long (0 : Int64)), (0, .ref (z + 0)), (1, .int a1), (2, rfv z a2), (3, .int a3), (4, .int a4)]) hx hb dX0_looks_4 hl (by decide) rfl (fun ls hl => ?_)
  have hX6_105 : ∀ (q6_105 : Int32 × Int64 × Wd), (some (.inl q6_105.2.1, q6_105.2.2)) = some q → ∀ (H : Heap) (locs : List Loc) (ls : Array Slot), Rp G z H0 q6_105.2.2 H → Fix q6_105.2.2 → lok z locs → (z0 ≤ wZ q6_105.2.2 ∧ wZ q6_105.2.2 ≤ B) → lv_has ls 11 [(5, .long q6_105.2.1)] → W p l e ({ frames := 9, cells := B - z0, slots := 80 * (B - z0), locals := 10270 } : Room) s m ([.ref (z + 0), .int a1, rfv z a2, .int a3, .int a4] : List Value).toArray below meth c H locs (wZ q6_105.2.2 - z0) (80 * (wZ q6_105.2.2 - z0)) (MQT below (qT G z H0 q.2 (cvL q.1)) ([.ref (z + 0), .int a1, rfv z a2, .int a3, .int a4] : List Value).toArray s (wZ q.2 - z0) (80 * (wZ q.2 - z0)) (fun q => z ≤ q)) (F0 m 105 ls []) := by
    intro q6_105 h H locs ls hR hF hL hZ hl
    refine lv_goto (tgt := 131) hx hb dX0_looks_105 (by decide) ?_
    refine lv_lload hx hb dX0_looks_131 (lv_at hl 0 rfl) ?_
    have h := Option.some.inj h
    subst h
    exact W.toT (W.lret (v := q6_105.2.1) hx hb hr (fun t ht _ => ⟨rfl, by rw [ht]; exact hR, hF⟩) hL dX0_looks_133)
  have hX6_37 : ∀ (q6_37 : Int32 × Int64 × Wd), (f_X0_looks_J37 B n a1 a2 a3 a4 q6_37.2.1 q6_37.2.2) = some q → ∀ (H : Heap) (locs : List Loc) (ls : Array Slot), Rp G z H0 q6_37.2.2 H → Fix q6_37.2.2 → lok z locs → (z0 ≤ wZ q6_37.2.2 ∧ wZ q6_37.2.2 ≤ B) → lv_has ls 11 [(5, .long q6_37.2.1)] → W p l e ({ frames := 9, cells := B - z0, slots := 80 * (B - z0), locals := 10270 } : Room) s m ([.ref (z + 0), .int a1, rfv z a2, .int a3, .int a4] : List Value).toArray below meth c H locs (wZ q6_37.2.2 - z0) (80 * (wZ q6_37.2.2 - z0)) (MQT below (qT G z H0 q.2 (cvL q.1)) ([.ref (z + 0), .int a1, rfv z a2, .int a3, .int a4] : List Value).toArray s (wZ q.2 - z0) (80 * (wZ q.2 - z0)) (fun q => z ≤ q)) (F0 m 37 ls []) := by
    intro q6_37 h H locs ls hR hF hL hZ hl
    exact hJ37 q6_37.2.1 q6_37.2.2 h H locs ls hR hF hL hZ (lv_sub hl [0] rfl)
  have hX6_110 : ∀ (q6_110 : Int32 × Int64 × Wd), (some (.inl (q6_110.2.1 - (1000000 : Int64)), q6_110.2.2)) = some q → ∀ (H : Heap) (locs : List Loc) (ls : Array Slot), Rp G z H0 q6_110.2.2 H → Fix q6_110.2.2 → lok z locs → (z0 ≤ wZ q6_110.2.2 ∧ wZ q6_110.2.2 ≤ B) → lv_has ls 11 [(5, .long q6_110.2.1)] → W p l e ({ frames := 9, cells := B - z0, slots := 80 * (B - z0), locals := 10270 } : Room) s m ([.ref (z + 0), .int a1, rfv z a2, .int a3, .int a4] : List Value).toArray below meth c H locs (wZ q6_110.2.2 - z0) (80 * (wZ q6_110.2.2 - z0)) (MQT below (qT G z H0 q.2 (cvL q.1)) ([.ref (z + 0), .int a1, rfv z a2, .int a3, .int a4] : List Value).toArray s (wZ q.2 - z0) (80 * (wZ q.2 - z0)) (fun q => z ≤ q)) (F0 m 110 ls []) := by
    intro q6_110 h H locs ls hR hF hL hZ hl
    refine lv_lload hx hb dX0_looks_110 (lv_at hl 0 rfl) ?_
    refine lv_ldc2 (v := 1000000) hx hb hown (hts _ q1530) dX0_looks_112 ?_
    refine lv_lsub hx hb dX0_looks_115 ?_
    refine lv_lstore (lv' := [(5, .long (q6_110.2.1 - (1000000 : Int64)))]) hx hb dX0_looks_116 hl (by decide) rfl (fun ls hl => ?_)
    refine lv_goto (tgt := 131) hx hb dX0_looks_118 (by decide) ?_
    refine lv_lload hx hb dX0_looks_131 (lv_at hl 0 rfl) ?_
    have h := Option.some.inj h
    subst h
    exact W.toT (W.lret (v := q6_110.2.1 - (1000000 : Int64)) hx hb hr (fun t ht _ => ⟨rfl, by rw [ht]; exact hR, hF⟩) hL dX0_looks_133)
  obtain ⟨t21, hq22, h⟩ := bnd h
  refine it_W (b := f_X0_looks_L6 B n a1 a2 a3 a4) (P := fun (s1 : Int32 × Int64 × Wd) => ∀ (H : Heap) (locs : List Loc) (ls : Array Slot), Rp G z H0 s1.2.2 H → Fix s1.2.2 → lok z locs → (z0 ≤ wZ s1.2.2 ∧ wZ s1.2.2 ≤ B) → lv_has ls 11 [(7, .int s1.1), (5, .long s1.2.1), (0, .ref (z + 0)), (1, .int a1), (2, rfv z a2), (3, .int a3), (4, .int a4)] → W p l e ({ frames := 9, cells := B - z0, slots := 80 * (B - z0), locals := 10270 } : Room) s m ([.ref (z + 0), .int a1, rfv z a2, .int a3, .int a4] : List Value).toArray below meth c H locs (wZ s1.2.2 - z0) (80 * (wZ s1.2.2 - z0)) (MQT below (qT G z H0 q.2 (cvL q.1)) ([.ref (z + 0), .int a1, rfv z a2, .int a3, .int a4] : List Value).toArray s (wZ q.2 - z0) (80 * (wZ q.2 - z0)) (fun q => z ≤ q)) (F0 m 6 ls [])) (K := fun t6 => ((match t6 with | .inl q6_105 => some (.inl q6_105.2.1, q6_105.2.2) | .inr t6_ => (match t6_ with | .inl q6_37 => f_X0_looks_J37 B n a1 a2 a3 a4 q6_37.2.1 q6_37.2.2 | .inr q6_110 => some (.inl (q6_110.2.1 - (1000000 : Int64)), q6_110.2.2)))) = some q) (fun s1 x1 h hc1 ht1 => ?_) n ((0 : Int32), (0 : Int64), w) t21 hq22 h H locs ls hR hF hL hZ (lv_sub hl [0, 1, 2, 3, 4, 5, 6] rfl)
  intro H locs ls hR hF hL hZ hl
  unfold f_X0_looks_L6 at h
  refine lv_iload hx hb dX0_looks_6 (lv_at hl 0 rfl) ?_
  refine lv_iload hx hb dX0_looks_8 (lv_at hl 6 rfl) ?_
  refine lv_icmp_ge (tgt := 105) hx hb dX0_looks_10 (by decide) (fun c1 => ?_) (fun c1 => ?_)
  · rw [if_pos c1] at h
    exact hX6_105 (s1.1, s1.2.1, s1.2.2) (ht1 _ (Option.some.inj h).symm) H locs ls hR hF hL hZ (lv_sub hl [1] rfl)
  · rw [if_neg c1] at h
    refine lv_iload_n hx hb dX0_looks_13 rfl (lv_at hl 5 rfl) ?_
    refine lv_i2l (v := a3.toInt64) hx hb dX0_looks_14 rfl ?_
    refine lv_iload hx hb dX0_looks_15 (lv_at hl 0 rfl) ?_
    refine lv_i2l (v := s1.1.toInt64) hx hb dX0_looks_17 rfl ?_
    refine lv_ladd hx hb dX0_looks_18 ?_
    refine lv_lstore (lv' := [(8, .long (a3.toInt64 + s1.1.toInt64)), (7, .int s1.1), (5, .long s1.2.1), (0, .ref (z + 0)), (1, .int a1), (2, rfv z a2), (3, .int a3), (4, .int a4)]) hx hb dX0_looks_19 hl (by decide) rfl (fun ls hl => ?_)
    refine lv_lload hx hb dX0_looks_21 (lv_at hl 0 rfl) ?_
    refine lv_lconst (v := 0) hx hb dX0_looks_23 (by decide) ?_
    refine W.lcmp hx hb dX0_looks_24 ?_
    refine lv_if_lt (tgt := 37) hx hb dX0_looks_25 (by decide) (fun c2 => ?_) (fun c2 => ?_)
    · rw [if_pos c2] at h
      exact hX6_37 (s1.1, s1.2.1, s1.2.2) (ht1 _ (Option.some.inj h).symm) H locs ls hR hF hL hZ (lv_sub hl [2] rfl)
    · rw [if_neg c2] at h
      refine lv_lload hx hb dX0_looks_28 (lv_at hl 0 rfl) ?_
      refine x_aload_n hx hb dX0_looks_30 rfl (lv_at hl 5 rfl) ?_
      by_cases hv3 : a2 = none
      · rw [if_pos hv3] at h
        obtain ⟨hz4, h⟩ := grd h
        refine x_alenNull hx hb (rfv_none hv3) dX0_looks_31 ?_
        refine wn_npe hx htr hts hN hold hS hK hR hL (hl.1.trans hml.symm) (Nat.le_of_ble_eq_true rfl) (Nat.le_of_ble_eq_true rfl) (by dsimp only; omega) (by dsimp only; omega) (fun H locs hR hL => ?_)
        have hF := (hF.sX 0).sN 29 0
        have ez5 : wZ (sN (sX s1.2.2 0) 29 0) = wZ s1.2.2 + 1 := rfl
        refine WT.widen (k := wZ (sN (sX s1.2.2 0) 29 0) - z0) (n := 80 * (wZ (sN (sX s1.2.2 0) 29 0) - z0)) (by omega) (by omega) ?_
        have hZ : z0 ≤ wZ (sN (sX s1.2.2 0) 29 0) ∧ wZ (sN (sX s1.2.2 0) 29 0) ≤ B := ⟨by omega, by omega⟩
        have hg6 : (wT (sN (sX s1.2.2 0) 29 0) (wZ s1.2.2 + 0)).1 = 29 := by rw [wT_sN, wZ_sX, if_pos rfl]
        refine x_caught (q := 108) hR hK hg6 rfl hown (by rw [htb]; exact (Cat.self hK rfl (by decide +kernel) (by decide) (hts _ q805))) ?_
        refine lv_astore (lv' := [(7, .ref (z + wZ s1.2.2 + 0)), (8, .long (a3.toInt64 + s1.1.toInt64)), (5, .long s1.2.1), (0, .ref (z + 0)), (1, .int a1), (2, rfv z a2), (3, .int a3), (4, .int a4)]) hx hb dX0_looks_108 hl (by decide) rfl (fun ls hl => ?_)
        exact hX6_110 ((0 : Int32), s1.2.1, sN (sX s1.2.2 0) 29 0) (ht1 _ (Option.some.inj h).symm) H locs ls hR hF hL hZ (lv_sub hl [2] rfl)
      rw [if_neg hv3] at h
      obtain ⟨r7, hr8, h⟩ := bnd h
      obtain ⟨hg9, h⟩ := grd h
      refine x_alen (t := 2) hx hb hK hR (rfv_some hr8) (wT_pair hg9) (by decide) dX0_looks_31 ?_
      refine lv_i2l (v := (Int32.ofNat ((wT s1.2.2 r7).2)).toInt64) hx hb dX0_looks_32 rfl ?_
      refine W.lcmp hx hb dX0_looks_33 ?_
      refine lv_if_lt (tgt := 47) hx hb dX0_looks_34 (by decide) (fun c10 => ?_) (fun c10 => ?_)
      · rw [if_pos c10] at h
        refine x_aload_n hx hb dX0_looks_47 rfl (lv_at hl 5 rfl) ?_
        refine lv_lload hx hb dX0_looks_48 (lv_at hl 0 rfl) ?_
        refine lv_l2i (v := (a3.toInt64 + s1.1.toInt64).toInt32) hx hb dX0_looks_50 rfl ?_
        obtain ⟨hb11, h⟩ := grd h
        refine x_sald (v := wI s1.2.2 r7 (((a3.toInt64 + s1.1.toInt64).toInt32).toNatClampNeg)) hx hb hK hR (rfv_some hr8) (wT_pair hg9) hb11 rfl dX0_looks_51 ?_
        refine lv_istore (lv' := [(10, .int (wI s1.2.2 r7 (((a3.toInt64 + s1.1.toInt64).toInt32).toNatClampNeg))), (8, .long (a3.toInt64 + s1.1.toInt64)), (7, .int s1.1), (5, .long s1.2.1), (0, .ref (z + 0)), (1, .int a1), (2, rfv z a2), (3, .int a3), (4, .int a4)]) hx hb dX0_looks_52 hl (by decide) rfl (fun ls hl => ?_)
        refine lv_iload hx hb dX0_looks_54 (lv_at hl 0 rfl) ?_
        refine lv_iconst (v := -1) hx hb dX0_looks_56 (by decide) ?_
        refine lv_icmp_ne (tgt := 63) hx hb dX0_looks_57 (by decide) (fun c12 => ?_) (fun c12 => ?_)
        · rw [if_neg c12] at h
          refine lv_lload hx hb dX0_looks_63 (lv_at hl 3 rfl) ?_
          refine lv_aload_n hx hb dX0_looks_65 rfl (lv_at hl 4 rfl) ?_
          refine lv_iload hx hb dX0_looks_66 (lv_at hl 0 rfl) ?_
          refine k_P (st1 := [.int (bI (f_X0_isCopy (wI s1.2.2 r7 (((a3.toInt64 + s1.1.toInt64).toInt32).toNatClampNeg)) s1.2.2)), .long s1.2.1]) (va_runV (As := [.int (wI s1.2.2 r7 (((a3.toInt64 + s1.1.toInt64).toInt32).toNatClampNeg))]) (rest := [.long s1.2.1]) ⟨hx, hb, hml, hown, hts⟩ (met_X0_isCopy l G z H0 s1.2.2 (wI s1.2.2 r7 (((a3.toInt64 + s1.1.toInt64).toInt32).toNatClampNeg)) _ rfl) (cwV 1 hts (lw_V q1491 q1493 qs35 q100 q1494) rfl rfl rfl ⟨rfl, hd_X0_isCopy⟩ ⟨Nat.le_of_ble_eq_true rfl, Nat.le_of_ble_eq_true rfl⟩) (preV (q := (RX0, TX0, 40)) hK hR hF hN (congrArg Prod.fst (hF.2.1 0 (1, 0) rfl)) rfl) rfl rfl hl.1 rfl (lv_room (Nat.le_of_ble_eq_true rfl)) dX0_looks_68 ⟨by dsimp only; omega, by dsimp only; omega⟩) hL rfl (fun locs hL => ?_)
          refine W.wid (b := wZ s1.2.2) (Nat.le_refl _) hZ.1 (Nat.le_refl _) ?_
          refine lv_if_eq (tgt := 95) hx hb dX0_looks_71 (by decide) (fun c13 => ?_) (fun c13 => ?_)
          · rw [if_neg (bI_n c13)] at h
            refine lv_lconst (v := 1) hx hb dX0_looks_95 (by decide) ?_
            refine lv_ladd hx hb dX0_looks_96 ?_
            refine lv_lstore (lv' := [(5, .long (s1.2.1 + (1 : Int64))), (10, .int (wI s1.2.2 r7 (((a3.toInt64 + s1.1.toInt64).toInt32).toNatClampNeg))), (8, .long (a3.toInt64 + s1.1.toInt64)), (7, .int s1.1), (0, .ref (z + 0)), (1, .int a1), (2, rfv z a2), (3, .int a3), (4, .int a4)]) hx hb dX0_looks_97 hl (by decide) rfl (fun ls hl => ?_)
            refine lv_iinc (v := s1.1 + (1 : Int32)) (lv' := [(7, .int (s1.1 + (1 : Int32))), (5, .long (s1.2.1 + (1 : Int64))), (10, .int (wI s1.2.2 r7 (((a3.toInt64 + s1.1.toInt64).toInt32).toNatClampNeg))), (8, .long (a3.toInt64 + s1.1.toInt64)), (0, .ref (z + 0)), (1, .int a1), (2, rfv z a2), (3, .int a3), (4, .int a4)]) hx hb dX0_looks_99 hl (k := 3) rfl rfl (by decide) rfl (fun ls hl => ?_)
            refine lv_goto (tgt := 6) hx hb dX0_looks_102 (by decide) ?_
            exact hc1 _ (Option.some.inj h).symm H locs ls hR hF hL hZ (lv_sub hl [0, 1, 4, 5, 6, 7, 8] rfl)
          · rw [if_pos (bI_p c13)] at h
            refine lv_aload_n hx hb dX0_looks_74 rfl (lv_at hl 4 rfl) ?_
            refine lv_iload hx hb dX0_looks_75 (lv_at hl 0 rfl) ?_
            refine lv_aload_n hx hb dX0_looks_77 rfl (lv_at hl 4 rfl) ?_
            refine x_get (k := 0) (o := "BarredBooks") (n := "today") (d := "I") (fin := false) (ty := .int) (host := "BarredBooks") hx hb hts hown hK hR rfl (Fam.one (r := (RX0, TX0, 40)) (congrArg Prod.fst (hF.2.1 0 (1, 0) rfl)) rfl ok0 (by decide)) (Or.inl (hts _ q219)) (fun _ h9 => h9) (v := .int (wI s1.2.2 0 0)) rfl dX0_looks_78 ?_
            refine lv_iconst (v := -1) hx hb dX0_looks_81 (by decide) ?_
            obtain ⟨q14, hq15, h⟩ := bnd h
            refine k_P (st1 := [.int q14, .long s1.2.1]) (va_runV (As := [.int (wI s1.2.2 r7 (((a3.toInt64 + s1.1.toInt64).toInt32).toNatClampNeg)), .int (wI s1.2.2 0 0), .int (-1 : Int32)]) (rest := [.long s1.2.1]) ⟨hx, hb, hml, hown, hts⟩ (met_X0_spotOf l G z H0 n s1.2.2 (wI s1.2.2 r7 (((a3.toInt64 + s1.1.toInt64).toInt32).toNatClampNeg)) (wI s1.2.2 0 0) (-1 : Int32) q14 hq15) (cwV 3 hts (lw_V q1495 q1497 qs36 q100 q1498) rfl rfl rfl ⟨rfl, hd_X0_spotOf⟩ ⟨Nat.le_of_ble_eq_true rfl, Nat.le_of_ble_eq_true rfl⟩) (preV (q := (RX0, TX0, 40)) hK hR hF hN (congrArg Prod.fst (hF.2.1 0 (1, 0) rfl)) rfl) rfl rfl hl.1 rfl (lv_room (Nat.le_of_ble_eq_true rfl)) dX0_looks_82 ⟨by dsimp only; omega, by dsimp only; omega⟩) hL rfl (fun locs hL => ?_)
            refine W.wid (b := wZ s1.2.2) (Nat.le_refl _) hZ.1 (Nat.le_refl _) ?_
            refine lv_iload_n hx hb dX0_looks_85 rfl (lv_at hl 5 rfl) ?_
            refine lv_icmp_ne (tgt := 95) hx hb dX0_looks_86 (by decide) (fun c16 => ?_) (fun c16 => ?_)
            · rw [if_neg c16] at h
              refine lv_lconst (v := 1) hx hb dX0_looks_95 (by decide) ?_
              refine lv_ladd hx hb dX0_looks_96 ?_
              refine lv_lstore (lv' := [(5, .long (s1.2.1 + (1 : Int64))), (10, .int (wI s1.2.2 r7 (((a3.toInt64 + s1.1.toInt64).toInt32).toNatClampNeg))), (8, .long (a3.toInt64 + s1.1.toInt64)), (7, .int s1.1), (0, .ref (z + 0)), (1, .int a1), (2, rfv z a2), (3, .int a3), (4, .int a4)]) hx hb dX0_looks_97 hl (by decide) rfl (fun ls hl => ?_)
              refine lv_iinc (v := s1.1 + (1 : Int32)) (lv' := [(7, .int (s1.1 + (1 : Int32))), (5, .long (s1.2.1 + (1 : Int64))), (10, .int (wI s1.2.2 r7 (((a3.toInt64 + s1.1.toInt64).toInt32).toNatClampNeg))), (8, .long (a3.toInt64 + s1.1.toInt64)), (0, .ref (z + 0)), (1, .int a1), (2, rfv z a2), (3, .int a3), (4, .int a4)]) hx hb dX0_looks_99 hl (k := 3) rfl rfl (by decide) rfl (fun ls hl => ?_)
              refine lv_goto (tgt := 6) hx hb dX0_looks_102 (by decide) ?_
              exact hc1 _ (Option.some.inj h).symm H locs ls hR hF hL hZ (lv_sub hl [0, 1, 4, 5, 6, 7, 8] rfl)
            · rw [if_pos c16] at h
              refine lv_ldc2 (v := 1000) hx hb hown (hts _ q1529) dX0_looks_89 ?_
              refine lv_goto (tgt := 96) hx hb dX0_looks_92 (by decide) ?_
              refine lv_ladd hx hb dX0_looks_96 ?_
              refine lv_lstore (lv' := [(5, .long (s1.2.1 + (1000 : Int64))), (10, .int (wI s1.2.2 r7 (((a3.toInt64 + s1.1.toInt64).toInt32).toNatClampNeg))), (8, .long (a3.toInt64 + s1.1.toInt64)), (7, .int s1.1), (0, .ref (z + 0)), (1, .int a1), (2, rfv z a2), (3, .int a3), (4, .int a4)]) hx hb dX0_looks_97 hl (by decide) rfl (fun ls hl => ?_)
              refine lv_iinc (v := s1.1 + (1 : Int32)) (lv' := [(7, .int (s1.1 + (1 : Int32))), (5, .long (s1.2.1 + (1000 : Int64))), (10, .int (wI s1.2.2 r7 (((a3.toInt64 + s1.1.toInt64).toInt32).toNatClampNeg))), (8, .long (a3.toInt64 + s1.1.toInt64)), (0, .ref (z + 0)), (1, .int a1), (2, rfv z a2), (3, .int a3), (4, .int a4)]) hx hb dX0_looks_99 hl (k := 3) rfl rfl (by decide) rfl (fun ls hl => ?_)
              refine lv_goto (tgt := 6) hx hb dX0_looks_102 (by decide) ?_
              exact hc1 _ (Option.some.inj h).symm H locs ls hR hF hL hZ (lv_sub hl [0, 1, 4, 5, 6, 7, 8] rfl)
        · rw [if_pos c12] at h
          refine lv_goto (tgt := 99) hx hb dX0_looks_60 (by decide) ?_
          refine lv_iinc (v := s1.1 + (1 : Int32)) (lv' := [(7, .int (s1.1 + (1 : Int32))), (10, .int (wI s1.2.2 r7 (((a3.toInt64 + s1.1.toInt64).toInt32).toNatClampNeg))), (8, .long (a3.toInt64 + s1.1.toInt64)), (5, .long s1.2.1), (0, .ref (z + 0)), (1, .int a1), (2, rfv z a2), (3, .int a3), (4, .int a4)]) hx hb dX0_looks_99 hl (k := 2) rfl rfl (by decide) rfl (fun ls hl => ?_)
          refine lv_goto (tgt := 6) hx hb dX0_looks_102 (by decide) ?_
          exact hc1 _ (Option.some.inj h).symm H locs ls hR hF hL hZ (lv_sub hl [0, 3, 4, 5, 6, 7, 8] rfl)
      · rw [if_neg c10] at h
        exact hX6_37 (s1.1, s1.2.1, s1.2.2) (ht1 _ (Option.some.inj h).symm) H locs ls hR hF hL hZ (lv_sub hl [2] rfl)
