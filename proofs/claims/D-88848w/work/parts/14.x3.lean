def f_J11_checkIndexS (B n : Nat) (a1 : Int32) (a2 : Int32) (w : Wd) : Option ((Int32 ⊕ Nat) × Wd) :=
  if a1 < 0 then none else (if a1 < a2 then (some (.inl a1, w)) else none)
set_option maxHeartbeats 4000000 in
set_option maxRecDepth 100000 in
theorem met_J11_checkIndexS (l : Launch) (htr : ∀ e, l.admits e → e.platform.stackTraces = false) (G : Gw) (z : Nat) (H0 : Heap) (fm : Value) (hfm0 : fm = .null ∨ ∃ t, fm = .ref t) (B n : Nat) (w : Wd) (a1 : Int32) (a2 : Int32) (q : (Int32 ⊕ Nat) × Wd) (h : f_J11_checkIndexS B n a1 a2 w = some q)  (hB : wZ w ≤ B) : MetT l yJ11_checkIndex (ws_ yJ11_checkIndex cJ11_checkIndex 3 (some .int)) ({ frames := 0, cells := B - wZ w, slots := 80 * (B - wZ w), locals := 0 } : Room) (pcT G z H0 w [.int a1, .int a2, fm]) (qT G z H0 q.2 (cvI q.1)) (wZ q.2 - wZ w) (80 * (wZ q.2 - wZ w)) (fun q => z ≤ q) := by
  refine mT (by decide) (by rcases hfm0 with h9 | ⟨t9, h9⟩ <;> rw [h9] <;> exact Nat.le_of_ble_eq_true rfl) ?_
  intro p e s m below meth c ls hx hb hr hml hown hts hlocks hnm hnoh hK hR hF hN hS hl
  have hown : s.vm.findClass RJ11 = some m.cls := hown
  have hl : lv_has ls 3 [(0, .int a1), (1, .int a2), (2, fm)] := hl
  have hL : lok z [] := lok_nil
  unfold f_J11_checkIndexS at h
  obtain ⟨z0, hz0⟩ : ∃ z0, wZ w = z0 := ⟨_, rfl⟩
  rw [hz0]
  refine W.widen (k := wZ w - z0) (n := 80 * (wZ w - z0)) (Nat.zero_le _) (Nat.zero_le _) ?_
  have hZ : z0 ≤ wZ w ∧ wZ w ≤ B := ⟨by omega, hB⟩
  generalize s.heap = H at hR ⊢
  generalize ([] : List Loc) = locs at hL ⊢
  refine lv_iload_n hx hb dJ11_checkIndex_0 rfl (lv_at hl 0 rfl) ?_
  refine lv_if_lt (tgt := 9) hx hb dJ11_checkIndex_1 (by decide) (fun c1 => ?_) (fun c1 => ?_)
  · rw [if_pos c1] at h
    cases h
  · rw [if_neg c1] at h
    refine lv_iload_n hx hb dJ11_checkIndex_4 rfl (lv_at hl 0 rfl) ?_
    refine lv_iload_n hx hb dJ11_checkIndex_5 rfl (lv_at hl 1 rfl) ?_
    refine lv_icmp_lt (tgt := 16) hx hb dJ11_checkIndex_6 (by decide) (fun c2 => ?_) (fun c2 => ?_)
    · rw [if_pos c2] at h
      refine lv_iload_n hx hb dJ11_checkIndex_16 rfl (lv_at hl 0 rfl) ?_
      have h := Option.some.inj h
      subst h
      exact W.toT (W.iret (v := a1) hx hb hr (fun t ht _ => ⟨rfl, by rw [ht]; exact hR, hF⟩) hL dJ11_checkIndex_17)
    · rw [if_neg c2] at h
      cases h
def f_J5_checkIndexS (B n : Nat) (a1 : Int32) (a2 : Int32) (w : Wd) : Option ((Unit ⊕ Nat) × Wd) :=
  (f_J11_checkIndexS B n a1 a2 w).bind fun q6 => (match q6 with | (.inl v1, qw3) => if wZ w ≤ wZ qw3 ∧ wZ qw3 ≤ B then (some (.inl (), qw3)) else none | (.inr x2, qw3) => if wZ w ≤ wZ qw3 ∧ wZ qw3 ≤ B then (some (.inr x2, qw3)) else none)
theorem hd_J5_checkIndex : yJ5_checkIndex.cls ≠ "java/lang/invoke/MethodHandle" ∧ yJ5_checkIndex.cls ≠ "java/lang/invoke/VarHandle" ∧ (parseMethodDescriptor yJ5_checkIndex.desc).map (fun d => d.parameters.length) = some 2 := by decide +kernel
set_option maxHeartbeats 4000000 in
set_option maxRecDepth 100000 in
theorem met_J5_checkIndexS (l : Launch) (htr : ∀ e, l.admits e → e.platform.stackTraces = false) (G : Gw) (z : Nat) (H0 : Heap) (B n : Nat) (w : Wd) (a1 : Int32) (a2 : Int32) (q : (Unit ⊕ Nat) × Wd) (h : f_J5_checkIndexS B n a1 a2 w = some q)  (hB : wZ w ≤ B) : MetT l yJ5_checkIndex (ws_ yJ5_checkIndex cJ5_checkIndex 2 none) ({ frames := 1, cells := B - wZ w, slots := 80 * (B - wZ w), locals := 22 } : Room) (pcT G z H0 w [.int a1, .int a2]) (qT G z H0 q.2 (cvV q.1)) (wZ q.2 - wZ w) (80 * (wZ q.2 - wZ w)) (fun q => z ≤ q) := by
  refine mT (by decide) (Nat.le_of_ble_eq_true rfl) ?_
  intro p e s m below meth c ls hx hb hr hml hown hts hlocks hnm hnoh hK hR hF hN hS hl
  have hown : s.vm.findClass RJ5 = some m.cls := hown
  have hl : lv_has ls 2 [(0, .int a1), (1, .int a2)] := hl
  have hL : lok z [] := lok_nil
  unfold f_J5_checkIndexS at h
  obtain ⟨z0, hz0⟩ : ∃ z0, wZ w = z0 := ⟨_, rfl⟩
  rw [hz0]
  refine W.widen (k := wZ w - z0) (n := 80 * (wZ w - z0)) (Nat.zero_le _) (Nat.zero_le _) ?_
  have hZ : z0 ≤ wZ w ∧ wZ w ≤ B := ⟨by omega, hB⟩
  generalize s.heap = H at hR ⊢
  generalize ([] : List Loc) = locs at hL ⊢
  refine lv_iload_n hx hb dJ5_checkIndex_0 rfl (lv_at hl 0 rfl) ?_
  refine lv_iload_n hx hb dJ5_checkIndex_1 rfl (lv_at hl 1 rfl) ?_
  obtain ⟨fm, hfm0, hfm⟩ := hS.2.2.2.2.2.1
  refine x_gets hx hb hfm hR.2.1 hown (hts _ q951) (fun _ h9 => h9) dJ5_checkIndex_2 ?_
  obtain ⟨⟨v1 | x2, qw3⟩, hq4, h⟩ := bnd h
  rotate_left
  · dsimp only at h
    obtain ⟨hz5, h⟩ := grd h
    have h := Option.some.inj h
    subst h
    refine k_TT (w := qw3) (x := x2) (mc := wZ qw3 - wZ w) (ms := 80 * (wZ qw3 - wZ w)) (runT_S (As := [.int a1, .int a2, fm]) (rest := []) ⟨hx, hb, hml, hown, hts⟩ (met_J11_checkIndexS l htr G z H0 fm hfm0 B n w a1 a2 (.inr x2, qw3) hq4 hZ.2) hd_J11_checkIndex q953 q954 q128 q955 ⟨Nat.le_of_ble_eq_true rfl, Nat.le_of_ble_eq_true rfl⟩ (preST hK hR hF hN hS) rfl rfl hl.1 rfl (lv_room (Nat.le_of_ble_eq_true rfl)) dJ5_checkIndex_5 ⟨by dsimp only; omega, by dsimp only; omega⟩) hL (fun H locs hR hF hL => ?_)
    refine WT.widen (k := wZ qw3 - z0) (n := 80 * (wZ qw3 - z0)) (by omega) (by omega) ?_
    exact WT.leave (fun x9 hx9 => hnoh x9 hx9 5) (fun t ht _ => ⟨rfl, by rw [ht]; exact hR, hF⟩) hL hlocks
  dsimp only at h
  obtain ⟨hz5, h⟩ := grd h
  refine k_TR (v := (some (.int v1))) (w := qw3) (mc := wZ qw3 - wZ w) (ms := 80 * (wZ qw3 - wZ w)) (st1 := [.int v1]) (runT_S (As := [.int a1, .int a2, fm]) (rest := []) ⟨hx, hb, hml, hown, hts⟩ (met_J11_checkIndexS l htr G z H0 fm hfm0 B n w a1 a2 (.inl v1, qw3) hq4 hZ.2) hd_J11_checkIndex q953 q954 q128 q955 ⟨Nat.le_of_ble_eq_true rfl, Nat.le_of_ble_eq_true rfl⟩ (preST hK hR hF hN hS) rfl rfl hl.1 rfl (lv_room (Nat.le_of_ble_eq_true rfl)) dJ5_checkIndex_5 ⟨by dsimp only; omega, by dsimp only; omega⟩) hL rfl (fun H locs hR hF hL => ?_)
  refine W.wid (b := wZ qw3) (by omega) hZ.1 (Nat.le_refl _) ?_
  have hZ : z0 ≤ wZ qw3 ∧ wZ qw3 ≤ B := ⟨by omega, hz5.2⟩
  refine lv_pop hx hb dJ5_checkIndex_8 rfl ?_
  have h := Option.some.inj h
  subst h
  exact W.toT (W.vret hx hb hr (fun t ht _ => ⟨rfl, by rw [ht]; exact hR, hF⟩) hL dJ5_checkIndex_9)
def f_J5_coderS (B n : Nat) (cs : List Int32) (w : Wd) : Option ((Int32 ⊕ Nat) × Wd) :=
  if (1 : Int32) = 0 then (some (.inl (1 : Int32), w)) else (some (.inl (0 : Int32), w))
theorem hd_J5_coder : yJ5_coder.cls ≠ "java/lang/invoke/MethodHandle" ∧ yJ5_coder.cls ≠ "java/lang/invoke/VarHandle" ∧ (parseMethodDescriptor yJ5_coder.desc).map (fun d => d.parameters.length) = some 0 := by decide +kernel
set_option maxHeartbeats 4000000 in
set_option maxRecDepth 100000 in
theorem met_J5_coderS (l : Launch) (htr : ∀ e, l.admits e → e.platform.stackTraces = false) (G : Gw) (z : Nat) (H0 : Heap) (k : Nat) (B n : Nat) (w : Wd) (cs : List Int32) (q : (Int32 ⊕ Nat) × Wd) (h : f_J5_coderS B n cs w = some q)  (hB : wZ w ≤ B) : MetT l yJ5_coder (ws_ yJ5_coder cJ5_coder 1 (some .byte)) ({ frames := 0, cells := B - wZ w, slots := 80 * (B - wZ w), locals := 0 } : Room) (pcQ G z H0 w [.ref k] (strF z H0 cs k)) (qT G z H0 q.2 (cvI q.1)) (wZ q.2 - wZ w) (80 * (wZ q.2 - wZ w)) (fun q => z ≤ q) := by
  refine mTQ (by decide) (Nat.le_of_ble_eq_true rfl) ?_
  intro p e s m below meth c ls hQ hx hb hr hml hown hts hlocks hnm hnoh hK hR hF hN hS hl
  have hown : s.vm.findClass RJ5 = some m.cls := hown
  have hl : lv_has ls 1 [(0, .ref k)] := hl
  have hL : lok z [] := lok_nil
  unfold f_J5_coderS at h
  have hQ9 := hQ
  obtain ⟨vv, hO, hC, hV, hT⟩ := hQ9
  obtain ⟨z0, hz0⟩ : ∃ z0, wZ w = z0 := ⟨_, rfl⟩
  rw [hz0]
  refine W.widen (k := wZ w - z0) (n := 80 * (wZ w - z0)) (Nat.zero_le _) (Nat.zero_le _) ?_
  have hZ : z0 ≤ wZ w ∧ wZ w ≤ B := ⟨by omega, hB⟩
  generalize s.heap = H at hR ⊢
  generalize ([] : List Loc) = locs at hL ⊢
  refine x_gets hx hb hS.2.2.2.2.1 hR.2.1 hown (hts _ q935) (fun _ h9 => h9) dJ5_coder_0 ?_
  refine lv_if_eq (tgt := 13) hx hb dJ5_coder_3 (by decide) (fun c1 => ?_) (fun c1 => ?_)
  · rw [if_pos c1] at h
    refine lv_iconst (v := 1) hx hb dJ5_coder_13 (by decide) ?_
    have h := Option.some.inj h
    subst h
    exact W.toT (W.zret (v := (1 : Int32)) hx hb hr rfl (fun t ht _ => ⟨rfl, by rw [ht]; exact hR, hF⟩) hL dJ5_coder_14)
  · rw [if_neg c1] at h
    refine lv_aload_n hx hb dJ5_coder_6 rfl (lv_at hl 0 rfl) ?_
    refine x_oldf hx hb hC hR.2.1 hown (hts _ q2376) (fun _ h9 => h9) dJ5_coder_7 ?_
    refine lv_goto (tgt := 14) hx hb dJ5_coder_10 (by decide) ?_
    have h := Option.some.inj h
    subst h
    exact W.toT (W.zret (v := (0 : Int32)) hx hb hr rfl (fun t ht _ => ⟨rfl, by rw [ht]; exact hR, hF⟩) hL dJ5_coder_14)
def f_J5_isLatin1S (B n : Nat) (cs : List Int32) (w : Wd) : Option ((Bool ⊕ Nat) × Wd) :=
  if (1 : Int32) = 0 then (some (.inl false, w)) else (if (0 : Int32) = 0 then (some (.inl true, w)) else (some (.inl false, w)))
theorem hd_J5_isLatin1 : yJ5_isLatin1.cls ≠ "java/lang/invoke/MethodHandle" ∧ yJ5_isLatin1.cls ≠ "java/lang/invoke/VarHandle" ∧ (parseMethodDescriptor yJ5_isLatin1.desc).map (fun d => d.parameters.length) = some 0 := by decide +kernel
set_option maxHeartbeats 4000000 in
set_option maxRecDepth 100000 in
theorem met_J5_isLatin1S (l : Launch) (htr : ∀ e, l.admits e → e.platform.stackTraces = false) (G : Gw) (z : Nat) (H0 : Heap) (k : Nat) (B n : Nat) (w : Wd) (cs : List Int32) (q : (Bool ⊕ Nat) × Wd) (h : f_J5_isLatin1S B n cs w = some q)  (hB : wZ w ≤ B) : MetT l yJ5_isLatin1 (ws_ yJ5_isLatin1 cJ5_isLatin1 1 (some .boolean)) ({ frames := 0, cells := B - wZ w, slots := 80 * (B - wZ w), locals := 0 } : Room) (pcQ G z H0 w [.ref k] (strF z H0 cs k)) (qT G z H0 q.2 (cvB q.1)) (wZ q.2 - wZ w) (80 * (wZ q.2 - wZ w)) (fun q => z ≤ q) := by
  refine mTQ (by decide) (Nat.le_of_ble_eq_true rfl) ?_
  intro p e s m below meth c ls hQ hx hb hr hml hown hts hlocks hnm hnoh hK hR hF hN hS hl
  have hown : s.vm.findClass RJ5 = some m.cls := hown
  have hl : lv_has ls 1 [(0, .ref k)] := hl
  have hL : lok z [] := lok_nil
  unfold f_J5_isLatin1S at h
  have hQ9 := hQ
  obtain ⟨vv, hO, hC, hV, hT⟩ := hQ9
  obtain ⟨z0, hz0⟩ : ∃ z0, wZ w = z0 := ⟨_, rfl⟩
  rw [hz0]
  refine W.widen (k := wZ w - z0) (n := 80 * (wZ w - z0)) (Nat.zero_le _) (Nat.zero_le _) ?_
  have hZ : z0 ≤ wZ w ∧ wZ w ≤ B := ⟨by omega, hB⟩
  generalize s.heap = H at hR ⊢
  generalize ([] : List Loc) = locs at hL ⊢
  refine x_gets hx hb hS.2.2.2.2.1 hR.2.1 hown (hts _ q935) (fun _ h9 => h9) dJ5_isLatin1_0 ?_
  refine lv_if_eq (tgt := 17) hx hb dJ5_isLatin1_3 (by decide) (fun c1 => ?_) (fun c1 => ?_)
  · rw [if_pos c1] at h
    refine lv_iconst (v := 0) hx hb dJ5_isLatin1_17 (by decide) ?_
    have h := Option.some.inj h
    subst h
    exact W.toT (W.zret (v := bI false) hx hb hr (bI_nar _) (fun t ht _ => ⟨rfl, by rw [ht]; exact hR, hF⟩) hL dJ5_isLatin1_18)
  · rw [if_neg c1] at h
    refine lv_aload_n hx hb dJ5_isLatin1_6 rfl (lv_at hl 0 rfl) ?_
    refine x_oldf hx hb hC hR.2.1 hown (hts _ q2376) (fun _ h9 => h9) dJ5_isLatin1_7 ?_
    refine lv_if_ne (tgt := 17) hx hb dJ5_isLatin1_10 (by decide) (fun c2 => ?_) (fun c2 => ?_)
    · rw [if_neg c2] at h
      refine lv_iconst (v := 0) hx hb dJ5_isLatin1_17 (by decide) ?_
      have h := Option.some.inj h
      subst h
      exact W.toT (W.zret (v := bI false) hx hb hr (bI_nar _) (fun t ht _ => ⟨rfl, by rw [ht]; exact hR, hF⟩) hL dJ5_isLatin1_18)
    · rw [if_pos c2] at h
      refine lv_iconst (v := 1) hx hb dJ5_isLatin1_13 (by decide) ?_
      refine lv_goto (tgt := 18) hx hb dJ5_isLatin1_14 (by decide) ?_
      have h := Option.some.inj h
      subst h
      exact W.toT (W.zret (v := bI true) hx hb hr (bI_nar _) (fun t ht _ => ⟨rfl, by rw [ht]; exact hR, hF⟩) hL dJ5_isLatin1_18)
def f_J5_lengthS (B n : Nat) (cs : List Int32) (w : Wd) : Option ((Int32 ⊕ Nat) × Wd) :=
  (f_J5_coderS B n cs w).bind fun q6 => (match q6 with | (.inl v1, qw3) => if wZ w ≤ wZ qw3 ∧ wZ qw3 ≤ B then (some (.inl ((Int32.ofNat cs.length) >>> (v1 &&& 31)), qw3)) else none | (.inr x2, qw3) => if wZ w ≤ wZ qw3 ∧ wZ qw3 ≤ B then (some (.inr x2, qw3)) else none)
theorem hd_J5_length : yJ5_length.cls ≠ "java/lang/invoke/MethodHandle" ∧ yJ5_length.cls ≠ "java/lang/invoke/VarHandle" ∧ (parseMethodDescriptor yJ5_length.desc).map (fun d => d.parameters.length) = some 0 := by decide +kernel
set_option maxHeartbeats 4000000 in
set_option maxRecDepth 100000 in
theorem met_J5_lengthS (l : Launch) (htr : ∀ e, l.admits e → e.platform.stackTraces = false) (G : Gw) (z : Nat) (H0 : Heap) (k : Nat) (B n : Nat) (w : Wd) (cs : List Int32) (q : (Int32 ⊕ Nat) × Wd) (h : f_J5_lengthS B n cs w = some q)  (hB : wZ w ≤ B) : MetT l yJ5_length (ws_ yJ5_length cJ5_length 1 (some .int)) ({ frames := 1, cells := B - wZ w, slots := 80 * (B - wZ w), locals := 20 } : Room) (pcQ G z H0 w [.ref k] (strF z H0 cs k)) (qT G z H0 q.2 (cvI q.1)) (wZ q.2 - wZ w) (80 * (wZ q.2 - wZ w)) (fun q => z ≤ q) := by
  refine mTQ (by decide) (Nat.le_of_ble_eq_true rfl) ?_
  intro p e s m below meth c ls hQ hx hb hr hml hown hts hlocks hnm hnoh hK hR hF hN hS hl
  have hown : s.vm.findClass RJ5 = some m.cls := hown
  have hl : lv_has ls 1 [(0, .ref k)] := hl
  have hL : lok z [] := lok_nil
  unfold f_J5_lengthS at h
  have hQ9 := hQ
  obtain ⟨vv, hO, hC, hV, hT⟩ := hQ9
  obtain ⟨z0, hz0⟩ : ∃ z0, wZ w = z0 := ⟨_, rfl⟩
  rw [hz0]
  refine W.widen (k := wZ w - z0) (n := 80 * (wZ w - z0)) (Nat.zero_le _) (Nat.zero_le _) ?_
  have hZ : z0 ≤ wZ w ∧ wZ w ≤ B := ⟨by omega, hB⟩
  generalize s.heap = H at hR ⊢
  generalize ([] : List Loc) = locs at hL ⊢
  refine lv_aload_n hx hb dJ5_length_0 rfl (lv_at hl 0 rfl) ?_
  refine x_oldf hx hb hV hR.2.1 hown (hts _ q2375) (fun _ h9 => h9) dJ5_length_1 ?_
  refine x_tlen hx hb hT hR.2.1 (v := Int32.ofNat cs.length) rfl dJ5_length_4 ?_
  refine lv_aload_n hx hb dJ5_length_5 rfl (lv_at hl 0 rfl) ?_
  obtain ⟨⟨v1 | x2, qw3⟩, hq4, h⟩ := bnd h
  rotate_left
  · dsimp only at h
    obtain ⟨hz5, h⟩ := grd h
    have h := Option.some.inj h
    subst h
    refine k_TT (w := qw3) (x := x2) (mc := wZ qw3 - wZ w) (ms := 80 * (wZ qw3 - wZ w)) (runT_V (As := []) (rest := [.int (Int32.ofNat cs.length)]) ⟨hx, hb, hml, hown, hts⟩ (met_J5_coderS l htr G z H0 k B n w cs (.inr x2, qw3) hq4 hZ.2) hd_J5_coder q931 q932 q933 q119 q934 ⟨Nat.le_of_ble_eq_true rfl, Nat.le_of_ble_eq_true rfl⟩ (preVS hQ hK hR hF hN hS) rfl rfl hl.1 rfl (lv_room (Nat.le_of_ble_eq_true rfl)) dJ5_length_6 ⟨by dsimp only; omega, by dsimp only; omega⟩) hL (fun H locs hR hF hL => ?_)
    refine WT.widen (k := wZ qw3 - z0) (n := 80 * (wZ qw3 - z0)) (by omega) (by omega) ?_
    exact WT.leave (fun x9 hx9 => hnoh x9 hx9 6) (fun t ht _ => ⟨rfl, by rw [ht]; exact hR, hF⟩) hL hlocks
  dsimp only at h
  obtain ⟨hz5, h⟩ := grd h
  refine k_TR (v := (some (.int v1))) (w := qw3) (mc := wZ qw3 - wZ w) (ms := 80 * (wZ qw3 - wZ w)) (st1 := [.int v1, .int (Int32.ofNat cs.length)]) (runT_V (As := []) (rest := [.int (Int32.ofNat cs.length)]) ⟨hx, hb, hml, hown, hts⟩ (met_J5_coderS l htr G z H0 k B n w cs (.inl v1, qw3) hq4 hZ.2) hd_J5_coder q931 q932 q933 q119 q934 ⟨Nat.le_of_ble_eq_true rfl, Nat.le_of_ble_eq_true rfl⟩ (preVS hQ hK hR hF hN hS) rfl rfl hl.1 rfl (lv_room (Nat.le_of_ble_eq_true rfl)) dJ5_length_6 ⟨by dsimp only; omega, by dsimp only; omega⟩) hL rfl (fun H locs hR hF hL => ?_)
  refine W.wid (b := wZ qw3) (by omega) hZ.1 (Nat.le_refl _) ?_
  have hZ : z0 ≤ wZ qw3 ∧ wZ qw3 ≤ B := ⟨by omega, hz5.2⟩
  refine lv_ishr hx hb dJ5_length_9 ?_
  have h := Option.some.inj h
  subst h
  exact W.toT (W.iret (v := (Int32.ofNat cs.length) >>> (v1 &&& 31)) hx hb hr (fun t ht _ => ⟨rfl, by rw [ht]; exact hR, hF⟩) hL dJ5_length_10)
def f_J10_charAtS (B n : Nat) (cs : List Int32) (a2 : Int32) (w : Wd) : Option ((Int32 ⊕ Nat) × Wd) :=
  (f_J5_checkIndexS B n a2 (Int32.ofNat cs.length) w).bind fun q6 => (match q6 with | (.inl v1, qw3) => if wZ w ≤ wZ qw3 ∧ wZ qw3 ≤ B then (if inb a2 cs.length then (if (((((cs.getD a2.toNatClampNeg 0) &&& (255 : Int32)).toUInt32 % 65536).toInt32).toUInt32 % 65536).toInt32 = ((((cs.getD a2.toNatClampNeg 0) &&& (255 : Int32)).toUInt32 % 65536).toInt32) then (some (.inl ((((cs.getD a2.toNatClampNeg 0) &&& (255 : Int32)).toUInt32 % 65536).toInt32), qw3)) else none) else none) else none | (.inr x2, qw3) => if wZ w ≤ wZ qw3 ∧ wZ qw3 ≤ B then (some (.inr x2, qw3)) else none)
theorem hd_J10_charAt : yJ10_charAt.cls ≠ "java/lang/invoke/MethodHandle" ∧ yJ10_charAt.cls ≠ "java/lang/invoke/VarHandle" ∧ (parseMethodDescriptor yJ10_charAt.desc).map (fun d => d.parameters.length) = some 2 := by decide +kernel
set_option maxHeartbeats 4000000 in
set_option maxRecDepth 100000 in
theorem met_J10_charAtS (l : Launch) (htr : ∀ e, l.admits e → e.platform.stackTraces = false) (G : Gw) (z : Nat) (H0 : Heap) (vv : Nat) (B n : Nat) (w : Wd) (cs : List Int32) (a2 : Int32) (q : (Int32 ⊕ Nat) × Wd) (h : f_J10_charAtS B n cs a2 w = some q)  (hB : wZ w ≤ B) : MetT l yJ10_charAt (ws_ yJ10_charAt cJ10_charAt 2 (some .char)) ({ frames := 2, cells := B - wZ w, slots := 80 * (B - wZ w), locals := 43 } : Room) (pcQ G z H0 w [.ref vv, .int a2] (fun U => va_T .byte vv cs.length (fun j => .int (cs.getD j 0)) (fun q => z ≤ q) U H0)) (qT G z H0 q.2 (cvI q.1)) (wZ q.2 - wZ w) (80 * (wZ q.2 - wZ w)) (fun q => z ≤ q) := by
  refine mTQ (by decide) (Nat.le_of_ble_eq_true rfl) ?_
  intro p e s m below meth c ls hQ hx hb hr hml hown hts hlocks hnm hnoh hK hR hF hN hS hl
  have hown : s.vm.findClass RJ10 = some m.cls := hown
  have hl : lv_has ls 2 [(0, .ref vv), (1, .int a2)] := hl
  have hL : lok z [] := lok_nil
  unfold f_J10_charAtS at h
  have hT := hQ
  obtain ⟨z0, hz0⟩ : ∃ z0, wZ w = z0 := ⟨_, rfl⟩
  rw [hz0]
  refine W.widen (k := wZ w - z0) (n := 80 * (wZ w - z0)) (Nat.zero_le _) (Nat.zero_le _) ?_
  have hZ : z0 ≤ wZ w ∧ wZ w ≤ B := ⟨by omega, hB⟩
  generalize s.heap = H at hR ⊢
  generalize ([] : List Loc) = locs at hL ⊢
  refine lv_iload_n hx hb dJ10_charAt_0 rfl (lv_at hl 1 rfl) ?_
  refine lv_aload_n hx hb dJ10_charAt_1 rfl (lv_at hl 0 rfl) ?_
  refine x_tlen hx hb hT hR.2.1 (v := Int32.ofNat cs.length) rfl dJ10_charAt_2 ?_
  obtain ⟨⟨v1 | x2, qw3⟩, hq4, h⟩ := bnd h
  rotate_left
  · dsimp only at h
    obtain ⟨hz5, h⟩ := grd h
    have h := Option.some.inj h
    subst h
    refine k_TT (w := qw3) (x := x2) (mc := wZ qw3 - wZ w) (ms := 80 * (wZ qw3 - wZ w)) (runT_S (As := [.int a2, .int (Int32.ofNat cs.length)]) (rest := []) ⟨hx, hb, hml, hown, hts⟩ (met_J5_checkIndexS l htr G z H0 B n w a2 (Int32.ofNat cs.length) (.inr x2, qw3) hq4 hZ.2) hd_J5_checkIndex q948 q949 q119 q950 ⟨Nat.le_of_ble_eq_true rfl, Nat.le_of_ble_eq_true rfl⟩ (preST hK hR hF hN hS) rfl rfl hl.1 rfl (lv_room (Nat.le_of_ble_eq_true rfl)) dJ10_charAt_3 ⟨by dsimp only; omega, by dsimp only; omega⟩) hL (fun H locs hR hF hL => ?_)
    refine WT.widen (k := wZ qw3 - z0) (n := 80 * (wZ qw3 - z0)) (by omega) (by omega) ?_
    exact WT.leave (fun x9 hx9 => hnoh x9 hx9 3) (fun t ht _ => ⟨rfl, by rw [ht]; exact hR, hF⟩) hL hlocks
  dsimp only at h
  obtain ⟨hz5, h⟩ := grd h
  refine k_TR (v := none) (w := qw3) (mc := wZ qw3 - wZ w) (ms := 80 * (wZ qw3 - wZ w)) (st1 := []) (runT_S (As := [.int a2, .int (Int32.ofNat cs.length)]) (rest := []) ⟨hx, hb, hml, hown, hts⟩ (met_J5_checkIndexS l htr G z H0 B n w a2 (Int32.ofNat cs.length) (.inl v1, qw3) hq4 hZ.2) hd_J5_checkIndex q948 q949 q119 q950 ⟨Nat.le_of_ble_eq_true rfl, Nat.le_of_ble_eq_true rfl⟩ (preST hK hR hF hN hS) rfl rfl hl.1 rfl (lv_room (Nat.le_of_ble_eq_true rfl)) dJ10_charAt_3 ⟨by dsimp only; omega, by dsimp only; omega⟩) hL rfl (fun H locs hR hF hL => ?_)
  refine W.wid (b := wZ qw3) (by omega) hZ.1 (Nat.le_refl _) ?_
  have hZ : z0 ≤ wZ qw3 ∧ wZ qw3 ≤ B := ⟨by omega, hz5.2⟩
  refine lv_aload_n hx hb dJ10_charAt_6 rfl (lv_at hl 0 rfl) ?_
  refine lv_iload_n hx hb dJ10_charAt_7 rfl (lv_at hl 1 rfl) ?_
  obtain ⟨hb7, h⟩ := grd h
  refine x_tb hx hb hT hR.2.1 hb7 (v := .int (cs.getD a2.toNatClampNeg 0)) rfl dJ10_charAt_8 ?_
  refine lv_sipush (v := 255) hx hb dJ10_charAt_9 (by decide) ?_
  refine lv_iand hx hb dJ10_charAt_12 ?_
  refine lv_i2c (v := (((cs.getD a2.toNatClampNeg 0) &&& (255 : Int32)).toUInt32 % 65536).toInt32) hx hb dJ10_charAt_13 rfl ?_
  obtain ⟨hz8, h⟩ := grd h
  have h := Option.some.inj h
  subst h
  exact W.toT (W.zret (v := (((cs.getD a2.toNatClampNeg 0) &&& (255 : Int32)).toUInt32 % 65536).toInt32) hx hb hr (nar_char hz8) (fun t ht _ => ⟨rfl, by rw [ht]; exact hR, hF⟩) hL dJ10_charAt_14)
def f_J5_charAtS (B n : Nat) (cs : List Int32) (a1 : Int32) (w : Wd) : Option ((Int32 ⊕ Nat) × Wd) :=
  (f_J5_isLatin1S B n cs w).bind fun q6 => (match q6 with | (.inl v1, qw3) => if wZ w ≤ wZ qw3 ∧ wZ qw3 ≤ B then (if v1 then ((f_J10_charAtS B n cs a1 qw3).bind fun q13 => (match q13 with | (.inl v8, qw10) => if wZ qw3 ≤ wZ qw10 ∧ wZ qw10 ≤ B then (if (v8.toUInt32 % 65536).toInt32 = v8 then (some (.inl v8, qw10)) else none) else none | (.inr x9, qw10) => if wZ qw3 ≤ wZ qw10 ∧ wZ qw10 ≤ B then (some (.inr x9, qw10)) else none)) else none) else none | (.inr x2, qw3) => if wZ w ≤ wZ qw3 ∧ wZ qw3 ≤ B then (some (.inr x2, qw3)) else none)
theorem hd_J5_charAt : yJ5_charAt.cls ≠ "java/lang/invoke/MethodHandle" ∧ yJ5_charAt.cls ≠ "java/lang/invoke/VarHandle" ∧ (parseMethodDescriptor yJ5_charAt.desc).map (fun d => d.parameters.length) = some 1 := by decide +kernel
set_option maxHeartbeats 4000000 in
set_option maxRecDepth 100000 in
theorem met_J5_charAtS (l : Launch) (htr : ∀ e, l.admits e → e.platform.stackTraces = false) (G : Gw) (z : Nat) (H0 : Heap) (k : Nat) (B n : Nat) (w : Wd) (cs : List Int32) (a1 : Int32) (q : (Int32 ⊕ Nat) × Wd) (h : f_J5_charAtS B n cs a1 w = some q)  (hB : wZ w ≤ B) : MetT l yJ5_charAt (ws_ yJ5_charAt cJ5_charAt 2 (some .char)) ({ frames := 3, cells := B - wZ w, slots := 80 * (B - wZ w), locals := 64 } : Room) (pcQ G z H0 w [.ref k, .int a1] (strF z H0 cs k)) (qT G z H0 q.2 (cvI q.1)) (wZ q.2 - wZ w) (80 * (wZ q.2 - wZ w)) (fun q => z ≤ q) := by
  refine mTQ (by decide) (Nat.le_of_ble_eq_true rfl) ?_
  intro p e s m below meth c ls hQ hx hb hr hml hown hts hlocks hnm hnoh hK hR hF hN hS hl
  have hown : s.vm.findClass RJ5 = some m.cls := hown
  have hl : lv_has ls 2 [(0, .ref k), (1, .int a1)] := hl
  have hL : lok z [] := lok_nil
  unfold f_J5_charAtS at h
  have hQ9 := hQ
  obtain ⟨vv, hO, hC, hV, hT⟩ := hQ9
  obtain ⟨z0, hz0⟩ : ∃ z0, wZ w = z0 := ⟨_, rfl⟩
  rw [hz0]
  refine W.widen (k := wZ w - z0) (n := 80 * (wZ w - z0)) (Nat.zero_le _) (Nat.zero_le _) ?_
  have hZ : z0 ≤ wZ w ∧ wZ w ≤ B := ⟨by omega, hB⟩
  generalize s.heap = H at hR ⊢
  generalize ([] : List Loc) = locs at hL ⊢
  refine lv_aload_n hx hb dJ5_charAt_0 rfl (lv_at hl 0 rfl) ?_
  obtain ⟨⟨v1 | x2, qw3⟩, hq4, h⟩ := bnd h
  rotate_left
  · dsimp only at h
    obtain ⟨hz5, h⟩ := grd h
    have h := Option.some.inj h
    subst h
    refine k_TT (w := qw3) (x := x2) (mc := wZ qw3 - wZ w) (ms := 80 * (wZ qw3 - wZ w)) (runT_V (As := []) (rest := []) ⟨hx, hb, hml, hown, hts⟩ (met_J5_isLatin1S l htr G z H0 k B n w cs (.inr x2, qw3) hq4 hZ.2) hd_J5_isLatin1 q941 q942 q943 q119 q944 ⟨Nat.le_of_ble_eq_true rfl, Nat.le_of_ble_eq_true rfl⟩ (preVS hQ hK hR hF hN hS) rfl rfl hl.1 rfl (lv_room (Nat.le_of_ble_eq_true rfl)) dJ5_charAt_1 ⟨by dsimp only; omega, by dsimp only; omega⟩) hL (fun H locs hR hF hL => ?_)
    refine WT.widen (k := wZ qw3 - z0) (n := 80 * (wZ qw3 - z0)) (by omega) (by omega) ?_
    exact WT.leave (fun x9 hx9 => hnoh x9 hx9 1) (fun t ht _ => ⟨rfl, by rw [ht]; exact hR, hF⟩) hL hlocks
  dsimp only at h
  obtain ⟨hz5, h⟩ := grd h
  refine k_TR (v := (some (.int (bI v1)))) (w := qw3) (mc := wZ qw3 - wZ w) (ms := 80 * (wZ qw3 - wZ w)) (st1 := [.int (bI v1)]) (runT_V (As := []) (rest := []) ⟨hx, hb, hml, hown, hts⟩ (met_J5_isLatin1S l htr G z H0 k B n w cs (.inl v1, qw3) hq4 hZ.2) hd_J5_isLatin1 q941 q942 q943 q119 q944 ⟨Nat.le_of_ble_eq_true rfl, Nat.le_of_ble_eq_true rfl⟩ (preVS hQ hK hR hF hN hS) rfl rfl hl.1 rfl (lv_room (Nat.le_of_ble_eq_true rfl)) dJ5_charAt_1 ⟨by dsimp only; omega, by dsimp only; omega⟩) hL rfl (fun H locs hR hF hL => ?_)
  refine W.wid (b := wZ qw3) (by omega) hZ.1 (Nat.le_refl _) ?_
  have hZ : z0 ≤ wZ qw3 ∧ wZ qw3 ≤ B := ⟨by omega, hz5.2⟩
  refine lv_if_eq (tgt := 16) hx hb dJ5_charAt_4 (by decide) (fun c7 => ?_) (fun c7 => ?_)
  · rw [if_neg (bI_n c7)] at h
    refine lv_aload_n hx hb dJ5_charAt_16 rfl (lv_at hl 0 rfl) ?_
    refine x_oldf hx hb hV hR.2.1 hown (hts _ q2375) (fun _ h9 => h9) dJ5_charAt_17 ?_
    refine lv_iload_n hx hb dJ5_charAt_20 rfl (lv_at hl 1 rfl) ?_
    cases h
  · rw [if_pos (bI_p c7)] at h
    refine lv_aload_n hx hb dJ5_charAt_7 rfl (lv_at hl 0 rfl) ?_
    refine x_oldf hx hb hV hR.2.1 hown (hts _ q2375) (fun _ h9 => h9) dJ5_charAt_8 ?_
    refine lv_iload_n hx hb dJ5_charAt_11 rfl (lv_at hl 1 rfl) ?_
    obtain ⟨⟨v8 | x9, qw10⟩, hq11, h⟩ := bnd h
    rotate_left
    · dsimp only at h
      obtain ⟨hz12, h⟩ := grd h
      have h := Option.some.inj h
      subst h
      refine k_TT (w := qw10) (x := x9) (mc := wZ qw10 - wZ qw3) (ms := 80 * (wZ qw10 - wZ qw3)) (runT_S (As := [.ref vv, .int a1]) (rest := []) ⟨hx, hb, hml, hown, hts⟩ (met_J10_charAtS l htr G z H0 vv B n qw3 cs a1 (.inr x9, qw10) hq11 hZ.2) hd_J10_charAt q945 q946 q127 q947 ⟨Nat.le_of_ble_eq_true rfl, Nat.le_of_ble_eq_true rfl⟩ (preSQ (fun u U h1 h2 => va_T.moved h1 h2) hT hK hR hF hN hS) rfl rfl hl.1 rfl (lv_room (Nat.le_of_ble_eq_true rfl)) dJ5_charAt_12 ⟨by dsimp only; omega, by dsimp only; omega⟩) hL (fun H locs hR hF hL => ?_)
      refine WT.widen (k := wZ qw10 - z0) (n := 80 * (wZ qw10 - z0)) (by omega) (by omega) ?_
      exact WT.leave (fun x9 hx9 => hnoh x9 hx9 12) (fun t ht _ => ⟨rfl, by rw [ht]; exact hR, hF⟩) hL hlocks
    dsimp only at h
    obtain ⟨hz12, h⟩ := grd h
    refine k_TR (v := (some (.int v8))) (w := qw10) (mc := wZ qw10 - wZ qw3) (ms := 80 * (wZ qw10 - wZ qw3)) (st1 := [.int v8]) (runT_S (As := [.ref vv, .int a1]) (rest := []) ⟨hx, hb, hml, hown, hts⟩ (met_J10_charAtS l htr G z H0 vv B n qw3 cs a1 (.inl v8, qw10) hq11 hZ.2) hd_J10_charAt q945 q946 q127 q947 ⟨Nat.le_of_ble_eq_true rfl, Nat.le_of_ble_eq_true rfl⟩ (preSQ (fun u U h1 h2 => va_T.moved h1 h2) hT hK hR hF hN hS) rfl rfl hl.1 rfl (lv_room (Nat.le_of_ble_eq_true rfl)) dJ5_charAt_12 ⟨by dsimp only; omega, by dsimp only; omega⟩) hL rfl (fun H locs hR hF hL => ?_)
    refine W.wid (b := wZ qw10) (by omega) hZ.1 (Nat.le_refl _) ?_
    have hZ : z0 ≤ wZ qw10 ∧ wZ qw10 ≤ B := ⟨by omega, hz12.2⟩
    obtain ⟨hz14, h⟩ := grd h
    have h := Option.some.inj h
    subst h
    exact W.toT (W.zret (v := v8) hx hb hr (nar_char hz14) (fun t ht _ => ⟨rfl, by rw [ht]; exact hR, hF⟩) hL dJ5_charAt_15)
def f_X15_word_L2 (B n : Nat) (u1_0 : Nat) (cs : List Int32) (s1 : Int32 × Wd) : Option ((Int32 × Wd) ⊕ ((Int32 × Wd) ⊕ ((Unit ⊕ Nat) × Wd))) :=
  (f_J5_lengthS B n cs s1.2).bind fun q6 => (match q6 with | (.inl v1, qw3) => if wZ s1.2 ≤ wZ qw3 ∧ wZ qw3 ≤ B then (if v1 ≤ s1.1 then (some (.inr (.inl (s1.1, qw3)))) else ((f_J5_charAtS B n cs s1.1 qw3).bind fun q13 => (match q13 with | (.inl v8, qw10) => if wZ qw3 ≤ wZ qw10 ∧ wZ qw10 ≤ B then (if (wT qw10 u1_0).1 = 16 then ((f_X15_must B n u1_0 v8 qw10).bind fun q20 => (match q20 with | (.inl v15, qw17) => if wZ qw10 ≤ wZ qw17 ∧ wZ qw17 ≤ B then (some (.inl (s1.1 + (1 : Int32), qw17))) else none | (.inr x16, qw17) => if wZ qw10 ≤ wZ qw17 ∧ wZ qw17 ≤ B then (some (.inr (.inr (.inr x16, qw17)))) else none)) else none) else none | (.inr x9, qw10) => if wZ qw3 ≤ wZ qw10 ∧ wZ qw10 ≤ B then (some (.inr (.inr (.inr x9, qw10)))) else none))) else none | (.inr x2, qw3) => if wZ s1.2 ≤ wZ qw3 ∧ wZ qw3 ≤ B then (some (.inr (.inr (.inr x2, qw3)))) else none)
def f_X15_word (B n : Nat) (a0 : Nat) (cs : List Int32) (w : Wd) : Option ((Unit ⊕ Nat) × Wd) :=
  (it n (f_X15_word_L2 B n a0 cs) ((0 : Int32), w)).bind fun t2 => (match t2 with | .inl q2_25 => some (.inl (), q2_25.2) | .inr r2 => some r2)
theorem hd_X15_word : yX15_word.cls ≠ "java/lang/invoke/MethodHandle" ∧ yX15_word.cls ≠ "java/lang/invoke/VarHandle" ∧ (parseMethodDescriptor yX15_word.desc).map (fun d => d.parameters.length) = some 1 := by decide +kernel
set_option maxHeartbeats 4000000 in
set_option maxRecDepth 100000 in
theorem met_X15_word (l : Launch) (htr : ∀ e, l.admits e → e.platform.stackTraces = false) (G : Gw) (z : Nat) (H0 : Heap) (k : Nat) (B n : Nat) (w : Wd) (a0 : Nat) (cs : List Int32) (q : (Unit ⊕ Nat) × Wd) (h : f_X15_word B n a0 cs w = some q) (ht0 : (wT w a0).1 = 16) (hB : wZ w ≤ B) : MetT l yX15_word (ws_ yX15_word cX15_word 3 none) ({ frames := 8, cells := B - wZ w, slots := 80 * (B - wZ w), locals := 142 } : Room) (pcQ G z H0 w [.ref (z + a0), .ref k] (strF z H0 cs k)) (qT G z H0 q.2 (cvV q.1)) (wZ q.2 - wZ w) (80 * (wZ q.2 - wZ w)) (fun q => z ≤ q) := by
  refine mTQ (by decide) (Nat.le_of_ble_eq_true rfl) ?_
  intro p e s m below meth c ls hQ hx hb hr hml hown hts hlocks hnm hnoh hK hR hF hN hS hl
  have hown : s.vm.findClass RX15 = some m.cls := hown
  have hl : lv_has ls 3 [(0, .ref (z + a0)), (1, .ref k)] := hl
  have hL : lok z [] := lok_nil
  unfold f_X15_word at h
  have hQ9 := hQ
  obtain ⟨vv, hO, hC, hV, hT⟩ := hQ9
  obtain ⟨z0, hz0⟩ : ∃ z0, wZ w = z0 := ⟨_, rfl⟩
  rw [hz0]
  refine W.widen (k := wZ w - z0) (n := 80 * (wZ w - z0)) (Nat.zero_le _) (Nat.zero_le _) ?_
  have hZ : z0 ≤ wZ w ∧ wZ w ≤ B := ⟨by omega, hB⟩
  generalize s.heap = H at hR ⊢
  generalize ([] : List Loc) = locs at hL ⊢
  refine lv_iconst (v := 0) hx hb dX15_word_0 (by decide) ?_
  refine lv_istore_n (lv' := [(2, .int (0 : Int32)), (0, .ref (z + a0)), (1, .ref k)]) hx hb dX15_word_1 rfl hl (by decide) rfl (fun ls hl => ?_)
  have hX2_25 : ∀ (q2_25 : Int32 × Wd), (some (.inl (), q2_25.2)) = some q → ∀ (H : Heap) (locs : List Loc) (ls : Array Slot), Rp G z H0 q2_25.2 H → Fix q2_25.2 → lok z locs → (z0 ≤ wZ q2_25.2 ∧ wZ q2_25.2 ≤ B) → lv_has ls 3 [] → W p l e ({ frames := 8, cells := B - z0, slots := 80 * (B - z0), locals := 142 } : Room) s m ([.ref (z + a0), .ref k] : List Value).toArray below meth c H locs (wZ q2_25.2 - z0) (80 * (wZ q2_25.2 - z0)) (MQT below (qT G z H0 q.2 (cvV q.1)) ([.ref (z + a0), .ref k] : List Value).toArray s (wZ q.2 - z0) (80 * (wZ q.2 - z0)) (fun q => z ≤ q)) (F0 m 25 ls []) := by
    intro q2_25 h H locs ls hR hF hL hZ hl
    have h := Option.some.inj h
    subst h
    exact W.toT (W.vret hx hb hr (fun t ht _ => ⟨rfl, by rw [ht]; exact hR, hF⟩) hL dX15_word_25)
  obtain ⟨t21, hq22, h⟩ := bnd h
  refine it_W (b := f_X15_word_L2 B n a0 cs) (P := fun (s1 : Int32 × Wd) => ∀ (H : Heap) (locs : List Loc) (ls : Array Slot), Rp G z H0 s1.2 H → Fix s1.2 → lok z locs → (z0 ≤ wZ s1.2 ∧ wZ s1.2 ≤ B) → lv_has ls 3 [(2, .int s1.1), (0, .ref (z + a0)), (1, .ref k)] → W p l e ({ frames := 8, cells := B - z0, slots := 80 * (B - z0), locals := 142 } : Room) s m ([.ref (z + a0), .ref k] : List Value).toArray below meth c H locs (wZ s1.2 - z0) (80 * (wZ s1.2 - z0)) (MQT below (qT G z H0 q.2 (cvV q.1)) ([.ref (z + a0), .ref k] : List Value).toArray s (wZ q.2 - z0) (80 * (wZ q.2 - z0)) (fun q => z ≤ q)) (F0 m 2 ls [])) (K := fun t2 => ((match t2 with | .inl q2_25 => some (.inl (), q2_25.2) | .inr r2 => some r2)) = some q) (fun s1 x1 h hc1 ht1 => ?_) n ((0 : Int32), w) t21 hq22 h H locs ls hR hF hL hZ (lv_sub hl [0, 1, 2] rfl)
  intro H locs ls hR hF hL hZ hl
  unfold f_X15_word_L2 at h
  refine lv_iload_n hx hb dX15_word_2 rfl (lv_at hl 0 rfl) ?_
  refine lv_aload_n hx hb dX15_word_3 rfl (lv_at hl 2 rfl) ?_
  obtain ⟨⟨v1 | x2, qw3⟩, hq4, h⟩ := bnd h
  rotate_left
  · dsimp only at h
    obtain ⟨hz5, h⟩ := grd h
    have h : (some (.inr x2, qw3)) = some q := ht1 _ (Option.some.inj h).symm
    have h := Option.some.inj h
    subst h
    refine k_TT (w := qw3) (x := x2) (mc := wZ qw3 - wZ s1.2) (ms := 80 * (wZ qw3 - wZ s1.2)) (runT_V (As := []) (rest := [.int s1.1]) ⟨hx, hb, hml, hown, hts⟩ (met_J5_lengthS l htr G z H0 k B n s1.2 cs (.inr x2, qw3) hq4 hZ.2) hd_J5_length q927 q928 q929 q119 q930 ⟨Nat.le_of_ble_eq_true rfl, Nat.le_of_ble_eq_true rfl⟩ (preVS hQ hK hR hF hN hS) rfl rfl hl.1 rfl (lv_room (Nat.le_of_ble_eq_true rfl)) dX15_word_4 ⟨by dsimp only; omega, by dsimp only; omega⟩) hL (fun H locs hR hF hL => ?_)
    refine WT.widen (k := wZ qw3 - z0) (n := 80 * (wZ qw3 - z0)) (by omega) (by omega) ?_
    exact WT.leave (fun x9 hx9 => hnoh x9 hx9 4) (fun t ht _ => ⟨rfl, by rw [ht]; exact hR, hF⟩) hL hlocks
  dsimp only at h
  obtain ⟨hz5, h⟩ := grd h
  refine k_TR (v := (some (.int v1))) (w := qw3) (mc := wZ qw3 - wZ s1.2) (ms := 80 * (wZ qw3 - wZ s1.2)) (st1 := [.int v1, .int s1.1]) (runT_V (As := []) (rest := [.int s1.1]) ⟨hx, hb, hml, hown, hts⟩ (met_J5_lengthS l htr G z H0 k B n s1.2 cs (.inl v1, qw3) hq4 hZ.2) hd_J5_length q927 q928 q929 q119 q930 ⟨Nat.le_of_ble_eq_true rfl, Nat.le_of_ble_eq_true rfl⟩ (preVS hQ hK hR hF hN hS) rfl rfl hl.1 rfl (lv_room (Nat.le_of_ble_eq_true rfl)) dX15_word_4 ⟨by dsimp only; omega, by dsimp only; omega⟩) hL rfl (fun H locs hR hF hL => ?_)
  refine W.wid (b := wZ qw3) (by omega) hZ.1 (Nat.le_refl _) ?_
  have hZ : z0 ≤ wZ qw3 ∧ wZ qw3 ≤ B := ⟨by omega, hz5.2⟩
  refine lv_icmp_ge (tgt := 25) hx hb dX15_word_7 (by decide) (fun c7 => ?_) (fun c7 => ?_)
  · rw [if_pos c7] at h
    exact hX2_25 (s1.1, qw3) (ht1 _ (Option.some.inj h).symm) H locs ls hR hF hL hZ (lv_sub hl [] rfl)
  · rw [if_neg c7] at h
    refine lv_aload_n hx hb dX15_word_10 rfl (lv_at hl 1 rfl) ?_
    refine lv_aload_n hx hb dX15_word_11 rfl (lv_at hl 2 rfl) ?_
    refine lv_iload_n hx hb dX15_word_12 rfl (lv_at hl 0 rfl) ?_
    obtain ⟨⟨v8 | x9, qw10⟩, hq11, h⟩ := bnd h
    rotate_left
    · dsimp only at h
      obtain ⟨hz12, h⟩ := grd h
      have h : (some (.inr x9, qw10)) = some q := ht1 _ (Option.some.inj h).symm
      have h := Option.some.inj h
      subst h
      refine k_TT (w := qw10) (x := x9) (mc := wZ qw10 - wZ qw3) (ms := 80 * (wZ qw10 - wZ qw3)) (runT_V (As := [.int s1.1]) (rest := [.ref (z + a0)]) ⟨hx, hb, hml, hown, hts⟩ (met_J5_charAtS l htr G z H0 k B n qw3 cs s1.1 (.inr x9, qw10) hq11 hZ.2) hd_J5_charAt q937 q938 q939 q119 q940 ⟨Nat.le_of_ble_eq_true rfl, Nat.le_of_ble_eq_true rfl⟩ (preVS hQ hK hR hF hN hS) rfl rfl hl.1 rfl (lv_room (Nat.le_of_ble_eq_true rfl)) dX15_word_13 ⟨by dsimp only; omega, by dsimp only; omega⟩) hL (fun H locs hR hF hL => ?_)
      refine WT.widen (k := wZ qw10 - z0) (n := 80 * (wZ qw10 - z0)) (by omega) (by omega) ?_
      exact WT.leave (fun x9 hx9 => hnoh x9 hx9 13) (fun t ht _ => ⟨rfl, by rw [ht]; exact hR, hF⟩) hL hlocks
    dsimp only at h
    obtain ⟨hz12, h⟩ := grd h
    refine k_TR (v := (some (.int v8))) (w := qw10) (mc := wZ qw10 - wZ qw3) (ms := 80 * (wZ qw10 - wZ qw3)) (st1 := [.int v8, .ref (z + a0)]) (runT_V (As := [.int s1.1]) (rest := [.ref (z + a0)]) ⟨hx, hb, hml, hown, hts⟩ (met_J5_charAtS l htr G z H0 k B n qw3 cs s1.1 (.inl v8, qw10) hq11 hZ.2) hd_J5_charAt q937 q938 q939 q119 q940 ⟨Nat.le_of_ble_eq_true rfl, Nat.le_of_ble_eq_true rfl⟩ (preVS hQ hK hR hF hN hS) rfl rfl hl.1 rfl (lv_room (Nat.le_of_ble_eq_true rfl)) dX15_word_13 ⟨by dsimp only; omega, by dsimp only; omega⟩) hL rfl (fun H locs hR hF hL => ?_)
    refine W.wid (b := wZ qw10) (by omega) hZ.1 (Nat.le_refl _) ?_
    have hZ : z0 ≤ wZ qw10 ∧ wZ qw10 ≤ B := ⟨by omega, hz12.2⟩
    obtain ⟨hg14, h⟩ := grd h
    obtain ⟨⟨v15 | x16, qw17⟩, hq18, h⟩ := bnd h
    rotate_left
    · dsimp only at h
      obtain ⟨hz19, h⟩ := grd h
      have h : (some (.inr x16, qw17)) = some q := ht1 _ (Option.some.inj h).symm
      have h := Option.some.inj h
      subst h
      refine k_TT (w := qw17) (x := x16) (mc := wZ qw17 - wZ qw10) (ms := 80 * (wZ qw17 - wZ qw10)) (runT_V (As := [.int v8]) (rest := []) ⟨hx, hb, hml, hown, hts⟩ (met_X15_must l htr G z H0 B n qw10 a0 v8 (.inr x16, qw17) hq18 hg14 hZ.2) hd_X15_must q975 q977 qs10 q122 q978 ⟨Nat.le_of_ble_eq_true rfl, Nat.le_of_ble_eq_true rfl⟩ (preVT (q := (RX15, TX15, 4)) hK hR hF hN hS hg14 rfl) rfl rfl hl.1 rfl (lv_room (Nat.le_of_ble_eq_true rfl)) dX15_word_16 ⟨by dsimp only; omega, by dsimp only; omega⟩) hL (fun H locs hR hF hL => ?_)
      refine WT.widen (k := wZ qw17 - z0) (n := 80 * (wZ qw17 - z0)) (by omega) (by omega) ?_
      exact WT.leave (fun x9 hx9 => hnoh x9 hx9 16) (fun t ht _ => ⟨rfl, by rw [ht]; exact hR, hF⟩) hL hlocks
    dsimp only at h
    obtain ⟨hz19, h⟩ := grd h
    refine k_TR (v := none) (w := qw17) (mc := wZ qw17 - wZ qw10) (ms := 80 * (wZ qw17 - wZ qw10)) (st1 := []) (runT_V (As := [.int v8]) (rest := []) ⟨hx, hb, hml, hown, hts⟩ (met_X15_must l htr G z H0 B n qw10 a0 v8 (.inl v15, qw17) hq18 hg14 hZ.2) hd_X15_must q975 q977 qs10 q122 q978 ⟨Nat.le_of_ble_eq_true rfl, Nat.le_of_ble_eq_true rfl⟩ (preVT (q := (RX15, TX15, 4)) hK hR hF hN hS hg14 rfl) rfl rfl hl.1 rfl (lv_room (Nat.le_of_ble_eq_true rfl)) dX15_word_16 ⟨by dsimp only; omega, by dsimp only; omega⟩) hL rfl (fun H locs hR hF hL => ?_)
    refine W.wid (b := wZ qw17) (by omega) hZ.1 (Nat.le_refl _) ?_
    have hZ : z0 ≤ wZ qw17 ∧ wZ qw17 ≤ B := ⟨by omega, hz19.2⟩
    refine lv_iinc (v := s1.1 + (1 : Int32)) (lv' := [(2, .int (s1.1 + (1 : Int32))), (0, .ref (z + a0)), (1, .ref k)]) hx hb dX15_word_19 hl (k := 0) rfl rfl (by decide) rfl (fun ls hl => ?_)
    refine lv_goto (tgt := 2) hx hb dX15_word_22 (by decide) ?_
    exact hc1 _ (Option.some.inj h).symm H locs ls hR hF hL hZ (lv_sub hl [0, 1, 2] rfl)
theorem hd_X15_factor : yX15_factor.cls ≠ "java/lang/invoke/MethodHandle" ∧ yX15_factor.cls ≠ "java/lang/invoke/VarHandle" ∧ (parseMethodDescriptor yX15_factor.desc).map (fun d => d.parameters.length) = some 0 := by decide +kernel
theorem hd_X15_all : yX15_all.cls ≠ "java/lang/invoke/MethodHandle" ∧ yX15_all.cls ≠ "java/lang/invoke/VarHandle" ∧ (parseMethodDescriptor yX15_all.desc).map (fun d => d.parameters.length) = some 0 := by decide +kernel
theorem hd_X15_some : yX15_some.cls ≠ "java/lang/invoke/MethodHandle" ∧ yX15_some.cls ≠ "java/lang/invoke/VarHandle" ∧ (parseMethodDescriptor yX15_some.desc).map (fun d => d.parameters.length) = some 0 := by decide +kernel
def f_X15_factor (rv : Nat → Nat → Nat → Nat → Wd → Option ((Option Nat ⊕ Nat) × Wd))  (B n : Nat) (a0 : Nat) (w : Wd) : Option ((Option Nat ⊕ Nat) × Wd) :=
  (f_X15_here a0 w).bind fun q1 => if q1 = 33 then ((f_X15_deeper B n a0 w).bind fun q9 => (match q9 with | (.inl v4, qw6) => if wZ w ≤ wZ qw6 ∧ wZ qw6 ≤ B then (if wZ qw6 + 1 ≤ B then (if (wT (sN qw6 24 0) a0).1 = 16 then ((rv 0 B n a0 (sN qw6 24 0)).bind fun q19 => (match q19 with | (.inl v14, qw16) => if wZ (sN qw6 24 0) ≤ wZ qw16 ∧ wZ qw16 ≤ B then (if (wT qw16 (wZ qw6)).1 = 24 then ((f_X24_init (wZ qw6) v14 qw16).bind fun q21 => if wZ qw16 ≤ wZ q21 ∧ wZ q21 ≤ B then (if (wT q21 a0).1 = 16 then (some (.inl (some (wZ qw6)), sI q21 a0 3 ((wI q21 a0 3) - (1 : Int32)))) else none) else none) else none) else none | (.inr x15, qw16) => if wZ (sN qw6 24 0) ≤ wZ qw16 ∧ wZ qw16 ≤ B then (some (.inr x15, qw16)) else none)) else none) else none) else none | (.inr x5, qw6) => if wZ w ≤ wZ qw6 ∧ wZ qw6 ≤ B then (some (.inr x5, qw6)) else none)) else (if q1 = 40 then ((f_X15_deeper B n a0 w).bind fun q31 => (match q31 with | (.inl v26, qw28) => if wZ w ≤ wZ qw28 ∧ wZ qw28 ≤ B then (if (wT qw28 a0).1 = 16 then ((rv 2 B n a0 qw28).bind fun q38 => (match q38 with | (.inl v33, qw35) => if wZ qw28 ≤ wZ qw35 ∧ wZ qw35 ≤ B then (if (wT qw35 a0).1 = 16 then ((f_X15_must B n a0 (41 : Int32) qw35).bind fun q45 => (match q45 with | (.inl v40, qw42) => if wZ qw35 ≤ wZ qw42 ∧ wZ qw42 ≤ B then (if (wT qw42 a0).1 = 16 then (some (.inl v33, sI qw42 a0 3 ((wI qw42 a0 3) - (1 : Int32)))) else none) else none | (.inr x41, qw42) => if wZ qw35 ≤ wZ qw42 ∧ wZ qw42 ≤ B then (some (.inr x41, qw42)) else none)) else none) else none | (.inr x34, qw35) => if wZ qw28 ≤ wZ qw35 ∧ wZ qw35 ≤ B then (some (.inr x34, qw35)) else none)) else none) else none | (.inr x27, qw28) => if wZ w ≤ wZ qw28 ∧ wZ qw28 ≤ B then (some (.inr x27, qw28)) else none)) else (if q1 = 97 then ((wR w a0 0).bind fun r48 => if (wT (sI w a0 2 ((wI w a0 2) + (1 : Int32))) r48).1 = 201 then (if inb (wI w a0 2) (wT (sI w a0 2 ((wI w a0 2) + (1 : Int32))) r48).2 then (if wZ w + 1 ≤ B then ((f_X15_number B n a0 (sN (sI w a0 2 ((wI w a0 2) + (1 : Int32))) 25 0)).bind fun q62 => (match q62 with | (.inl v57, qw59) => if wZ (sN (sI w a0 2 ((wI w a0 2) + (1 : Int32))) 25 0) ≤ wZ qw59 ∧ wZ qw59 ≤ B then (if (wT qw59 (wZ (sI w a0 2 ((wI w a0 2) + (1 : Int32))))).1 = 25 then ((f_X25_init (wZ (sI w a0 2 ((wI w a0 2) + (1 : Int32)))) (wI (sI w a0 2 ((wI w a0 2) + (1 : Int32))) r48 ((wI w a0 2).toNatClampNeg)) v57 qw59).bind fun q64 => if wZ qw59 ≤ wZ q64 ∧ wZ q64 ≤ B then (some (.inl (some (wZ (sI w a0 2 ((wI w a0 2) + (1 : Int32))))), q64)) else none) else none) else none | (.inr x58, qw59) => if wZ (sN (sI w a0 2 ((wI w a0 2) + (1 : Int32))) 25 0) ≤ wZ qw59 ∧ wZ qw59 ≤ B then (some (.inr x58, qw59)) else none)) else none) else none) else none) else (if q1 = 98 then ((wR w a0 0).bind fun r68 => if (wT (sI w a0 2 ((wI w a0 2) + (1 : Int32))) r68).1 = 201 then (if inb (wI w a0 2) (wT (sI w a0 2 ((wI w a0 2) + (1 : Int32))) r68).2 then (if wZ w + 1 ≤ B then ((f_X15_number B n a0 (sN (sI w a0 2 ((wI w a0 2) + (1 : Int32))) 25 0)).bind fun q82 => (match q82 with | (.inl v77, qw79) => if wZ (sN (sI w a0 2 ((wI w a0 2) + (1 : Int32))) 25 0) ≤ wZ qw79 ∧ wZ qw79 ≤ B then (if (wT qw79 (wZ (sI w a0 2 ((wI w a0 2) + (1 : Int32))))).1 = 25 then ((f_X25_init (wZ (sI w a0 2 ((wI w a0 2) + (1 : Int32)))) (wI (sI w a0 2 ((wI w a0 2) + (1 : Int32))) r68 ((wI w a0 2).toNatClampNeg)) v77 qw79).bind fun q84 => if wZ qw79 ≤ wZ q84 ∧ wZ q84 ≤ B then (some (.inl (some (wZ (sI w a0 2 ((wI w a0 2) + (1 : Int32))))), q84)) else none) else none) else none | (.inr x78, qw79) => if wZ (sN (sI w a0 2 ((wI w a0 2) + (1 : Int32))) 25 0) ≤ wZ qw79 ∧ wZ qw79 ≤ B then (some (.inr x78, qw79)) else none)) else none) else none) else none) else (if q1 = 99 then ((wR w a0 0).bind fun r88 => if (wT (sI w a0 2 ((wI w a0 2) + (1 : Int32))) r88).1 = 201 then (if inb (wI w a0 2) (wT (sI w a0 2 ((wI w a0 2) + (1 : Int32))) r88).2 then (if wZ w + 1 ≤ B then ((f_X15_number B n a0 (sN (sI w a0 2 ((wI w a0 2) + (1 : Int32))) 25 0)).bind fun q102 => (match q102 with | (.inl v97, qw99) => if wZ (sN (sI w a0 2 ((wI w a0 2) + (1 : Int32))) 25 0) ≤ wZ qw99 ∧ wZ qw99 ≤ B then (if (wT qw99 (wZ (sI w a0 2 ((wI w a0 2) + (1 : Int32))))).1 = 25 then ((f_X25_init (wZ (sI w a0 2 ((wI w a0 2) + (1 : Int32)))) (wI (sI w a0 2 ((wI w a0 2) + (1 : Int32))) r88 ((wI w a0 2).toNatClampNeg)) v97 qw99).bind fun q104 => if wZ qw99 ≤ wZ q104 ∧ wZ q104 ≤ B then (some (.inl (some (wZ (sI w a0 2 ((wI w a0 2) + (1 : Int32))))), q104)) else none) else none) else none | (.inr x98, qw99) => if wZ (sN (sI w a0 2 ((wI w a0 2) + (1 : Int32))) 25 0) ≤ wZ qw99 ∧ wZ qw99 ≤ B then (some (.inr x98, qw99)) else none)) else none) else none) else none) else (if q1 = 119 then ((wR w a0 0).bind fun r108 => if (wT (sI w a0 2 ((wI w a0 2) + (1 : Int32))) r108).1 = 201 then (if inb (wI w a0 2) (wT (sI w a0 2 ((wI w a0 2) + (1 : Int32))) r108).2 then (if wZ w + 1 ≤ B then ((f_X15_number B n a0 (sN (sI w a0 2 ((wI w a0 2) + (1 : Int32))) 25 0)).bind fun q122 => (match q122 with | (.inl v117, qw119) => if wZ (sN (sI w a0 2 ((wI w a0 2) + (1 : Int32))) 25 0) ≤ wZ qw119 ∧ wZ qw119 ≤ B then (if (wT qw119 (wZ (sI w a0 2 ((wI w a0 2) + (1 : Int32))))).1 = 25 then ((f_X25_init (wZ (sI w a0 2 ((wI w a0 2) + (1 : Int32)))) (wI (sI w a0 2 ((wI w a0 2) + (1 : Int32))) r108 ((wI w a0 2).toNatClampNeg)) v117 qw119).bind fun q124 => if wZ qw119 ≤ wZ q124 ∧ wZ q124 ≤ B then (some (.inl (some (wZ (sI w a0 2 ((wI w a0 2) + (1 : Int32))))), q124)) else none) else none) else none | (.inr x118, qw119) => if wZ (sN (sI w a0 2 ((wI w a0 2) + (1 : Int32))) 25 0) ≤ wZ qw119 ∧ wZ qw119 ≤ B then (some (.inr x118, qw119)) else none)) else none) else none) else none) else (if q1 = 121 then ((wR w a0 0).bind fun r128 => if (wT (sI w a0 2 ((wI w a0 2) + (1 : Int32))) r128).1 = 201 then (if inb (wI w a0 2) (wT (sI w a0 2 ((wI w a0 2) + (1 : Int32))) r128).2 then (if wZ w + 1 ≤ B then ((f_X15_number B n a0 (sN (sI w a0 2 ((wI w a0 2) + (1 : Int32))) 25 0)).bind fun q142 => (match q142 with | (.inl v137, qw139) => if wZ (sN (sI w a0 2 ((wI w a0 2) + (1 : Int32))) 25 0) ≤ wZ qw139 ∧ wZ qw139 ≤ B then (if (wT qw139 (wZ (sI w a0 2 ((wI w a0 2) + (1 : Int32))))).1 = 25 then ((f_X25_init (wZ (sI w a0 2 ((wI w a0 2) + (1 : Int32)))) (wI (sI w a0 2 ((wI w a0 2) + (1 : Int32))) r128 ((wI w a0 2).toNatClampNeg)) v137 qw139).bind fun q144 => if wZ qw139 ≤ wZ q144 ∧ wZ q144 ≤ B then (some (.inl (some (wZ (sI w a0 2 ((wI w a0 2) + (1 : Int32))))), q144)) else none) else none) else none | (.inr x138, qw139) => if wZ (sN (sI w a0 2 ((wI w a0 2) + (1 : Int32))) 25 0) ≤ wZ qw139 ∧ wZ qw139 ≤ B then (some (.inr x138, qw139)) else none)) else none) else none) else none) else ((f_X15_off B n a0 w).bind fun q152 => (match q152 with | (.inl v147, qw149) => if wZ w ≤ wZ qw149 ∧ wZ qw149 ≤ B then ((v147).bind fun r153 => some (.inr r153, qw149)) else none | (.inr x148, qw149) => if wZ w ≤ wZ qw149 ∧ wZ qw149 ≤ B then (some (.inr x148, qw149)) else none))))))))
set_option maxHeartbeats 4000000 in
set_option maxRecDepth 100000 in
theorem met_X15_factor (l : Launch) (htr : ∀ e, l.admits e → e.platform.stackTraces = false) (G : Gw) (z : Nat) (H0 : Heap) (rv : Nat → Nat → Nat → Nat → Wd → Option ((Option Nat ⊕ Nat) × Wd)) (F L : Nat) (B n : Nat) (w : Wd) (a0 : Nat) (q : (Option Nat ⊕ Nat) × Wd) (h : f_X15_factor rv B n a0 w = some q) (hrv : ∀ (w : Wd) (a0 : Nat) (q : (Option Nat ⊕ Nat) × Wd), wZ w ≤ B → (wT w a0).1 = 16 → (rv 0 B n a0 w = some q → MetT l yX15_factor (ws_ yX15_factor cX15_factor 2 (some (.object "BarredBooks$Test"))) ({ frames := F, cells := B - wZ w, slots := 80 * (B - wZ w), locals := L } : Room) (pcT G z H0 w [.ref (z + a0)]) (qT G z H0 q.2 (cvR z q.1)) (wZ q.2 - wZ w) (80 * (wZ q.2 - wZ w)) (fun q => z ≤ q)) ∧ (rv 1 B n a0 w = some q → MetT l yX15_all (ws_ yX15_all cX15_all 2 (some (.object "BarredBooks$Test"))) ({ frames := F, cells := B - wZ w, slots := 80 * (B - wZ w), locals := L } : Room) (pcT G z H0 w [.ref (z + a0)]) (qT G z H0 q.2 (cvR z q.1)) (wZ q.2 - wZ w) (80 * (wZ q.2 - wZ w)) (fun q => z ≤ q)) ∧ (rv 2 B n a0 w = some q → MetT l yX15_some (ws_ yX15_some cX15_some 2 (some (.object "BarredBooks$Test"))) ({ frames := F, cells := B - wZ w, slots := 80 * (B - wZ w), locals := L } : Room) (pcT G z H0 w [.ref (z + a0)]) (qT G z H0 q.2 (cvR z q.1)) (wZ q.2 - wZ w) (80 * (wZ q.2 - wZ w)) (fun q => z ≤ q))) (hFL : 8 ≤ F ∧ 191 ≤ L) (ht0 : (wT w a0).1 = 16) (hB : wZ w ≤ B) : MetT l yX15_factor (ws_ yX15_factor cX15_factor 2 (some (.object "BarredBooks$Test"))) ({ frames := F + 1, cells := B - wZ w, slots := 80 * (B - wZ w), locals := L + 21 } : Room) (pcT G z H0 w [.ref (z + a0)]) (qT G z H0 q.2 (cvR z q.1)) (wZ q.2 - wZ w) (80 * (wZ q.2 - wZ w)) (fun q => z ≤ q) := by
  refine mT (by decide) (Nat.le_of_ble_eq_true rfl) ?_
  intro p e s m below meth c ls hx hb hr hml hown hts hlocks hnm hnoh hK hR hF hN hS hl
  have hown : s.vm.findClass RX15 = some m.cls := hown
  have hl : lv_has ls 2 [(0, .ref (z + a0))] := hl
  have hL : lok z [] := lok_nil
  unfold f_X15_factor at h
  obtain ⟨z0, hz0⟩ : ∃ z0, wZ w = z0 := ⟨_, rfl⟩
  rw [hz0]
  refine W.widen (k := wZ w - z0) (n := 80 * (wZ w - z0)) (Nat.zero_le _) (Nat.zero_le _) ?_
  have hZ : z0 ≤ wZ w ∧ wZ w ≤ B := ⟨by omega, hB⟩
  generalize s.heap = H at hR ⊢
  generalize ([] : List Loc) = locs at hL ⊢
  refine lv_aload_n hx hb dX15_factor_0 rfl (lv_at hl 0 rfl) ?_
  obtain ⟨q1, hq2, h⟩ := bnd h
  refine k_P (st1 := [.int q1]) (va_runV (As := []) (rest := []) ⟨hx, hb, hml, hown, hts⟩ (met_X15_here l G z H0 w a0 q1 hq2 ht0) (cwV 0 hts (lw_V q918 q920 qs8 q122 q921) rfl rfl rfl ⟨rfl, hd_X15_here⟩ ⟨by dsimp only; omega, by dsimp only; omega⟩) (preV (q := (RX15, TX15, 4)) hK hR hF hN ht0 rfl) rfl rfl hl.1 rfl (lv_room (Nat.le_of_ble_eq_true rfl)) dX15_factor_1 ⟨by dsimp only; omega, by dsimp only; omega⟩) hL rfl (fun locs hL => ?_)
  refine W.wid (b := wZ w) (Nat.le_refl _) hZ.1 (Nat.le_refl _) ?_
  by_cases c3 : q1 = 33
  · rw [if_pos c3] at h
    refine lv_lookup (off := 68) (tgt := 72) hx hb dX15_factor_4 (by decide) (by rw [c3]; decide) (by decide) ?_
    refine lv_aload_n hx hb dX15_factor_72 rfl (lv_at hl 0 rfl) ?_
    obtain ⟨⟨v4 | x5, qw6⟩, hq7, h⟩ := bnd h
    rotate_left
    · dsimp only at h
      obtain ⟨hz8, h⟩ := grd h
      have h := Option.some.inj h
      subst h
      refine k_TT (w := qw6) (x := x5) (mc := wZ qw6 - wZ w) (ms := 80 * (wZ qw6 - wZ w)) (runT_V (As := []) (rest := []) ⟨hx, hb, hml, hown, hts⟩ (met_X15_deeper l htr G z H0 B n w a0 (.inr x5, qw6) hq7 ht0 hZ.2) hd_X15_deeper q1074 q1076 qs17 q122 q1077 ⟨by dsimp only; omega, by dsimp only; omega⟩ (preVT (q := (RX15, TX15, 4)) hK hR hF hN hS ht0 rfl) rfl rfl hl.1 rfl (lv_room (Nat.le_of_ble_eq_true rfl)) dX15_factor_73 ⟨by dsimp only; omega, by dsimp only; omega⟩) hL (fun H locs hR hF hL => ?_)
      refine WT.widen (k := wZ qw6 - z0) (n := 80 * (wZ qw6 - z0)) (by omega) (by omega) ?_
      exact WT.leave (fun x9 hx9 => hnoh x9 hx9 73) (fun t ht _ => ⟨rfl, by rw [ht]; exact hR, hF⟩) hL hlocks
    dsimp only at h
    obtain ⟨hz8, h⟩ := grd h
    refine k_TR (v := none) (w := qw6) (mc := wZ qw6 - wZ w) (ms := 80 * (wZ qw6 - wZ w)) (st1 := []) (runT_V (As := []) (rest := []) ⟨hx, hb, hml, hown, hts⟩ (met_X15_deeper l htr G z H0 B n w a0 (.inl v4, qw6) hq7 ht0 hZ.2) hd_X15_deeper q1074 q1076 qs17 q122 q1077 ⟨by dsimp only; omega, by dsimp only; omega⟩ (preVT (q := (RX15, TX15, 4)) hK hR hF hN hS ht0 rfl) rfl rfl hl.1 rfl (lv_room (Nat.le_of_ble_eq_true rfl)) dX15_factor_73 ⟨by dsimp only; omega, by dsimp only; omega⟩) hL rfl (fun H locs hR hF hL => ?_)
    refine W.wid (b := wZ qw6) (by omega) hZ.1 (Nat.le_refl _) ?_
    have hZ : z0 ≤ wZ qw6 ∧ wZ qw6 ≤ B := ⟨by omega, hz8.2⟩
    obtain ⟨hz10, h⟩ := grd h
    refine x_new (C := RX24) (T := TX24) (N := 1) (nS := 1) (ci := 23) hx hb hts ok23 hown (hts _ q1078) (hts _ q1079) (hts _ q137) hK hR rfl (ty_ok23) (by dsimp only; omega) (by dsimp only; omega) dX15_factor_76 (fun H hR => ?_)
    have hF := hF.sN 24 0
    have ez11 : wZ (sN qw6 24 0) = wZ qw6 + 1 := rfl
    refine W.wid (b := wZ (sN qw6 24 0)) (by omega) hZ.1 (by decide) ?_
    have hZ : z0 ≤ wZ (sN qw6 24 0) ∧ wZ (sN qw6 24 0) ≤ B := ⟨by omega, by omega⟩
    have hg12 : (wT (sN qw6 24 0) (wZ qw6)).1 = 24 := by rw [wT_sN, if_pos rfl]
    refine lv_dup hx hb dX15_factor_79 rfl ?_
    refine lv_aload_n hx hb dX15_factor_80 rfl (lv_at hl 0 rfl) ?_
    obtain ⟨hg13, h⟩ := grd h
    obtain ⟨⟨v14 | x15, qw16⟩, hq17, h⟩ := bnd h
    rotate_left
    · dsimp only at h
      obtain ⟨hz18, h⟩ := grd h
      have h := Option.some.inj h
      subst h
      refine k_TT (w := qw16) (x := x15) (mc := wZ qw16 - wZ (sN qw6 24 0)) (ms := 80 * (wZ qw16 - wZ (sN qw6 24 0))) (runT_V (As := []) (rest := [.ref (z + wZ qw6), .ref (z + wZ qw6)]) ⟨hx, hb, hml, hown, hts⟩ ((hrv (sN qw6 24 0) a0 (.inr x15, qw16) hZ.2 hg13).1 hq17) hd_X15_factor q1070 q1072 qs16 q122 q1073 ⟨by dsimp only; omega, by dsimp only; omega⟩ (preVT (q := (RX15, TX15, 4)) hK hR hF hN hS hg13 rfl) rfl rfl hl.1 rfl (lv_room (Nat.le_of_ble_eq_true rfl)) dX15_factor_81 ⟨by dsimp only; omega, by dsimp only; omega⟩) hL (fun H locs hR hF hL => ?_)
      refine WT.widen (k := wZ qw16 - z0) (n := 80 * (wZ qw16 - z0)) (by omega) (by omega) ?_
      exact WT.leave (fun x9 hx9 => hnoh x9 hx9 81) (fun t ht _ => ⟨rfl, by rw [ht]; exact hR, hF⟩) hL hlocks
    dsimp only at h
    obtain ⟨hz18, h⟩ := grd h
    refine k_TR (v := (some (rfv z v14))) (w := qw16) (mc := wZ qw16 - wZ (sN qw6 24 0)) (ms := 80 * (wZ qw16 - wZ (sN qw6 24 0))) (st1 := [rfv z v14, .ref (z + wZ qw6), .ref (z + wZ qw6)]) (runT_V (As := []) (rest := [.ref (z + wZ qw6), .ref (z + wZ qw6)]) ⟨hx, hb, hml, hown, hts⟩ ((hrv (sN qw6 24 0) a0 (.inl v14, qw16) hZ.2 hg13).1 hq17) hd_X15_factor q1070 q1072 qs16 q122 q1073 ⟨by dsimp only; omega, by dsimp only; omega⟩ (preVT (q := (RX15, TX15, 4)) hK hR hF hN hS hg13 rfl) rfl rfl hl.1 rfl (lv_room (Nat.le_of_ble_eq_true rfl)) dX15_factor_81 ⟨by dsimp only; omega, by dsimp only; omega⟩) hL rfl (fun H locs hR hF hL => ?_)
    refine W.wid (b := wZ qw16) (by omega) hZ.1 (Nat.le_refl _) ?_
    have hZ : z0 ≤ wZ qw16 ∧ wZ qw16 ≤ B := ⟨by omega, hz18.2⟩
    obtain ⟨hg20, h⟩ := grd h
    obtain ⟨q21, hq22, h⟩ := bnd h
    obtain ⟨hz23, h⟩ := grd h
    refine k_W (st1 := [.ref (z + wZ qw6)]) (va_runI (As := [rfv z v14]) (rest := [.ref (z + wZ qw6)]) ⟨hx, hb, hml, hown, hts⟩ (met_X24_init l G z H0 qw16 (wZ qw6) v14 q21 hq22 hg20) (cwI 1 hts (lw_meth q1082) rfl rfl rfl (hts _ q137) (hts _ q1080) (hts _ q1081) rfl hd_X24_init ⟨by dsimp only; omega, by dsimp only; omega⟩) (preS hK hR hF hN) rfl rfl hl.1 rfl (lv_room (Nat.le_of_ble_eq_true rfl)) dX15_factor_84 ⟨by dsimp only; omega, by dsimp only; omega⟩) hL rfl (fun H locs hR hF hL => ?_)
    refine W.wid (b := wZ q21) (by omega) hZ.1 (by decide) ?_
    have hZ : z0 ≤ wZ q21 ∧ wZ q21 ≤ B := ⟨by omega, hz23.2⟩
    refine lv_astore_n (lv' := [(1, .ref (z + wZ qw6)), (0, .ref (z + a0))]) hx hb dX15_factor_87 rfl hl (by decide) rfl (fun ls hl => ?_)
    refine lv_aload_n hx hb dX15_factor_88 rfl (lv_at hl 1 rfl) ?_
    refine lv_dup hx hb dX15_factor_89 rfl ?_
    obtain ⟨hg24, h⟩ := grd h
    refine x_get (k := 3) (o := "BarredBooks$Reader") (n := "deep") (d := "I") (fin := false) (ty := .int) (host := "BarredBooks") hx hb hts hown hK hR rfl (Fam.one (r := (RX15, TX15, 4)) hg24 rfl ok15 (by decide)) (Or.inl (hts _ q855)) (fun _ h9 => h9) (v := .int (wI q21 a0 3)) rfl dX15_factor_90 ?_
    refine lv_iconst (v := 1) hx hb dX15_factor_93 (by decide) ?_
    refine lv_isub hx hb dX15_factor_94 ?_
    refine x_putI (k := 3) (o := "BarredBooks$Reader") (n := "deep") (d := "I") (fin := false) (ty := .int) (host := "BarredBooks") hx hb hts hown hK hR hL rfl (Fam.one (r := (RX15, TX15, 4)) hg24 rfl ok15 (by decide)) (Or.inl (hts _ q855)) (fun _ h9 => h9) (Or.inl rfl) rfl rfl rfl dX15_factor_95 (fun H locs hR hL => ?_)
    rw [← wT_sI _ a0 3 ((wI q21 a0 3) - (1 : Int32))] at hg24
    have hF := hF.sI a0 3 ((wI q21 a0 3) - (1 : Int32))
    refine lv_aload_n hx hb dX15_factor_98 rfl (lv_at hl 0 rfl) ?_
    have h := Option.some.inj h
    subst h
    refine W.widen (k := wZ (sI q21 a0 3 ((wI q21 a0 3) - (1 : Int32))) - z0) (n := 80 * (wZ (sI q21 a0 3 ((wI q21 a0 3) - (1 : Int32))) - z0)) (Nat.le_refl _) (Nat.le_refl _) ?_
    exact W.toT (x_aret (r := some (wZ qw6)) hx hb hr rfl (fun t ht _ => ⟨rfl, by rw [ht]; exact hR, hF⟩) hL dX15_factor_99 hlocks)
  rw [if_neg c3] at h
  by_cases c25 : q1 = 40
  · rw [if_pos c25] at h
    refine lv_lookup (off := 96) (tgt := 100) hx hb dX15_factor_4 (by decide) (by rw [c25]; decide) (by decide) ?_
    refine lv_aload_n hx hb dX15_factor_100 rfl (lv_at hl 0 rfl) ?_
    obtain ⟨⟨v26 | x27, qw28⟩, hq29, h⟩ := bnd h
    rotate_left
    · dsimp only at h
      obtain ⟨hz30, h⟩ := grd h
      have h := Option.some.inj h
      subst h
      refine k_TT (w := qw28) (x := x27) (mc := wZ qw28 - wZ w) (ms := 80 * (wZ qw28 - wZ w)) (runT_V (As := []) (rest := []) ⟨hx, hb, hml, hown, hts⟩ (met_X15_deeper l htr G z H0 B n w a0 (.inr x27, qw28) hq29 ht0 hZ.2) hd_X15_deeper q1074 q1076 qs17 q122 q1077 ⟨by dsimp only; omega, by dsimp only; omega⟩ (preVT (q := (RX15, TX15, 4)) hK hR hF hN hS ht0 rfl) rfl rfl hl.1 rfl (lv_room (Nat.le_of_ble_eq_true rfl)) dX15_factor_101 ⟨by dsimp only; omega, by dsimp only; omega⟩) hL (fun H locs hR hF hL => ?_)
      refine WT.widen (k := wZ qw28 - z0) (n := 80 * (wZ qw28 - z0)) (by omega) (by omega) ?_
      exact WT.leave (fun x9 hx9 => hnoh x9 hx9 101) (fun t ht _ => ⟨rfl, by rw [ht]; exact hR, hF⟩) hL hlocks
    dsimp only at h
    obtain ⟨hz30, h⟩ := grd h
    refine k_TR (v := none) (w := qw28) (mc := wZ qw28 - wZ w) (ms := 80 * (wZ qw28 - wZ w)) (st1 := []) (runT_V (As := []) (rest := []) ⟨hx, hb, hml, hown, hts⟩ (met_X15_deeper l htr G z H0 B n w a0 (.inl v26, qw28) hq29 ht0 hZ.2) hd_X15_deeper q1074 q1076 qs17 q122 q1077 ⟨by dsimp only; omega, by dsimp only; omega⟩ (preVT (q := (RX15, TX15, 4)) hK hR hF hN hS ht0 rfl) rfl rfl hl.1 rfl (lv_room (Nat.le_of_ble_eq_true rfl)) dX15_factor_101 ⟨by dsimp only; omega, by dsimp only; omega⟩) hL rfl (fun H locs hR hF hL => ?_)
    refine W.wid (b := wZ qw28) (by omega) hZ.1 (Nat.le_refl _) ?_
    have hZ : z0 ≤ wZ qw28 ∧ wZ qw28 ≤ B := ⟨by omega, hz30.2⟩
    refine lv_aload_n hx hb dX15_factor_104 rfl (lv_at hl 0 rfl) ?_
    obtain ⟨hg32, h⟩ := grd h
    obtain ⟨⟨v33 | x34, qw35⟩, hq36, h⟩ := bnd h
    rotate_left
    · dsimp only at h
      obtain ⟨hz37, h⟩ := grd h
      have h := Option.some.inj h
      subst h
      refine k_TT (w := qw35) (x := x34) (mc := wZ qw35 - wZ qw28) (ms := 80 * (wZ qw35 - wZ qw28)) (runT_V (As := []) (rest := []) ⟨hx, hb, hml, hown, hts⟩ ((hrv qw28 a0 (.inr x34, qw35) hZ.2 hg32).2.2 hq36) hd_X15_some q1043 q1045 qs14 q122 q1046 ⟨by dsimp only; omega, by dsimp only; omega⟩ (preVT (q := (RX15, TX15, 4)) hK hR hF hN hS hg32 rfl) rfl rfl hl.1 rfl (lv_room (Nat.le_of_ble_eq_true rfl)) dX15_factor_105 ⟨by dsimp only; omega, by dsimp only; omega⟩) hL (fun H locs hR hF hL => ?_)
      refine WT.widen (k := wZ qw35 - z0) (n := 80 * (wZ qw35 - z0)) (by omega) (by omega) ?_
      exact WT.leave (fun x9 hx9 => hnoh x9 hx9 105) (fun t ht _ => ⟨rfl, by rw [ht]; exact hR, hF⟩) hL hlocks
    dsimp only at h
    obtain ⟨hz37, h⟩ := grd h
    refine k_TR (v := (some (rfv z v33))) (w := qw35) (mc := wZ qw35 - wZ qw28) (ms := 80 * (wZ qw35 - wZ qw28)) (st1 := [rfv z v33]) (runT_V (As := []) (rest := []) ⟨hx, hb, hml, hown, hts⟩ ((hrv qw28 a0 (.inl v33, qw35) hZ.2 hg32).2.2 hq36) hd_X15_some q1043 q1045 qs14 q122 q1046 ⟨by dsimp only; omega, by dsimp only; omega⟩ (preVT (q := (RX15, TX15, 4)) hK hR hF hN hS hg32 rfl) rfl rfl hl.1 rfl (lv_room (Nat.le_of_ble_eq_true rfl)) dX15_factor_105 ⟨by dsimp only; omega, by dsimp only; omega⟩) hL rfl (fun H locs hR hF hL => ?_)
    refine W.wid (b := wZ qw35) (by omega) hZ.1 (Nat.le_refl _) ?_
    have hZ : z0 ≤ wZ qw35 ∧ wZ qw35 ≤ B := ⟨by omega, hz37.2⟩
    refine x_astore_n (lv' := [(1, rfv z v33), (0, .ref (z + a0))]) hx hb dX15_factor_108 rfl hl (by decide) rfl (fun ls hl => ?_)
    refine lv_aload_n hx hb dX15_factor_109 rfl (lv_at hl 1 rfl) ?_
    refine lv_bipush (v := 41) hx hb dX15_factor_110 (by decide) ?_
    obtain ⟨hg39, h⟩ := grd h
    obtain ⟨⟨v40 | x41, qw42⟩, hq43, h⟩ := bnd h
    rotate_left
    · dsimp only at h
      obtain ⟨hz44, h⟩ := grd h
      have h := Option.some.inj h
      subst h
      refine k_TT (w := qw42) (x := x41) (mc := wZ qw42 - wZ qw35) (ms := 80 * (wZ qw42 - wZ qw35)) (runT_V (As := [.int (41 : Int32)]) (rest := []) ⟨hx, hb, hml, hown, hts⟩ (met_X15_must l htr G z H0 B n qw35 a0 (41 : Int32) (.inr x41, qw42) hq43 hg39 hZ.2) hd_X15_must q975 q977 qs10 q122 q978 ⟨by dsimp only; omega, by dsimp only; omega⟩ (preVT (q := (RX15, TX15, 4)) hK hR hF hN hS hg39 rfl) rfl rfl hl.1 rfl (lv_room (Nat.le_of_ble_eq_true rfl)) dX15_factor_112 ⟨by dsimp only; omega, by dsimp only; omega⟩) hL (fun H locs hR hF hL => ?_)
      refine WT.widen (k := wZ qw42 - z0) (n := 80 * (wZ qw42 - z0)) (by omega) (by omega) ?_
      exact WT.leave (fun x9 hx9 => hnoh x9 hx9 112) (fun t ht _ => ⟨rfl, by rw [ht]; exact hR, hF⟩) hL hlocks
    dsimp only at h
    obtain ⟨hz44, h⟩ := grd h
    refine k_TR (v := none) (w := qw42) (mc := wZ qw42 - wZ qw35) (ms := 80 * (wZ qw42 - wZ qw35)) (st1 := []) (runT_V (As := [.int (41 : Int32)]) (rest := []) ⟨hx, hb, hml, hown, hts⟩ (met_X15_must l htr G z H0 B n qw35 a0 (41 : Int32) (.inl v40, qw42) hq43 hg39 hZ.2) hd_X15_must q975 q977 qs10 q122 q978 ⟨by dsimp only; omega, by dsimp only; omega⟩ (preVT (q := (RX15, TX15, 4)) hK hR hF hN hS hg39 rfl) rfl rfl hl.1 rfl (lv_room (Nat.le_of_ble_eq_true rfl)) dX15_factor_112 ⟨by dsimp only; omega, by dsimp only; omega⟩) hL rfl (fun H locs hR hF hL => ?_)
    refine W.wid (b := wZ qw42) (by omega) hZ.1 (Nat.le_refl _) ?_
    have hZ : z0 ≤ wZ qw42 ∧ wZ qw42 ≤ B := ⟨by omega, hz44.2⟩
    refine lv_aload_n hx hb dX15_factor_115 rfl (lv_at hl 1 rfl) ?_
    refine lv_dup hx hb dX15_factor_116 rfl ?_
    obtain ⟨hg46, h⟩ := grd h
    refine x_get (k := 3) (o := "BarredBooks$Reader") (n := "deep") (d := "I") (fin := false) (ty := .int) (host := "BarredBooks") hx hb hts hown hK hR rfl (Fam.one (r := (RX15, TX15, 4)) hg46 rfl ok15 (by decide)) (Or.inl (hts _ q855)) (fun _ h9 => h9) (v := .int (wI qw42 a0 3)) rfl dX15_factor_117 ?_
    refine lv_iconst (v := 1) hx hb dX15_factor_120 (by decide) ?_
    refine lv_isub hx hb dX15_factor_121 ?_
    refine x_putI (k := 3) (o := "BarredBooks$Reader") (n := "deep") (d := "I") (fin := false) (ty := .int) (host := "BarredBooks") hx hb hts hown hK hR hL rfl (Fam.one (r := (RX15, TX15, 4)) hg46 rfl ok15 (by decide)) (Or.inl (hts _ q855)) (fun _ h9 => h9) (Or.inl rfl) rfl rfl rfl dX15_factor_122 (fun H locs hR hL => ?_)
    rw [← wT_sI _ a0 3 ((wI qw42 a0 3) - (1 : Int32))] at hg46
    have hF := hF.sI a0 3 ((wI qw42 a0 3) - (1 : Int32))
    refine x_aload_n hx hb dX15_factor_125 rfl (lv_at hl 0 rfl) ?_
    have h := Option.some.inj h
    subst h
    refine W.widen (k := wZ (sI qw42 a0 3 ((wI qw42 a0 3) - (1 : Int32))) - z0) (n := 80 * (wZ (sI qw42 a0 3 ((wI qw42 a0 3) - (1 : Int32))) - z0)) (Nat.le_refl _) (Nat.le_refl _) ?_
    exact W.toT (x_aret (r := v33) hx hb hr rfl (fun t ht _ => ⟨rfl, by rw [ht]; exact hR, hF⟩) hL dX15_factor_126 hlocks)
  rw [if_neg c25] at h
  by_cases c47 : q1 = 97
  · rw [if_pos c47] at h
    refine lv_lookup (off := 123) (tgt := 127) hx hb dX15_factor_4 (by decide) (by rw [c47]; decide) (by decide) ?_
    refine lv_aload_n hx hb dX15_factor_127 rfl (lv_at hl 0 rfl) ?_
    refine x_get (k := 0) (o := "BarredBooks$Reader") (n := "text") (d := "[B") (fin := true) (ty := (.array .byte)) (host := "BarredBooks") hx hb hts hown hK hR rfl (Fam.one (r := (RX15, TX15, 4)) ht0 rfl ok15 (by decide)) (Or.inl (hts _ q852)) (fun _ h9 => h9) (v := rfv z (wR w a0 0)) rfl dX15_factor_128 ?_
    refine lv_aload_n hx hb dX15_factor_131 rfl (lv_at hl 0 rfl) ?_
    refine lv_dup hx hb dX15_factor_132 rfl ?_
    refine x_get (k := 2) (o := "BarredBooks$Reader") (n := "at") (d := "I") (fin := false) (ty := .int) (host := "BarredBooks") hx hb hts hown hK hR rfl (Fam.one (r := (RX15, TX15, 4)) ht0 rfl ok15 (by decide)) (Or.inl (hts _ q854)) (fun _ h9 => h9) (v := .int (wI w a0 2)) rfl dX15_factor_133 ?_
    refine lv_dup_x1 hx hb dX15_factor_136 rfl rfl ?_
    refine lv_iconst (v := 1) hx hb dX15_factor_137 (by decide) ?_
    refine lv_iadd hx hb dX15_factor_138 ?_
    refine x_putI (k := 2) (o := "BarredBooks$Reader") (n := "at") (d := "I") (fin := false) (ty := .int) (host := "BarredBooks") hx hb hts hown hK hR hL rfl (Fam.one (r := (RX15, TX15, 4)) ht0 rfl ok15 (by decide)) (Or.inl (hts _ q854)) (fun _ h9 => h9) (Or.inl rfl) rfl rfl rfl dX15_factor_139 (fun H locs hR hL => ?_)
    rw [← wT_sI _ a0 2 ((wI w a0 2) + (1 : Int32))] at ht0
    have hF := hF.sI a0 2 ((wI w a0 2) + (1 : Int32))
    obtain ⟨r48, hr49, h⟩ := bnd h
    obtain ⟨hg50, h⟩ := grd h
    obtain ⟨hb51, h⟩ := grd h
    refine x_bald (v := wI (sI w a0 2 ((wI w a0 2) + (1 : Int32))) r48 ((wI w a0 2).toNatClampNeg)) hx hb hK hR (rfv_some hr49) (wT_pair hg50) hb51 rfl dX15_factor_142 ?_
    refine lv_istore_n (lv' := [(1, .int (wI (sI w a0 2 ((wI w a0 2) + (1 : Int32))) r48 ((wI w a0 2).toNatClampNeg))), (0, .ref (z + a0))]) hx hb dX15_factor_143 rfl hl (by decide) rfl (fun ls hl => ?_)
    obtain ⟨hz52, h⟩ := grd h
    have hs53 : wT (sN (sI w a0 2 ((wI w a0 2) + (1 : Int32))) 25 0) a0 = wT (sI w a0 2 ((wI w a0 2) + (1 : Int32))) a0 := tag_sN hR (by rw [ht0]; decide)
    have hs54 : wT (sN (sI w a0 2 ((wI w a0 2) + (1 : Int32))) 25 0) r48 = wT (sI w a0 2 ((wI w a0 2) + (1 : Int32))) r48 := tag_sN hR (by rw [hg50]; decide)
    refine x_new (C := RX25) (T := TX25) (N := 2) (nS := 2) (ci := 24) hx hb hts ok24 hown (hts _ q1088) (hts _ q1089) (hts _ q138) hK hR rfl (ty_ok24) (by dsimp only; omega) (by dsimp only; omega) dX15_factor_144 (fun H hR => ?_)
    have hF := hF.sN 25 0
    rw [← hs53] at ht0
    rw [← hs54] at hg50
    have ez55 : wZ (sN (sI w a0 2 ((wI w a0 2) + (1 : Int32))) 25 0) = wZ w + 1 := rfl
    refine W.wid (b := wZ (sN (sI w a0 2 ((wI w a0 2) + (1 : Int32))) 25 0)) (by omega) hZ.1 (by decide) ?_
    have hZ : z0 ≤ wZ (sN (sI w a0 2 ((wI w a0 2) + (1 : Int32))) 25 0) ∧ wZ (sN (sI w a0 2 ((wI w a0 2) + (1 : Int32))) 25 0) ≤ B := ⟨by omega, by omega⟩
    have hg56 : (wT (sN (sI w a0 2 ((wI w a0 2) + (1 : Int32))) 25 0) (wZ (sI w a0 2 ((wI w a0 2) + (1 : Int32))))).1 = 25 := by rw [wT_sN, if_pos rfl]
    refine lv_dup hx hb dX15_factor_147 rfl ?_
    refine lv_iload_n hx hb dX15_factor_148 rfl (lv_at hl 0 rfl) ?_
    refine lv_aload_n hx hb dX15_factor_149 rfl (lv_at hl 1 rfl) ?_
    obtain ⟨⟨v57 | x58, qw59⟩, hq60, h⟩ := bnd h
    rotate_left
    · dsimp only at h
      obtain ⟨hz61, h⟩ := grd h
      have h := Option.some.inj h
      subst h
      refine k_TT (w := qw59) (x := x58) (mc := wZ qw59 - wZ (sN (sI w a0 2 ((wI w a0 2) + (1 : Int32))) 25 0)) (ms := 80 * (wZ qw59 - wZ (sN (sI w a0 2 ((wI w a0 2) + (1 : Int32))) 25 0))) (runT_V (As := []) (rest := [.int (wI (sI w a0 2 ((wI w a0 2) + (1 : Int32))) r48 ((wI w a0 2).toNatClampNeg)), .ref (z + wZ (sI w a0 2 ((wI w a0 2) + (1 : Int32)))), .ref (z + wZ (sI w a0 2 ((wI w a0 2) + (1 : Int32))))]) ⟨hx, hb, hml, hown, hts⟩ (met_X15_number l htr G z H0 B n (sN (sI w a0 2 ((wI w a0 2) + (1 : Int32))) 25 0) a0 (.inr x58, qw59) hq60 ht0 hZ.2) hd_X15_number q1004 q1006 qs12 q122 q1007 ⟨by dsimp only; omega, by dsimp only; omega⟩ (preVT (q := (RX15, TX15, 4)) hK hR hF hN hS ht0 rfl) rfl rfl hl.1 rfl (lv_room (Nat.le_of_ble_eq_true rfl)) dX15_factor_150 ⟨by dsimp only; omega, by dsimp only; omega⟩) hL (fun H locs hR hF hL => ?_)
      refine WT.widen (k := wZ qw59 - z0) (n := 80 * (wZ qw59 - z0)) (by omega) (by omega) ?_
      exact WT.leave (fun x9 hx9 => hnoh x9 hx9 150) (fun t ht _ => ⟨rfl, by rw [ht]; exact hR, hF⟩) hL hlocks
    dsimp only at h
    obtain ⟨hz61, h⟩ := grd h
    refine k_TR (v := (some (.int v57))) (w := qw59) (mc := wZ qw59 - wZ (sN (sI w a0 2 ((wI w a0 2) + (1 : Int32))) 25 0)) (ms := 80 * (wZ qw59 - wZ (sN (sI w a0 2 ((wI w a0 2) + (1 : Int32))) 25 0))) (st1 := [.int v57, .int (wI (sI w a0 2 ((wI w a0 2) + (1 : Int32))) r48 ((wI w a0 2).toNatClampNeg)), .ref (z + wZ (sI w a0 2 ((wI w a0 2) + (1 : Int32)))), .ref (z + wZ (sI w a0 2 ((wI w a0 2) + (1 : Int32))))]) (runT_V (As := []) (rest := [.int (wI (sI w a0 2 ((wI w a0 2) + (1 : Int32))) r48 ((wI w a0 2).toNatClampNeg)), .ref (z + wZ (sI w a0 2 ((wI w a0 2) + (1 : Int32)))), .ref (z + wZ (sI w a0 2 ((wI w a0 2) + (1 : Int32))))]) ⟨hx, hb, hml, hown, hts⟩ (met_X15_number l htr G z H0 B n (sN (sI w a0 2 ((wI w a0 2) + (1 : Int32))) 25 0) a0 (.inl v57, qw59) hq60 ht0 hZ.2) hd_X15_number q1004 q1006 qs12 q122 q1007 ⟨by dsimp only; omega, by dsimp only; omega⟩ (preVT (q := (RX15, TX15, 4)) hK hR hF hN hS ht0 rfl) rfl rfl hl.1 rfl (lv_room (Nat.le_of_ble_eq_true rfl)) dX15_factor_150 ⟨by dsimp only; omega, by dsimp only; omega⟩) hL rfl (fun H locs hR hF hL => ?_)
    refine W.wid (b := wZ qw59) (by omega) hZ.1 (Nat.le_refl _) ?_
    have hZ : z0 ≤ wZ qw59 ∧ wZ qw59 ≤ B := ⟨by omega, hz61.2⟩
    obtain ⟨hg63, h⟩ := grd h
    obtain ⟨q64, hq65, h⟩ := bnd h
    obtain ⟨hz66, h⟩ := grd h
    refine k_W (st1 := [.ref (z + wZ (sI w a0 2 ((wI w a0 2) + (1 : Int32))))]) (va_runI (As := [.int (wI (sI w a0 2 ((wI w a0 2) + (1 : Int32))) r48 ((wI w a0 2).toNatClampNeg)), .int v57]) (rest := [.ref (z + wZ (sI w a0 2 ((wI w a0 2) + (1 : Int32))))]) ⟨hx, hb, hml, hown, hts⟩ (met_X25_init l G z H0 qw59 (wZ (sI w a0 2 ((wI w a0 2) + (1 : Int32)))) (wI (sI w a0 2 ((wI w a0 2) + (1 : Int32))) r48 ((wI w a0 2).toNatClampNeg)) v57 q64 hq65 hg63) (cwI 2 hts (lw_meth q1092) rfl rfl rfl (hts _ q138) (hts _ q1090) (hts _ q1091) rfl hd_X25_init ⟨by dsimp only; omega, by dsimp only; omega⟩) (preS hK hR hF hN) rfl rfl hl.1 rfl (lv_room (Nat.le_of_ble_eq_true rfl)) dX15_factor_153 ⟨by dsimp only; omega, by dsimp only; omega⟩) hL rfl (fun H locs hR hF hL => ?_)
    refine W.wid (b := wZ q64) (by omega) hZ.1 (by decide) ?_
    have hZ : z0 ≤ wZ q64 ∧ wZ q64 ≤ B := ⟨by omega, hz66.2⟩
    have h := Option.some.inj h
    subst h
    exact W.toT (x_aret (r := some (wZ (sI w a0 2 ((wI w a0 2) + (1 : Int32))))) hx hb hr rfl (fun t ht _ => ⟨rfl, by rw [ht]; exact hR, hF⟩) hL dX15_factor_156 hlocks)
  rw [if_neg c47] at h
  by_cases c67 : q1 = 98
  · rw [if_pos c67] at h
    refine lv_lookup (off := 123) (tgt := 127) hx hb dX15_factor_4 (by decide) (by rw [c67]; decide) (by decide) ?_
    refine lv_aload_n hx hb dX15_factor_127 rfl (lv_at hl 0 rfl) ?_
    refine x_get (k := 0) (o := "BarredBooks$Reader") (n := "text") (d := "[B") (fin := true) (ty := (.array .byte)) (host := "BarredBooks") hx hb hts hown hK hR rfl (Fam.one (r := (RX15, TX15, 4)) ht0 rfl ok15 (by decide)) (Or.inl (hts _ q852)) (fun _ h9 => h9) (v := rfv z (wR w a0 0)) rfl dX15_factor_128 ?_
    refine lv_aload_n hx hb dX15_factor_131 rfl (lv_at hl 0 rfl) ?_
    refine lv_dup hx hb dX15_factor_132 rfl ?_
    refine x_get (k := 2) (o := "BarredBooks$Reader") (n := "at") (d := "I") (fin := false) (ty := .int) (host := "BarredBooks") hx hb hts hown hK hR rfl (Fam.one (r := (RX15, TX15, 4)) ht0 rfl ok15 (by decide)) (Or.inl (hts _ q854)) (fun _ h9 => h9) (v := .int (wI w a0 2)) rfl dX15_factor_133 ?_
    refine lv_dup_x1 hx hb dX15_factor_136 rfl rfl ?_
    refine lv_iconst (v := 1) hx hb dX15_factor_137 (by decide) ?_
    refine lv_iadd hx hb dX15_factor_138 ?_
    refine x_putI (k := 2) (o := "BarredBooks$Reader") (n := "at") (d := "I") (fin := false) (ty := .int) (host := "BarredBooks") hx hb hts hown hK hR hL rfl (Fam.one (r := (RX15, TX15, 4)) ht0 rfl ok15 (by decide)) (Or.inl (hts _ q854)) (fun _ h9 => h9) (Or.inl rfl) rfl rfl rfl dX15_factor_139 (fun H locs hR hL => ?_)
    rw [← wT_sI _ a0 2 ((wI w a0 2) + (1 : Int32))] at ht0
    have hF := hF.sI a0 2 ((wI w a0 2) + (1 : Int32))
    obtain ⟨r68, hr69, h⟩ := bnd h
    obtain ⟨hg70, h⟩ := grd h
    obtain ⟨hb71, h⟩ := grd h
    refine x_bald (v := wI (sI w a0 2 ((wI w a0 2) + (1 : Int32))) r68 ((wI w a0 2).toNatClampNeg)) hx hb hK hR (rfv_some hr69) (wT_pair hg70) hb71 rfl dX15_factor_142 ?_
    refine lv_istore_n (lv' := [(1, .int (wI (sI w a0 2 ((wI w a0 2) + (1 : Int32))) r68 ((wI w a0 2).toNatClampNeg))), (0, .ref (z + a0))]) hx hb dX15_factor_143 rfl hl (by decide) rfl (fun ls hl => ?_)
    obtain ⟨hz72, h⟩ := grd h
    have hs73 : wT (sN (sI w a0 2 ((wI w a0 2) + (1 : Int32))) 25 0) a0 = wT (sI w a0 2 ((wI w a0 2) + (1 : Int32))) a0 := tag_sN hR (by rw [ht0]; decide)
    have hs74 : wT (sN (sI w a0 2 ((wI w a0 2) + (1 : Int32))) 25 0) r68 = wT (sI w a0 2 ((wI w a0 2) + (1 : Int32))) r68 := tag_sN hR (by rw [hg70]; decide)
    refine x_new (C := RX25) (T := TX25) (N := 2) (nS := 2) (ci := 24) hx hb hts ok24 hown (hts _ q1088) (hts _ q1089) (hts _ q138) hK hR rfl (ty_ok24) (by dsimp only; omega) (by dsimp only; omega) dX15_factor_144 (fun H hR => ?_)
    have hF := hF.sN 25 0
    rw [← hs73] at ht0
    rw [← hs74] at hg70
    have ez75 : wZ (sN (sI w a0 2 ((wI w a0 2) + (1 : Int32))) 25 0) = wZ w + 1 := rfl
    refine W.wid (b := wZ (sN (sI w a0 2 ((wI w a0 2) + (1 : Int32))) 25 0)) (by omega) hZ.1 (by decide) ?_
    have hZ : z0 ≤ wZ (sN (sI w a0 2 ((wI w a0 2) + (1 : Int32))) 25 0) ∧ wZ (sN (sI w a0 2 ((wI w a0 2) + (1 : Int32))) 25 0) ≤ B := ⟨by omega, by omega⟩
    have hg76 : (wT (sN (sI w a0 2 ((wI w a0 2) + (1 : Int32))) 25 0) (wZ (sI w a0 2 ((wI w a0 2) + (1 : Int32))))).1 = 25 := by rw [wT_sN, if_pos rfl]
    refine lv_dup hx hb dX15_factor_147 rfl ?_
    refine lv_iload_n hx hb dX15_factor_148 rfl (lv_at hl 0 rfl) ?_
    refine lv_aload_n hx hb dX15_factor_149 rfl (lv_at hl 1 rfl) ?_
    obtain ⟨⟨v77 | x78, qw79⟩, hq80, h⟩ := bnd h
    rotate_left
    · dsimp only at h
      obtain ⟨hz81, h⟩ := grd h
      have h := Option.some.inj h
      subst h
      refine k_TT (w := qw79) (x := x78) (mc := wZ qw79 - wZ (sN (sI w a0 2 ((wI w a0 2) + (1 : Int32))) 25 0)) (ms := 80 * (wZ qw79 - wZ (sN (sI w a0 2 ((wI w a0 2) + (1 : Int32))) 25 0))) (runT_V (As := []) (rest := [.int (wI (sI w a0 2 ((wI w a0 2) + (1 : Int32))) r68 ((wI w a0 2).toNatClampNeg)), .ref (z + wZ (sI w a0 2 ((wI w a0 2) + (1 : Int32)))), .ref (z + wZ (sI w a0 2 ((wI w a0 2) + (1 : Int32))))]) ⟨hx, hb, hml, hown, hts⟩ (met_X15_number l htr G z H0 B n (sN (sI w a0 2 ((wI w a0 2) + (1 : Int32))) 25 0) a0 (.inr x78, qw79) hq80 ht0 hZ.2) hd_X15_number q1004 q1006 qs12 q122 q1007 ⟨by dsimp only; omega, by dsimp only; omega⟩ (preVT (q := (RX15, TX15, 4)) hK hR hF hN hS ht0 rfl) rfl rfl hl.1 rfl (lv_room (Nat.le_of_ble_eq_true rfl)) dX15_factor_150 ⟨by dsimp only; omega, by dsimp only; omega⟩) hL (fun H locs hR hF hL => ?_)
      refine WT.widen (k := wZ qw79 - z0) (n := 80 * (wZ qw79 - z0)) (by omega) (by omega) ?_
      exact WT.leave (fun x9 hx9 => hnoh x9 hx9 150) (fun t ht _ => ⟨rfl, by rw [ht]; exact hR, hF⟩) hL hlocks
    dsimp only at h
    obtain ⟨hz81, h⟩ := grd h
    refine k_TR (v := (some (.int v77))) (w := qw79) (mc := wZ qw79 - wZ (sN (sI w a0 2 ((wI w a0 2) + (1 : Int32))) 25 0)) (ms := 80 * (wZ qw79 - wZ (sN (sI w a0 2 ((wI w a0 2) + (1 : Int32))) 25 0))) (st1 := [.int v77, .int (wI (sI w a0 2 ((wI w a0 2) + (1 : Int32))) r68 ((wI w a0 2).toNatClampNeg)), .ref (z + wZ (sI w a0 2 ((wI w a0 2) + (1 : Int32)))), .ref (z + wZ (sI w a0 2 ((wI w a0 2) + (1 : Int32))))]) (runT_V (As := []) (rest := [.int (wI (sI w a0 2 ((wI w a0 2) + (1 : Int32))) r68 ((wI w a0 2).toNatClampNeg)), .ref (z + wZ (sI w a0 2 ((wI w a0 2) + (1 : Int32)))), .ref (z + wZ (sI w a0 2 ((wI w a0 2) + (1 : Int32))))]) ⟨hx, hb, hml, hown, hts⟩ (met_X15_number l htr G z H0 B n (sN (sI w a0 2 ((wI w a0 2) + (1 : Int32))) 25 0) a0 (.inl v77, qw79) hq80 ht0 hZ.2) hd_X15_number q1004 q1006 qs12 q122 q1007 ⟨by dsimp only; omega, by dsimp only; omega⟩ (preVT (q := (RX15, TX15, 4)) hK hR hF hN hS ht0 rfl) rfl rfl hl.1 rfl (lv_room (Nat.le_of_ble_eq_true rfl)) dX15_factor_150 ⟨by dsimp only; omega, by dsimp only; omega⟩) hL rfl (fun H locs hR hF hL => ?_)
    refine W.wid (b := wZ qw79) (by omega) hZ.1 (Nat.le_refl _) ?_
    have hZ : z0 ≤ wZ qw79 ∧ wZ qw79 ≤ B := ⟨by omega, hz81.2⟩
    obtain ⟨hg83, h⟩ := grd h
    obtain ⟨q84, hq85, h⟩ := bnd h
    obtain ⟨hz86, h⟩ := grd h
    refine k_W (st1 := [.ref (z + wZ (sI w a0 2 ((wI w a0 2) + (1 : Int32))))]) (va_runI (As := [.int (wI (sI w a0 2 ((wI w a0 2) + (1 : Int32))) r68 ((wI w a0 2).toNatClampNeg)), .int v77]) (rest := [.ref (z + wZ (sI w a0 2 ((wI w a0 2) + (1 : Int32))))]) ⟨hx, hb, hml, hown, hts⟩ (met_X25_init l G z H0 qw79 (wZ (sI w a0 2 ((wI w a0 2) + (1 : Int32)))) (wI (sI w a0 2 ((wI w a0 2) + (1 : Int32))) r68 ((wI w a0 2).toNatClampNeg)) v77 q84 hq85 hg83) (cwI 2 hts (lw_meth q1092) rfl rfl rfl (hts _ q138) (hts _ q1090) (hts _ q1091) rfl hd_X25_init ⟨by dsimp only; omega, by dsimp only; omega⟩) (preS hK hR hF hN) rfl rfl hl.1 rfl (lv_room (Nat.le_of_ble_eq_true rfl)) dX15_factor_153 ⟨by dsimp only; omega, by dsimp only; omega⟩) hL rfl (fun H locs hR hF hL => ?_)
    refine W.wid (b := wZ q84) (by omega) hZ.1 (by decide) ?_
    have hZ : z0 ≤ wZ q84 ∧ wZ q84 ≤ B := ⟨by omega, hz86.2⟩
    have h := Option.some.inj h
    subst h
    exact W.toT (x_aret (r := some (wZ (sI w a0 2 ((wI w a0 2) + (1 : Int32))))) hx hb hr rfl (fun t ht _ => ⟨rfl, by rw [ht]; exact hR, hF⟩) hL dX15_factor_156 hlocks)
  rw [if_neg c67] at h
  by_cases c87 : q1 = 99
  · rw [if_pos c87] at h
    refine lv_lookup (off := 123) (tgt := 127) hx hb dX15_factor_4 (by decide) (by rw [c87]; decide) (by decide) ?_
    refine lv_aload_n hx hb dX15_factor_127 rfl (lv_at hl 0 rfl) ?_
    refine x_get (k := 0) (o := "BarredBooks$Reader") (n := "text") (d := "[B") (fin := true) (ty := (.array .byte)) (host := "BarredBooks") hx hb hts hown hK hR rfl (Fam.one (r := (RX15, TX15, 4)) ht0 rfl ok15 (by decide)) (Or.inl (hts _ q852)) (fun _ h9 => h9) (v := rfv z (wR w a0 0)) rfl dX15_factor_128 ?_
    refine lv_aload_n hx hb dX15_factor_131 rfl (lv_at hl 0 rfl) ?_
    refine lv_dup hx hb dX15_factor_132 rfl ?_
    refine x_get (k := 2) (o := "BarredBooks$Reader") (n := "at") (d := "I") (fin := false) (ty := .int) (host := "BarredBooks") hx hb hts hown hK hR rfl (Fam.one (r := (RX15, TX15, 4)) ht0 rfl ok15 (by decide)) (Or.inl (hts _ q854)) (fun _ h9 => h9) (v := .int (wI w a0 2)) rfl dX15_factor_133 ?_
    refine lv_dup_x1 hx hb dX15_factor_136 rfl rfl ?_
    refine lv_iconst (v := 1) hx hb dX15_factor_137 (by decide) ?_
    refine lv_iadd hx hb dX15_factor_138 ?_
    refine x_putI (k := 2) (o := "BarredBooks$Reader") (n := "at") (d := "I") (fin := false) (ty := .int) (host := "BarredBooks") hx hb hts hown hK hR hL rfl (Fam.one (r := (RX15, TX15, 4)) ht0 rfl ok15 (by decide)) (Or.inl (hts _ q854)) (fun _ h9 => h9) (Or.inl rfl) rfl rfl rfl dX15_factor_139 (fun H locs hR hL => ?_)
    rw [← wT_sI _ a0 2 ((wI w a0 2) + (1 : Int32))] at ht0
    have hF := hF.sI a0 2 ((wI w a0 2) + (1 : Int32))
    obtain ⟨r88, hr89, h⟩ := bnd h
    obtain ⟨hg90, h⟩ := grd h
    obtain ⟨hb91, h⟩ := grd h
    refine x_bald (v := wI (sI w a0 2 ((wI w a0 2) + (1 : Int32))) r88 ((wI w a0 2).toNatClampNeg)) hx hb hK hR (rfv_some hr89) (wT_pair hg90) hb91 rfl dX15_factor_142 ?_
    refine lv_istore_n (lv' := [(1, .int (wI (sI w a0 2 ((wI w a0 2) + (1 : Int32))) r88 ((wI w a0 2).toNatClampNeg))), (0, .ref (z + a0))]) hx hb dX15_factor_143 rfl hl (by decide) rfl (fun ls hl => ?_)
    obtain ⟨hz92, h⟩ := grd h
    have hs93 : wT (sN (sI w a0 2 ((wI w a0 2) + (1 : Int32))) 25 0) a0 = wT (sI w a0 2 ((wI w a0 2) + (1 : Int32))) a0 := tag_sN hR (by rw [ht0]; decide)
    have hs94 : wT (sN (sI w a0 2 ((wI w a0 2) + (1 : Int32))) 25 0) r88 = wT (sI w a0 2 ((wI w a0 2) + (1 : Int32))) r88 := tag_sN hR (by rw [hg90]; decide)
    refine x_new (C := RX25) (T := TX25) (N := 2) (nS := 2) (ci := 24) hx hb hts ok24 hown (hts _ q1088) (hts _ q1089) (hts _ q138) hK hR rfl (ty_ok24) (by dsimp only; omega) (by dsimp only; omega) dX15_factor_144 (fun H hR => ?_)
    have hF := hF.sN 25 0
    rw [← hs93] at ht0
    rw [← hs94] at hg90
    have ez95 : wZ (sN (sI w a0 2 ((wI w a0 2) + (1 : Int32))) 25 0) = wZ w + 1 := rfl
    refine W.wid (b := wZ (sN (sI w a0 2 ((wI w a0 2) + (1 : Int32))) 25 0)) (by omega) hZ.1 (by decide) ?_
    have hZ : z0 ≤ wZ (sN (sI w a0 2 ((wI w a0 2) + (1 : Int32))) 25 0) ∧ wZ (sN (sI w a0 2 ((wI w a0 2) + (1 : Int32))) 25 0) ≤ B := ⟨by omega, by omega⟩
    have hg96 : (wT (sN (sI w a0 2 ((wI w a0 2) + (1 : Int32))) 25 0) (wZ (sI w a0 2 ((wI w a0 2) + (1 : Int32))))).1 = 25 := by rw [wT_sN, if_pos rfl]
    refine lv_dup hx hb dX15_factor_147 rfl ?_
    refine lv_iload_n hx hb dX15_factor_148 rfl (lv_at hl 0 rfl) ?_
    refine lv_aload_n hx hb dX15_factor_149 rfl (lv_at hl 1 rfl) ?_
    obtain ⟨⟨v97 | x98, qw99⟩, hq100, h⟩ := bnd h
    rotate_left
    · dsimp only at h
      obtain ⟨hz101, h⟩ := grd h
      have h := Option.some.inj h
      subst h
      refine k_TT (w := qw99) (x := x98) (mc := wZ qw99 - wZ (sN (sI w a0 2 ((wI w a0 2) + (1 : Int32))) 25 0)) (ms := 80 * (wZ qw99 - wZ (sN (sI w a0 2 ((wI w a0 2) + (1 : Int32))) 25 0))) (runT_V (As := []) (rest := [.int (wI (sI w a0 2 ((wI w a0 2) + (1 : Int32))) r88 ((wI w a0 2).toNatClampNeg)), .ref (z + wZ (sI w a0 2 ((wI w a0 2) + (1 : Int32)))), .ref (z + wZ (sI w a0 2 ((wI w a0 2) + (1 : Int32))))]) ⟨hx, hb, hml, hown, hts⟩ (met_X15_number l htr G z H0 B n (sN (sI w a0 2 ((wI w a0 2) + (1 : Int32))) 25 0) a0 (.inr x98, qw99) hq100 ht0 hZ.2) hd_X15_number q1004 q1006 qs12 q122 q1007 ⟨by dsimp only; omega, by dsimp only; omega⟩ (preVT (q := (RX15, TX15, 4)) hK hR hF hN hS ht0 rfl) rfl rfl hl.1 rfl (lv_room (Nat.le_of_ble_eq_true rfl)) dX15_factor_150 ⟨by dsimp only; omega, by dsimp only; omega⟩) hL (fun H locs hR hF hL => ?_)
      refine WT.widen (k := wZ qw99 - z0) (n := 80 * (wZ qw99 - z0)) (by omega) (by omega) ?_
      exact WT.leave (fun x9 hx9 => hnoh x9 hx9 150) (fun t ht _ => ⟨rfl, by rw [ht]; exact hR, hF⟩) hL hlocks
    dsimp only at h
    obtain ⟨hz101, h⟩ := grd h
    refine k_TR (v := (some (.int v97))) (w := qw99) (mc := wZ qw99 - wZ (sN (sI w a0 2 ((wI w a0 2) + (1 : Int32))) 25 0)) (ms := 80 * (wZ qw99 - wZ (sN (sI w a0 2 ((wI w a0 2) + (1 : Int32))) 25 0))) (st1 := [.int v97, .int (wI (sI w a0 2 ((wI w a0 2) + (1 : Int32))) r88 ((wI w a0 2).toNatClampNeg)), .ref (z + wZ (sI w a0 2 ((wI w a0 2) + (1 : Int32)))), .ref (z + wZ (sI w a0 2 ((wI w a0 2) + (1 : Int32))))]) (runT_V (As := []) (rest := [.int (wI (sI w a0 2 ((wI w a0 2) + (1 : Int32))) r88 ((wI w a0 2).toNatClampNeg)), .ref (z + wZ (sI w a0 2 ((wI w a0 2) + (1 : Int32)))), .ref (z + wZ (sI w a0 2 ((wI w a0 2) + (1 : Int32))))]) ⟨hx, hb, hml, hown, hts⟩ (met_X15_number l htr G z H0 B n (sN (sI w a0 2 ((wI w a0 2) + (1 : Int32))) 25 0) a0 (.inl v97, qw99) hq100 ht0 hZ.2) hd_X15_number q1004 q1006 qs12 q122 q1007 ⟨by dsimp only; omega, by dsimp only; omega⟩ (preVT (q := (RX15, TX15, 4)) hK hR hF hN hS ht0 rfl) rfl rfl hl.1 rfl (lv_room (Nat.le_of_ble_eq_true rfl)) dX15_factor_150 ⟨by dsimp only; omega, by dsimp only; omega⟩) hL rfl (fun H locs hR hF hL => ?_)
    refine W.wid (b := wZ qw99) (by omega) hZ.1 (Nat.le_refl _) ?_
    have hZ : z0 ≤ wZ qw99 ∧ wZ qw99 ≤ B := ⟨by omega, hz101.2⟩
    obtain ⟨hg103, h⟩ := grd h
    obtain ⟨q104, hq105, h⟩ := bnd h
    obtain ⟨hz106, h⟩ := grd h
    refine k_W (st1 := [.ref (z + wZ (sI w a0 2 ((wI w a0 2) + (1 : Int32))))]) (va_runI (As := [.int (wI (sI w a0 2 ((wI w a0 2) + (1 : Int32))) r88 ((wI w a0 2).toNatClampNeg)), .int v97]) (rest := [.ref (z + wZ (sI w a0 2 ((wI w a0 2) + (1 : Int32))))]) ⟨hx, hb, hml, hown, hts⟩ (met_X25_init l G z H0 qw99 (wZ (sI w a0 2 ((wI w a0 2) + (1 : Int32)))) (wI (sI w a0 2 ((wI w a0 2) + (1 : Int32))) r88 ((wI w a0 2).toNatClampNeg)) v97 q104 hq105 hg103) (cwI 2 hts (lw_meth q1092) rfl rfl rfl (hts _ q138) (hts _ q1090) (hts _ q1091) rfl hd_X25_init ⟨by dsimp only; omega, by dsimp only; omega⟩) (preS hK hR hF hN) rfl rfl hl.1 rfl (lv_room (Nat.le_of_ble_eq_true rfl)) dX15_factor_153 ⟨by dsimp only; omega, by dsimp only; omega⟩) hL rfl (fun H locs hR hF hL => ?_)
    refine W.wid (b := wZ q104) (by omega) hZ.1 (by decide) ?_
    have hZ : z0 ≤ wZ q104 ∧ wZ q104 ≤ B := ⟨by omega, hz106.2⟩
    have h := Option.some.inj h
    subst h
    exact W.toT (x_aret (r := some (wZ (sI w a0 2 ((wI w a0 2) + (1 : Int32))))) hx hb hr rfl (fun t ht _ => ⟨rfl, by rw [ht]; exact hR, hF⟩) hL dX15_factor_156 hlocks)
  rw [if_neg c87] at h
  by_cases c107 : q1 = 119
  · rw [if_pos c107] at h
    refine lv_lookup (off := 123) (tgt := 127) hx hb dX15_factor_4 (by decide) (by rw [c107]; decide) (by decide) ?_
    refine lv_aload_n hx hb dX15_factor_127 rfl (lv_at hl 0 rfl) ?_
    refine x_get (k := 0) (o := "BarredBooks$Reader") (n := "text") (d := "[B") (fin := true) (ty := (.array .byte)) (host := "BarredBooks") hx hb hts hown hK hR rfl (Fam.one (r := (RX15, TX15, 4)) ht0 rfl ok15 (by decide)) (Or.inl (hts _ q852)) (fun _ h9 => h9) (v := rfv z (wR w a0 0)) rfl dX15_factor_128 ?_
    refine lv_aload_n hx hb dX15_factor_131 rfl (lv_at hl 0 rfl) ?_
    refine lv_dup hx hb dX15_factor_132 rfl ?_
    refine x_get (k := 2) (o := "BarredBooks$Reader") (n := "at") (d := "I") (fin := false) (ty := .int) (host := "BarredBooks") hx hb hts hown hK hR rfl (Fam.one (r := (RX15, TX15, 4)) ht0 rfl ok15 (by decide)) (Or.inl (hts _ q854)) (fun _ h9 => h9) (v := .int (wI w a0 2)) rfl dX15_factor_133 ?_
    refine lv_dup_x1 hx hb dX15_factor_136 rfl rfl ?_
    refine lv_iconst (v := 1) hx hb dX15_factor_137 (by decide) ?_
    refine lv_iadd hx hb dX15_factor_138 ?_
    refine x_putI (k := 2) (o := "BarredBooks$Reader") (n := "at") (d := "I") (fin := false) (ty := .int) (host := "BarredBooks") hx hb hts hown hK hR hL rfl (Fam.one (r := (RX15, TX15, 4)) ht0 rfl ok15 (by decide)) (Or.inl (hts _ q854)) (fun _ h9 => h9) (Or.inl rfl) rfl rfl rfl dX15_factor_139 (fun H locs hR hL => ?_)
    rw [← wT_sI _ a0 2 ((wI w a0 2) + (1 : Int32))] at ht0
    have hF := hF.sI a0 2 ((wI w a0 2) + (1 : Int32))
    obtain ⟨r108, hr109, h⟩ := bnd h
    obtain ⟨hg110, h⟩ := grd h
    obtain ⟨hb111, h⟩ := grd h
    refine x_bald (v := wI (sI w a0 2 ((wI w a0 2) + (1 : Int32))) r108 ((wI w a0 2).toNatClampNeg)) hx hb hK hR (rfv_some hr109) (wT_pair hg110) hb111 rfl dX15_factor_142 ?_
    refine lv_istore_n (lv' := [(1, .int (wI (sI w a0 2 ((wI w a0 2) + (1 : Int32))) r108 ((wI w a0 2).toNatClampNeg))), (0, .ref (z + a0))]) hx hb dX15_factor_143 rfl hl (by decide) rfl (fun ls hl => ?_)
    obtain ⟨hz112, h⟩ := grd h
    have hs113 : wT (sN (sI w a0 2 ((wI w a0 2) + (1 : Int32))) 25 0) a0 = wT (sI w a0 2 ((wI w a0 2) + (1 : Int32))) a0 := tag_sN hR (by rw [ht0]; decide)
    have hs114 : wT (sN (sI w a0 2 ((wI w a0 2) + (1 : Int32))) 25 0) r108 = wT (sI w a0 2 ((wI w a0 2) + (1 : Int32))) r108 := tag_sN hR (by rw [hg110]; decide)
    refine x_new (C := RX25) (T := TX25) (N := 2) (nS := 2) (ci := 24) hx hb hts ok24 hown (hts _ q1088) (hts _ q1089) (hts _ q138) hK hR rfl (ty_ok24) (by dsimp only; omega) (by dsimp only; omega) dX15_factor_144 (fun H hR => ?_)
    have hF := hF.sN 25 0
    rw [← hs113] at ht0
    rw [← hs114] at hg110
    have ez115 : wZ (sN (sI w a0 2 ((wI w a0 2) + (1 : Int32))) 25 0) = wZ w + 1 := rfl
    refine W.wid (b := wZ (sN (sI w a0 2 ((wI w a0 2) + (1 : Int32))) 25 0)) (by omega) hZ.1 (by decide) ?_
    have hZ : z0 ≤ wZ (sN (sI w a0 2 ((wI w a0 2) + (1 : Int32))) 25 0) ∧ wZ (sN (sI w a0 2 ((wI w a0 2) + (1 : Int32))) 25 0) ≤ B := ⟨by omega, by omega⟩
    have hg116 : (wT (sN (sI w a0 2 ((wI w a0 2) + (1 : Int32))) 25 0) (wZ (sI w a0 2 ((wI w a0 2) + (1 : Int32))))).1 = 25 := by rw [wT_sN, if_pos rfl]
    refine lv_dup hx hb dX15_factor_147 rfl ?_
    refine lv_iload_n hx hb dX15_factor_148 rfl (lv_at hl 0 rfl) ?_
    refine lv_aload_n hx hb dX15_factor_149 rfl (lv_at hl 1 rfl) ?_
    obtain ⟨⟨v117 | x118, qw119⟩, hq120, h⟩ := bnd h
    rotate_left
    · dsimp only at h
      obtain ⟨hz121, h⟩ := grd h
      have h := Option.some.inj h
      subst h
      refine k_TT (w := qw119) (x := x118) (mc := wZ qw119 - wZ (sN (sI w a0 2 ((wI w a0 2) + (1 : Int32))) 25 0)) (ms := 80 * (wZ qw119 - wZ (sN (sI w a0 2 ((wI w a0 2) + (1 : Int32))) 25 0))) (runT_V (As := []) (rest := [.int (wI (sI w a0 2 ((wI w a0 2) + (1 : Int32))) r108 ((wI w a0 2).toNatClampNeg)), .ref (z + wZ (sI w a0 2 ((wI w a0 2) + (1 : Int32)))), .ref (z + wZ (sI w a0 2 ((wI w a0 2) + (1 : Int32))))]) ⟨hx, hb, hml, hown, hts⟩ (met_X15_number l htr G z H0 B n (sN (sI w a0 2 ((wI w a0 2) + (1 : Int32))) 25 0) a0 (.inr x118, qw119) hq120 ht0 hZ.2) hd_X15_number q1004 q1006 qs12 q122 q1007 ⟨by dsimp only; omega, by dsimp only; omega⟩ (preVT (q := (RX15, TX15, 4)) hK hR hF hN hS ht0 rfl) rfl rfl hl.1 rfl (lv_room (Nat.le_of_ble_eq_true rfl)) dX15_factor_150 ⟨by dsimp only; omega, by dsimp only; omega⟩) hL (fun H locs hR hF hL => ?_)
      refine WT.widen (k := wZ qw119 - z0) (n := 80 * (wZ qw119 - z0)) (by omega) (by omega) ?_
      exact WT.leave (fun x9 hx9 => hnoh x9 hx9 150) (fun t ht _ => ⟨rfl, by rw [ht]; exact hR, hF⟩) hL hlocks
    dsimp only at h
    obtain ⟨hz121, h⟩ := grd h
    refine k_TR (v := (some (.int v117))) (w := qw119) (mc := wZ qw119 - wZ (sN (sI w a0 2 ((wI w a0 2) + (1 : Int32))) 25 0)) (ms := 80 * (wZ qw119 - wZ (sN (sI w a0 2 ((wI w a0 2) + (1 : Int32))) 25 0))) (st1 := [.int v117, .int (wI (sI w a0 2 ((wI w a0 2) + (1 : Int32))) r108 ((wI w a0 2).toNatClampNeg)), .ref (z + wZ (sI w a0 2 ((wI w a0 2) + (1 : Int32)))), .ref (z + wZ (sI w a0 2 ((wI w a0 2) + (1 : Int32))))]) (runT_V (As := []) (rest := [.int (wI (sI w a0 2 ((wI w a0 2) + (1 : Int32))) r108 ((wI w a0 2).toNatClampNeg)), .ref (z + wZ (sI w a0 2 ((wI w a0 2) + (1 : Int32)))), .ref (z + wZ (sI w a0 2 ((wI w a0 2) + (1 : Int32))))]) ⟨hx, hb, hml, hown, hts⟩ (met_X15_number l htr G z H0 B n (sN (sI w a0 2 ((wI w a0 2) + (1 : Int32))) 25 0) a0 (.inl v117, qw119) hq120 ht0 hZ.2) hd_X15_number q1004 q1006 qs12 q122 q1007 ⟨by dsimp only; omega, by dsimp only; omega⟩ (preVT (q := (RX15, TX15, 4)) hK hR hF hN hS ht0 rfl) rfl rfl hl.1 rfl (lv_room (Nat.le_of_ble_eq_true rfl)) dX15_factor_150 ⟨by dsimp only; omega, by dsimp only; omega⟩) hL rfl (fun H locs hR hF hL => ?_)
    refine W.wid (b := wZ qw119) (by omega) hZ.1 (Nat.le_refl _) ?_
    have hZ : z0 ≤ wZ qw119 ∧ wZ qw119 ≤ B := ⟨by omega, hz121.2⟩
    obtain ⟨hg123, h⟩ := grd h
    obtain ⟨q124, hq125, h⟩ := bnd h
    obtain ⟨hz126, h⟩ := grd h
    refine k_W (st1 := [.ref (z + wZ (sI w a0 2 ((wI w a0 2) + (1 : Int32))))]) (va_runI (As := [.int (wI (sI w a0 2 ((wI w a0 2) + (1 : Int32))) r108 ((wI w a0 2).toNatClampNeg)), .int v117]) (rest := [.ref (z + wZ (sI w a0 2 ((wI w a0 2) + (1 : Int32))))]) ⟨hx, hb, hml, hown, hts⟩ (met_X25_init l G z H0 qw119 (wZ (sI w a0 2 ((wI w a0 2) + (1 : Int32)))) (wI (sI w a0 2 ((wI w a0 2) + (1 : Int32))) r108 ((wI w a0 2).toNatClampNeg)) v117 q124 hq125 hg123) (cwI 2 hts (lw_meth q1092) rfl rfl rfl (hts _ q138) (hts _ q1090) (hts _ q1091) rfl hd_X25_init ⟨by dsimp only; omega, by dsimp only; omega⟩) (preS hK hR hF hN) rfl rfl hl.1 rfl (lv_room (Nat.le_of_ble_eq_true rfl)) dX15_factor_153 ⟨by dsimp only; omega, by dsimp only; omega⟩) hL rfl (fun H locs hR hF hL => ?_)
    refine W.wid (b := wZ q124) (by omega) hZ.1 (by decide) ?_
    have hZ : z0 ≤ wZ q124 ∧ wZ q124 ≤ B := ⟨by omega, hz126.2⟩
    have h := Option.some.inj h
    subst h
    exact W.toT (x_aret (r := some (wZ (sI w a0 2 ((wI w a0 2) + (1 : Int32))))) hx hb hr rfl (fun t ht _ => ⟨rfl, by rw [ht]; exact hR, hF⟩) hL dX15_factor_156 hlocks)
  rw [if_neg c107] at h
  by_cases c127 : q1 = 121
  · rw [if_pos c127] at h
    refine lv_lookup (off := 123) (tgt := 127) hx hb dX15_factor_4 (by decide) (by rw [c127]; decide) (by decide) ?_
    refine lv_aload_n hx hb dX15_factor_127 rfl (lv_at hl 0 rfl) ?_
    refine x_get (k := 0) (o := "BarredBooks$Reader") (n := "text") (d := "[B") (fin := true) (ty := (.array .byte)) (host := "BarredBooks") hx hb hts hown hK hR rfl (Fam.one (r := (RX15, TX15, 4)) ht0 rfl ok15 (by decide)) (Or.inl (hts _ q852)) (fun _ h9 => h9) (v := rfv z (wR w a0 0)) rfl dX15_factor_128 ?_
    refine lv_aload_n hx hb dX15_factor_131 rfl (lv_at hl 0 rfl) ?_
    refine lv_dup hx hb dX15_factor_132 rfl ?_
    refine x_get (k := 2) (o := "BarredBooks$Reader") (n := "at") (d := "I") (fin := false) (ty := .int) (host := "BarredBooks") hx hb hts hown hK hR rfl (Fam.one (r := (RX15, TX15, 4)) ht0 rfl ok15 (by decide)) (Or.inl (hts _ q854)) (fun _ h9 => h9) (v := .int (wI w a0 2)) rfl dX15_factor_133 ?_
    refine lv_dup_x1 hx hb dX15_factor_136 rfl rfl ?_
    refine lv_iconst (v := 1) hx hb dX15_factor_137 (by decide) ?_
    refine lv_iadd hx hb dX15_factor_138 ?_
    refine x_putI (k := 2) (o := "BarredBooks$Reader") (n := "at") (d := "I") (fin := false) (ty := .int) (host := "BarredBooks") hx hb hts hown hK hR hL rfl (Fam.one (r := (RX15, TX15, 4)) ht0 rfl ok15 (by decide)) (Or.inl (hts _ q854)) (fun _ h9 => h9) (Or.inl rfl) rfl rfl rfl dX15_factor_139 (fun H locs hR hL => ?_)
    rw [← wT_sI _ a0 2 ((wI w a0 2) + (1 : Int32))] at ht0
    have hF := hF.sI a0 2 ((wI w a0 2) + (1 : Int32))
    obtain ⟨r128, hr129, h⟩ := bnd h
    obtain ⟨hg130, h⟩ := grd h
    obtain ⟨hb131, h⟩ := grd h
    refine x_bald (v := wI (sI w a0 2 ((wI w a0 2) + (1 : Int32))) r128 ((wI w a0 2).toNatClampNeg)) hx hb hK hR (rfv_some hr129) (wT_pair hg130) hb131 rfl dX15_factor_142 ?_
    refine lv_istore_n (lv' := [(1, .int (wI (sI w a0 2 ((wI w a0 2) + (1 : Int32))) r128 ((wI w a0 2).toNatClampNeg))), (0, .ref (z + a0))]) hx hb dX15_factor_143 rfl hl (by decide) rfl (fun ls hl => ?_)
    obtain ⟨hz132, h⟩ := grd h
    have hs133 : wT (sN (sI w a0 2 ((wI w a0 2) + (1 : Int32))) 25 0) a0 = wT (sI w a0 2 ((wI w a0 2) + (1 : Int32))) a0 := tag_sN hR (by rw [ht0]; decide)
    have hs134 : wT (sN (sI w a0 2 ((wI w a0 2) + (1 : Int32))) 25 0) r128 = wT (sI w a0 2 ((wI w a0 2) + (1 : Int32))) r128 := tag_sN hR (by rw [hg130]; decide)
    refine x_new (C := RX25) (T := TX25) (N := 2) (nS := 2) (ci := 24) hx hb hts ok24 hown (hts _ q1088) (hts _ q1089) (hts _ q138) hK hR rfl (ty_ok24) (by dsimp only; omega) (by dsimp only; omega) dX15_factor_144 (fun H hR => ?_)
    have hF := hF.sN 25 0
    rw [← hs133] at ht0
    rw [← hs134] at hg130
    have ez135 : wZ (sN (sI w a0 2 ((wI w a0 2) + (1 : Int32))) 25 0) = wZ w + 1 := rfl
    refine W.wid (b := wZ (sN (sI w a0 2 ((wI w a0 2) + (1 : Int32))) 25 0)) (by omega) hZ.1 (by decide) ?_
    have hZ : z0 ≤ wZ (sN (sI w a0 2 ((wI w a0 2) + (1 : Int32))) 25 0) ∧ wZ (sN (sI w a0 2 ((wI w a0 2) + (1 : Int32))) 25 0) ≤ B := ⟨by omega, by omega⟩
    have hg136 : (wT (sN (sI w a0 2 ((wI w a0 2) + (1 : Int32))) 25 0) (wZ (sI w a0 2 ((wI w a0 2) + (1 : Int32))))).1 = 25 := by rw [wT_sN, if_pos rfl]
    refine lv_dup hx hb dX15_factor_147 rfl ?_
    refine lv_iload_n hx hb dX15_factor_148 rfl (lv_at hl 0 rfl) ?_
    refine lv_aload_n hx hb dX15_factor_149 rfl (lv_at hl 1 rfl) ?_
    obtain ⟨⟨v137 | x138, qw139⟩, hq140, h⟩ := bnd h
    rotate_left
    · dsimp only at h
      obtain ⟨hz141, h⟩ := grd h
      have h := Option.some.inj h
      subst h
      refine k_TT (w := qw139) (x := x138) (mc := wZ qw139 - wZ (sN (sI w a0 2 ((wI w a0 2) + (1 : Int32))) 25 0)) (ms := 80 * (wZ qw139 - wZ (sN (sI w a0 2 ((wI w a0 2) + (1 : Int32))) 25 0))) (runT_V (As := []) (rest := [.int (wI (sI w a0 2 ((wI w a0 2) + (1 : Int32))) r128 ((wI w a0 2).toNatClampNeg)), .ref (z + wZ (sI w a0 2 ((wI w a0 2) + (1 : Int32)))), .ref (z + wZ (sI w a0 2 ((wI w a0 2) + (1 : Int32))))]) ⟨hx, hb, hml, hown, hts⟩ (met_X15_number l htr G z H0 B n (sN (sI w a0 2 ((wI w a0 2) + (1 : Int32))) 25 0) a0 (.inr x138, qw139) hq140 ht0 hZ.2) hd_X15_number q1004 q1006 qs12 q122 q1007 ⟨by dsimp only; omega, by dsimp only; omega⟩ (preVT (q := (RX15, TX15, 4)) hK hR hF hN hS ht0 rfl) rfl rfl hl.1 rfl (lv_room (Nat.le_of_ble_eq_true rfl)) dX15_factor_150 ⟨by dsimp only; omega, by dsimp only; omega⟩) hL (fun H locs hR hF hL => ?_)
      refine WT.widen (k := wZ qw139 - z0) (n := 80 * (wZ qw139 - z0)) (by omega) (by omega) ?_
      exact WT.leave (fun x9 hx9 => hnoh x9 hx9 150) (fun t ht _ => ⟨rfl, by rw [ht]; exact hR, hF⟩) hL hlocks
    dsimp only at h
    obtain ⟨hz141, h⟩ := grd h
    refine k_TR (v := (some (.int v137))) (w := qw139) (mc := wZ qw139 - wZ (sN (sI w a0 2 ((wI w a0 2) + (1 : Int32))) 25 0)) (ms := 80 * (wZ qw139 - wZ (sN (sI w a0 2 ((wI w a0 2) + (1 : Int32))) 25 0))) (st1 := [.int v137, .int (wI (sI w a0 2 ((wI w a0 2) + (1 : Int32))) r128 ((wI w a0 2).toNatClampNeg)), .ref (z + wZ (sI w a0 2 ((wI w a0 2) + (1 : Int32)))), .ref (z + wZ (sI w a0 2 ((wI w a0 2) + (1 : Int32))))]) (runT_V (As := []) (rest := [.int (wI (sI w a0 2 ((wI w a0 2) + (1 : Int32))) r128 ((wI w a0 2).toNatClampNeg)), .ref (z + wZ (sI w a0 2 ((wI w a0 2) + (1 : Int32)))), .ref (z + wZ (sI w a0 2 ((wI w a0 2) + (1 : Int32))))]) ⟨hx, hb, hml, hown, hts⟩ (met_X15_number l htr G z H0 B n (sN (sI w a0 2 ((wI w a0 2) + (1 : Int32))) 25 0) a0 (.inl v137, qw139) hq140 ht0 hZ.2) hd_X15_number q1004 q1006 qs12 q122 q1007 ⟨by dsimp only; omega, by dsimp only; omega⟩ (preVT (q := (RX15, TX15, 4)) hK hR hF hN hS ht0 rfl) rfl rfl hl.1 rfl (lv_room (Nat.le_of_ble_eq_true rfl)) dX15_factor_150 ⟨by dsimp only; omega, by dsimp only; omega⟩) hL rfl (fun H locs hR hF hL => ?_)
    refine W.wid (b := wZ qw139) (by omega) hZ.1 (Nat.le_refl _) ?_
    have hZ : z0 ≤ wZ qw139 ∧ wZ qw139 ≤ B := ⟨by omega, hz141.2⟩
    obtain ⟨hg143, h⟩ := grd h
    obtain ⟨q144, hq145, h⟩ := bnd h
    obtain ⟨hz146, h⟩ := grd h
    refine k_W (st1 := [.ref (z + wZ (sI w a0 2 ((wI w a0 2) + (1 : Int32))))]) (va_runI (As := [.int (wI (sI w a0 2 ((wI w a0 2) + (1 : Int32))) r128 ((wI w a0 2).toNatClampNeg)), .int v137]) (rest := [.ref (z + wZ (sI w a0 2 ((wI w a0 2) + (1 : Int32))))]) ⟨hx, hb, hml, hown, hts⟩ (met_X25_init l G z H0 qw139 (wZ (sI w a0 2 ((wI w a0 2) + (1 : Int32)))) (wI (sI w a0 2 ((wI w a0 2) + (1 : Int32))) r128 ((wI w a0 2).toNatClampNeg)) v137 q144 hq145 hg143) (cwI 2 hts (lw_meth q1092) rfl rfl rfl (hts _ q138) (hts _ q1090) (hts _ q1091) rfl hd_X25_init ⟨by dsimp only; omega, by dsimp only; omega⟩) (preS hK hR hF hN) rfl rfl hl.1 rfl (lv_room (Nat.le_of_ble_eq_true rfl)) dX15_factor_153 ⟨by dsimp only; omega, by dsimp only; omega⟩) hL rfl (fun H locs hR hF hL => ?_)
    refine W.wid (b := wZ q144) (by omega) hZ.1 (by decide) ?_
    have hZ : z0 ≤ wZ q144 ∧ wZ q144 ≤ B := ⟨by omega, hz146.2⟩
    have h := Option.some.inj h
    subst h
    exact W.toT (x_aret (r := some (wZ (sI w a0 2 ((wI w a0 2) + (1 : Int32))))) hx hb hr rfl (fun t ht _ => ⟨rfl, by rw [ht]; exact hR, hF⟩) hL dX15_factor_156 hlocks)
  rw [if_neg c127] at h
  refine lv_lookup (off := 153) (tgt := 157) hx hb dX15_factor_4 (by decide) (by show Op.lookupswitch.offset [(33, 68), (40, 96), (97, 123), (98, 123), (99, 123), (119, 123), (121, 123)] _ _ = _; rw [lv_osw c3 (show (33 : Int32).toInt = 33 by decide), lv_osw c25 (show (40 : Int32).toInt = 40 by decide), lv_osw c47 (show (97 : Int32).toInt = 97 by decide), lv_osw c67 (show (98 : Int32).toInt = 98 by decide), lv_osw c87 (show (99 : Int32).toInt = 99 by decide), lv_osw c107 (show (119 : Int32).toInt = 119 by decide), lv_osw c127 (show (121 : Int32).toInt = 121 by decide)]; rfl) (by decide) ?_
  refine lv_aload_n hx hb dX15_factor_157 rfl (lv_at hl 0 rfl) ?_
  obtain ⟨⟨v147 | x148, qw149⟩, hq150, h⟩ := bnd h
  rotate_left
  · dsimp only at h
    obtain ⟨hz151, h⟩ := grd h
    have h := Option.some.inj h
    subst h
    refine k_TT (w := qw149) (x := x148) (mc := wZ qw149 - wZ w) (ms := 80 * (wZ qw149 - wZ w)) (runT_V (As := []) (rest := []) ⟨hx, hb, hml, hown, hts⟩ (met_X15_off l htr G z H0 B n w a0 (.inr x148, qw149) hq150 ht0 hZ.2) hd_X15_off q979 q981 qs11 q122 q982 ⟨by dsimp only; omega, by dsimp only; omega⟩ (preVT (q := (RX15, TX15, 4)) hK hR hF hN hS ht0 rfl) rfl rfl hl.1 rfl (lv_room (Nat.le_of_ble_eq_true rfl)) dX15_factor_158 ⟨by dsimp only; omega, by dsimp only; omega⟩) hL (fun H locs hR hF hL => ?_)
    refine WT.widen (k := wZ qw149 - z0) (n := 80 * (wZ qw149 - z0)) (by omega) (by omega) ?_
    exact WT.leave (fun x9 hx9 => hnoh x9 hx9 158) (fun t ht _ => ⟨rfl, by rw [ht]; exact hR, hF⟩) hL hlocks
  dsimp only at h
  obtain ⟨hz151, h⟩ := grd h
  refine k_TR (v := (some (rfv z v147))) (w := qw149) (mc := wZ qw149 - wZ w) (ms := 80 * (wZ qw149 - wZ w)) (st1 := [rfv z v147]) (runT_V (As := []) (rest := []) ⟨hx, hb, hml, hown, hts⟩ (met_X15_off l htr G z H0 B n w a0 (.inl v147, qw149) hq150 ht0 hZ.2) hd_X15_off q979 q981 qs11 q122 q982 ⟨by dsimp only; omega, by dsimp only; omega⟩ (preVT (q := (RX15, TX15, 4)) hK hR hF hN hS ht0 rfl) rfl rfl hl.1 rfl (lv_room (Nat.le_of_ble_eq_true rfl)) dX15_factor_158 ⟨by dsimp only; omega, by dsimp only; omega⟩) hL rfl (fun H locs hR hF hL => ?_)
  refine W.wid (b := wZ qw149) (by omega) hZ.1 (Nat.le_refl _) ?_
  have hZ : z0 ≤ wZ qw149 ∧ wZ qw149 ≤ B := ⟨by omega, hz151.2⟩
  obtain ⟨r153, hr154, h⟩ := bnd h
  have h := Option.some.inj h
  subst h
  exact t_throw hx hb (fun x9 hx9 => hnoh x9 hx9 161) (rfv_some hr154) (fun t ht _ => ⟨rfl, by rw [ht]; exact hR, hF⟩) hL dX15_factor_161 hlocks
def f_X15_all_L21 (rv : Nat → Nat → Nat → Nat → Wd → Option ((Option Nat ⊕ Nat) × Wd)) (B n : Nat) (u1_1 : Nat) (u1_0 : Nat) (s1 : Wd) : Option ((Wd) ⊕ ((Wd) ⊕ ((Option Nat ⊕ Nat) × Wd))) :=
  if (wT s1 u1_0).1 = 16 then ((f_X15_here u1_0 s1).bind fun q29 => if q29 = (38 : Int32) then (if (wT (sI s1 u1_0 2 ((wI s1 u1_0 2) + (1 : Int32))) u1_1).1 = 23 then ((rv 0 B n u1_0 (sI s1 u1_0 2 ((wI s1 u1_0 2) + (1 : Int32)))).bind fun q38 => (match q38 with | (.inl v33, qw35) => if wZ s1 ≤ wZ qw35 ∧ wZ qw35 ≤ B then ((wR s1 u1_1 1).bind fun r40 => if (wT qw35 r40).1 = 27 ∨ (wT qw35 r40).1 = 100 then ((f_J9_add B n r40 v33 qw35).bind fun q48 => (match q48 with | (.inl v43, qw45) => if wZ qw35 ≤ wZ qw45 ∧ wZ qw45 ≤ B then (some (.inl qw45)) else none | (.inr x44, qw45) => if wZ qw35 ≤ wZ qw45 ∧ wZ qw45 ≤ B then (some (.inr (.inr (.inr x44, qw45)))) else none)) else none) else none | (.inr x34, qw35) => if wZ s1 ≤ wZ qw35 ∧ wZ qw35 ≤ B then (some (.inr (.inr (.inr x34, qw35)))) else none)) else none) else (some (.inr (.inl s1)))) else none
def f_X15_all (rv : Nat → Nat → Nat → Nat → Wd → Option ((Option Nat ⊕ Nat) × Wd))  (B n : Nat) (a0 : Nat) (w : Wd) : Option ((Option Nat ⊕ Nat) × Wd) :=
  if wZ w + 1 ≤ B then ((f_X23_init B n (wZ w) (1 : Int32) (sN w 23 0)).bind fun q10 => (match q10 with | (.inl v5, qw7) => if wZ (sN w 23 0) ≤ wZ qw7 ∧ wZ qw7 ≤ B then (if (wT qw7 (wZ w)).1 = 23 then (if (wT qw7 a0).1 = 16 then ((rv 0 B n a0 qw7).bind fun q18 => (match q18 with | (.inl v13, qw15) => if wZ qw7 ≤ wZ qw15 ∧ wZ qw15 ≤ B then ((wR qw7 (wZ w) 1).bind fun r19 => if (wT qw15 r19).1 = 27 ∨ (wT qw15 r19).1 = 100 then ((f_J9_add B n r19 v13 qw15).bind fun q27 => (match q27 with | (.inl v22, qw24) => if wZ qw15 ≤ wZ qw24 ∧ wZ qw24 ≤ B then ((it n (f_X15_all_L21 rv B n (wZ w) a0) qw24).bind fun t21 => (match t21 with | .inl q21_55 => some (.inl (some (wZ w)), q21_55) | .inr r21 => some r21)) else none | (.inr x23, qw24) => if wZ qw15 ≤ wZ qw24 ∧ wZ qw24 ≤ B then (some (.inr x23, qw24)) else none)) else none) else none | (.inr x14, qw15) => if wZ qw7 ≤ wZ qw15 ∧ wZ qw15 ≤ B then (some (.inr x14, qw15)) else none)) else none) else none) else none | (.inr x6, qw7) => if wZ (sN w 23 0) ≤ wZ qw7 ∧ wZ qw7 ≤ B then (some (.inr x6, qw7)) else none)) else none
set_option maxHeartbeats 4000000 in
set_option maxRecDepth 100000 in
theorem met_X15_all (l : Launch) (htr : ∀ e, l.admits e → e.platform.stackTraces = false) (G : Gw) (z : Nat) (H0 : Heap) (rv : Nat → Nat → Nat → Nat → Wd → Option ((Option Nat ⊕ Nat) × Wd)) (F L : Nat) (B n : Nat) (w : Wd) (a0 : Nat) (q : (Option Nat ⊕ Nat) × Wd) (h : f_X15_all rv B n a0 w = some q) (hrv : ∀ (w : Wd) (a0 : Nat) (q : (Option Nat ⊕ Nat) × Wd), wZ w ≤ B → (wT w a0).1 = 16 → (rv 0 B n a0 w = some q → MetT l yX15_factor (ws_ yX15_factor cX15_factor 2 (some (.object "BarredBooks$Test"))) ({ frames := F, cells := B - wZ w, slots := 80 * (B - wZ w), locals := L } : Room) (pcT G z H0 w [.ref (z + a0)]) (qT G z H0 q.2 (cvR z q.1)) (wZ q.2 - wZ w) (80 * (wZ q.2 - wZ w)) (fun q => z ≤ q)) ∧ (rv 1 B n a0 w = some q → MetT l yX15_all (ws_ yX15_all cX15_all 2 (some (.object "BarredBooks$Test"))) ({ frames := F, cells := B - wZ w, slots := 80 * (B - wZ w), locals := L } : Room) (pcT G z H0 w [.ref (z + a0)]) (qT G z H0 q.2 (cvR z q.1)) (wZ q.2 - wZ w) (80 * (wZ q.2 - wZ w)) (fun q => z ≤ q)) ∧ (rv 2 B n a0 w = some q → MetT l yX15_some (ws_ yX15_some cX15_some 2 (some (.object "BarredBooks$Test"))) ({ frames := F, cells := B - wZ w, slots := 80 * (B - wZ w), locals := L } : Room) (pcT G z H0 w [.ref (z + a0)]) (qT G z H0 q.2 (cvR z q.1)) (wZ q.2 - wZ w) (80 * (wZ q.2 - wZ w)) (fun q => z ≤ q))) (hFL : 8 ≤ F ∧ 191 ≤ L) (ht0 : (wT w a0).1 = 16) (hB : wZ w ≤ B) : MetT l yX15_all (ws_ yX15_all cX15_all 2 (some (.object "BarredBooks$Test"))) ({ frames := F + 1, cells := B - wZ w, slots := 80 * (B - wZ w), locals := L + 21 } : Room) (pcT G z H0 w [.ref (z + a0)]) (qT G z H0 q.2 (cvR z q.1)) (wZ q.2 - wZ w) (80 * (wZ q.2 - wZ w)) (fun q => z ≤ q) := by
  refine mT (by decide) (Nat.le_of_ble_eq_true rfl) ?_
  intro p e s m below meth c ls hx hb hr hml hown hts hlocks hnm hnoh hK hR hF hN hS hl
  have hown : s.vm.findClass RX15 = some m.cls := hown
  have hl : lv_has ls 2 [(0, .ref (z + a0))] := hl
  have hL : lok z [] := lok_nil
  unfold f_X15_all at h
  obtain ⟨z0, hz0⟩ : ∃ z0, wZ w = z0 := ⟨_, rfl⟩
  rw [hz0]
  refine W.widen (k := wZ w - z0) (n := 80 * (wZ w - z0)) (Nat.zero_le _) (Nat.zero_le _) ?_
  have hZ : z0 ≤ wZ w ∧ wZ w ≤ B := ⟨by omega, hB⟩
  generalize s.heap = H at hR ⊢
  generalize ([] : List Loc) = locs at hL ⊢
  obtain ⟨hz1, h⟩ := grd h
  have hs2 : wT (sN w 23 0) a0 = wT w a0 := tag_sN hR (by rw [ht0]; decide)
  refine x_new (C := RX23) (T := TX23) (N := 2) (nS := 2) (ci := 22) hx hb hts ok22 hown (hts _ q1047) (hts _ q1048) (hts _ q136) hK hR rfl (ty_ok22) (by dsimp only; omega) (by dsimp only; omega) dX15_all_0 (fun H hR => ?_)
  have hF := hF.sN 23 0
  rw [← hs2] at ht0
  have ez3 : wZ (sN w 23 0) = wZ w + 1 := rfl
  refine W.wid (b := wZ (sN w 23 0)) (by omega) hZ.1 (by decide) ?_
  have hZ : z0 ≤ wZ (sN w 23 0) ∧ wZ (sN w 23 0) ≤ B := ⟨by omega, by omega⟩
  have hg4 : (wT (sN w 23 0) (wZ w)).1 = 23 := by rw [wT_sN, if_pos rfl]
  refine lv_dup hx hb dX15_all_3 rfl ?_
  refine lv_iconst (v := 1) hx hb dX15_all_4 (by decide) ?_
  obtain ⟨⟨v5 | x6, qw7⟩, hq8, h⟩ := bnd h
  rotate_left
  · dsimp only at h
    obtain ⟨hz9, h⟩ := grd h
    have h := Option.some.inj h
    subst h
    refine k_TT (w := qw7) (x := x6) (mc := wZ qw7 - wZ (sN w 23 0)) (ms := 80 * (wZ qw7 - wZ (sN w 23 0))) (runT_I (As := [.int (1 : Int32)]) (rest := [.ref (z + wZ w)]) ⟨hx, hb, hml, hown, hts⟩ (met_X23_init l htr G z H0 B n (sN w 23 0) (wZ w) (1 : Int32) (.inr x6, qw7) hq8 hg4 hZ.2) hd_X23_init q1049 q1050 rfl q136 q1051 ⟨by dsimp only; omega, by dsimp only; omega⟩ (preST hK hR hF hN hS) rfl rfl hl.1 rfl (lv_room (Nat.le_of_ble_eq_true rfl)) dX15_all_5 ⟨by dsimp only; omega, by dsimp only; omega⟩) hL (fun H locs hR hF hL => ?_)
    refine WT.widen (k := wZ qw7 - z0) (n := 80 * (wZ qw7 - z0)) (by omega) (by omega) ?_
    exact WT.leave (fun x9 hx9 => hnoh x9 hx9 5) (fun t ht _ => ⟨rfl, by rw [ht]; exact hR, hF⟩) hL hlocks
  dsimp only at h
  obtain ⟨hz9, h⟩ := grd h
  refine k_TR (v := none) (w := qw7) (mc := wZ qw7 - wZ (sN w 23 0)) (ms := 80 * (wZ qw7 - wZ (sN w 23 0))) (st1 := [.ref (z + wZ w)]) (runT_I (As := [.int (1 : Int32)]) (rest := [.ref (z + wZ w)]) ⟨hx, hb, hml, hown, hts⟩ (met_X23_init l htr G z H0 B n (sN w 23 0) (wZ w) (1 : Int32) (.inl v5, qw7) hq8 hg4 hZ.2) hd_X23_init q1049 q1050 rfl q136 q1051 ⟨by dsimp only; omega, by dsimp only; omega⟩ (preST hK hR hF hN hS) rfl rfl hl.1 rfl (lv_room (Nat.le_of_ble_eq_true rfl)) dX15_all_5 ⟨by dsimp only; omega, by dsimp only; omega⟩) hL rfl (fun H locs hR hF hL => ?_)
  refine W.wid (b := wZ qw7) (by omega) hZ.1 (Nat.le_refl _) ?_
  have hZ : z0 ≤ wZ qw7 ∧ wZ qw7 ≤ B := ⟨by omega, hz9.2⟩
  refine lv_astore_n (lv' := [(1, .ref (z + wZ w)), (0, .ref (z + a0))]) hx hb dX15_all_8 rfl hl (by decide) rfl (fun ls hl => ?_)
  refine lv_aload_n hx hb dX15_all_9 rfl (lv_at hl 0 rfl) ?_
  obtain ⟨hg11, h⟩ := grd h
  refine x_get (k := 1) (o := "BarredBooks$Some") (n := "of") (d := "Ljava/util/ArrayList;") (fin := true) (ty := (.object "java/util/ArrayList")) (host := "BarredBooks") hx hb hts hown hK hR rfl (Fam.one (r := (RX23, TX23, 2)) hg11 rfl ok22 (by decide)) (Or.inr (hN.at q1060 rfl)) (fun _ h9 => h9) (v := rfv z (wR qw7 (wZ w) 1)) rfl dX15_all_10 ?_
  refine lv_aload_n hx hb dX15_all_13 rfl (lv_at hl 1 rfl) ?_
  obtain ⟨hg12, h⟩ := grd h
  obtain ⟨⟨v13 | x14, qw15⟩, hq16, h⟩ := bnd h
  rotate_left
  · dsimp only at h
    obtain ⟨hz17, h⟩ := grd h
    have h := Option.some.inj h
    subst h
    refine k_TT (w := qw15) (x := x14) (mc := wZ qw15 - wZ qw7) (ms := 80 * (wZ qw15 - wZ qw7)) (runT_V (As := []) (rest := [rfv z (wR qw7 (wZ w) 1)]) ⟨hx, hb, hml, hown, hts⟩ ((hrv qw7 a0 (.inr x14, qw15) hZ.2 hg12).1 hq16) hd_X15_factor q1070 q1072 qs16 q122 q1073 ⟨by dsimp only; omega, by dsimp only; omega⟩ (preVT (q := (RX15, TX15, 4)) hK hR hF hN hS hg12 rfl) rfl rfl hl.1 rfl (lv_room (by simp [cat_rfv, cat_i, cat_r, cat_l, cat_n])) dX15_all_14 ⟨by dsimp only; omega, by dsimp only; omega⟩) hL (fun H locs hR hF hL => ?_)
    refine WT.widen (k := wZ qw15 - z0) (n := 80 * (wZ qw15 - z0)) (by omega) (by omega) ?_
    exact WT.leave (fun x9 hx9 => hnoh x9 hx9 14) (fun t ht _ => ⟨rfl, by rw [ht]; exact hR, hF⟩) hL hlocks
  dsimp only at h
  obtain ⟨hz17, h⟩ := grd h
  refine k_TR (v := (some (rfv z v13))) (w := qw15) (mc := wZ qw15 - wZ qw7) (ms := 80 * (wZ qw15 - wZ qw7)) (st1 := [rfv z v13, rfv z (wR qw7 (wZ w) 1)]) (runT_V (As := []) (rest := [rfv z (wR qw7 (wZ w) 1)]) ⟨hx, hb, hml, hown, hts⟩ ((hrv qw7 a0 (.inl v13, qw15) hZ.2 hg12).1 hq16) hd_X15_factor q1070 q1072 qs16 q122 q1073 ⟨by dsimp only; omega, by dsimp only; omega⟩ (preVT (q := (RX15, TX15, 4)) hK hR hF hN hS hg12 rfl) rfl rfl hl.1 rfl (lv_room (by simp [cat_rfv, cat_i, cat_r, cat_l, cat_n])) dX15_all_14 ⟨by dsimp only; omega, by dsimp only; omega⟩) hL rfl (fun H locs hR hF hL => ?_)
  refine W.wid (b := wZ qw15) (by omega) hZ.1 (Nat.le_refl _) ?_
  have hZ : z0 ≤ wZ qw15 ∧ wZ qw15 ≤ B := ⟨by omega, hz17.2⟩
  obtain ⟨r19, hr20, h⟩ := bnd h
  obtain ⟨hg21, h⟩ := grd h
  obtain ⟨⟨v22 | x23, qw24⟩, hq25, h⟩ := bnd h
  rotate_left
  · dsimp only at h
    obtain ⟨hz26, h⟩ := grd h
    have h := Option.some.inj h
    subst h
    refine k_TT (w := qw24) (x := x23) (mc := wZ qw24 - wZ qw15) (ms := 80 * (wZ qw24 - wZ qw15)) (runT_V (As := [rfv z v13]) (rest := []) ⟨hx, hb, hml, hown, hts⟩ (met_J9_add l htr G z H0 B n qw15 r19 v13 (.inr x23, qw24) hq25 hg21 hZ.2) hd_J9_add q1101 q1102 q1103 q126 q1104 ⟨by dsimp only; omega, by dsimp only; omega⟩ (preVL hK hR hF hN hS hg21) rfl rfl hl.1 (by rw [(rfv_some hr20)]; rfl) (lv_room (Nat.le_of_ble_eq_true rfl)) dX15_all_17 ⟨by dsimp only; omega, by dsimp only; omega⟩) hL (fun H locs hR hF hL => ?_)
    refine WT.widen (k := wZ qw24 - z0) (n := 80 * (wZ qw24 - z0)) (by omega) (by omega) ?_
    exact WT.leave (fun x9 hx9 => hnoh x9 hx9 17) (fun t ht _ => ⟨rfl, by rw [ht]; exact hR, hF⟩) hL hlocks
  dsimp only at h
  obtain ⟨hz26, h⟩ := grd h
  refine k_TR (v := (some (.int (bI v22)))) (w := qw24) (mc := wZ qw24 - wZ qw15) (ms := 80 * (wZ qw24 - wZ qw15)) (st1 := [.int (bI v22)]) (runT_V (As := [rfv z v13]) (rest := []) ⟨hx, hb, hml, hown, hts⟩ (met_J9_add l htr G z H0 B n qw15 r19 v13 (.inl v22, qw24) hq25 hg21 hZ.2) hd_J9_add q1101 q1102 q1103 q126 q1104 ⟨by dsimp only; omega, by dsimp only; omega⟩ (preVL hK hR hF hN hS hg21) rfl rfl hl.1 (by rw [(rfv_some hr20)]; rfl) (lv_room (Nat.le_of_ble_eq_true rfl)) dX15_all_17 ⟨by dsimp only; omega, by dsimp only; omega⟩) hL rfl (fun H locs hR hF hL => ?_)
  refine W.wid (b := wZ qw24) (by omega) hZ.1 (Nat.le_refl _) ?_
  have hZ : z0 ≤ wZ qw24 ∧ wZ qw24 ≤ B := ⟨by omega, hz26.2⟩
  refine lv_pop hx hb dX15_all_20 rfl ?_
  have hX21_55 : ∀ (q21_55 : Wd), (some (.inl (some (wZ w)), q21_55)) = some q → ∀ (H : Heap) (locs : List Loc) (ls : Array Slot), Rp G z H0 q21_55 H → Fix q21_55 → lok z locs → (z0 ≤ wZ q21_55 ∧ wZ q21_55 ≤ B) → lv_has ls 2 [(1, .ref (z + wZ w))] → W p l e ({ frames := F + 1, cells := B - z0, slots := 80 * (B - z0), locals := L + 21 } : Room) s m ([.ref (z + a0)] : List Value).toArray below meth c H locs (wZ q21_55 - z0) (80 * (wZ q21_55 - z0)) (MQT below (qT G z H0 q.2 (cvR z q.1)) ([.ref (z + a0)] : List Value).toArray s (wZ q.2 - z0) (80 * (wZ q.2 - z0)) (fun q => z ≤ q)) (F0 m 55 ls []) := by
    intro q21_55 h H locs ls hR hF hL hZ hl
    refine lv_aload_n hx hb dX15_all_55 rfl (lv_at hl 0 rfl) ?_
    have h := Option.some.inj h
    subst h
    exact W.toT (x_aret (r := some (wZ w)) hx hb hr rfl (fun t ht _ => ⟨rfl, by rw [ht]; exact hR, hF⟩) hL dX15_all_56 hlocks)
  obtain ⟨t49, hq50, h⟩ := bnd h
  refine it_W (b := f_X15_all_L21 rv B n (wZ w) a0) (P := fun (s1 : Wd) => ∀ (H : Heap) (locs : List Loc) (ls : Array Slot), Rp G z H0 s1 H → Fix s1 → lok z locs → (z0 ≤ wZ s1 ∧ wZ s1 ≤ B) → lv_has ls 2 [(1, .ref (z + wZ w)), (0, .ref (z + a0))] → W p l e ({ frames := F + 1, cells := B - z0, slots := 80 * (B - z0), locals := L + 21 } : Room) s m ([.ref (z + a0)] : List Value).toArray below meth c H locs (wZ s1 - z0) (80 * (wZ s1 - z0)) (MQT below (qT G z H0 q.2 (cvR z q.1)) ([.ref (z + a0)] : List Value).toArray s (wZ q.2 - z0) (80 * (wZ q.2 - z0)) (fun q => z ≤ q)) (F0 m 21 ls [])) (K := fun t21 => ((match t21 with | .inl q21_55 => some (.inl (some (wZ w)), q21_55) | .inr r21 => some r21)) = some q) (fun s1 x1 h hc1 ht1 => ?_) n qw24 t49 hq50 h H locs ls hR hF hL hZ (lv_sub hl [0, 1] rfl)
  intro H locs ls hR hF hL hZ hl
  unfold f_X15_all_L21 at h
  refine lv_aload_n hx hb dX15_all_21 rfl (lv_at hl 1 rfl) ?_
  obtain ⟨hg28, h⟩ := grd h
  obtain ⟨q29, hq30, h⟩ := bnd h
  refine k_P (st1 := [.int q29]) (va_runV (As := []) (rest := []) ⟨hx, hb, hml, hown, hts⟩ (met_X15_here l G z H0 s1 a0 q29 hq30 hg28) (cwV 0 hts (lw_V q918 q920 qs8 q122 q921) rfl rfl rfl ⟨rfl, hd_X15_here⟩ ⟨by dsimp only; omega, by dsimp only; omega⟩) (preV (q := (RX15, TX15, 4)) hK hR hF hN hg28 rfl) rfl rfl hl.1 rfl (lv_room (Nat.le_of_ble_eq_true rfl)) dX15_all_22 ⟨by dsimp only; omega, by dsimp only; omega⟩) hL rfl (fun locs hL => ?_)
  refine W.wid (b := wZ s1) (Nat.le_refl _) hZ.1 (Nat.le_refl _) ?_
  refine lv_bipush (v := 38) hx hb dX15_all_25 (by decide) ?_
  refine lv_icmp_ne (tgt := 55) hx hb dX15_all_27 (by decide) (fun c31 => ?_) (fun c31 => ?_)
  · rw [if_neg c31] at h
    exact hX21_55 s1 (ht1 _ (Option.some.inj h).symm) H locs ls hR hF hL hZ (lv_sub hl [0] rfl)
  · rw [if_pos c31] at h
    refine lv_aload_n hx hb dX15_all_30 rfl (lv_at hl 1 rfl) ?_
    refine lv_dup hx hb dX15_all_31 rfl ?_
    refine x_get (k := 2) (o := "BarredBooks$Reader") (n := "at") (d := "I") (fin := false) (ty := .int) (host := "BarredBooks") hx hb hts hown hK hR rfl (Fam.one (r := (RX15, TX15, 4)) hg28 rfl ok15 (by decide)) (Or.inl (hts _ q854)) (fun _ h9 => h9) (v := .int (wI s1 a0 2)) rfl dX15_all_32 ?_
    refine lv_iconst (v := 1) hx hb dX15_all_35 (by decide) ?_
    refine lv_iadd hx hb dX15_all_36 ?_
    refine x_putI (k := 2) (o := "BarredBooks$Reader") (n := "at") (d := "I") (fin := false) (ty := .int) (host := "BarredBooks") hx hb hts hown hK hR hL rfl (Fam.one (r := (RX15, TX15, 4)) hg28 rfl ok15 (by decide)) (Or.inl (hts _ q854)) (fun _ h9 => h9) (Or.inl rfl) rfl rfl rfl dX15_all_37 (fun H locs hR hL => ?_)
    rw [← wT_sI _ a0 2 ((wI s1 a0 2) + (1 : Int32))] at hg28
    have hF := hF.sI a0 2 ((wI s1 a0 2) + (1 : Int32))
    refine lv_aload_n hx hb dX15_all_40 rfl (lv_at hl 0 rfl) ?_
    obtain ⟨hg32, h⟩ := grd h
    refine x_get (k := 1) (o := "BarredBooks$Some") (n := "of") (d := "Ljava/util/ArrayList;") (fin := true) (ty := (.object "java/util/ArrayList")) (host := "BarredBooks") hx hb hts hown hK hR rfl (Fam.one (r := (RX23, TX23, 2)) hg32 rfl ok22 (by decide)) (Or.inr (hN.at q1060 rfl)) (fun _ h9 => h9) (v := rfv z (wR s1 (wZ w) 1)) rfl dX15_all_41 ?_
    refine lv_aload_n hx hb dX15_all_44 rfl (lv_at hl 1 rfl) ?_
    have ez39 : wZ (sI s1 a0 2 ((wI s1 a0 2) + (1 : Int32))) = wZ s1 := rfl
    obtain ⟨⟨v33 | x34, qw35⟩, hq36, h⟩ := bnd h
    rotate_left
    · dsimp only at h
      obtain ⟨hz37, h⟩ := grd h
      have h : (some (.inr x34, qw35)) = some q := ht1 _ (Option.some.inj h).symm
      have h := Option.some.inj h
      subst h
      refine k_TT (w := qw35) (x := x34) (mc := wZ qw35 - wZ (sI s1 a0 2 ((wI s1 a0 2) + (1 : Int32)))) (ms := 80 * (wZ qw35 - wZ (sI s1 a0 2 ((wI s1 a0 2) + (1 : Int32))))) (runT_V (As := []) (rest := [rfv z (wR s1 (wZ w) 1)]) ⟨hx, hb, hml, hown, hts⟩ ((hrv (sI s1 a0 2 ((wI s1 a0 2) + (1 : Int32))) a0 (.inr x34, qw35) hZ.2 hg28).1 hq36) hd_X15_factor q1070 q1072 qs16 q122 q1073 ⟨by dsimp only; omega, by dsimp only; omega⟩ (preVT (q := (RX15, TX15, 4)) hK hR hF hN hS hg28 rfl) rfl rfl hl.1 rfl (lv_room (by simp [cat_rfv, cat_i, cat_r, cat_l, cat_n])) dX15_all_45 ⟨by dsimp only; omega, by dsimp only; omega⟩) hL (fun H locs hR hF hL => ?_)
      refine WT.widen (k := wZ qw35 - z0) (n := 80 * (wZ qw35 - z0)) (by omega) (by omega) ?_
      exact WT.leave (fun x9 hx9 => hnoh x9 hx9 45) (fun t ht _ => ⟨rfl, by rw [ht]; exact hR, hF⟩) hL hlocks
    dsimp only at h
    obtain ⟨hz37, h⟩ := grd h
    refine k_TR (v := (some (rfv z v33))) (w := qw35) (mc := wZ qw35 - wZ (sI s1 a0 2 ((wI s1 a0 2) + (1 : Int32)))) (ms := 80 * (wZ qw35 - wZ (sI s1 a0 2 ((wI s1 a0 2) + (1 : Int32))))) (st1 := [rfv z v33, rfv z (wR s1 (wZ w) 1)]) (runT_V (As := []) (rest := [rfv z (wR s1 (wZ w) 1)]) ⟨hx, hb, hml, hown, hts⟩ ((hrv (sI s1 a0 2 ((wI s1 a0 2) + (1 : Int32))) a0 (.inl v33, qw35) hZ.2 hg28).1 hq36) hd_X15_factor q1070 q1072 qs16 q122 q1073 ⟨by dsimp only; omega, by dsimp only; omega⟩ (preVT (q := (RX15, TX15, 4)) hK hR hF hN hS hg28 rfl) rfl rfl hl.1 rfl (lv_room (by simp [cat_rfv, cat_i, cat_r, cat_l, cat_n])) dX15_all_45 ⟨by dsimp only; omega, by dsimp only; omega⟩) hL rfl (fun H locs hR hF hL => ?_)
    refine W.wid (b := wZ qw35) (by omega) hZ.1 (Nat.le_refl _) ?_
    have hZ : z0 ≤ wZ qw35 ∧ wZ qw35 ≤ B := ⟨by omega, hz37.2⟩
    obtain ⟨r40, hr41, h⟩ := bnd h
    obtain ⟨hg42, h⟩ := grd h
    obtain ⟨⟨v43 | x44, qw45⟩, hq46, h⟩ := bnd h
    rotate_left
    · dsimp only at h
      obtain ⟨hz47, h⟩ := grd h
      have h : (some (.inr x44, qw45)) = some q := ht1 _ (Option.some.inj h).symm
      have h := Option.some.inj h
      subst h
      refine k_TT (w := qw45) (x := x44) (mc := wZ qw45 - wZ qw35) (ms := 80 * (wZ qw45 - wZ qw35)) (runT_V (As := [rfv z v33]) (rest := []) ⟨hx, hb, hml, hown, hts⟩ (met_J9_add l htr G z H0 B n qw35 r40 v33 (.inr x44, qw45) hq46 hg42 hZ.2) hd_J9_add q1101 q1102 q1103 q126 q1104 ⟨by dsimp only; omega, by dsimp only; omega⟩ (preVL hK hR hF hN hS hg42) rfl rfl hl.1 (by rw [(rfv_some hr41)]; rfl) (lv_room (Nat.le_of_ble_eq_true rfl)) dX15_all_48 ⟨by dsimp only; omega, by dsimp only; omega⟩) hL (fun H locs hR hF hL => ?_)
      refine WT.widen (k := wZ qw45 - z0) (n := 80 * (wZ qw45 - z0)) (by omega) (by omega) ?_
      exact WT.leave (fun x9 hx9 => hnoh x9 hx9 48) (fun t ht _ => ⟨rfl, by rw [ht]; exact hR, hF⟩) hL hlocks
    dsimp only at h
    obtain ⟨hz47, h⟩ := grd h
    refine k_TR (v := (some (.int (bI v43)))) (w := qw45) (mc := wZ qw45 - wZ qw35) (ms := 80 * (wZ qw45 - wZ qw35)) (st1 := [.int (bI v43)]) (runT_V (As := [rfv z v33]) (rest := []) ⟨hx, hb, hml, hown, hts⟩ (met_J9_add l htr G z H0 B n qw35 r40 v33 (.inl v43, qw45) hq46 hg42 hZ.2) hd_J9_add q1101 q1102 q1103 q126 q1104 ⟨by dsimp only; omega, by dsimp only; omega⟩ (preVL hK hR hF hN hS hg42) rfl rfl hl.1 (by rw [(rfv_some hr41)]; rfl) (lv_room (Nat.le_of_ble_eq_true rfl)) dX15_all_48 ⟨by dsimp only; omega, by dsimp only; omega⟩) hL rfl (fun H locs hR hF hL => ?_)
    refine W.wid (b := wZ qw45) (by omega) hZ.1 (Nat.le_refl _) ?_
    have hZ : z0 ≤ wZ qw45 ∧ wZ qw45 ≤ B := ⟨by omega, hz47.2⟩
    refine lv_pop hx hb dX15_all_51 rfl ?_
    refine lv_goto (tgt := 21) hx hb dX15_all_52 (by decide) ?_
    exact hc1 _ (Option.some.inj h).symm H locs ls hR hF hL hZ (lv_sub hl [0, 1] rfl)
def f_X15_some_L21 (rv : Nat → Nat → Nat → Nat → Wd → Option ((Option Nat ⊕ Nat) × Wd)) (B n : Nat) (u1_1 : Nat) (u1_0 : Nat) (s1 : Wd) : Option ((Wd) ⊕ ((Wd) ⊕ ((Option Nat ⊕ Nat) × Wd))) :=
  if (wT s1 u1_0).1 = 16 then ((f_X15_here u1_0 s1).bind fun q29 => if q29 = (124 : Int32) then (if (wT (sI s1 u1_0 2 ((wI s1 u1_0 2) + (1 : Int32))) u1_1).1 = 23 then ((rv 1 B n u1_0 (sI s1 u1_0 2 ((wI s1 u1_0 2) + (1 : Int32)))).bind fun q38 => (match q38 with | (.inl v33, qw35) => if wZ s1 ≤ wZ qw35 ∧ wZ qw35 ≤ B then ((wR s1 u1_1 1).bind fun r40 => if (wT qw35 r40).1 = 27 ∨ (wT qw35 r40).1 = 100 then ((f_J9_add B n r40 v33 qw35).bind fun q48 => (match q48 with | (.inl v43, qw45) => if wZ qw35 ≤ wZ qw45 ∧ wZ qw45 ≤ B then (some (.inl qw45)) else none | (.inr x44, qw45) => if wZ qw35 ≤ wZ qw45 ∧ wZ qw45 ≤ B then (some (.inr (.inr (.inr x44, qw45)))) else none)) else none) else none | (.inr x34, qw35) => if wZ s1 ≤ wZ qw35 ∧ wZ qw35 ≤ B then (some (.inr (.inr (.inr x34, qw35)))) else none)) else none) else (some (.inr (.inl s1)))) else none
def f_X15_some (rv : Nat → Nat → Nat → Nat → Wd → Option ((Option Nat ⊕ Nat) × Wd))  (B n : Nat) (a0 : Nat) (w : Wd) : Option ((Option Nat ⊕ Nat) × Wd) :=
  if wZ w + 1 ≤ B then ((f_X23_init B n (wZ w) (0 : Int32) (sN w 23 0)).bind fun q10 => (match q10 with | (.inl v5, qw7) => if wZ (sN w 23 0) ≤ wZ qw7 ∧ wZ qw7 ≤ B then (if (wT qw7 (wZ w)).1 = 23 then (if (wT qw7 a0).1 = 16 then ((rv 1 B n a0 qw7).bind fun q18 => (match q18 with | (.inl v13, qw15) => if wZ qw7 ≤ wZ qw15 ∧ wZ qw15 ≤ B then ((wR qw7 (wZ w) 1).bind fun r19 => if (wT qw15 r19).1 = 27 ∨ (wT qw15 r19).1 = 100 then ((f_J9_add B n r19 v13 qw15).bind fun q27 => (match q27 with | (.inl v22, qw24) => if wZ qw15 ≤ wZ qw24 ∧ wZ qw24 ≤ B then ((it n (f_X15_some_L21 rv B n (wZ w) a0) qw24).bind fun t21 => (match t21 with | .inl q21_55 => some (.inl (some (wZ w)), q21_55) | .inr r21 => some r21)) else none | (.inr x23, qw24) => if wZ qw15 ≤ wZ qw24 ∧ wZ qw24 ≤ B then (some (.inr x23, qw24)) else none)) else none) else none | (.inr x14, qw15) => if wZ qw7 ≤ wZ qw15 ∧ wZ qw15 ≤ B then (some (.inr x14, qw15)) else none)) else none) else none) else none | (.inr x6, qw7) => if wZ (sN w 23 0) ≤ wZ qw7 ∧ wZ qw7 ≤ B then (some (.inr x6, qw7)) else none)) else none
set_option maxHeartbeats 4000000 in
set_option maxRecDepth 100000 in
theorem met_X15_some (l : Launch) (htr : ∀ e, l.admits e → e.platform.stackTraces = false) (G : Gw) (z : Nat) (H0 : Heap) (rv : Nat → Nat → Nat → Nat → Wd → Option ((Option Nat ⊕ Nat) × Wd)) (F L : Nat) (B n : Nat) (w : Wd) (a0 : Nat) (q : (Option Nat ⊕ Nat) × Wd) (h : f_X15_some rv B n a0 w = some q) (hrv : ∀ (w : Wd) (a0 : Nat) (q : (Option Nat ⊕ Nat) × Wd), wZ w ≤ B → (wT w a0).1 = 16 → (rv 0 B n a0 w = some q → MetT l yX15_factor (ws_ yX15_factor cX15_factor 2 (some (.object "BarredBooks$Test"))) ({ frames := F, cells := B - wZ w, slots := 80 * (B - wZ w), locals := L } : Room) (pcT G z H0 w [.ref (z + a0)]) (qT G z H0 q.2 (cvR z q.1)) (wZ q.2 - wZ w) (80 * (wZ q.2 - wZ w)) (fun q => z ≤ q)) ∧ (rv 1 B n a0 w = some q → MetT l yX15_all (ws_ yX15_all cX15_all 2 (some (.object "BarredBooks$Test"))) ({ frames := F, cells := B - wZ w, slots := 80 * (B - wZ w), locals := L } : Room) (pcT G z H0 w [.ref (z + a0)]) (qT G z H0 q.2 (cvR z q.1)) (wZ q.2 - wZ w) (80 * (wZ q.2 - wZ w)) (fun q => z ≤ q)) ∧ (rv 2 B n a0 w = some q → MetT l yX15_some (ws_ yX15_some cX15_some 2 (some (.object "BarredBooks$Test"))) ({ frames := F, cells := B - wZ w, slots := 80 * (B - wZ w), locals := L } : Room) (pcT G z H0 w [.ref (z + a0)]) (qT G z H0 q.2 (cvR z q.1)) (wZ q.2 - wZ w) (80 * (wZ q.2 - wZ w)) (fun q => z ≤ q))) (hFL : 8 ≤ F ∧ 191 ≤ L) (ht0 : (wT w a0).1 = 16) (hB : wZ w ≤ B) : MetT l yX15_some (ws_ yX15_some cX15_some 2 (some (.object "BarredBooks$Test"))) ({ frames := F + 1, cells := B - wZ w, slots := 80 * (B - wZ w), locals := L + 21 } : Room) (pcT G z H0 w [.ref (z + a0)]) (qT G z H0 q.2 (cvR z q.1)) (wZ q.2 - wZ w) (80 * (wZ q.2 - wZ w)) (fun q => z ≤ q) := by
  refine mT (by decide) (Nat.le_of_ble_eq_true rfl) ?_
  intro p e s m below meth c ls hx hb hr hml hown hts hlocks hnm hnoh hK hR hF hN hS hl
  have hown : s.vm.findClass RX15 = some m.cls := hown
  have hl : lv_has ls 2 [(0, .ref (z + a0))] := hl
  have hL : lok z [] := lok_nil
  unfold f_X15_some at h
  obtain ⟨z0, hz0⟩ : ∃ z0, wZ w = z0 := ⟨_, rfl⟩
  rw [hz0]
  refine W.widen (k := wZ w - z0) (n := 80 * (wZ w - z0)) (Nat.zero_le _) (Nat.zero_le _) ?_
  have hZ : z0 ≤ wZ w ∧ wZ w ≤ B := ⟨by omega, hB⟩
  generalize s.heap = H at hR ⊢
  generalize ([] : List Loc) = locs at hL ⊢
  obtain ⟨hz1, h⟩ := grd h
  have hs2 : wT (sN w 23 0) a0 = wT w a0 := tag_sN hR (by rw [ht0]; decide)
  refine x_new (C := RX23) (T := TX23) (N := 2) (nS := 2) (ci := 22) hx hb hts ok22 hown (hts _ q1047) (hts _ q1048) (hts _ q136) hK hR rfl (ty_ok22) (by dsimp only; omega) (by dsimp only; omega) dX15_some_0 (fun H hR => ?_)
  have hF := hF.sN 23 0
  rw [← hs2] at ht0
  have ez3 : wZ (sN w 23 0) = wZ w + 1 := rfl
  refine W.wid (b := wZ (sN w 23 0)) (by omega) hZ.1 (by decide) ?_
  have hZ : z0 ≤ wZ (sN w 23 0) ∧ wZ (sN w 23 0) ≤ B := ⟨by omega, by omega⟩
  have hg4 : (wT (sN w 23 0) (wZ w)).1 = 23 := by rw [wT_sN, if_pos rfl]
  refine lv_dup hx hb dX15_some_3 rfl ?_
  refine lv_iconst (v := 0) hx hb dX15_some_4 (by decide) ?_
  obtain ⟨⟨v5 | x6, qw7⟩, hq8, h⟩ := bnd h
  rotate_left
  · dsimp only at h
    obtain ⟨hz9, h⟩ := grd h
    have h := Option.some.inj h
    subst h
    refine k_TT (w := qw7) (x := x6) (mc := wZ qw7 - wZ (sN w 23 0)) (ms := 80 * (wZ qw7 - wZ (sN w 23 0))) (runT_I (As := [.int (0 : Int32)]) (rest := [.ref (z + wZ w)]) ⟨hx, hb, hml, hown, hts⟩ (met_X23_init l htr G z H0 B n (sN w 23 0) (wZ w) (0 : Int32) (.inr x6, qw7) hq8 hg4 hZ.2) hd_X23_init q1049 q1050 rfl q136 q1051 ⟨by dsimp only; omega, by dsimp only; omega⟩ (preST hK hR hF hN hS) rfl rfl hl.1 rfl (lv_room (Nat.le_of_ble_eq_true rfl)) dX15_some_5 ⟨by dsimp only; omega, by dsimp only; omega⟩) hL (fun H locs hR hF hL => ?_)
    refine WT.widen (k := wZ qw7 - z0) (n := 80 * (wZ qw7 - z0)) (by omega) (by omega) ?_
    exact WT.leave (fun x9 hx9 => hnoh x9 hx9 5) (fun t ht _ => ⟨rfl, by rw [ht]; exact hR, hF⟩) hL hlocks
  dsimp only at h
  obtain ⟨hz9, h⟩ := grd h
  refine k_TR (v := none) (w := qw7) (mc := wZ qw7 - wZ (sN w 23 0)) (ms := 80 * (wZ qw7 - wZ (sN w 23 0))) (st1 := [.ref (z + wZ w)]) (runT_I (As := [.int (0 : Int32)]) (rest := [.ref (z + wZ w)]) ⟨hx, hb, hml, hown, hts⟩ (met_X23_init l htr G z H0 B n (sN w 23 0) (wZ w) (0 : Int32) (.inl v5, qw7) hq8 hg4 hZ.2) hd_X23_init q1049 q1050 rfl q136 q1051 ⟨by dsimp only; omega, by dsimp only; omega⟩ (preST hK hR hF hN hS) rfl rfl hl.1 rfl (lv_room (Nat.le_of_ble_eq_true rfl)) dX15_some_5 ⟨by dsimp only; omega, by dsimp only; omega⟩) hL rfl (fun H locs hR hF hL => ?_)
  refine W.wid (b := wZ qw7) (by omega) hZ.1 (Nat.le_refl _) ?_
  have hZ : z0 ≤ wZ qw7 ∧ wZ qw7 ≤ B := ⟨by omega, hz9.2⟩
  refine lv_astore_n (lv' := [(1, .ref (z + wZ w)), (0, .ref (z + a0))]) hx hb dX15_some_8 rfl hl (by decide) rfl (fun ls hl => ?_)
  refine lv_aload_n hx hb dX15_some_9 rfl (lv_at hl 0 rfl) ?_
  obtain ⟨hg11, h⟩ := grd h
  refine x_get (k := 1) (o := "BarredBooks$Some") (n := "of") (d := "Ljava/util/ArrayList;") (fin := true) (ty := (.object "java/util/ArrayList")) (host := "BarredBooks") hx hb hts hown hK hR rfl (Fam.one (r := (RX23, TX23, 2)) hg11 rfl ok22 (by decide)) (Or.inr (hN.at q1060 rfl)) (fun _ h9 => h9) (v := rfv z (wR qw7 (wZ w) 1)) rfl dX15_some_10 ?_
  refine lv_aload_n hx hb dX15_some_13 rfl (lv_at hl 1 rfl) ?_
  obtain ⟨hg12, h⟩ := grd h
  obtain ⟨⟨v13 | x14, qw15⟩, hq16, h⟩ := bnd h
  rotate_left
  · dsimp only at h
    obtain ⟨hz17, h⟩ := grd h
    have h := Option.some.inj h
    subst h
    refine k_TT (w := qw15) (x := x14) (mc := wZ qw15 - wZ qw7) (ms := 80 * (wZ qw15 - wZ qw7)) (runT_V (As := []) (rest := [rfv z (wR qw7 (wZ w) 1)]) ⟨hx, hb, hml, hown, hts⟩ ((hrv qw7 a0 (.inr x14, qw15) hZ.2 hg12).2.1 hq16) hd_X15_all q1066 q1068 qs15 q122 q1069 ⟨by dsimp only; omega, by dsimp only; omega⟩ (preVT (q := (RX15, TX15, 4)) hK hR hF hN hS hg12 rfl) rfl rfl hl.1 rfl (lv_room (by simp [cat_rfv, cat_i, cat_r, cat_l, cat_n])) dX15_some_14 ⟨by dsimp only; omega, by dsimp only; omega⟩) hL (fun H locs hR hF hL => ?_)
    refine WT.widen (k := wZ qw15 - z0) (n := 80 * (wZ qw15 - z0)) (by omega) (by omega) ?_
    exact WT.leave (fun x9 hx9 => hnoh x9 hx9 14) (fun t ht _ => ⟨rfl, by rw [ht]; exact hR, hF⟩) hL hlocks
  dsimp only at h
  obtain ⟨hz17, h⟩ := grd h
  refine k_TR (v := (some (rfv z v13))) (w := qw15) (mc := wZ qw15 - wZ qw7) (ms := 80 * (wZ qw15 - wZ qw7)) (st1 := [rfv z v13, rfv z (wR qw7 (wZ w) 1)]) (runT_V (As := []) (rest := [rfv z (wR qw7 (wZ w) 1)]) ⟨hx, hb, hml, hown, hts⟩ ((hrv qw7 a0 (.inl v13, qw15) hZ.2 hg12).2.1 hq16) hd_X15_all q1066 q1068 qs15 q122 q1069 ⟨by dsimp only; omega, by dsimp only; omega⟩ (preVT (q := (RX15, TX15, 4)) hK hR hF hN hS hg12 rfl) rfl rfl hl.1 rfl (lv_room (by simp [cat_rfv, cat_i, cat_r, cat_l, cat_n])) dX15_some_14 ⟨by dsimp only; omega, by dsimp only; omega⟩) hL rfl (fun H locs hR hF hL => ?_)
  refine W.wid (b := wZ qw15) (by omega) hZ.1 (Nat.le_refl _) ?_
  have hZ : z0 ≤ wZ qw15 ∧ wZ qw15 ≤ B := ⟨by omega, hz17.2⟩
  obtain ⟨r19, hr20, h⟩ := bnd h
  obtain ⟨hg21, h⟩ := grd h
  obtain ⟨⟨v22 | x23, qw24⟩, hq25, h⟩ := bnd h
  rotate_left
  · dsimp only at h
    obtain ⟨hz26, h⟩ := grd h
    have h := Option.some.inj h
    subst h
    refine k_TT (w := qw24) (x := x23) (mc := wZ qw24 - wZ qw15) (ms := 80 * (wZ qw24 - wZ qw15)) (runT_V (As := [rfv z v13]) (rest := []) ⟨hx, hb, hml, hown, hts⟩ (met_J9_add l htr G z H0 B n qw15 r19 v13 (.inr x23, qw24) hq25 hg21 hZ.2) hd_J9_add q1101 q1102 q1103 q126 q1104 ⟨by dsimp only; omega, by dsimp only; omega⟩ (preVL hK hR hF hN hS hg21) rfl rfl hl.1 (by rw [(rfv_some hr20)]; rfl) (lv_room (Nat.le_of_ble_eq_true rfl)) dX15_some_17 ⟨by dsimp only; omega, by dsimp only; omega⟩) hL (fun H locs hR hF hL => ?_)
    refine WT.widen (k := wZ qw24 - z0) (n := 80 * (wZ qw24 - z0)) (by omega) (by omega) ?_
    exact WT.leave (fun x9 hx9 => hnoh x9 hx9 17) (fun t ht _ => ⟨rfl, by rw [ht]; exact hR, hF⟩) hL hlocks
  dsimp only at h
  obtain ⟨hz26, h⟩ := grd h
  refine k_TR (v := (some (.int (bI v22)))) (w := qw24) (mc := wZ qw24 - wZ qw15) (ms := 80 * (wZ qw24 - wZ qw15)) (st1 := [.int (bI v22)]) (runT_V (As := [rfv z v13]) (rest := []) ⟨hx, hb, hml, hown, hts⟩ (met_J9_add l htr G z H0 B n qw15 r19 v13 (.inl v22, qw24) hq25 hg21 hZ.2) hd_J9_add q1101 q1102 q1103 q126 q1104 ⟨by dsimp only; omega, by dsimp only; omega⟩ (preVL hK hR hF hN hS hg21) rfl rfl hl.1 (by rw [(rfv_some hr20)]; rfl) (lv_room (Nat.le_of_ble_eq_true rfl)) dX15_some_17 ⟨by dsimp only; omega, by dsimp only; omega⟩) hL rfl (fun H locs hR hF hL => ?_)
  refine W.wid (b := wZ qw24) (by omega) hZ.1 (Nat.le_refl _) ?_
  have hZ : z0 ≤ wZ qw24 ∧ wZ qw24 ≤ B := ⟨by omega, hz26.2⟩
  refine lv_pop hx hb dX15_some_20 rfl ?_
  have hX21_55 : ∀ (q21_55 : Wd), (some (.inl (some (wZ w)), q21_55)) = some q → ∀ (H : Heap) (locs : List Loc) (ls : Array Slot), Rp G z H0 q21_55 H → Fix q21_55 → lok z locs → (z0 ≤ wZ q21_55 ∧ wZ q21_55 ≤ B) → lv_has ls 2 [(1, .ref (z + wZ w))] → W p l e ({ frames := F + 1, cells := B - z0, slots := 80 * (B - z0), locals := L + 21 } : Room) s m ([.ref (z + a0)] : List Value).toArray below meth c H locs (wZ q21_55 - z0) (80 * (wZ q21_55 - z0)) (MQT below (qT G z H0 q.2 (cvR z q.1)) ([.ref (z + a0)] : List Value).toArray s (wZ q.2 - z0) (80 * (wZ q.2 - z0)) (fun q => z ≤ q)) (F0 m 55 ls []) := by
    intro q21_55 h H locs ls hR hF hL hZ hl
    refine lv_aload_n hx hb dX15_some_55 rfl (lv_at hl 0 rfl) ?_
    have h := Option.some.inj h
    subst h
    exact W.toT (x_aret (r := some (wZ w)) hx hb hr rfl (fun t ht _ => ⟨rfl, by rw [ht]; exact hR, hF⟩) hL dX15_some_56 hlocks)
  obtain ⟨t49, hq50, h⟩ := bnd h
  refine it_W (b := f_X15_some_L21 rv B n (wZ w) a0) (P := fun (s1 : Wd) => ∀ (H : Heap) (locs : List Loc) (ls : Array Slot), Rp G z H0 s1 H → Fix s1 → lok z locs → (z0 ≤ wZ s1 ∧ wZ s1 ≤ B) → lv_has ls 2 [(1, .ref (z + wZ w)), (0, .ref (z + a0))] → W p l e ({ frames := F + 1, cells := B - z0, slots := 80 * (B - z0), locals := L + 21 } : Room) s m ([.ref (z + a0)] : List Value).toArray below meth c H locs (wZ s1 - z0) (80 * (wZ s1 - z0)) (MQT below (qT G z H0 q.2 (cvR z q.1)) ([.ref (z + a0)] : List Value).toArray s (wZ q.2 - z0) (80 * (wZ q.2 - z0)) (fun q => z ≤ q)) (F0 m 21 ls [])) (K := fun t21 => ((match t21 with | .inl q21_55 => some (.inl (some (wZ w)), q21_55) | .inr r21 => some r21)) = some q) (fun s1 x1 h hc1 ht1 => ?_) n qw24 t49 hq50 h H locs ls hR hF hL hZ (lv_sub hl [0, 1] rfl)
  intro H locs ls hR hF hL hZ hl
  unfold f_X15_some_L21 at h
  refine lv_aload_n hx hb dX15_some_21 rfl (lv_at hl 1 rfl) ?_
  obtain ⟨hg28, h⟩ := grd h
  obtain ⟨q29, hq30, h⟩ := bnd h
  refine k_P (st1 := [.int q29]) (va_runV (As := []) (rest := []) ⟨hx, hb, hml, hown, hts⟩ (met_X15_here l G z H0 s1 a0 q29 hq30 hg28) (cwV 0 hts (lw_V q918 q920 qs8 q122 q921) rfl rfl rfl ⟨rfl, hd_X15_here⟩ ⟨by dsimp only; omega, by dsimp only; omega⟩) (preV (q := (RX15, TX15, 4)) hK hR hF hN hg28 rfl) rfl rfl hl.1 rfl (lv_room (Nat.le_of_ble_eq_true rfl)) dX15_some_22 ⟨by dsimp only; omega, by dsimp only; omega⟩) hL rfl (fun locs hL => ?_)
  refine W.wid (b := wZ s1) (Nat.le_refl _) hZ.1 (Nat.le_refl _) ?_
  refine lv_bipush (v := 124) hx hb dX15_some_25 (by decide) ?_
  refine lv_icmp_ne (tgt := 55) hx hb dX15_some_27 (by decide) (fun c31 => ?_) (fun c31 => ?_)
  · rw [if_neg c31] at h
    exact hX21_55 s1 (ht1 _ (Option.some.inj h).symm) H locs ls hR hF hL hZ (lv_sub hl [0] rfl)
  · rw [if_pos c31] at h
    refine lv_aload_n hx hb dX15_some_30 rfl (lv_at hl 1 rfl) ?_
    refine lv_dup hx hb dX15_some_31 rfl ?_
    refine x_get (k := 2) (o := "BarredBooks$Reader") (n := "at") (d := "I") (fin := false) (ty := .int) (host := "BarredBooks") hx hb hts hown hK hR rfl (Fam.one (r := (RX15, TX15, 4)) hg28 rfl ok15 (by decide)) (Or.inl (hts _ q854)) (fun _ h9 => h9) (v := .int (wI s1 a0 2)) rfl dX15_some_32 ?_
    refine lv_iconst (v := 1) hx hb dX15_some_35 (by decide) ?_
    refine lv_iadd hx hb dX15_some_36 ?_
    refine x_putI (k := 2) (o := "BarredBooks$Reader") (n := "at") (d := "I") (fin := false) (ty := .int) (host := "BarredBooks") hx hb hts hown hK hR hL rfl (Fam.one (r := (RX15, TX15, 4)) hg28 rfl ok15 (by decide)) (Or.inl (hts _ q854)) (fun _ h9 => h9) (Or.inl rfl) rfl rfl rfl dX15_some_37 (fun H locs hR hL => ?_)
    rw [← wT_sI _ a0 2 ((wI s1 a0 2) + (1 : Int32))] at hg28
    have hF := hF.sI a0 2 ((wI s1 a0 2) + (1 : Int32))
    refine lv_aload_n hx hb dX15_some_40 rfl (lv_at hl 0 rfl) ?_
    obtain ⟨hg32, h⟩ := grd h
    refine x_get (k := 1) (o := "BarredBooks$Some") (n := "of") (d := "Ljava/util/ArrayList;") (fin := true) (ty := (.object "java/util/ArrayList")) (host := "BarredBooks") hx hb hts hown hK hR rfl (Fam.one (r := (RX23, TX23, 2)) hg32 rfl ok22 (by decide)) (Or.inr (hN.at q1060 rfl)) (fun _ h9 => h9) (v := rfv z (wR s1 (wZ w) 1)) rfl dX15_some_41 ?_
    refine lv_aload_n hx hb dX15_some_44 rfl (lv_at hl 1 rfl) ?_
    have ez39 : wZ (sI s1 a0 2 ((wI s1 a0 2) + (1 : Int32))) = wZ s1 := rfl
    obtain ⟨⟨v33 | x34, qw35⟩, hq36, h⟩ := bnd h
    rotate_left
    · dsimp only at h
      obtain ⟨hz37, h⟩ := grd h
      have h : (some (.inr x34, qw35)) = some q := ht1 _ (Option.some.inj h).symm
      have h := Option.some.inj h
      subst h
      refine k_TT (w := qw35) (x := x34) (mc := wZ qw35 - wZ (sI s1 a0 2 ((wI s1 a0 2) + (1 : Int32)))) (ms := 80 * (wZ qw35 - wZ (sI s1 a0 2 ((wI s1 a0 2) + (1 : Int32))))) (runT_V (As := []) (rest := [rfv z (wR s1 (wZ w) 1)]) ⟨hx, hb, hml, hown, hts⟩ ((hrv (sI s1 a0 2 ((wI s1 a0 2) + (1 : Int32))) a0 (.inr x34, qw35) hZ.2 hg28).2.1 hq36) hd_X15_all q1066 q1068 qs15 q122 q1069 ⟨by dsimp only; omega, by dsimp only; omega⟩ (preVT (q := (RX15, TX15, 4)) hK hR hF hN hS hg28 rfl) rfl rfl hl.1 rfl (lv_room (by simp [cat_rfv, cat_i, cat_r, cat_l, cat_n])) dX15_some_45 ⟨by dsimp only; omega, by dsimp only; omega⟩) hL (fun H locs hR hF hL => ?_)
      refine WT.widen (k := wZ qw35 - z0) (n := 80 * (wZ qw35 - z0)) (by omega) (by omega) ?_
      exact WT.leave (fun x9 hx9 => hnoh x9 hx9 45) (fun t ht _ => ⟨rfl, by rw [ht]; exact hR, hF⟩) hL hlocks
    dsimp only at h
    obtain ⟨hz37, h⟩ := grd h
    refine k_TR (v := (some (rfv z v33))) (w := qw35) (mc := wZ qw35 - wZ (sI s1 a0 2 ((wI s1 a0 2) + (1 : Int32)))) (ms := 80 * (wZ qw35 - wZ (sI s1 a0 2 ((wI s1 a0 2) + (1 : Int32))))) (st1 := [rfv z v33, rfv z (wR s1 (wZ w) 1)]) (runT_V (As := []) (rest := [rfv z (wR s1 (wZ w) 1)]) ⟨hx, hb, hml, hown, hts⟩ ((hrv (sI s1 a0 2 ((wI s1 a0 2) + (1 : Int32))) a0 (.inl v33, qw35) hZ.2 hg28).2.1 hq36) hd_X15_all q1066 q1068 qs15 q122 q1069 ⟨by dsimp only; omega, by dsimp only; omega⟩ (preVT (q := (RX15, TX15, 4)) hK hR hF hN hS hg28 rfl) rfl rfl hl.1 rfl (lv_room (by simp [cat_rfv, cat_i, cat_r, cat_l, cat_n])) dX15_some_45 ⟨by dsimp only; omega, by dsimp only; omega⟩) hL rfl (fun H locs hR hF hL => ?_)
    refine W.wid (b := wZ qw35) (by omega) hZ.1 (Nat.le_refl _) ?_
    have hZ : z0 ≤ wZ qw35 ∧ wZ qw35 ≤ B := ⟨by omega, hz37.2⟩
    obtain ⟨r40, hr41, h⟩ := bnd h
    obtain ⟨hg42, h⟩ := grd h
    obtain ⟨⟨v43 | x44, qw45⟩, hq46, h⟩ := bnd h
    rotate_left
    · dsimp only at h
      obtain ⟨hz47, h⟩ := grd h
      have h : (some (.inr x44, qw45)) = some q := ht1 _ (Option.some.inj h).symm
      have h := Option.some.inj h
      subst h
      refine k_TT (w := qw45) (x := x44) (mc := wZ qw45 - wZ qw35) (ms := 80 * (wZ qw45 - wZ qw35)) (runT_V (As := [rfv z v33]) (rest := []) ⟨hx, hb, hml, hown, hts⟩ (met_J9_add l htr G z H0 B n qw35 r40 v33 (.inr x44, qw45) hq46 hg42 hZ.2) hd_J9_add q1101 q1102 q1103 q126 q1104 ⟨by dsimp only; omega, by dsimp only; omega⟩ (preVL hK hR hF hN hS hg42) rfl rfl hl.1 (by rw [(rfv_some hr41)]; rfl) (lv_room (Nat.le_of_ble_eq_true rfl)) dX15_some_48 ⟨by dsimp only; omega, by dsimp only; omega⟩) hL (fun H locs hR hF hL => ?_)
      refine WT.widen (k := wZ qw45 - z0) (n := 80 * (wZ qw45 - z0)) (by omega) (by omega) ?_
      exact WT.leave (fun x9 hx9 => hnoh x9 hx9 48) (fun t ht _ => ⟨rfl, by rw [ht]; exact hR, hF⟩) hL hlocks
    dsimp only at h
    obtain ⟨hz47, h⟩ := grd h
    refine k_TR (v := (some (.int (bI v43)))) (w := qw45) (mc := wZ qw45 - wZ qw35) (ms := 80 * (wZ qw45 - wZ qw35)) (st1 := [.int (bI v43)]) (runT_V (As := [rfv z v33]) (rest := []) ⟨hx, hb, hml, hown, hts⟩ (met_J9_add l htr G z H0 B n qw35 r40 v33 (.inl v43, qw45) hq46 hg42 hZ.2) hd_J9_add q1101 q1102 q1103 q126 q1104 ⟨by dsimp only; omega, by dsimp only; omega⟩ (preVL hK hR hF hN hS hg42) rfl rfl hl.1 (by rw [(rfv_some hr41)]; rfl) (lv_room (Nat.le_of_ble_eq_true rfl)) dX15_some_48 ⟨by dsimp only; omega, by dsimp only; omega⟩) hL rfl (fun H locs hR hF hL => ?_)
    refine W.wid (b := wZ qw45) (by omega) hZ.1 (Nat.le_refl _) ?_
    have hZ : z0 ≤ wZ qw45 ∧ wZ qw45 ≤ B := ⟨by omega, hz47.2⟩
    refine lv_pop hx hb dX15_some_51 rfl ?_
    refine lv_goto (tgt := 21) hx hb dX15_some_52 (by decide) ?_
    exact hc1 _ (Option.some.inj h).symm H locs ls hR hF hL hZ (lv_sub hl [0, 1] rfl)
def g_X15 : Nat → Nat → Nat → Nat → Nat → Wd → Option ((Option Nat ⊕ Nat) × Wd)
  | 0, _, _, _, _, _ => none
  | d + 1, 0, B, n, a0, w => f_X15_factor (g_X15 d) B n a0 w
  | d + 1, 1, B, n, a0, w => f_X15_all (g_X15 d) B n a0 w
  | d + 1, _ + 2, B, n, a0, w => f_X15_some (g_X15 d) B n a0 w
theorem gmet_X15 (l : Launch) (htr : ∀ e, l.admits e → e.platform.stackTraces = false) (G : Gw) (z : Nat) (H0 : Heap) (B n : Nat) : ∀ (d : Nat), ∀ (w : Wd) (a0 : Nat) (q : (Option Nat ⊕ Nat) × Wd), wZ w ≤ B → (wT w a0).1 = 16 → (g_X15 d 0 B n a0 w = some q → MetT l yX15_factor (ws_ yX15_factor cX15_factor 2 (some (.object "BarredBooks$Test"))) ({ frames := 8 + d, cells := B - wZ w, slots := 80 * (B - wZ w), locals := 191 + d * 21 } : Room) (pcT G z H0 w [.ref (z + a0)]) (qT G z H0 q.2 (cvR z q.1)) (wZ q.2 - wZ w) (80 * (wZ q.2 - wZ w)) (fun q => z ≤ q)) ∧ (g_X15 d 1 B n a0 w = some q → MetT l yX15_all (ws_ yX15_all cX15_all 2 (some (.object "BarredBooks$Test"))) ({ frames := 8 + d, cells := B - wZ w, slots := 80 * (B - wZ w), locals := 191 + d * 21 } : Room) (pcT G z H0 w [.ref (z + a0)]) (qT G z H0 q.2 (cvR z q.1)) (wZ q.2 - wZ w) (80 * (wZ q.2 - wZ w)) (fun q => z ≤ q)) ∧ (g_X15 d 2 B n a0 w = some q → MetT l yX15_some (ws_ yX15_some cX15_some 2 (some (.object "BarredBooks$Test"))) ({ frames := 8 + d, cells := B - wZ w, slots := 80 * (B - wZ w), locals := 191 + d * 21 } : Room) (pcT G z H0 w [.ref (z + a0)]) (qT G z H0 q.2 (cvR z q.1)) (wZ q.2 - wZ w) (80 * (wZ q.2 - wZ w)) (fun q => z ≤ q)) := by
  intro d
  induction d with
  | zero =>
    intro w a0 q _ _
    exact ⟨fun h => (by cases h), fun h => (by cases h), fun h => (by cases h)⟩
  | succ d ih =>
    intro w a0 q hB ht
    refine ⟨fun h => ?_, fun h => ?_, fun h => ?_⟩
    · have hm := met_X15_factor l htr G z H0 (g_X15 d) (8 + d) (191 + d * 21) B n w a0 q h ih (by omega) ht hB
      have e1 : 8 + d + 1 = 8 + (d + 1) := by omega
      have e2 : 191 + d * 21 + 21 = 191 + (d + 1) * 21 := by omega
      rw [e1, e2] at hm
      exact hm
    · have hm := met_X15_all l htr G z H0 (g_X15 d) (8 + d) (191 + d * 21) B n w a0 q h ih (by omega) ht hB
      have e1 : 8 + d + 1 = 8 + (d + 1) := by omega
      have e2 : 191 + d * 21 + 21 = 191 + (d + 1) * 21 := by omega
      rw [e1, e2] at hm
      exact hm
    · have hm := met_X15_some l htr G z H0 (g_X15 d) (8 + d) (191 + d * 21) B n w a0 q h ih (by omega) ht hB
      have e1 : 8 + d + 1 = 8 + (d + 1) := by omega
      have e2 : 191 + d * 21 + 21 = 191 + (d + 1) * 21 := by omega
      rw [e1, e2] at hm
      exact hm
def f_X15_shared_J43 (B n : Nat) (a0 : Nat) (a1 : Int32) (w : Wd) : Option ((Option Nat ⊕ Nat) × Wd) :=
  if a1 = (108 : Int32) then (if (wT w a0).1 = 16 then ((f_X15_word B n a0 ([101, 97, 118, 101, 32]) w).bind fun q69 => (match q69 with | (.inl v64, qw66) => if wZ w ≤ wZ qw66 ∧ wZ qw66 ≤ B then (if (wT qw66 a0).1 = 16 then ((f_X15_here a0 qw66).bind fun q71 => if (f_X0_in q71 (48 : Int32) (53 : Int32) qw66) then ((wR qw66 a0 0).bind fun r74 => if (wT (sI qw66 a0 2 ((wI qw66 a0 2) + (1 : Int32))) r74).1 = 201 then (if inb (wI qw66 a0 2) (wT (sI qw66 a0 2 ((wI qw66 a0 2) + (1 : Int32))) r74).2 then ((f_X15_must B n a0 (32 : Int32) (sI qw66 a0 2 ((wI qw66 a0 2) + (1 : Int32)))).bind fun q83 => (match q83 with | (.inl v78, qw80) => if wZ qw66 ≤ wZ qw80 ∧ wZ qw80 ≤ B then (if wZ qw80 + 1 ≤ B then (if (wT (sN qw80 22 0) a0).1 = 16 then ((f_X15_number B n a0 (sN qw80 22 0)).bind fun q94 => (match q94 with | (.inl v89, qw91) => if wZ (sN qw80 22 0) ≤ wZ qw91 ∧ wZ qw91 ≤ B then (if (wT qw91 (wZ qw80)).1 = 22 then ((f_X26_init (wZ qw80) ((wI (sI qw66 a0 2 ((wI qw66 a0 2) + (1 : Int32))) r74 ((wI qw66 a0 2).toNatClampNeg)) - (48 : Int32)) v89 qw91).bind fun q96 => if wZ qw91 ≤ wZ q96 ∧ wZ q96 ≤ B then (some (.inl (some (wZ qw80)), q96)) else none) else none) else none | (.inr x90, qw91) => if wZ (sN qw80 22 0) ≤ wZ qw91 ∧ wZ qw91 ≤ B then (some (.inr x90, qw91)) else none)) else none) else none) else none | (.inr x79, qw80) => if wZ qw66 ≤ wZ qw80 ∧ wZ qw80 ≤ B then (some (.inr x79, qw80)) else none)) else none) else none) else ((f_X15_off B n a0 qw66).bind fun q104 => (match q104 with | (.inl v99, qw101) => if wZ qw66 ≤ wZ qw101 ∧ wZ qw101 ≤ B then ((v99).bind fun r105 => some (.inr r105, qw101)) else none | (.inr x100, qw101) => if wZ qw66 ≤ wZ qw101 ∧ wZ qw101 ≤ B then (some (.inr x100, qw101)) else none))) else none) else none | (.inr x65, qw66) => if wZ w ≤ wZ qw66 ∧ wZ qw66 ≤ B then (some (.inr x65, qw66)) else none)) else none) else (if (wT w a0).1 = 16 then ((f_X15_word B n a0 ([114, 101, 101]) w).bind fun q12 => (match q12 with | (.inl v7, qw9) => if wZ w ≤ wZ qw9 ∧ wZ qw9 ≤ B then (if (wT qw9 a0).1 = 16 then ((f_X15_here a0 qw9).bind fun q14 => if q14 = (97 : Int32) then ((f_X15_word B n a0 ([97, 117, 116, 104, 111, 114, 32]) qw9).bind fun q45 => (match q45 with | (.inl v40, qw42) => if wZ qw9 ≤ wZ qw42 ∧ wZ qw42 ≤ B then (if wZ qw42 + 1 ≤ B then (if (wT (sN qw42 19 0) a0).1 = 16 then ((f_X15_number B n a0 (sN qw42 19 0)).bind fun q55 => (match q55 with | (.inl v50, qw52) => if wZ (sN qw42 19 0) ≤ wZ qw52 ∧ wZ qw52 ≤ B then (if 19 ≤ (wT qw52 (wZ qw42)).1 ∧ (wT qw52 (wZ qw42)).1 ≤ 20 then ((f_X19_init (wZ qw42) v50 (1 : Int32) qw52).bind fun q57 => if wZ qw52 ≤ wZ q57 ∧ wZ q57 ≤ B then (some (.inl (some (wZ qw42)), q57)) else none) else none) else none | (.inr x51, qw52) => if wZ (sN qw42 19 0) ≤ wZ qw52 ∧ wZ qw52 ≤ B then (some (.inr x51, qw52)) else none)) else none) else none) else none | (.inr x41, qw42) => if wZ qw9 ≤ wZ qw42 ∧ wZ qw42 ≤ B then (some (.inr x41, qw42)) else none)) else ((f_X15_must B n a0 (32 : Int32) qw9).bind fun q22 => (match q22 with | (.inl v17, qw19) => if wZ qw9 ≤ wZ qw19 ∧ wZ qw19 ≤ B then (if wZ qw19 + 1 ≤ B then (if (wT (sN qw19 20 0) a0).1 = 16 then ((f_X15_number B n a0 (sN qw19 20 0)).bind fun q32 => (match q32 with | (.inl v27, qw29) => if wZ (sN qw19 20 0) ≤ wZ qw29 ∧ wZ qw29 ≤ B then (if (wT qw29 (wZ qw19)).1 = 20 then ((f_X20_init (wZ qw19) v27 (1 : Int32) qw29).bind fun q34 => if wZ qw29 ≤ wZ q34 ∧ wZ q34 ≤ B then (some (.inl (some (wZ qw19)), q34)) else none) else none) else none | (.inr x28, qw29) => if wZ (sN qw19 20 0) ≤ wZ qw29 ∧ wZ qw29 ≤ B then (some (.inr x28, qw29)) else none)) else none) else none) else none | (.inr x18, qw19) => if wZ qw9 ≤ wZ qw19 ∧ wZ qw19 ≤ B then (some (.inr x18, qw19)) else none))) else none) else none | (.inr x8, qw9) => if wZ w ≤ wZ qw9 ∧ wZ qw9 ≤ B then (some (.inr x8, qw9)) else none)) else none)
def f_X15_shared (B n : Nat) (a0 : Nat) (a1 : Int32) (w : Wd) : Option ((Option Nat ⊕ Nat) × Wd) :=
  if a1 = (108 : Int32) then ((f_X15_here a0 (sI w a0 2 ((wI w a0 2) + (1 : Int32)))).bind fun q107 => if q107 = (105 : Int32) then ((f_X15_word B n a0 ([105, 110, 101, 32]) (sI w a0 2 ((wI w a0 2) + (1 : Int32)))).bind fun q118 => (match q118 with | (.inl v113, qw115) => if wZ w ≤ wZ qw115 ∧ wZ qw115 ≤ B then (if wZ qw115 + 1 ≤ B then (if (wT (sN qw115 21 0) a0).1 = 16 then ((g_X15 20 2 B n a0 (sN qw115 21 0)).bind fun q129 => (match q129 with | (.inl v124, qw126) => if wZ (sN qw115 21 0) ≤ wZ qw126 ∧ wZ qw126 ≤ B then (if (wT qw126 (wZ qw115)).1 = 21 then ((f_X21_init (wZ qw115) v124 qw126).bind fun q131 => if wZ qw126 ≤ wZ q131 ∧ wZ q131 ≤ B then (some (.inl (some (wZ qw115)), q131)) else none) else none) else none | (.inr x125, qw126) => if wZ (sN qw115 21 0) ≤ wZ qw126 ∧ wZ qw126 ≤ B then (some (.inr x125, qw126)) else none)) else none) else none) else none | (.inr x114, qw115) => if wZ w ≤ wZ qw115 ∧ wZ qw115 ≤ B then (some (.inr x114, qw115)) else none)) else (f_X15_shared_J43 B n a0 a1 (sI w a0 2 ((wI w a0 2) + (1 : Int32))))) else (f_X15_shared_J43 B n a0 a1 (sI w a0 2 ((wI w a0 2) + (1 : Int32))))
theorem hd_X15_shared : yX15_shared.cls ≠ "java/lang/invoke/MethodHandle" ∧ yX15_shared.cls ≠ "java/lang/invoke/VarHandle" ∧ (parseMethodDescriptor yX15_shared.desc).map (fun d => d.parameters.length) = some 1 := by decide +kernel
set_option maxHeartbeats 4000000 in
set_option maxRecDepth 100000 in
theorem met_X15_shared (l : Launch) (htr : ∀ e, l.admits e → e.platform.stackTraces = false) (G : Gw) (z : Nat) (H0 : Heap) (B n : Nat) (w : Wd) (a0 : Nat) (a1 : Int32) (q : (Option Nat ⊕ Nat) × Wd) (h : f_X15_shared B n a0 a1 w = some q) (ht0 : (wT w a0).1 = 16) (hB : wZ w ≤ B) : MetT l yX15_shared (ws_ yX15_shared cX15_shared 3 (some (.object "BarredBooks$Clause"))) ({ frames := 29, cells := B - wZ w, slots := 80 * (B - wZ w), locals := 632 } : Room) (pcT G z H0 w [.ref (z + a0), .int a1]) (qT G z H0 q.2 (cvR z q.1)) (wZ q.2 - wZ w) (80 * (wZ q.2 - wZ w)) (fun q => z ≤ q) := by
  refine mT (by decide) (Nat.le_of_ble_eq_true rfl) ?_
  intro p e s m below meth c ls hx hb hr hml hown hts hlocks hnm hnoh hK hR hF hN hS hl
  have hown : s.vm.findClass RX15 = some m.cls := hown
  have hl : lv_has ls 3 [(0, .ref (z + a0)), (1, .int a1)] := hl
  have hL : lok z [] := lok_nil
  unfold f_X15_shared at h
  obtain ⟨z0, hz0⟩ : ∃ z0, wZ w = z0 := ⟨_, rfl⟩
  rw [hz0]
  refine W.widen (k := wZ w - z0) (n := 80 * (wZ w - z0)) (Nat.zero_le _) (Nat.zero_le _) ?_
  have hZ : z0 ≤ wZ w ∧ wZ w ≤ B := ⟨by omega, hB⟩
  generalize s.heap = H at hR ⊢
  generalize ([] : List Loc) = locs at hL ⊢
  have hJ43 : ∀  (w : Wd), f_X15_shared_J43 B n a0 a1 w = some q → ∀ (H : Heap) (locs : List Loc) (ls : Array Slot), Rp G z H0 w H → Fix w → lok z locs → (z0 ≤ wZ w ∧ wZ w ≤ B) → lv_has ls 3 [(0, .ref (z + a0)), (1, .int a1)] → W p l e ({ frames := 29, cells := B - z0, slots := 80 * (B - z0), locals := 632 } : Room) s m ([.ref (z + a0), .int a1] : List Value).toArray below meth c H locs (wZ w - z0) (80 * (wZ w - z0)) (MQT below (qT G z H0 q.2 (cvR z q.1)) ([.ref (z + a0), .int a1] : List Value).toArray s (wZ q.2 - z0) (80 * (wZ q.2 - z0)) (fun q => z ≤ q)) (F0 m 43 ls []) := by
    intro  w h H locs ls hR hF hL hZ hl
    unfold f_X15_shared_J43 at h
    refine lv_iload_n hx hb dX15_shared_43 rfl (lv_at hl 1 rfl) ?_
    refine lv_bipush (v := 108) hx hb dX15_shared_44 (by decide) ?_
    refine lv_icmp_ne (tgt := 113) hx hb dX15_shared_46 (by decide) (fun c2 => ?_) (fun c2 => ?_)
    · rw [if_neg c2] at h
      refine lv_aload_n hx hb dX15_shared_113 rfl (lv_at hl 0 rfl) ?_
      obtain ⟨k3, hk4, hstr5⟩ := hS.2.2.2.2.2.2 (109, "ree", [114, 101, 101]) (by simp [rkl])
      refine va_ldcS hx hb hown hk4 dX15_shared_114 ?_
      obtain ⟨hg6, h⟩ := grd h
      obtain ⟨⟨v7 | x8, qw9⟩, hq10, h⟩ := bnd h
      rotate_left
      · dsimp only at h
        obtain ⟨hz11, h⟩ := grd h
        have h := Option.some.inj h
        subst h
        refine k_TT (w := qw9) (x := x8) (mc := wZ qw9 - wZ w) (ms := 80 * (wZ qw9 - wZ w)) (runT_V (As := [.ref k3]) (rest := []) ⟨hx, hb, hml, hown, hts⟩ (met_X15_word l htr G z H0 k3 B n w a0 ([114, 101, 101]) (.inr x8, qw9) hq10 hg6 hZ.2) hd_X15_word q923 q925 qs9 q122 q926 ⟨Nat.le_of_ble_eq_true rfl, Nat.le_of_ble_eq_true rfl⟩ (preVQ (q := (RX15, TX15, 4)) (fun u U h1 h2 => strF.moved h1 h2) hstr5 hK hR hF hN hS hg6 rfl) rfl rfl hl.1 rfl (lv_room (Nat.le_of_ble_eq_true rfl)) dX15_shared_116 ⟨by dsimp only; omega, by dsimp only; omega⟩) hL (fun H locs hR hF hL => ?_)
        refine WT.widen (k := wZ qw9 - z0) (n := 80 * (wZ qw9 - z0)) (by omega) (by omega) ?_
        exact WT.leave (fun x9 hx9 => hnoh x9 hx9 116) (fun t ht _ => ⟨rfl, by rw [ht]; exact hR, hF⟩) hL hlocks
      dsimp only at h
      obtain ⟨hz11, h⟩ := grd h
      refine k_TR (v := none) (w := qw9) (mc := wZ qw9 - wZ w) (ms := 80 * (wZ qw9 - wZ w)) (st1 := []) (runT_V (As := [.ref k3]) (rest := []) ⟨hx, hb, hml, hown, hts⟩ (met_X15_word l htr G z H0 k3 B n w a0 ([114, 101, 101]) (.inl v7, qw9) hq10 hg6 hZ.2) hd_X15_word q923 q925 qs9 q122 q926 ⟨Nat.le_of_ble_eq_true rfl, Nat.le_of_ble_eq_true rfl⟩ (preVQ (q := (RX15, TX15, 4)) (fun u U h1 h2 => strF.moved h1 h2) hstr5 hK hR hF hN hS hg6 rfl) rfl rfl hl.1 rfl (lv_room (Nat.le_of_ble_eq_true rfl)) dX15_shared_116 ⟨by dsimp only; omega, by dsimp only; omega⟩) hL rfl (fun H locs hR hF hL => ?_)
      refine W.wid (b := wZ qw9) (by omega) hZ.1 (Nat.le_refl _) ?_
      have hZ : z0 ≤ wZ qw9 ∧ wZ qw9 ≤ B := ⟨by omega, hz11.2⟩
      refine lv_aload_n hx hb dX15_shared_119 rfl (lv_at hl 0 rfl) ?_
      obtain ⟨hg13, h⟩ := grd h
      obtain ⟨q14, hq15, h⟩ := bnd h
      refine k_P (st1 := [.int q14]) (va_runV (As := []) (rest := []) ⟨hx, hb, hml, hown, hts⟩ (met_X15_here l G z H0 qw9 a0 q14 hq15 hg13) (cwV 0 hts (lw_V q918 q920 qs8 q122 q921) rfl rfl rfl ⟨rfl, hd_X15_here⟩ ⟨Nat.le_of_ble_eq_true rfl, Nat.le_of_ble_eq_true rfl⟩) (preV (q := (RX15, TX15, 4)) hK hR hF hN hg13 rfl) rfl rfl hl.1 rfl (lv_room (Nat.le_of_ble_eq_true rfl)) dX15_shared_120 ⟨by dsimp only; omega, by dsimp only; omega⟩) hL rfl (fun locs hL => ?_)
      refine W.wid (b := wZ qw9) (Nat.le_refl _) hZ.1 (Nat.le_refl _) ?_
      refine lv_bipush (v := 97) hx hb dX15_shared_123 (by decide) ?_
      refine lv_icmp_ne (tgt := 147) hx hb dX15_shared_125 (by decide) (fun c16 => ?_) (fun c16 => ?_)
      · rw [if_neg c16] at h
        refine lv_aload_n hx hb dX15_shared_147 rfl (lv_at hl 0 rfl) ?_
        refine lv_bipush (v := 32) hx hb dX15_shared_148 (by decide) ?_
        obtain ⟨⟨v17 | x18, qw19⟩, hq20, h⟩ := bnd h
        rotate_left
        · dsimp only at h
          obtain ⟨hz21, h⟩ := grd h
          have h := Option.some.inj h
          subst h
          refine k_TT (w := qw19) (x := x18) (mc := wZ qw19 - wZ qw9) (ms := 80 * (wZ qw19 - wZ qw9)) (runT_V (As := [.int (32 : Int32)]) (rest := []) ⟨hx, hb, hml, hown, hts⟩ (met_X15_must l htr G z H0 B n qw9 a0 (32 : Int32) (.inr x18, qw19) hq20 hg13 hZ.2) hd_X15_must q975 q977 qs10 q122 q978 ⟨Nat.le_of_ble_eq_true rfl, Nat.le_of_ble_eq_true rfl⟩ (preVT (q := (RX15, TX15, 4)) hK hR hF hN hS hg13 rfl) rfl rfl hl.1 rfl (lv_room (Nat.le_of_ble_eq_true rfl)) dX15_shared_150 ⟨by dsimp only; omega, by dsimp only; omega⟩) hL (fun H locs hR hF hL => ?_)
          refine WT.widen (k := wZ qw19 - z0) (n := 80 * (wZ qw19 - z0)) (by omega) (by omega) ?_
          exact WT.leave (fun x9 hx9 => hnoh x9 hx9 150) (fun t ht _ => ⟨rfl, by rw [ht]; exact hR, hF⟩) hL hlocks
        dsimp only at h
        obtain ⟨hz21, h⟩ := grd h
        refine k_TR (v := none) (w := qw19) (mc := wZ qw19 - wZ qw9) (ms := 80 * (wZ qw19 - wZ qw9)) (st1 := []) (runT_V (As := [.int (32 : Int32)]) (rest := []) ⟨hx, hb, hml, hown, hts⟩ (met_X15_must l htr G z H0 B n qw9 a0 (32 : Int32) (.inl v17, qw19) hq20 hg13 hZ.2) hd_X15_must q975 q977 qs10 q122 q978 ⟨Nat.le_of_ble_eq_true rfl, Nat.le_of_ble_eq_true rfl⟩ (preVT (q := (RX15, TX15, 4)) hK hR hF hN hS hg13 rfl) rfl rfl hl.1 rfl (lv_room (Nat.le_of_ble_eq_true rfl)) dX15_shared_150 ⟨by dsimp only; omega, by dsimp only; omega⟩) hL rfl (fun H locs hR hF hL => ?_)
        refine W.wid (b := wZ qw19) (by omega) hZ.1 (Nat.le_refl _) ?_
        have hZ : z0 ≤ wZ qw19 ∧ wZ qw19 ≤ B := ⟨by omega, hz21.2⟩
        obtain ⟨hz23, h⟩ := grd h
        refine x_new (C := RX20) (T := TX20) (N := 2) (nS := 2) (ci := 19) hx hb hts ok19 hown (hts _ q1027) (hts _ q1028) (hts _ q133) hK hR rfl (ty_ok19) (by dsimp only; omega) (by dsimp only; omega) dX15_shared_153 (fun H hR => ?_)
        have hF := hF.sN 20 0
        have ez24 : wZ (sN qw19 20 0) = wZ qw19 + 1 := rfl
        refine W.wid (b := wZ (sN qw19 20 0)) (by omega) hZ.1 (by decide) ?_
        have hZ : z0 ≤ wZ (sN qw19 20 0) ∧ wZ (sN qw19 20 0) ≤ B := ⟨by omega, by omega⟩
        have hg25 : (wT (sN qw19 20 0) (wZ qw19)).1 = 20 := by rw [wT_sN, if_pos rfl]
        refine lv_dup hx hb dX15_shared_156 rfl ?_
        refine lv_aload_n hx hb dX15_shared_157 rfl (lv_at hl 0 rfl) ?_
        obtain ⟨hg26, h⟩ := grd h
        obtain ⟨⟨v27 | x28, qw29⟩, hq30, h⟩ := bnd h
        rotate_left
        · dsimp only at h
          obtain ⟨hz31, h⟩ := grd h
          have h := Option.some.inj h
          subst h
          refine k_TT (w := qw29) (x := x28) (mc := wZ qw29 - wZ (sN qw19 20 0)) (ms := 80 * (wZ qw29 - wZ (sN qw19 20 0))) (runT_V (As := []) (rest := [.ref (z + wZ qw19), .ref (z + wZ qw19)]) ⟨hx, hb, hml, hown, hts⟩ (met_X15_number l htr G z H0 B n (sN qw19 20 0) a0 (.inr x28, qw29) hq30 hg26 hZ.2) hd_X15_number q1004 q1006 qs12 q122 q1007 ⟨Nat.le_of_ble_eq_true rfl, Nat.le_of_ble_eq_true rfl⟩ (preVT (q := (RX15, TX15, 4)) hK hR hF hN hS hg26 rfl) rfl rfl hl.1 rfl (lv_room (Nat.le_of_ble_eq_true rfl)) dX15_shared_158 ⟨by dsimp only; omega, by dsimp only; omega⟩) hL (fun H locs hR hF hL => ?_)
          refine WT.widen (k := wZ qw29 - z0) (n := 80 * (wZ qw29 - z0)) (by omega) (by omega) ?_
          exact WT.leave (fun x9 hx9 => hnoh x9 hx9 158) (fun t ht _ => ⟨rfl, by rw [ht]; exact hR, hF⟩) hL hlocks
        dsimp only at h
        obtain ⟨hz31, h⟩ := grd h
        refine k_TR (v := (some (.int v27))) (w := qw29) (mc := wZ qw29 - wZ (sN qw19 20 0)) (ms := 80 * (wZ qw29 - wZ (sN qw19 20 0))) (st1 := [.int v27, .ref (z + wZ qw19), .ref (z + wZ qw19)]) (runT_V (As := []) (rest := [.ref (z + wZ qw19), .ref (z + wZ qw19)]) ⟨hx, hb, hml, hown, hts⟩ (met_X15_number l htr G z H0 B n (sN qw19 20 0) a0 (.inl v27, qw29) hq30 hg26 hZ.2) hd_X15_number q1004 q1006 qs12 q122 q1007 ⟨Nat.le_of_ble_eq_true rfl, Nat.le_of_ble_eq_true rfl⟩ (preVT (q := (RX15, TX15, 4)) hK hR hF hN hS hg26 rfl) rfl rfl hl.1 rfl (lv_room (Nat.le_of_ble_eq_true rfl)) dX15_shared_158 ⟨by dsimp only; omega, by dsimp only; omega⟩) hL rfl (fun H locs hR hF hL => ?_)
        refine W.wid (b := wZ qw29) (by omega) hZ.1 (Nat.le_refl _) ?_
        have hZ : z0 ≤ wZ qw29 ∧ wZ qw29 ≤ B := ⟨by omega, hz31.2⟩
        refine lv_iconst (v := 1) hx hb dX15_shared_161 (by decide) ?_
        obtain ⟨hg33, h⟩ := grd h
        obtain ⟨q34, hq35, h⟩ := bnd h
        obtain ⟨hz36, h⟩ := grd h
        refine k_W (st1 := [.ref (z + wZ qw19)]) (va_runI (As := [.int v27, .int (1 : Int32)]) (rest := [.ref (z + wZ qw19)]) ⟨hx, hb, hml, hown, hts⟩ (met_X20_init l G z H0 qw29 (wZ qw19) v27 (1 : Int32) q34 hq35 hg33) (cwI 2 hts (lw_meth q1031) rfl rfl rfl (hts _ q133) (hts _ q1029) (hts _ q1030) rfl hd_X20_init ⟨Nat.le_of_ble_eq_true rfl, Nat.le_of_ble_eq_true rfl⟩) (preS hK hR hF hN) rfl rfl hl.1 rfl (lv_room (Nat.le_of_ble_eq_true rfl)) dX15_shared_162 ⟨by dsimp only; omega, by dsimp only; omega⟩) hL rfl (fun H locs hR hF hL => ?_)
        refine W.wid (b := wZ q34) (by omega) hZ.1 (by decide) ?_
        have hZ : z0 ≤ wZ q34 ∧ wZ q34 ≤ B := ⟨by omega, hz36.2⟩
        have h := Option.some.inj h
        subst h
        exact W.toT (x_aret (r := some (wZ qw19)) hx hb hr rfl (fun t ht _ => ⟨rfl, by rw [ht]; exact hR, hF⟩) hL dX15_shared_165 hlocks)
      · rw [if_pos c16] at h
        refine lv_aload_n hx hb dX15_shared_128 rfl (lv_at hl 0 rfl) ?_
        obtain ⟨k37, hk38, hstr39⟩ := hS.2.2.2.2.2.2 (111, "author ", [97, 117, 116, 104, 111, 114, 32]) (by simp [rkl])
        refine va_ldcS hx hb hown hk38 dX15_shared_129 ?_
        obtain ⟨⟨v40 | x41, qw42⟩, hq43, h⟩ := bnd h
        rotate_left
        · dsimp only at h
          obtain ⟨hz44, h⟩ := grd h
          have h := Option.some.inj h
          subst h
          refine k_TT (w := qw42) (x := x41) (mc := wZ qw42 - wZ qw9) (ms := 80 * (wZ qw42 - wZ qw9)) (runT_V (As := [.ref k37]) (rest := []) ⟨hx, hb, hml, hown, hts⟩ (met_X15_word l htr G z H0 k37 B n qw9 a0 ([97, 117, 116, 104, 111, 114, 32]) (.inr x41, qw42) hq43 hg13 hZ.2) hd_X15_word q923 q925 qs9 q122 q926 ⟨Nat.le_of_ble_eq_true rfl, Nat.le_of_ble_eq_true rfl⟩ (preVQ (q := (RX15, TX15, 4)) (fun u U h1 h2 => strF.moved h1 h2) hstr39 hK hR hF hN hS hg13 rfl) rfl rfl hl.1 rfl (lv_room (Nat.le_of_ble_eq_true rfl)) dX15_shared_131 ⟨by dsimp only; omega, by dsimp only; omega⟩) hL (fun H locs hR hF hL => ?_)
          refine WT.widen (k := wZ qw42 - z0) (n := 80 * (wZ qw42 - z0)) (by omega) (by omega) ?_
          exact WT.leave (fun x9 hx9 => hnoh x9 hx9 131) (fun t ht _ => ⟨rfl, by rw [ht]; exact hR, hF⟩) hL hlocks
        dsimp only at h
        obtain ⟨hz44, h⟩ := grd h
        refine k_TR (v := none) (w := qw42) (mc := wZ qw42 - wZ qw9) (ms := 80 * (wZ qw42 - wZ qw9)) (st1 := []) (runT_V (As := [.ref k37]) (rest := []) ⟨hx, hb, hml, hown, hts⟩ (met_X15_word l htr G z H0 k37 B n qw9 a0 ([97, 117, 116, 104, 111, 114, 32]) (.inl v40, qw42) hq43 hg13 hZ.2) hd_X15_word q923 q925 qs9 q122 q926 ⟨Nat.le_of_ble_eq_true rfl, Nat.le_of_ble_eq_true rfl⟩ (preVQ (q := (RX15, TX15, 4)) (fun u U h1 h2 => strF.moved h1 h2) hstr39 hK hR hF hN hS hg13 rfl) rfl rfl hl.1 rfl (lv_room (Nat.le_of_ble_eq_true rfl)) dX15_shared_131 ⟨by dsimp only; omega, by dsimp only; omega⟩) hL rfl (fun H locs hR hF hL => ?_)
        refine W.wid (b := wZ qw42) (by omega) hZ.1 (Nat.le_refl _) ?_
        have hZ : z0 ≤ wZ qw42 ∧ wZ qw42 ≤ B := ⟨by omega, hz44.2⟩
        obtain ⟨hz46, h⟩ := grd h
        refine x_new (C := RX19) (T := TX19) (N := 2) (nS := 2) (ci := 18) hx hb hts ok18 hown (hts _ q1002) (hts _ q1003) (hts _ q132) hK hR rfl (ty_ok18) (by dsimp only; omega) (by dsimp only; omega) dX15_shared_134 (fun H hR => ?_)
        have hF := hF.sN 19 0
        have ez47 : wZ (sN qw42 19 0) = wZ qw42 + 1 := rfl
        refine W.wid (b := wZ (sN qw42 19 0)) (by omega) hZ.1 (by decide) ?_
        have hZ : z0 ≤ wZ (sN qw42 19 0) ∧ wZ (sN qw42 19 0) ≤ B := ⟨by omega, by omega⟩
        have hg48 : (wT (sN qw42 19 0) (wZ qw42)).1 = 19 := by rw [wT_sN, if_pos rfl]
        refine lv_dup hx hb dX15_shared_137 rfl ?_
        refine lv_aload_n hx hb dX15_shared_138 rfl (lv_at hl 0 rfl) ?_
        obtain ⟨hg49, h⟩ := grd h
        obtain ⟨⟨v50 | x51, qw52⟩, hq53, h⟩ := bnd h
        rotate_left
        · dsimp only at h
          obtain ⟨hz54, h⟩ := grd h
          have h := Option.some.inj h
          subst h
          refine k_TT (w := qw52) (x := x51) (mc := wZ qw52 - wZ (sN qw42 19 0)) (ms := 80 * (wZ qw52 - wZ (sN qw42 19 0))) (runT_V (As := []) (rest := [.ref (z + wZ qw42), .ref (z + wZ qw42)]) ⟨hx, hb, hml, hown, hts⟩ (met_X15_number l htr G z H0 B n (sN qw42 19 0) a0 (.inr x51, qw52) hq53 hg49 hZ.2) hd_X15_number q1004 q1006 qs12 q122 q1007 ⟨Nat.le_of_ble_eq_true rfl, Nat.le_of_ble_eq_true rfl⟩ (preVT (q := (RX15, TX15, 4)) hK hR hF hN hS hg49 rfl) rfl rfl hl.1 rfl (lv_room (Nat.le_of_ble_eq_true rfl)) dX15_shared_139 ⟨by dsimp only; omega, by dsimp only; omega⟩) hL (fun H locs hR hF hL => ?_)
          refine WT.widen (k := wZ qw52 - z0) (n := 80 * (wZ qw52 - z0)) (by omega) (by omega) ?_
          exact WT.leave (fun x9 hx9 => hnoh x9 hx9 139) (fun t ht _ => ⟨rfl, by rw [ht]; exact hR, hF⟩) hL hlocks
        dsimp only at h
        obtain ⟨hz54, h⟩ := grd h
        refine k_TR (v := (some (.int v50))) (w := qw52) (mc := wZ qw52 - wZ (sN qw42 19 0)) (ms := 80 * (wZ qw52 - wZ (sN qw42 19 0))) (st1 := [.int v50, .ref (z + wZ qw42), .ref (z + wZ qw42)]) (runT_V (As := []) (rest := [.ref (z + wZ qw42), .ref (z + wZ qw42)]) ⟨hx, hb, hml, hown, hts⟩ (met_X15_number l htr G z H0 B n (sN qw42 19 0) a0 (.inl v50, qw52) hq53 hg49 hZ.2) hd_X15_number q1004 q1006 qs12 q122 q1007 ⟨Nat.le_of_ble_eq_true rfl, Nat.le_of_ble_eq_true rfl⟩ (preVT (q := (RX15, TX15, 4)) hK hR hF hN hS hg49 rfl) rfl rfl hl.1 rfl (lv_room (Nat.le_of_ble_eq_true rfl)) dX15_shared_139 ⟨by dsimp only; omega, by dsimp only; omega⟩) hL rfl (fun H locs hR hF hL => ?_)
        refine W.wid (b := wZ qw52) (by omega) hZ.1 (Nat.le_refl _) ?_
        have hZ : z0 ≤ wZ qw52 ∧ wZ qw52 ≤ B := ⟨by omega, hz54.2⟩
        refine lv_iconst (v := 1) hx hb dX15_shared_142 (by decide) ?_
        obtain ⟨hg56, h⟩ := grd h
        obtain ⟨q57, hq58, h⟩ := bnd h
        obtain ⟨hz59, h⟩ := grd h
        refine k_W (st1 := [.ref (z + wZ qw42)]) (va_runI (As := [.int v50, .int (1 : Int32)]) (rest := [.ref (z + wZ qw42)]) ⟨hx, hb, hml, hown, hts⟩ (met_X19_init l G z H0 qw52 (wZ qw42) v50 (1 : Int32) q57 hq58 (by omega)) (cwI 2 hts (lw_meth q1011) rfl rfl rfl (hts _ q132) (hts _ q1009) (hts _ q1010) rfl hd_X19_init ⟨Nat.le_of_ble_eq_true rfl, Nat.le_of_ble_eq_true rfl⟩) (preS hK hR hF hN) rfl rfl hl.1 rfl (lv_room (Nat.le_of_ble_eq_true rfl)) dX15_shared_143 ⟨by dsimp only; omega, by dsimp only; omega⟩) hL rfl (fun H locs hR hF hL => ?_)
        refine W.wid (b := wZ q57) (by omega) hZ.1 (by decide) ?_
        have hZ : z0 ≤ wZ q57 ∧ wZ q57 ≤ B := ⟨by omega, hz59.2⟩
        have h := Option.some.inj h
        subst h
        exact W.toT (x_aret (r := some (wZ qw42)) hx hb hr rfl (fun t ht _ => ⟨rfl, by rw [ht]; exact hR, hF⟩) hL dX15_shared_146 hlocks)
    · rw [if_pos c2] at h
      refine lv_aload_n hx hb dX15_shared_49 rfl (lv_at hl 0 rfl) ?_
      obtain ⟨k60, hk61, hstr62⟩ := hS.2.2.2.2.2.2 (104, "eave ", [101, 97, 118, 101, 32]) (by simp [rkl])
      refine va_ldcS hx hb hown hk61 dX15_shared_50 ?_
      obtain ⟨hg63, h⟩ := grd h
      obtain ⟨⟨v64 | x65, qw66⟩, hq67, h⟩ := bnd h
      rotate_left
      · dsimp only at h
        obtain ⟨hz68, h⟩ := grd h
        have h := Option.some.inj h
        subst h
        refine k_TT (w := qw66) (x := x65) (mc := wZ qw66 - wZ w) (ms := 80 * (wZ qw66 - wZ w)) (runT_V (As := [.ref k60]) (rest := []) ⟨hx, hb, hml, hown, hts⟩ (met_X15_word l htr G z H0 k60 B n w a0 ([101, 97, 118, 101, 32]) (.inr x65, qw66) hq67 hg63 hZ.2) hd_X15_word q923 q925 qs9 q122 q926 ⟨Nat.le_of_ble_eq_true rfl, Nat.le_of_ble_eq_true rfl⟩ (preVQ (q := (RX15, TX15, 4)) (fun u U h1 h2 => strF.moved h1 h2) hstr62 hK hR hF hN hS hg63 rfl) rfl rfl hl.1 rfl (lv_room (Nat.le_of_ble_eq_true rfl)) dX15_shared_52 ⟨by dsimp only; omega, by dsimp only; omega⟩) hL (fun H locs hR hF hL => ?_)
        refine WT.widen (k := wZ qw66 - z0) (n := 80 * (wZ qw66 - z0)) (by omega) (by omega) ?_
        exact WT.leave (fun x9 hx9 => hnoh x9 hx9 52) (fun t ht _ => ⟨rfl, by rw [ht]; exact hR, hF⟩) hL hlocks
      dsimp only at h
      obtain ⟨hz68, h⟩ := grd h
      refine k_TR (v := none) (w := qw66) (mc := wZ qw66 - wZ w) (ms := 80 * (wZ qw66 - wZ w)) (st1 := []) (runT_V (As := [.ref k60]) (rest := []) ⟨hx, hb, hml, hown, hts⟩ (met_X15_word l htr G z H0 k60 B n w a0 ([101, 97, 118, 101, 32]) (.inl v64, qw66) hq67 hg63 hZ.2) hd_X15_word q923 q925 qs9 q122 q926 ⟨Nat.le_of_ble_eq_true rfl, Nat.le_of_ble_eq_true rfl⟩ (preVQ (q := (RX15, TX15, 4)) (fun u U h1 h2 => strF.moved h1 h2) hstr62 hK hR hF hN hS hg63 rfl) rfl rfl hl.1 rfl (lv_room (Nat.le_of_ble_eq_true rfl)) dX15_shared_52 ⟨by dsimp only; omega, by dsimp only; omega⟩) hL rfl (fun H locs hR hF hL => ?_)
      refine W.wid (b := wZ qw66) (by omega) hZ.1 (Nat.le_refl _) ?_
      have hZ : z0 ≤ wZ qw66 ∧ wZ qw66 ≤ B := ⟨by omega, hz68.2⟩
      refine lv_aload_n hx hb dX15_shared_55 rfl (lv_at hl 0 rfl) ?_
      obtain ⟨hg70, h⟩ := grd h
      obtain ⟨q71, hq72, h⟩ := bnd h
      refine k_P (st1 := [.int q71]) (va_runV (As := []) (rest := []) ⟨hx, hb, hml, hown, hts⟩ (met_X15_here l G z H0 qw66 a0 q71 hq72 hg70) (cwV 0 hts (lw_V q918 q920 qs8 q122 q921) rfl rfl rfl ⟨rfl, hd_X15_here⟩ ⟨Nat.le_of_ble_eq_true rfl, Nat.le_of_ble_eq_true rfl⟩) (preV (q := (RX15, TX15, 4)) hK hR hF hN hg70 rfl) rfl rfl hl.1 rfl (lv_room (Nat.le_of_ble_eq_true rfl)) dX15_shared_56 ⟨by dsimp only; omega, by dsimp only; omega⟩) hL rfl (fun locs hL => ?_)
      refine W.wid (b := wZ qw66) (Nat.le_refl _) hZ.1 (Nat.le_refl _) ?_
      refine lv_bipush (v := 48) hx hb dX15_shared_59 (by decide) ?_
      refine lv_bipush (v := 53) hx hb dX15_shared_61 (by decide) ?_
      refine k_P (st1 := [.int (bI (f_X0_in q71 (48 : Int32) (53 : Int32) qw66))]) (va_runSN (As := [.int q71, .int (48 : Int32), .int (53 : Int32)]) (rest := []) ⟨hx, hb, hml, hown, hts⟩ (met_X0_in l G z H0 qw66 q71 (48 : Int32) (53 : Int32) _ rfl) ⟨va_cnB (host := "BarredBooks") 3 hts (lw_meth q346) rfl rfl rfl (hN.at q1008 rfl) (hts _ q100) hd_X0_in ⟨Nat.le_of_ble_eq_true rfl, Nat.le_of_ble_eq_true rfl⟩, hts _ q345, trivial⟩ (preS hK hR hF hN) rfl rfl hl.1 rfl (lv_room (Nat.le_of_ble_eq_true rfl)) dX15_shared_63 ⟨by dsimp only; omega, by dsimp only; omega⟩) hL rfl (fun locs hL => ?_)
      refine W.wid (b := wZ qw66) (Nat.le_refl _) hZ.1 (Nat.le_refl _) ?_
      refine lv_if_ne (tgt := 74) hx hb dX15_shared_66 (by decide) (fun c73 => ?_) (fun c73 => ?_)
      · rw [if_pos (bI_p c73)] at h
        refine lv_aload_n hx hb dX15_shared_74 rfl (lv_at hl 0 rfl) ?_
        refine x_get (k := 0) (o := "BarredBooks$Reader") (n := "text") (d := "[B") (fin := true) (ty := (.array .byte)) (host := "BarredBooks") hx hb hts hown hK hR rfl (Fam.one (r := (RX15, TX15, 4)) hg70 rfl ok15 (by decide)) (Or.inl (hts _ q852)) (fun _ h9 => h9) (v := rfv z (wR qw66 a0 0)) rfl dX15_shared_75 ?_
        refine lv_aload_n hx hb dX15_shared_78 rfl (lv_at hl 0 rfl) ?_
        refine lv_dup hx hb dX15_shared_79 rfl ?_
        refine x_get (k := 2) (o := "BarredBooks$Reader") (n := "at") (d := "I") (fin := false) (ty := .int) (host := "BarredBooks") hx hb hts hown hK hR rfl (Fam.one (r := (RX15, TX15, 4)) hg70 rfl ok15 (by decide)) (Or.inl (hts _ q854)) (fun _ h9 => h9) (v := .int (wI qw66 a0 2)) rfl dX15_shared_80 ?_
        refine lv_dup_x1 hx hb dX15_shared_83 rfl rfl ?_
        refine lv_iconst (v := 1) hx hb dX15_shared_84 (by decide) ?_
        refine lv_iadd hx hb dX15_shared_85 ?_
        refine x_putI (k := 2) (o := "BarredBooks$Reader") (n := "at") (d := "I") (fin := false) (ty := .int) (host := "BarredBooks") hx hb hts hown hK hR hL rfl (Fam.one (r := (RX15, TX15, 4)) hg70 rfl ok15 (by decide)) (Or.inl (hts _ q854)) (fun _ h9 => h9) (Or.inl rfl) rfl rfl rfl dX15_shared_86 (fun H locs hR hL => ?_)
        rw [← wT_sI _ a0 2 ((wI qw66 a0 2) + (1 : Int32))] at hg70
        have hF := hF.sI a0 2 ((wI qw66 a0 2) + (1 : Int32))
        obtain ⟨r74, hr75, h⟩ := bnd h
        obtain ⟨hg76, h⟩ := grd h
        obtain ⟨hb77, h⟩ := grd h
        refine x_bald (v := wI (sI qw66 a0 2 ((wI qw66 a0 2) + (1 : Int32))) r74 ((wI qw66 a0 2).toNatClampNeg)) hx hb hK hR (rfv_some hr75) (wT_pair hg76) hb77 rfl dX15_shared_89 ?_
        refine lv_bipush (v := 48) hx hb dX15_shared_90 (by decide) ?_
        refine lv_isub hx hb dX15_shared_92 ?_
        refine lv_istore_n (lv' := [(2, .int ((wI (sI qw66 a0 2 ((wI qw66 a0 2) + (1 : Int32))) r74 ((wI qw66 a0 2).toNatClampNeg)) - (48 : Int32))), (0, .ref (z + a0)), (1, .int a1)]) hx hb dX15_shared_93 rfl hl (by decide) rfl (fun ls hl => ?_)
        refine lv_aload_n hx hb dX15_shared_94 rfl (lv_at hl 1 rfl) ?_
        refine lv_bipush (v := 32) hx hb dX15_shared_95 (by decide) ?_
        have ez84 : wZ (sI qw66 a0 2 ((wI qw66 a0 2) + (1 : Int32))) = wZ qw66 := rfl
        obtain ⟨⟨v78 | x79, qw80⟩, hq81, h⟩ := bnd h
        rotate_left
        · dsimp only at h
          obtain ⟨hz82, h⟩ := grd h
          have h := Option.some.inj h
          subst h
          refine k_TT (w := qw80) (x := x79) (mc := wZ qw80 - wZ (sI qw66 a0 2 ((wI qw66 a0 2) + (1 : Int32)))) (ms := 80 * (wZ qw80 - wZ (sI qw66 a0 2 ((wI qw66 a0 2) + (1 : Int32))))) (runT_V (As := [.int (32 : Int32)]) (rest := []) ⟨hx, hb, hml, hown, hts⟩ (met_X15_must l htr G z H0 B n (sI qw66 a0 2 ((wI qw66 a0 2) + (1 : Int32))) a0 (32 : Int32) (.inr x79, qw80) hq81 hg70 hZ.2) hd_X15_must q975 q977 qs10 q122 q978 ⟨Nat.le_of_ble_eq_true rfl, Nat.le_of_ble_eq_true rfl⟩ (preVT (q := (RX15, TX15, 4)) hK hR hF hN hS hg70 rfl) rfl rfl hl.1 rfl (lv_room (Nat.le_of_ble_eq_true rfl)) dX15_shared_97 ⟨by dsimp only; omega, by dsimp only; omega⟩) hL (fun H locs hR hF hL => ?_)
          refine WT.widen (k := wZ qw80 - z0) (n := 80 * (wZ qw80 - z0)) (by omega) (by omega) ?_
          exact WT.leave (fun x9 hx9 => hnoh x9 hx9 97) (fun t ht _ => ⟨rfl, by rw [ht]; exact hR, hF⟩) hL hlocks
        dsimp only at h
        obtain ⟨hz82, h⟩ := grd h
        refine k_TR (v := none) (w := qw80) (mc := wZ qw80 - wZ (sI qw66 a0 2 ((wI qw66 a0 2) + (1 : Int32)))) (ms := 80 * (wZ qw80 - wZ (sI qw66 a0 2 ((wI qw66 a0 2) + (1 : Int32))))) (st1 := []) (runT_V (As := [.int (32 : Int32)]) (rest := []) ⟨hx, hb, hml, hown, hts⟩ (met_X15_must l htr G z H0 B n (sI qw66 a0 2 ((wI qw66 a0 2) + (1 : Int32))) a0 (32 : Int32) (.inl v78, qw80) hq81 hg70 hZ.2) hd_X15_must q975 q977 qs10 q122 q978 ⟨Nat.le_of_ble_eq_true rfl, Nat.le_of_ble_eq_true rfl⟩ (preVT (q := (RX15, TX15, 4)) hK hR hF hN hS hg70 rfl) rfl rfl hl.1 rfl (lv_room (Nat.le_of_ble_eq_true rfl)) dX15_shared_97 ⟨by dsimp only; omega, by dsimp only; omega⟩) hL rfl (fun H locs hR hF hL => ?_)
        refine W.wid (b := wZ qw80) (by omega) hZ.1 (Nat.le_refl _) ?_
        have hZ : z0 ≤ wZ qw80 ∧ wZ qw80 ≤ B := ⟨by omega, hz82.2⟩
        obtain ⟨hz85, h⟩ := grd h
        refine x_new (C := RX26) (T := TX26) (N := 2) (nS := 2) (ci := 21) hx hb hts ok21 hown (hts _ q1187) (hts _ q1188) (hts _ q142) hK hR rfl (ty_ok21) (by dsimp only; omega) (by dsimp only; omega) dX15_shared_100 (fun H hR => ?_)
        have hF := hF.sN 22 0
        have ez86 : wZ (sN qw80 22 0) = wZ qw80 + 1 := rfl
        refine W.wid (b := wZ (sN qw80 22 0)) (by omega) hZ.1 (by decide) ?_
        have hZ : z0 ≤ wZ (sN qw80 22 0) ∧ wZ (sN qw80 22 0) ≤ B := ⟨by omega, by omega⟩
        have hg87 : (wT (sN qw80 22 0) (wZ qw80)).1 = 22 := by rw [wT_sN, if_pos rfl]
        refine lv_dup hx hb dX15_shared_103 rfl ?_
        refine lv_iload_n hx hb dX15_shared_104 rfl (lv_at hl 0 rfl) ?_
        refine lv_aload_n hx hb dX15_shared_105 rfl (lv_at hl 1 rfl) ?_
        obtain ⟨hg88, h⟩ := grd h
        obtain ⟨⟨v89 | x90, qw91⟩, hq92, h⟩ := bnd h
        rotate_left
        · dsimp only at h
          obtain ⟨hz93, h⟩ := grd h
          have h := Option.some.inj h
          subst h
          refine k_TT (w := qw91) (x := x90) (mc := wZ qw91 - wZ (sN qw80 22 0)) (ms := 80 * (wZ qw91 - wZ (sN qw80 22 0))) (runT_V (As := []) (rest := [.int ((wI (sI qw66 a0 2 ((wI qw66 a0 2) + (1 : Int32))) r74 ((wI qw66 a0 2).toNatClampNeg)) - (48 : Int32)), .ref (z + wZ qw80), .ref (z + wZ qw80)]) ⟨hx, hb, hml, hown, hts⟩ (met_X15_number l htr G z H0 B n (sN qw80 22 0) a0 (.inr x90, qw91) hq92 hg88 hZ.2) hd_X15_number q1004 q1006 qs12 q122 q1007 ⟨Nat.le_of_ble_eq_true rfl, Nat.le_of_ble_eq_true rfl⟩ (preVT (q := (RX15, TX15, 4)) hK hR hF hN hS hg88 rfl) rfl rfl hl.1 rfl (lv_room (Nat.le_of_ble_eq_true rfl)) dX15_shared_106 ⟨by dsimp only; omega, by dsimp only; omega⟩) hL (fun H locs hR hF hL => ?_)
          refine WT.widen (k := wZ qw91 - z0) (n := 80 * (wZ qw91 - z0)) (by omega) (by omega) ?_
          exact WT.leave (fun x9 hx9 => hnoh x9 hx9 106) (fun t ht _ => ⟨rfl, by rw [ht]; exact hR, hF⟩) hL hlocks
        dsimp only at h
        obtain ⟨hz93, h⟩ := grd h
        refine k_TR (v := (some (.int v89))) (w := qw91) (mc := wZ qw91 - wZ (sN qw80 22 0)) (ms := 80 * (wZ qw91 - wZ (sN qw80 22 0))) (st1 := [.int v89, .int ((wI (sI qw66 a0 2 ((wI qw66 a0 2) + (1 : Int32))) r74 ((wI qw66 a0 2).toNatClampNeg)) - (48 : Int32)), .ref (z + wZ qw80), .ref (z + wZ qw80)]) (runT_V (As := []) (rest := [.int ((wI (sI qw66 a0 2 ((wI qw66 a0 2) + (1 : Int32))) r74 ((wI qw66 a0 2).toNatClampNeg)) - (48 : Int32)), .ref (z + wZ qw80), .ref (z + wZ qw80)]) ⟨hx, hb, hml, hown, hts⟩ (met_X15_number l htr G z H0 B n (sN qw80 22 0) a0 (.inl v89, qw91) hq92 hg88 hZ.2) hd_X15_number q1004 q1006 qs12 q122 q1007 ⟨Nat.le_of_ble_eq_true rfl, Nat.le_of_ble_eq_true rfl⟩ (preVT (q := (RX15, TX15, 4)) hK hR hF hN hS hg88 rfl) rfl rfl hl.1 rfl (lv_room (Nat.le_of_ble_eq_true rfl)) dX15_shared_106 ⟨by dsimp only; omega, by dsimp only; omega⟩) hL rfl (fun H locs hR hF hL => ?_)
        refine W.wid (b := wZ qw91) (by omega) hZ.1 (Nat.le_refl _) ?_
        have hZ : z0 ≤ wZ qw91 ∧ wZ qw91 ≤ B := ⟨by omega, hz93.2⟩
        obtain ⟨hg95, h⟩ := grd h
        obtain ⟨q96, hq97, h⟩ := bnd h
        obtain ⟨hz98, h⟩ := grd h
        refine k_W (st1 := [.ref (z + wZ qw80)]) (va_runI (As := [.int ((wI (sI qw66 a0 2 ((wI qw66 a0 2) + (1 : Int32))) r74 ((wI qw66 a0 2).toNatClampNeg)) - (48 : Int32)), .int v89]) (rest := [.ref (z + wZ qw80)]) ⟨hx, hb, hml, hown, hts⟩ (met_X26_init l G z H0 qw91 (wZ qw80) ((wI (sI qw66 a0 2 ((wI qw66 a0 2) + (1 : Int32))) r74 ((wI qw66 a0 2).toNatClampNeg)) - (48 : Int32)) v89 q96 hq97 hg95) (cwI 2 hts (lw_meth q1191) rfl rfl rfl (hts _ q142) (hts _ q1189) (hts _ q1190) rfl hd_X26_init ⟨Nat.le_of_ble_eq_true rfl, Nat.le_of_ble_eq_true rfl⟩) (preS hK hR hF hN) rfl rfl hl.1 rfl (lv_room (Nat.le_of_ble_eq_true rfl)) dX15_shared_109 ⟨by dsimp only; omega, by dsimp only; omega⟩) hL rfl (fun H locs hR hF hL => ?_)
        refine W.wid (b := wZ q96) (by omega) hZ.1 (by decide) ?_
        have hZ : z0 ≤ wZ q96 ∧ wZ q96 ≤ B := ⟨by omega, hz98.2⟩
        have h := Option.some.inj h
        subst h
        exact W.toT (x_aret (r := some (wZ qw80)) hx hb hr rfl (fun t ht _ => ⟨rfl, by rw [ht]; exact hR, hF⟩) hL dX15_shared_112 hlocks)
      · rw [if_neg (bI_n c73)] at h
        refine lv_aload_n hx hb dX15_shared_69 rfl (lv_at hl 0 rfl) ?_
        obtain ⟨⟨v99 | x100, qw101⟩, hq102, h⟩ := bnd h
        rotate_left
        · dsimp only at h
          obtain ⟨hz103, h⟩ := grd h
          have h := Option.some.inj h
          subst h
          refine k_TT (w := qw101) (x := x100) (mc := wZ qw101 - wZ qw66) (ms := 80 * (wZ qw101 - wZ qw66)) (runT_V (As := []) (rest := []) ⟨hx, hb, hml, hown, hts⟩ (met_X15_off l htr G z H0 B n qw66 a0 (.inr x100, qw101) hq102 hg70 hZ.2) hd_X15_off q979 q981 qs11 q122 q982 ⟨Nat.le_of_ble_eq_true rfl, Nat.le_of_ble_eq_true rfl⟩ (preVT (q := (RX15, TX15, 4)) hK hR hF hN hS hg70 rfl) rfl rfl hl.1 rfl (lv_room (Nat.le_of_ble_eq_true rfl)) dX15_shared_70 ⟨by dsimp only; omega, by dsimp only; omega⟩) hL (fun H locs hR hF hL => ?_)
          refine WT.widen (k := wZ qw101 - z0) (n := 80 * (wZ qw101 - z0)) (by omega) (by omega) ?_
          exact WT.leave (fun x9 hx9 => hnoh x9 hx9 70) (fun t ht _ => ⟨rfl, by rw [ht]; exact hR, hF⟩) hL hlocks
        dsimp only at h
        obtain ⟨hz103, h⟩ := grd h
        refine k_TR (v := (some (rfv z v99))) (w := qw101) (mc := wZ qw101 - wZ qw66) (ms := 80 * (wZ qw101 - wZ qw66)) (st1 := [rfv z v99]) (runT_V (As := []) (rest := []) ⟨hx, hb, hml, hown, hts⟩ (met_X15_off l htr G z H0 B n qw66 a0 (.inl v99, qw101) hq102 hg70 hZ.2) hd_X15_off q979 q981 qs11 q122 q982 ⟨Nat.le_of_ble_eq_true rfl, Nat.le_of_ble_eq_true rfl⟩ (preVT (q := (RX15, TX15, 4)) hK hR hF hN hS hg70 rfl) rfl rfl hl.1 rfl (lv_room (Nat.le_of_ble_eq_true rfl)) dX15_shared_70 ⟨by dsimp only; omega, by dsimp only; omega⟩) hL rfl (fun H locs hR hF hL => ?_)
        refine W.wid (b := wZ qw101) (by omega) hZ.1 (Nat.le_refl _) ?_
        have hZ : z0 ≤ wZ qw101 ∧ wZ qw101 ≤ B := ⟨by omega, hz103.2⟩
        obtain ⟨r105, hr106, h⟩ := bnd h
        have h := Option.some.inj h
        subst h
        exact t_throw hx hb (fun x9 hx9 => hnoh x9 hx9 73) (rfv_some hr106) (fun t ht _ => ⟨rfl, by rw [ht]; exact hR, hF⟩) hL dX15_shared_73 hlocks
  refine lv_aload_n hx hb dX15_shared_0 rfl (lv_at hl 0 rfl) ?_
  refine lv_dup hx hb dX15_shared_1 rfl ?_
  refine x_get (k := 2) (o := "BarredBooks$Reader") (n := "at") (d := "I") (fin := false) (ty := .int) (host := "BarredBooks") hx hb hts hown hK hR rfl (Fam.one (r := (RX15, TX15, 4)) ht0 rfl ok15 (by decide)) (Or.inl (hts _ q854)) (fun _ h9 => h9) (v := .int (wI w a0 2)) rfl dX15_shared_2 ?_
  refine lv_iconst (v := 1) hx hb dX15_shared_5 (by decide) ?_
  refine lv_iadd hx hb dX15_shared_6 ?_
  refine x_putI (k := 2) (o := "BarredBooks$Reader") (n := "at") (d := "I") (fin := false) (ty := .int) (host := "BarredBooks") hx hb hts hown hK hR hL rfl (Fam.one (r := (RX15, TX15, 4)) ht0 rfl ok15 (by decide)) (Or.inl (hts _ q854)) (fun _ h9 => h9) (Or.inl rfl) rfl rfl rfl dX15_shared_7 (fun H locs hR hL => ?_)
  rw [← wT_sI _ a0 2 ((wI w a0 2) + (1 : Int32))] at ht0
  have hF := hF.sI a0 2 ((wI w a0 2) + (1 : Int32))
  refine lv_iload_n hx hb dX15_shared_10 rfl (lv_at hl 1 rfl) ?_
  refine lv_bipush (v := 108) hx hb dX15_shared_11 (by decide) ?_
  refine lv_icmp_ne (tgt := 43) hx hb dX15_shared_13 (by decide) (fun c1 => ?_) (fun c1 => ?_)
  · rw [if_neg c1] at h
    exact hJ43  (sI w a0 2 ((wI w a0 2) + (1 : Int32))) h H locs ls hR hF hL hZ (lv_sub hl [0, 1] rfl)
  · rw [if_pos c1] at h
    refine lv_aload_n hx hb dX15_shared_16 rfl (lv_at hl 0 rfl) ?_
    obtain ⟨q107, hq108, h⟩ := bnd h
    refine k_P (st1 := [.int q107]) (va_runV (As := []) (rest := []) ⟨hx, hb, hml, hown, hts⟩ (met_X15_here l G z H0 (sI w a0 2 ((wI w a0 2) + (1 : Int32))) a0 q107 hq108 ht0) (cwV 0 hts (lw_V q918 q920 qs8 q122 q921) rfl rfl rfl ⟨rfl, hd_X15_here⟩ ⟨Nat.le_of_ble_eq_true rfl, Nat.le_of_ble_eq_true rfl⟩) (preV (q := (RX15, TX15, 4)) hK hR hF hN ht0 rfl) rfl rfl hl.1 rfl (lv_room (Nat.le_of_ble_eq_true rfl)) dX15_shared_17 ⟨by dsimp only; omega, by dsimp only; omega⟩) hL rfl (fun locs hL => ?_)
    refine W.wid (b := wZ w) (Nat.le_refl _) hZ.1 (Nat.le_refl _) ?_
    refine lv_bipush (v := 105) hx hb dX15_shared_20 (by decide) ?_
    refine lv_icmp_ne (tgt := 43) hx hb dX15_shared_22 (by decide) (fun c109 => ?_) (fun c109 => ?_)
    · rw [if_neg c109] at h
      exact hJ43  (sI w a0 2 ((wI w a0 2) + (1 : Int32))) h H locs ls hR hF hL hZ (lv_sub hl [0, 1] rfl)
    · rw [if_pos c109] at h
      refine lv_aload_n hx hb dX15_shared_25 rfl (lv_at hl 0 rfl) ?_
      obtain ⟨k110, hk111, hstr112⟩ := hS.2.2.2.2.2.2 (95, "ine ", [105, 110, 101, 32]) (by simp [rkl])
      refine va_ldcS hx hb hown hk111 dX15_shared_26 ?_
      have ez119 : wZ (sI w a0 2 ((wI w a0 2) + (1 : Int32))) = wZ w := rfl
      obtain ⟨⟨v113 | x114, qw115⟩, hq116, h⟩ := bnd h
      rotate_left
      · dsimp only at h
        obtain ⟨hz117, h⟩ := grd h
        have h := Option.some.inj h
        subst h
        refine k_TT (w := qw115) (x := x114) (mc := wZ qw115 - wZ (sI w a0 2 ((wI w a0 2) + (1 : Int32)))) (ms := 80 * (wZ qw115 - wZ (sI w a0 2 ((wI w a0 2) + (1 : Int32))))) (runT_V (As := [.ref k110]) (rest := []) ⟨hx, hb, hml, hown, hts⟩ (met_X15_word l htr G z H0 k110 B n (sI w a0 2 ((wI w a0 2) + (1 : Int32))) a0 ([105, 110, 101, 32]) (.inr x114, qw115) hq116 ht0 hZ.2) hd_X15_word q923 q925 qs9 q122 q926 ⟨Nat.le_of_ble_eq_true rfl, Nat.le_of_ble_eq_true rfl⟩ (preVQ (q := (RX15, TX15, 4)) (fun u U h1 h2 => strF.moved h1 h2) hstr112 hK hR hF hN hS ht0 rfl) rfl rfl hl.1 rfl (lv_room (Nat.le_of_ble_eq_true rfl)) dX15_shared_28 ⟨by dsimp only; omega, by dsimp only; omega⟩) hL (fun H locs hR hF hL => ?_)
        refine WT.widen (k := wZ qw115 - z0) (n := 80 * (wZ qw115 - z0)) (by omega) (by omega) ?_
        exact WT.leave (fun x9 hx9 => hnoh x9 hx9 28) (fun t ht _ => ⟨rfl, by rw [ht]; exact hR, hF⟩) hL hlocks
      dsimp only at h
      obtain ⟨hz117, h⟩ := grd h
      refine k_TR (v := none) (w := qw115) (mc := wZ qw115 - wZ (sI w a0 2 ((wI w a0 2) + (1 : Int32)))) (ms := 80 * (wZ qw115 - wZ (sI w a0 2 ((wI w a0 2) + (1 : Int32))))) (st1 := []) (runT_V (As := [.ref k110]) (rest := []) ⟨hx, hb, hml, hown, hts⟩ (met_X15_word l htr G z H0 k110 B n (sI w a0 2 ((wI w a0 2) + (1 : Int32))) a0 ([105, 110, 101, 32]) (.inl v113, qw115) hq116 ht0 hZ.2) hd_X15_word q923 q925 qs9 q122 q926 ⟨Nat.le_of_ble_eq_true rfl, Nat.le_of_ble_eq_true rfl⟩ (preVQ (q := (RX15, TX15, 4)) (fun u U h1 h2 => strF.moved h1 h2) hstr112 hK hR hF hN hS ht0 rfl) rfl rfl hl.1 rfl (lv_room (Nat.le_of_ble_eq_true rfl)) dX15_shared_28 ⟨by dsimp only; omega, by dsimp only; omega⟩) hL rfl (fun H locs hR hF hL => ?_)
      refine W.wid (b := wZ qw115) (by omega) hZ.1 (Nat.le_refl _) ?_
      have hZ : z0 ≤ wZ qw115 ∧ wZ qw115 ≤ B := ⟨by omega, hz117.2⟩
      obtain ⟨hz120, h⟩ := grd h
      refine x_new (C := RX21) (T := TX21) (N := 1) (nS := 1) (ci := 20) hx hb hts ok20 hown (hts _ q1041) (hts _ q1042) (hts _ q134) hK hR rfl (ty_ok20) (by dsimp only; omega) (by dsimp only; omega) dX15_shared_31 (fun H hR => ?_)
      have hF := hF.sN 21 0
      have ez121 : wZ (sN qw115 21 0) = wZ qw115 + 1 := rfl
      refine W.wid (b := wZ (sN qw115 21 0)) (by omega) hZ.1 (by decide) ?_
      have hZ : z0 ≤ wZ (sN qw115 21 0) ∧ wZ (sN qw115 21 0) ≤ B := ⟨by omega, by omega⟩
      have hg122 : (wT (sN qw115 21 0) (wZ qw115)).1 = 21 := by rw [wT_sN, if_pos rfl]
      refine lv_dup hx hb dX15_shared_34 rfl ?_
      refine lv_aload_n hx hb dX15_shared_35 rfl (lv_at hl 0 rfl) ?_
      obtain ⟨hg123, h⟩ := grd h
      obtain ⟨⟨v124 | x125, qw126⟩, hq127, h⟩ := bnd h
      rotate_left
      · dsimp only at h
        obtain ⟨hz128, h⟩ := grd h
        have h := Option.some.inj h
        subst h
        refine k_TT (w := qw126) (x := x125) (mc := wZ qw126 - wZ (sN qw115 21 0)) (ms := 80 * (wZ qw126 - wZ (sN qw115 21 0))) (runT_V (As := []) (rest := [.ref (z + wZ qw115), .ref (z + wZ qw115)]) ⟨hx, hb, hml, hown, hts⟩ ((gmet_X15 l htr G z H0 B n 20 (sN qw115 21 0) a0 (.inr x125, qw126) hZ.2 hg123).2.2 hq127) hd_X15_some q1043 q1045 qs14 q122 q1046 ⟨Nat.le_of_ble_eq_true rfl, Nat.le_of_ble_eq_true rfl⟩ (preVT (q := (RX15, TX15, 4)) hK hR hF hN hS hg123 rfl) rfl rfl hl.1 rfl (lv_room (Nat.le_of_ble_eq_true rfl)) dX15_shared_36 ⟨by dsimp only; omega, by dsimp only; omega⟩) hL (fun H locs hR hF hL => ?_)
        refine WT.widen (k := wZ qw126 - z0) (n := 80 * (wZ qw126 - z0)) (by omega) (by omega) ?_
        exact WT.leave (fun x9 hx9 => hnoh x9 hx9 36) (fun t ht _ => ⟨rfl, by rw [ht]; exact hR, hF⟩) hL hlocks
      dsimp only at h
      obtain ⟨hz128, h⟩ := grd h
      refine k_TR (v := (some (rfv z v124))) (w := qw126) (mc := wZ qw126 - wZ (sN qw115 21 0)) (ms := 80 * (wZ qw126 - wZ (sN qw115 21 0))) (st1 := [rfv z v124, .ref (z + wZ qw115), .ref (z + wZ qw115)]) (runT_V (As := []) (rest := [.ref (z + wZ qw115), .ref (z + wZ qw115)]) ⟨hx, hb, hml, hown, hts⟩ ((gmet_X15 l htr G z H0 B n 20 (sN qw115 21 0) a0 (.inl v124, qw126) hZ.2 hg123).2.2 hq127) hd_X15_some q1043 q1045 qs14 q122 q1046 ⟨Nat.le_of_ble_eq_true rfl, Nat.le_of_ble_eq_true rfl⟩ (preVT (q := (RX15, TX15, 4)) hK hR hF hN hS hg123 rfl) rfl rfl hl.1 rfl (lv_room (Nat.le_of_ble_eq_true rfl)) dX15_shared_36 ⟨by dsimp only; omega, by dsimp only; omega⟩) hL rfl (fun H locs hR hF hL => ?_)
      refine W.wid (b := wZ qw126) (by omega) hZ.1 (Nat.le_refl _) ?_
      have hZ : z0 ≤ wZ qw126 ∧ wZ qw126 ≤ B := ⟨by omega, hz128.2⟩
      obtain ⟨hg130, h⟩ := grd h
      obtain ⟨q131, hq132, h⟩ := bnd h
      obtain ⟨hz133, h⟩ := grd h
      refine k_W (st1 := [.ref (z + wZ qw115)]) (va_runI (As := [rfv z v124]) (rest := [.ref (z + wZ qw115)]) ⟨hx, hb, hml, hown, hts⟩ (met_X21_init l G z H0 qw126 (wZ qw115) v124 q131 hq132 hg130) (cwI 1 hts (lw_meth q1180) rfl rfl rfl (hts _ q134) (hts _ q1178) (hts _ q1179) rfl hd_X21_init ⟨Nat.le_of_ble_eq_true rfl, Nat.le_of_ble_eq_true rfl⟩) (preS hK hR hF hN) rfl rfl hl.1 rfl (lv_room (Nat.le_of_ble_eq_true rfl)) dX15_shared_39 ⟨by dsimp only; omega, by dsimp only; omega⟩) hL rfl (fun H locs hR hF hL => ?_)
      refine W.wid (b := wZ q131) (by omega) hZ.1 (by decide) ?_
      have hZ : z0 ≤ wZ q131 ∧ wZ q131 ≤ B := ⟨by omega, hz133.2⟩
      have h := Option.some.inj h
      subst h
      exact W.toT (x_aret (r := some (wZ qw115)) hx hb hr rfl (fun t ht _ => ⟨rfl, by rw [ht]; exact hR, hF⟩) hL dX15_shared_42 hlocks)
def f_X15_clause (B n : Nat) (a0 : Nat) (w : Wd) : Option ((Option Nat ⊕ Nat) × Wd) :=
  (f_X15_here a0 w).bind fun q1 => if q1 = 97 then ((f_X15_word B n a0 ([97, 117, 116, 104, 111, 114, 32]) w).bind fun q12 => (match q12 with | (.inl v7, qw9) => if wZ w ≤ wZ qw9 ∧ wZ qw9 ≤ B then (if wZ qw9 + 1 ≤ B then (if (wT (sN qw9 19 0) a0).1 = 16 then ((f_X15_number B n a0 (sN qw9 19 0)).bind fun q22 => (match q22 with | (.inl v17, qw19) => if wZ (sN qw9 19 0) ≤ wZ qw19 ∧ wZ qw19 ≤ B then (if 19 ≤ (wT qw19 (wZ qw9)).1 ∧ (wT qw19 (wZ qw9)).1 ≤ 20 then ((f_X19_init (wZ qw9) v17 (0 : Int32) qw19).bind fun q24 => if wZ qw19 ≤ wZ q24 ∧ wZ q24 ≤ B then (some (.inl (some (wZ qw9)), q24)) else none) else none) else none | (.inr x18, qw19) => if wZ (sN qw9 19 0) ≤ wZ qw19 ∧ wZ qw19 ≤ B then (some (.inr x18, qw19)) else none)) else none) else none) else none | (.inr x8, qw9) => if wZ w ≤ wZ qw9 ∧ wZ qw9 ≤ B then (some (.inr x8, qw9)) else none)) else (if q1 = 102 then ((f_X15_shared B n a0 q1 w).bind fun q33 => (match q33 with | (.inl v28, qw30) => if wZ w ≤ wZ qw30 ∧ wZ qw30 ≤ B then (some (.inl v28, qw30)) else none | (.inr x29, qw30) => if wZ w ≤ wZ qw30 ∧ wZ qw30 ≤ B then (some (.inr x29, qw30)) else none)) else (if q1 = 108 then ((f_X15_shared B n a0 q1 w).bind fun q40 => (match q40 with | (.inl v35, qw37) => if wZ w ≤ wZ qw37 ∧ wZ qw37 ≤ B then (some (.inl v35, qw37)) else none | (.inr x36, qw37) => if wZ w ≤ wZ qw37 ∧ wZ qw37 ≤ B then (some (.inr x36, qw37)) else none)) else (if q1 = 116 then ((f_X15_word B n a0 ([116, 105, 116, 108, 101, 32]) w).bind fun q50 => (match q50 with | (.inl v45, qw47) => if wZ w ≤ wZ qw47 ∧ wZ qw47 ≤ B then (if wZ qw47 + 1 ≤ B then (if (wT (sN qw47 20 0) a0).1 = 16 then ((f_X15_number B n a0 (sN qw47 20 0)).bind fun q60 => (match q60 with | (.inl v55, qw57) => if wZ (sN qw47 20 0) ≤ wZ qw57 ∧ wZ qw57 ≤ B then (if (wT qw57 (wZ qw47)).1 = 20 then ((f_X20_init (wZ qw47) v55 (0 : Int32) qw57).bind fun q62 => if wZ qw57 ≤ wZ q62 ∧ wZ q62 ≤ B then (some (.inl (some (wZ qw47)), q62)) else none) else none) else none | (.inr x56, qw57) => if wZ (sN qw47 20 0) ≤ wZ qw57 ∧ wZ qw57 ≤ B then (some (.inr x56, qw57)) else none)) else none) else none) else none | (.inr x46, qw47) => if wZ w ≤ wZ qw47 ∧ wZ qw47 ≤ B then (some (.inr x46, qw47)) else none)) else ((f_X15_off B n a0 w).bind fun q70 => (match q70 with | (.inl v65, qw67) => if wZ w ≤ wZ qw67 ∧ wZ qw67 ≤ B then ((v65).bind fun r71 => some (.inr r71, qw67)) else none | (.inr x66, qw67) => if wZ w ≤ wZ qw67 ∧ wZ qw67 ≤ B then (some (.inr x66, qw67)) else none)))))
theorem hd_X15_clause : yX15_clause.cls ≠ "java/lang/invoke/MethodHandle" ∧ yX15_clause.cls ≠ "java/lang/invoke/VarHandle" ∧ (parseMethodDescriptor yX15_clause.desc).map (fun d => d.parameters.length) = some 0 := by decide +kernel
set_option maxHeartbeats 4000000 in
set_option maxRecDepth 100000 in
theorem met_X15_clause (l : Launch) (htr : ∀ e, l.admits e → e.platform.stackTraces = false) (G : Gw) (z : Nat) (H0 : Heap) (B n : Nat) (w : Wd) (a0 : Nat) (q : (Option Nat ⊕ Nat) × Wd) (h : f_X15_clause B n a0 w = some q) (ht0 : (wT w a0).1 = 16) (hB : wZ w ≤ B) : MetT l yX15_clause (ws_ yX15_clause cX15_clause 2 (some (.object "BarredBooks$Clause"))) ({ frames := 30, cells := B - wZ w, slots := 80 * (B - wZ w), locals := 654 } : Room) (pcT G z H0 w [.ref (z + a0)]) (qT G z H0 q.2 (cvR z q.1)) (wZ q.2 - wZ w) (80 * (wZ q.2 - wZ w)) (fun q => z ≤ q) := by
  refine mT (by decide) (Nat.le_of_ble_eq_true rfl) ?_
  intro p e s m below meth c ls hx hb hr hml hown hts hlocks hnm hnoh hK hR hF hN hS hl
  have hown : s.vm.findClass RX15 = some m.cls := hown
  have hl : lv_has ls 2 [(0, .ref (z + a0))] := hl
  have hL : lok z [] := lok_nil
  unfold f_X15_clause at h
  obtain ⟨z0, hz0⟩ : ∃ z0, wZ w = z0 := ⟨_, rfl⟩
  rw [hz0]
  refine W.widen (k := wZ w - z0) (n := 80 * (wZ w - z0)) (Nat.zero_le _) (Nat.zero_le _) ?_
  have hZ : z0 ≤ wZ w ∧ wZ w ≤ B := ⟨by omega, hB⟩
  generalize s.heap = H at hR ⊢
  generalize ([] : List Loc) = locs at hL ⊢
  refine lv_aload_n hx hb dX15_clause_0 rfl (lv_at hl 0 rfl) ?_
  obtain ⟨q1, hq2, h⟩ := bnd h
  refine k_P (st1 := [.int q1]) (va_runV (As := []) (rest := []) ⟨hx, hb, hml, hown, hts⟩ (met_X15_here l G z H0 w a0 q1 hq2 ht0) (cwV 0 hts (lw_V q918 q920 qs8 q122 q921) rfl rfl rfl ⟨rfl, hd_X15_here⟩ ⟨Nat.le_of_ble_eq_true rfl, Nat.le_of_ble_eq_true rfl⟩) (preV (q := (RX15, TX15, 4)) hK hR hF hN ht0 rfl) rfl rfl hl.1 rfl (lv_room (Nat.le_of_ble_eq_true rfl)) dX15_clause_1 ⟨by dsimp only; omega, by dsimp only; omega⟩) hL rfl (fun locs hL => ?_)
  refine W.wid (b := wZ w) (Nat.le_refl _) hZ.1 (Nat.le_refl _) ?_
  refine lv_istore_n (lv' := [(1, .int q1), (0, .ref (z + a0))]) hx hb dX15_clause_4 rfl hl (by decide) rfl (fun ls hl => ?_)
  refine lv_iload_n hx hb dX15_clause_5 rfl (lv_at hl 0 rfl) ?_
  by_cases c3 : q1 = 97
  · rw [if_pos c3] at h
    refine lv_lookup (off := 42) (tgt := 48) hx hb dX15_clause_6 (by decide) (by rw [c3]; decide) (by decide) ?_
    refine lv_aload_n hx hb dX15_clause_48 rfl (lv_at hl 1 rfl) ?_
    obtain ⟨k4, hk5, hstr6⟩ := hS.2.2.2.2.2.2 (111, "author ", [97, 117, 116, 104, 111, 114, 32]) (by simp [rkl])
    refine va_ldcS hx hb hown hk5 dX15_clause_49 ?_
    obtain ⟨⟨v7 | x8, qw9⟩, hq10, h⟩ := bnd h
    rotate_left
    · dsimp only at h
      obtain ⟨hz11, h⟩ := grd h
      have h := Option.some.inj h
      subst h
      refine k_TT (w := qw9) (x := x8) (mc := wZ qw9 - wZ w) (ms := 80 * (wZ qw9 - wZ w)) (runT_V (As := [.ref k4]) (rest := []) ⟨hx, hb, hml, hown, hts⟩ (met_X15_word l htr G z H0 k4 B n w a0 ([97, 117, 116, 104, 111, 114, 32]) (.inr x8, qw9) hq10 ht0 hZ.2) hd_X15_word q923 q925 qs9 q122 q926 ⟨Nat.le_of_ble_eq_true rfl, Nat.le_of_ble_eq_true rfl⟩ (preVQ (q := (RX15, TX15, 4)) (fun u U h1 h2 => strF.moved h1 h2) hstr6 hK hR hF hN hS ht0 rfl) rfl rfl hl.1 rfl (lv_room (Nat.le_of_ble_eq_true rfl)) dX15_clause_51 ⟨by dsimp only; omega, by dsimp only; omega⟩) hL (fun H locs hR hF hL => ?_)
      refine WT.widen (k := wZ qw9 - z0) (n := 80 * (wZ qw9 - z0)) (by omega) (by omega) ?_
      exact WT.leave (fun x9 hx9 => hnoh x9 hx9 51) (fun t ht _ => ⟨rfl, by rw [ht]; exact hR, hF⟩) hL hlocks
    dsimp only at h
    obtain ⟨hz11, h⟩ := grd h
    refine k_TR (v := none) (w := qw9) (mc := wZ qw9 - wZ w) (ms := 80 * (wZ qw9 - wZ w)) (st1 := []) (runT_V (As := [.ref k4]) (rest := []) ⟨hx, hb, hml, hown, hts⟩ (met_X15_word l htr G z H0 k4 B n w a0 ([97, 117, 116, 104, 111, 114, 32]) (.inl v7, qw9) hq10 ht0 hZ.2) hd_X15_word q923 q925 qs9 q122 q926 ⟨Nat.le_of_ble_eq_true rfl, Nat.le_of_ble_eq_true rfl⟩ (preVQ (q := (RX15, TX15, 4)) (fun u U h1 h2 => strF.moved h1 h2) hstr6 hK hR hF hN hS ht0 rfl) rfl rfl hl.1 rfl (lv_room (Nat.le_of_ble_eq_true rfl)) dX15_clause_51 ⟨by dsimp only; omega, by dsimp only; omega⟩) hL rfl (fun H locs hR hF hL => ?_)
    refine W.wid (b := wZ qw9) (by omega) hZ.1 (Nat.le_refl _) ?_
    have hZ : z0 ≤ wZ qw9 ∧ wZ qw9 ≤ B := ⟨by omega, hz11.2⟩
    obtain ⟨hz13, h⟩ := grd h
    refine x_new (C := RX19) (T := TX19) (N := 2) (nS := 2) (ci := 18) hx hb hts ok18 hown (hts _ q1002) (hts _ q1003) (hts _ q132) hK hR rfl (ty_ok18) (by dsimp only; omega) (by dsimp only; omega) dX15_clause_54 (fun H hR => ?_)
    have hF := hF.sN 19 0
    have ez14 : wZ (sN qw9 19 0) = wZ qw9 + 1 := rfl
    refine W.wid (b := wZ (sN qw9 19 0)) (by omega) hZ.1 (by decide) ?_
    have hZ : z0 ≤ wZ (sN qw9 19 0) ∧ wZ (sN qw9 19 0) ≤ B := ⟨by omega, by omega⟩
    have hg15 : (wT (sN qw9 19 0) (wZ qw9)).1 = 19 := by rw [wT_sN, if_pos rfl]
    refine lv_dup hx hb dX15_clause_57 rfl ?_
    refine lv_aload_n hx hb dX15_clause_58 rfl (lv_at hl 1 rfl) ?_
    obtain ⟨hg16, h⟩ := grd h
    obtain ⟨⟨v17 | x18, qw19⟩, hq20, h⟩ := bnd h
    rotate_left
    · dsimp only at h
      obtain ⟨hz21, h⟩ := grd h
      have h := Option.some.inj h
      subst h
      refine k_TT (w := qw19) (x := x18) (mc := wZ qw19 - wZ (sN qw9 19 0)) (ms := 80 * (wZ qw19 - wZ (sN qw9 19 0))) (runT_V (As := []) (rest := [.ref (z + wZ qw9), .ref (z + wZ qw9)]) ⟨hx, hb, hml, hown, hts⟩ (met_X15_number l htr G z H0 B n (sN qw9 19 0) a0 (.inr x18, qw19) hq20 hg16 hZ.2) hd_X15_number q1004 q1006 qs12 q122 q1007 ⟨Nat.le_of_ble_eq_true rfl, Nat.le_of_ble_eq_true rfl⟩ (preVT (q := (RX15, TX15, 4)) hK hR hF hN hS hg16 rfl) rfl rfl hl.1 rfl (lv_room (Nat.le_of_ble_eq_true rfl)) dX15_clause_59 ⟨by dsimp only; omega, by dsimp only; omega⟩) hL (fun H locs hR hF hL => ?_)
      refine WT.widen (k := wZ qw19 - z0) (n := 80 * (wZ qw19 - z0)) (by omega) (by omega) ?_
      exact WT.leave (fun x9 hx9 => hnoh x9 hx9 59) (fun t ht _ => ⟨rfl, by rw [ht]; exact hR, hF⟩) hL hlocks
    dsimp only at h
    obtain ⟨hz21, h⟩ := grd h
    refine k_TR (v := (some (.int v17))) (w := qw19) (mc := wZ qw19 - wZ (sN qw9 19 0)) (ms := 80 * (wZ qw19 - wZ (sN qw9 19 0))) (st1 := [.int v17, .ref (z + wZ qw9), .ref (z + wZ qw9)]) (runT_V (As := []) (rest := [.ref (z + wZ qw9), .ref (z + wZ qw9)]) ⟨hx, hb, hml, hown, hts⟩ (met_X15_number l htr G z H0 B n (sN qw9 19 0) a0 (.inl v17, qw19) hq20 hg16 hZ.2) hd_X15_number q1004 q1006 qs12 q122 q1007 ⟨Nat.le_of_ble_eq_true rfl, Nat.le_of_ble_eq_true rfl⟩ (preVT (q := (RX15, TX15, 4)) hK hR hF hN hS hg16 rfl) rfl rfl hl.1 rfl (lv_room (Nat.le_of_ble_eq_true rfl)) dX15_clause_59 ⟨by dsimp only; omega, by dsimp only; omega⟩) hL rfl (fun H locs hR hF hL => ?_)
    refine W.wid (b := wZ qw19) (by omega) hZ.1 (Nat.le_refl _) ?_
    have hZ : z0 ≤ wZ qw19 ∧ wZ qw19 ≤ B := ⟨by omega, hz21.2⟩
    refine lv_iconst (v := 0) hx hb dX15_clause_62 (by decide) ?_
    obtain ⟨hg23, h⟩ := grd h
    obtain ⟨q24, hq25, h⟩ := bnd h
    obtain ⟨hz26, h⟩ := grd h
    refine k_W (st1 := [.ref (z + wZ qw9)]) (va_runI (As := [.int v17, .int (0 : Int32)]) (rest := [.ref (z + wZ qw9)]) ⟨hx, hb, hml, hown, hts⟩ (met_X19_init l G z H0 qw19 (wZ qw9) v17 (0 : Int32) q24 hq25 (by omega)) (cwI 2 hts (lw_meth q1011) rfl rfl rfl (hts _ q132) (hts _ q1009) (hts _ q1010) rfl hd_X19_init ⟨Nat.le_of_ble_eq_true rfl, Nat.le_of_ble_eq_true rfl⟩) (preS hK hR hF hN) rfl rfl hl.1 rfl (lv_room (Nat.le_of_ble_eq_true rfl)) dX15_clause_63 ⟨by dsimp only; omega, by dsimp only; omega⟩) hL rfl (fun H locs hR hF hL => ?_)
    refine W.wid (b := wZ q24) (by omega) hZ.1 (by decide) ?_
    have hZ : z0 ≤ wZ q24 ∧ wZ q24 ≤ B := ⟨by omega, hz26.2⟩
    have h := Option.some.inj h
    subst h
    exact W.toT (x_aret (r := some (wZ qw9)) hx hb hr rfl (fun t ht _ => ⟨rfl, by rw [ht]; exact hR, hF⟩) hL dX15_clause_66 hlocks)
  rw [if_neg c3] at h
  by_cases c27 : q1 = 102
  · rw [if_pos c27] at h
    refine lv_lookup (off := 80) (tgt := 86) hx hb dX15_clause_6 (by decide) (by rw [c27]; decide) (by decide) ?_
    refine lv_aload_n hx hb dX15_clause_86 rfl (lv_at hl 1 rfl) ?_
    refine lv_iload_n hx hb dX15_clause_87 rfl (lv_at hl 0 rfl) ?_
    obtain ⟨⟨v28 | x29, qw30⟩, hq31, h⟩ := bnd h
    rotate_left
    · dsimp only at h
      obtain ⟨hz32, h⟩ := grd h
      have h := Option.some.inj h
      subst h
      refine k_TT (w := qw30) (x := x29) (mc := wZ qw30 - wZ w) (ms := 80 * (wZ qw30 - wZ w)) (runT_V (As := [.int q1]) (rest := []) ⟨hx, hb, hml, hown, hts⟩ (met_X15_shared l htr G z H0 B n w a0 q1 (.inr x29, qw30) hq31 ht0 hZ.2) hd_X15_shared q1036 q1038 qs13 q122 q1039 ⟨Nat.le_of_ble_eq_true rfl, Nat.le_of_ble_eq_true rfl⟩ (preVT (q := (RX15, TX15, 4)) hK hR hF hN hS ht0 rfl) rfl rfl hl.1 rfl (lv_room (Nat.le_of_ble_eq_true rfl)) dX15_clause_88 ⟨by dsimp only; omega, by dsimp only; omega⟩) hL (fun H locs hR hF hL => ?_)
      refine WT.widen (k := wZ qw30 - z0) (n := 80 * (wZ qw30 - z0)) (by omega) (by omega) ?_
      exact WT.leave (fun x9 hx9 => hnoh x9 hx9 88) (fun t ht _ => ⟨rfl, by rw [ht]; exact hR, hF⟩) hL hlocks
    dsimp only at h
    obtain ⟨hz32, h⟩ := grd h
    refine k_TR (v := (some (rfv z v28))) (w := qw30) (mc := wZ qw30 - wZ w) (ms := 80 * (wZ qw30 - wZ w)) (st1 := [rfv z v28]) (runT_V (As := [.int q1]) (rest := []) ⟨hx, hb, hml, hown, hts⟩ (met_X15_shared l htr G z H0 B n w a0 q1 (.inl v28, qw30) hq31 ht0 hZ.2) hd_X15_shared q1036 q1038 qs13 q122 q1039 ⟨Nat.le_of_ble_eq_true rfl, Nat.le_of_ble_eq_true rfl⟩ (preVT (q := (RX15, TX15, 4)) hK hR hF hN hS ht0 rfl) rfl rfl hl.1 rfl (lv_room (Nat.le_of_ble_eq_true rfl)) dX15_clause_88 ⟨by dsimp only; omega, by dsimp only; omega⟩) hL rfl (fun H locs hR hF hL => ?_)
    refine W.wid (b := wZ qw30) (by omega) hZ.1 (Nat.le_refl _) ?_
    have hZ : z0 ≤ wZ qw30 ∧ wZ qw30 ≤ B := ⟨by omega, hz32.2⟩
    have h := Option.some.inj h
    subst h
    exact W.toT (x_aret (r := v28) hx hb hr rfl (fun t ht _ => ⟨rfl, by rw [ht]; exact hR, hF⟩) hL dX15_clause_91 hlocks)
  rw [if_neg c27] at h
  by_cases c34 : q1 = 108
  · rw [if_pos c34] at h
    refine lv_lookup (off := 80) (tgt := 86) hx hb dX15_clause_6 (by decide) (by rw [c34]; decide) (by decide) ?_
    refine lv_aload_n hx hb dX15_clause_86 rfl (lv_at hl 1 rfl) ?_
    refine lv_iload_n hx hb dX15_clause_87 rfl (lv_at hl 0 rfl) ?_
    obtain ⟨⟨v35 | x36, qw37⟩, hq38, h⟩ := bnd h
    rotate_left
    · dsimp only at h
      obtain ⟨hz39, h⟩ := grd h
      have h := Option.some.inj h
      subst h
      refine k_TT (w := qw37) (x := x36) (mc := wZ qw37 - wZ w) (ms := 80 * (wZ qw37 - wZ w)) (runT_V (As := [.int q1]) (rest := []) ⟨hx, hb, hml, hown, hts⟩ (met_X15_shared l htr G z H0 B n w a0 q1 (.inr x36, qw37) hq38 ht0 hZ.2) hd_X15_shared q1036 q1038 qs13 q122 q1039 ⟨Nat.le_of_ble_eq_true rfl, Nat.le_of_ble_eq_true rfl⟩ (preVT (q := (RX15, TX15, 4)) hK hR hF hN hS ht0 rfl) rfl rfl hl.1 rfl (lv_room (Nat.le_of_ble_eq_true rfl)) dX15_clause_88 ⟨by dsimp only; omega, by dsimp only; omega⟩) hL (fun H locs hR hF hL => ?_)
      refine WT.widen (k := wZ qw37 - z0) (n := 80 * (wZ qw37 - z0)) (by omega) (by omega) ?_
      exact WT.leave (fun x9 hx9 => hnoh x9 hx9 88) (fun t ht _ => ⟨rfl, by rw [ht]; exact hR, hF⟩) hL hlocks
    dsimp only at h
    obtain ⟨hz39, h⟩ := grd h
    refine k_TR (v := (some (rfv z v35))) (w := qw37) (mc := wZ qw37 - wZ w) (ms := 80 * (wZ qw37 - wZ w)) (st1 := [rfv z v35]) (runT_V (As := [.int q1]) (rest := []) ⟨hx, hb, hml, hown, hts⟩ (met_X15_shared l htr G z H0 B n w a0 q1 (.inl v35, qw37) hq38 ht0 hZ.2) hd_X15_shared q1036 q1038 qs13 q122 q1039 ⟨Nat.le_of_ble_eq_true rfl, Nat.le_of_ble_eq_true rfl⟩ (preVT (q := (RX15, TX15, 4)) hK hR hF hN hS ht0 rfl) rfl rfl hl.1 rfl (lv_room (Nat.le_of_ble_eq_true rfl)) dX15_clause_88 ⟨by dsimp only; omega, by dsimp only; omega⟩) hL rfl (fun H locs hR hF hL => ?_)
    refine W.wid (b := wZ qw37) (by omega) hZ.1 (Nat.le_refl _) ?_
    have hZ : z0 ≤ wZ qw37 ∧ wZ qw37 ≤ B := ⟨by omega, hz39.2⟩
    have h := Option.some.inj h
    subst h
    exact W.toT (x_aret (r := v35) hx hb hr rfl (fun t ht _ => ⟨rfl, by rw [ht]; exact hR, hF⟩) hL dX15_clause_91 hlocks)
  rw [if_neg c34] at h
  by_cases c41 : q1 = 116
  · rw [if_pos c41] at h
    refine lv_lookup (off := 61) (tgt := 67) hx hb dX15_clause_6 (by decide) (by rw [c41]; decide) (by decide) ?_
    refine lv_aload_n hx hb dX15_clause_67 rfl (lv_at hl 1 rfl) ?_
    obtain ⟨k42, hk43, hstr44⟩ := hS.2.2.2.2.2.2 (121, "title ", [116, 105, 116, 108, 101, 32]) (by simp [rkl])
    refine va_ldcS hx hb hown hk43 dX15_clause_68 ?_
    obtain ⟨⟨v45 | x46, qw47⟩, hq48, h⟩ := bnd h
    rotate_left
    · dsimp only at h
      obtain ⟨hz49, h⟩ := grd h
      have h := Option.some.inj h
      subst h
      refine k_TT (w := qw47) (x := x46) (mc := wZ qw47 - wZ w) (ms := 80 * (wZ qw47 - wZ w)) (runT_V (As := [.ref k42]) (rest := []) ⟨hx, hb, hml, hown, hts⟩ (met_X15_word l htr G z H0 k42 B n w a0 ([116, 105, 116, 108, 101, 32]) (.inr x46, qw47) hq48 ht0 hZ.2) hd_X15_word q923 q925 qs9 q122 q926 ⟨Nat.le_of_ble_eq_true rfl, Nat.le_of_ble_eq_true rfl⟩ (preVQ (q := (RX15, TX15, 4)) (fun u U h1 h2 => strF.moved h1 h2) hstr44 hK hR hF hN hS ht0 rfl) rfl rfl hl.1 rfl (lv_room (Nat.le_of_ble_eq_true rfl)) dX15_clause_70 ⟨by dsimp only; omega, by dsimp only; omega⟩) hL (fun H locs hR hF hL => ?_)
      refine WT.widen (k := wZ qw47 - z0) (n := 80 * (wZ qw47 - z0)) (by omega) (by omega) ?_
      exact WT.leave (fun x9 hx9 => hnoh x9 hx9 70) (fun t ht _ => ⟨rfl, by rw [ht]; exact hR, hF⟩) hL hlocks
    dsimp only at h
    obtain ⟨hz49, h⟩ := grd h
    refine k_TR (v := none) (w := qw47) (mc := wZ qw47 - wZ w) (ms := 80 * (wZ qw47 - wZ w)) (st1 := []) (runT_V (As := [.ref k42]) (rest := []) ⟨hx, hb, hml, hown, hts⟩ (met_X15_word l htr G z H0 k42 B n w a0 ([116, 105, 116, 108, 101, 32]) (.inl v45, qw47) hq48 ht0 hZ.2) hd_X15_word q923 q925 qs9 q122 q926 ⟨Nat.le_of_ble_eq_true rfl, Nat.le_of_ble_eq_true rfl⟩ (preVQ (q := (RX15, TX15, 4)) (fun u U h1 h2 => strF.moved h1 h2) hstr44 hK hR hF hN hS ht0 rfl) rfl rfl hl.1 rfl (lv_room (Nat.le_of_ble_eq_true rfl)) dX15_clause_70 ⟨by dsimp only; omega, by dsimp only; omega⟩) hL rfl (fun H locs hR hF hL => ?_)
    refine W.wid (b := wZ qw47) (by omega) hZ.1 (Nat.le_refl _) ?_
    have hZ : z0 ≤ wZ qw47 ∧ wZ qw47 ≤ B := ⟨by omega, hz49.2⟩
    obtain ⟨hz51, h⟩ := grd h
    refine x_new (C := RX20) (T := TX20) (N := 2) (nS := 2) (ci := 19) hx hb hts ok19 hown (hts _ q1027) (hts _ q1028) (hts _ q133) hK hR rfl (ty_ok19) (by dsimp only; omega) (by dsimp only; omega) dX15_clause_73 (fun H hR => ?_)
    have hF := hF.sN 20 0
    have ez52 : wZ (sN qw47 20 0) = wZ qw47 + 1 := rfl
    refine W.wid (b := wZ (sN qw47 20 0)) (by omega) hZ.1 (by decide) ?_
    have hZ : z0 ≤ wZ (sN qw47 20 0) ∧ wZ (sN qw47 20 0) ≤ B := ⟨by omega, by omega⟩
    have hg53 : (wT (sN qw47 20 0) (wZ qw47)).1 = 20 := by rw [wT_sN, if_pos rfl]
    refine lv_dup hx hb dX15_clause_76 rfl ?_
    refine lv_aload_n hx hb dX15_clause_77 rfl (lv_at hl 1 rfl) ?_
    obtain ⟨hg54, h⟩ := grd h
    obtain ⟨⟨v55 | x56, qw57⟩, hq58, h⟩ := bnd h
    rotate_left
    · dsimp only at h
      obtain ⟨hz59, h⟩ := grd h
      have h := Option.some.inj h
      subst h
      refine k_TT (w := qw57) (x := x56) (mc := wZ qw57 - wZ (sN qw47 20 0)) (ms := 80 * (wZ qw57 - wZ (sN qw47 20 0))) (runT_V (As := []) (rest := [.ref (z + wZ qw47), .ref (z + wZ qw47)]) ⟨hx, hb, hml, hown, hts⟩ (met_X15_number l htr G z H0 B n (sN qw47 20 0) a0 (.inr x56, qw57) hq58 hg54 hZ.2) hd_X15_number q1004 q1006 qs12 q122 q1007 ⟨Nat.le_of_ble_eq_true rfl, Nat.le_of_ble_eq_true rfl⟩ (preVT (q := (RX15, TX15, 4)) hK hR hF hN hS hg54 rfl) rfl rfl hl.1 rfl (lv_room (Nat.le_of_ble_eq_true rfl)) dX15_clause_78 ⟨by dsimp only; omega, by dsimp only; omega⟩) hL (fun H locs hR hF hL => ?_)
      refine WT.widen (k := wZ qw57 - z0) (n := 80 * (wZ qw57 - z0)) (by omega) (by omega) ?_
      exact WT.leave (fun x9 hx9 => hnoh x9 hx9 78) (fun t ht _ => ⟨rfl, by rw [ht]; exact hR, hF⟩) hL hlocks
    dsimp only at h
    obtain ⟨hz59, h⟩ := grd h
    refine k_TR (v := (some (.int v55))) (w := qw57) (mc := wZ qw57 - wZ (sN qw47 20 0)) (ms := 80 * (wZ qw57 - wZ (sN qw47 20 0))) (st1 := [.int v55, .ref (z + wZ qw47), .ref (z + wZ qw47)]) (runT_V (As := []) (rest := [.ref (z + wZ qw47), .ref (z + wZ qw47)]) ⟨hx, hb, hml, hown, hts⟩ (met_X15_number l htr G z H0 B n (sN qw47 20 0) a0 (.inl v55, qw57) hq58 hg54 hZ.2) hd_X15_number q1004 q1006 qs12 q122 q1007 ⟨Nat.le_of_ble_eq_true rfl, Nat.le_of_ble_eq_true rfl⟩ (preVT (q := (RX15, TX15, 4)) hK hR hF hN hS hg54 rfl) rfl rfl hl.1 rfl (lv_room (Nat.le_of_ble_eq_true rfl)) dX15_clause_78 ⟨by dsimp only; omega, by dsimp only; omega⟩) hL rfl (fun H locs hR hF hL => ?_)
    refine W.wid (b := wZ qw57) (by omega) hZ.1 (Nat.le_refl _) ?_
    have hZ : z0 ≤ wZ qw57 ∧ wZ qw57 ≤ B := ⟨by omega, hz59.2⟩
    refine lv_iconst (v := 0) hx hb dX15_clause_81 (by decide) ?_
    obtain ⟨hg61, h⟩ := grd h
    obtain ⟨q62, hq63, h⟩ := bnd h
    obtain ⟨hz64, h⟩ := grd h
    refine k_W (st1 := [.ref (z + wZ qw47)]) (va_runI (As := [.int v55, .int (0 : Int32)]) (rest := [.ref (z + wZ qw47)]) ⟨hx, hb, hml, hown, hts⟩ (met_X20_init l G z H0 qw57 (wZ qw47) v55 (0 : Int32) q62 hq63 hg61) (cwI 2 hts (lw_meth q1031) rfl rfl rfl (hts _ q133) (hts _ q1029) (hts _ q1030) rfl hd_X20_init ⟨Nat.le_of_ble_eq_true rfl, Nat.le_of_ble_eq_true rfl⟩) (preS hK hR hF hN) rfl rfl hl.1 rfl (lv_room (Nat.le_of_ble_eq_true rfl)) dX15_clause_82 ⟨by dsimp only; omega, by dsimp only; omega⟩) hL rfl (fun H locs hR hF hL => ?_)
    refine W.wid (b := wZ q62) (by omega) hZ.1 (by decide) ?_
    have hZ : z0 ≤ wZ q62 ∧ wZ q62 ≤ B := ⟨by omega, hz64.2⟩
    have h := Option.some.inj h
    subst h
    exact W.toT (x_aret (r := some (wZ qw47)) hx hb hr rfl (fun t ht _ => ⟨rfl, by rw [ht]; exact hR, hF⟩) hL dX15_clause_85 hlocks)
  rw [if_neg c41] at h
  refine lv_lookup (off := 86) (tgt := 92) hx hb dX15_clause_6 (by decide) (by show Op.lookupswitch.offset [(97, 42), (102, 80), (108, 80), (116, 61)] _ _ = _; rw [lv_osw c3 (show (97 : Int32).toInt = 97 by decide), lv_osw c27 (show (102 : Int32).toInt = 102 by decide), lv_osw c34 (show (108 : Int32).toInt = 108 by decide), lv_osw c41 (show (116 : Int32).toInt = 116 by decide)]; rfl) (by decide) ?_
  refine lv_aload_n hx hb dX15_clause_92 rfl (lv_at hl 1 rfl) ?_
  obtain ⟨⟨v65 | x66, qw67⟩, hq68, h⟩ := bnd h
  rotate_left
  · dsimp only at h
    obtain ⟨hz69, h⟩ := grd h
    have h := Option.some.inj h
    subst h
    refine k_TT (w := qw67) (x := x66) (mc := wZ qw67 - wZ w) (ms := 80 * (wZ qw67 - wZ w)) (runT_V (As := []) (rest := []) ⟨hx, hb, hml, hown, hts⟩ (met_X15_off l htr G z H0 B n w a0 (.inr x66, qw67) hq68 ht0 hZ.2) hd_X15_off q979 q981 qs11 q122 q982 ⟨Nat.le_of_ble_eq_true rfl, Nat.le_of_ble_eq_true rfl⟩ (preVT (q := (RX15, TX15, 4)) hK hR hF hN hS ht0 rfl) rfl rfl hl.1 rfl (lv_room (Nat.le_of_ble_eq_true rfl)) dX15_clause_93 ⟨by dsimp only; omega, by dsimp only; omega⟩) hL (fun H locs hR hF hL => ?_)
    refine WT.widen (k := wZ qw67 - z0) (n := 80 * (wZ qw67 - z0)) (by omega) (by omega) ?_
    exact WT.leave (fun x9 hx9 => hnoh x9 hx9 93) (fun t ht _ => ⟨rfl, by rw [ht]; exact hR, hF⟩) hL hlocks
  dsimp only at h
  obtain ⟨hz69, h⟩ := grd h
  refine k_TR (v := (some (rfv z v65))) (w := qw67) (mc := wZ qw67 - wZ w) (ms := 80 * (wZ qw67 - wZ w)) (st1 := [rfv z v65]) (runT_V (As := []) (rest := []) ⟨hx, hb, hml, hown, hts⟩ (met_X15_off l htr G z H0 B n w a0 (.inl v65, qw67) hq68 ht0 hZ.2) hd_X15_off q979 q981 qs11 q122 q982 ⟨Nat.le_of_ble_eq_true rfl, Nat.le_of_ble_eq_true rfl⟩ (preVT (q := (RX15, TX15, 4)) hK hR hF hN hS ht0 rfl) rfl rfl hl.1 rfl (lv_room (Nat.le_of_ble_eq_true rfl)) dX15_clause_93 ⟨by dsimp only; omega, by dsimp only; omega⟩) hL rfl (fun H locs hR hF hL => ?_)
  refine W.wid (b := wZ qw67) (by omega) hZ.1 (Nat.le_refl _) ?_
  have hZ : z0 ≤ wZ qw67 ∧ wZ qw67 ≤ B := ⟨by omega, hz69.2⟩
  obtain ⟨r71, hr72, h⟩ := bnd h
  have h := Option.some.inj h
  subst h
  exact t_throw hx hb (fun x9 hx9 => hnoh x9 hx9 96) (rfv_some hr72) (fun t ht _ => ⟨rfl, by rw [ht]; exact hR, hF⟩) hL dX15_clause_96 hlocks
def f_X15_decree_L20 (B n : Nat) (u1_1 : Nat) (u1_0 : Nat) (s1 : Wd) : Option ((Wd) ⊕ ((Wd) ⊕ ((Option Nat ⊕ Nat) × Wd))) :=
  if (wT s1 u1_1).1 = 17 then ((wR s1 u1_1 2).bind fun r29 => if (wT s1 r29).1 = 27 then ((f_J9_size r29 s1).bind fun q32 => if (8 : Int32) ≤ q32 then (some (.inr (.inl s1))) else (if (wT s1 u1_0).1 = 16 then ((f_X15_here u1_0 s1).bind fun q36 => if q36 = (59 : Int32) then ((f_X15_clause B n u1_0 (sI s1 u1_0 2 ((wI s1 u1_0 2) + (1 : Int32)))).bind fun q44 => (match q44 with | (.inl v39, qw41) => if wZ s1 ≤ wZ qw41 ∧ wZ qw41 ≤ B then (if (wT qw41 r29).1 = 27 ∨ (wT qw41 r29).1 = 100 then ((f_J9_add B n r29 v39 qw41).bind fun q52 => (match q52 with | (.inl v47, qw49) => if wZ qw41 ≤ wZ qw49 ∧ wZ qw49 ≤ B then (some (.inl qw49)) else none | (.inr x48, qw49) => if wZ qw41 ≤ wZ qw49 ∧ wZ qw49 ≤ B then (some (.inr (.inr (.inr x48, qw49)))) else none)) else none) else none | (.inr x40, qw41) => if wZ s1 ≤ wZ qw41 ∧ wZ qw41 ≤ B then (some (.inr (.inr (.inr x40, qw41)))) else none)) else (some (.inr (.inl s1)))) else none)) else none) else none
def f_X15_decree (B n : Nat) (a0 : Nat) (w : Wd) : Option ((Option Nat ⊕ Nat) × Wd) :=
  if wZ w + 1 ≤ B then ((f_X16_init B n (wZ w) (sN w 17 0)).bind fun q10 => (match q10 with | (.inl v5, qw7) => if wZ (sN w 17 0) ≤ wZ qw7 ∧ wZ qw7 ≤ B then (if (wT qw7 (wZ w)).1 = 17 then (if (wT qw7 a0).1 = 16 then ((f_X15_clause B n a0 qw7).bind fun q18 => (match q18 with | (.inl v13, qw15) => if wZ qw7 ≤ wZ qw15 ∧ wZ qw15 ≤ B then ((wR qw7 (wZ w) 2).bind fun r19 => if (wT qw15 r19).1 = 27 ∨ (wT qw15 r19).1 = 100 then ((f_J9_add B n r19 v13 qw15).bind fun q27 => (match q27 with | (.inl v22, qw24) => if wZ qw15 ≤ wZ qw24 ∧ wZ qw24 ≤ B then ((it n (f_X15_decree_L20 B n (wZ w) a0) qw24).bind fun t20 => (match t20 with | .inl q20_66 => if (wT q20_66 a0).1 = 16 then (if (wI q20_66 a0 1) ≤ (wI q20_66 a0 2) then (some (.inl (some (wZ w)), q20_66)) else ((f_X15_off B n a0 q20_66).bind fun q60 => (match q60 with | (.inl v55, qw57) => if wZ q20_66 ≤ wZ qw57 ∧ wZ qw57 ≤ B then ((v55).bind fun r61 => some (.inr r61, qw57)) else none | (.inr x56, qw57) => if wZ q20_66 ≤ wZ qw57 ∧ wZ qw57 ≤ B then (some (.inr x56, qw57)) else none))) else none | .inr r20 => some r20)) else none | (.inr x23, qw24) => if wZ qw15 ≤ wZ qw24 ∧ wZ qw24 ≤ B then (some (.inr x23, qw24)) else none)) else none) else none | (.inr x14, qw15) => if wZ qw7 ≤ wZ qw15 ∧ wZ qw15 ≤ B then (some (.inr x14, qw15)) else none)) else none) else none) else none | (.inr x6, qw7) => if wZ (sN w 17 0) ≤ wZ qw7 ∧ wZ qw7 ≤ B then (some (.inr x6, qw7)) else none)) else none
theorem hd_X15_decree : yX15_decree.cls ≠ "java/lang/invoke/MethodHandle" ∧ yX15_decree.cls ≠ "java/lang/invoke/VarHandle" ∧ (parseMethodDescriptor yX15_decree.desc).map (fun d => d.parameters.length) = some 0 := by decide +kernel
set_option maxHeartbeats 4000000 in
set_option maxRecDepth 100000 in
theorem met_X15_decree (l : Launch) (htr : ∀ e, l.admits e → e.platform.stackTraces = false) (G : Gw) (z : Nat) (H0 : Heap) (B n : Nat) (w : Wd) (a0 : Nat) (q : (Option Nat ⊕ Nat) × Wd) (h : f_X15_decree B n a0 w = some q) (ht0 : (wT w a0).1 = 16) (hB : wZ w ≤ B) : MetT l yX15_decree (ws_ yX15_decree cX15_decree 2 (some (.object "BarredBooks$Decree"))) ({ frames := 31, cells := B - wZ w, slots := 80 * (B - wZ w), locals := 675 } : Room) (pcT G z H0 w [.ref (z + a0)]) (qT G z H0 q.2 (cvR z q.1)) (wZ q.2 - wZ w) (80 * (wZ q.2 - wZ w)) (fun q => z ≤ q) := by
  refine mT (by decide) (Nat.le_of_ble_eq_true rfl) ?_
  intro p e s m below meth c ls hx hb hr hml hown hts hlocks hnm hnoh hK hR hF hN hS hl
  have hown : s.vm.findClass RX15 = some m.cls := hown
  have hl : lv_has ls 2 [(0, .ref (z + a0))] := hl
  have hL : lok z [] := lok_nil
  unfold f_X15_decree at h
  obtain ⟨z0, hz0⟩ : ∃ z0, wZ w = z0 := ⟨_, rfl⟩
  rw [hz0]
  refine W.widen (k := wZ w - z0) (n := 80 * (wZ w - z0)) (Nat.zero_le _) (Nat.zero_le _) ?_
  have hZ : z0 ≤ wZ w ∧ wZ w ≤ B := ⟨by omega, hB⟩
  generalize s.heap = H at hR ⊢
  generalize ([] : List Loc) = locs at hL ⊢
  obtain ⟨hz1, h⟩ := grd h
  have hs2 : wT (sN w 17 0) a0 = wT w a0 := tag_sN hR (by rw [ht0]; decide)
  refine x_new (C := RX16) (T := TX16) (N := 3) (nS := 3) (ci := 16) hx hb hts ok16 hown (hts _ q869) (hts _ q870) (hts _ q123) hK hR rfl (ty_ok16) (by dsimp only; omega) (by dsimp only; omega) dX15_decree_0 (fun H hR => ?_)
  have hF := hF.sN 17 0
  rw [← hs2] at ht0
  have ez3 : wZ (sN w 17 0) = wZ w + 1 := rfl
  refine W.wid (b := wZ (sN w 17 0)) (by omega) hZ.1 (by decide) ?_
  have hZ : z0 ≤ wZ (sN w 17 0) ∧ wZ (sN w 17 0) ≤ B := ⟨by omega, by omega⟩
  have hg4 : (wT (sN w 17 0) (wZ w)).1 = 17 := by rw [wT_sN, if_pos rfl]
  refine lv_dup hx hb dX15_decree_3 rfl ?_
  obtain ⟨⟨v5 | x6, qw7⟩, hq8, h⟩ := bnd h
  rotate_left
  · dsimp only at h
    obtain ⟨hz9, h⟩ := grd h
    have h := Option.some.inj h
    subst h
    refine k_TT (w := qw7) (x := x6) (mc := wZ qw7 - wZ (sN w 17 0)) (ms := 80 * (wZ qw7 - wZ (sN w 17 0))) (runT_IN (As := []) (rest := [.ref (z + wZ w)]) ⟨hx, hb, hml, hown, hts⟩ (met_X16_init l htr G z H0 B n (sN w 17 0) (wZ w) (.inr x6, qw7) hq8 hg4 hZ.2) hd_X16_init (hN.at q871 rfl) q872 rfl q123 q873 ⟨Nat.le_of_ble_eq_true rfl, Nat.le_of_ble_eq_true rfl⟩ (preST hK hR hF hN hS) rfl rfl hl.1 rfl (lv_room (Nat.le_of_ble_eq_true rfl)) dX15_decree_4 ⟨by dsimp only; omega, by dsimp only; omega⟩) hL (fun H locs hR hF hL => ?_)
    refine WT.widen (k := wZ qw7 - z0) (n := 80 * (wZ qw7 - z0)) (by omega) (by omega) ?_
    exact WT.leave (fun x9 hx9 => hnoh x9 hx9 4) (fun t ht _ => ⟨rfl, by rw [ht]; exact hR, hF⟩) hL hlocks
  dsimp only at h
  obtain ⟨hz9, h⟩ := grd h
  refine k_TR (v := none) (w := qw7) (mc := wZ qw7 - wZ (sN w 17 0)) (ms := 80 * (wZ qw7 - wZ (sN w 17 0))) (st1 := [.ref (z + wZ w)]) (runT_IN (As := []) (rest := [.ref (z + wZ w)]) ⟨hx, hb, hml, hown, hts⟩ (met_X16_init l htr G z H0 B n (sN w 17 0) (wZ w) (.inl v5, qw7) hq8 hg4 hZ.2) hd_X16_init (hN.at q871 rfl) q872 rfl q123 q873 ⟨Nat.le_of_ble_eq_true rfl, Nat.le_of_ble_eq_true rfl⟩ (preST hK hR hF hN hS) rfl rfl hl.1 rfl (lv_room (Nat.le_of_ble_eq_true rfl)) dX15_decree_4 ⟨by dsimp only; omega, by dsimp only; omega⟩) hL rfl (fun H locs hR hF hL => ?_)
  refine W.wid (b := wZ qw7) (by omega) hZ.1 (Nat.le_refl _) ?_
  have hZ : z0 ≤ wZ qw7 ∧ wZ qw7 ≤ B := ⟨by omega, hz9.2⟩
  refine lv_astore_n (lv' := [(1, .ref (z + wZ w)), (0, .ref (z + a0))]) hx hb dX15_decree_7 rfl hl (by decide) rfl (fun ls hl => ?_)
  refine lv_aload_n hx hb dX15_decree_8 rfl (lv_at hl 0 rfl) ?_
  obtain ⟨hg11, h⟩ := grd h
  refine x_get (k := 2) (o := "BarredBooks$Decree") (n := "clauses") (d := "Ljava/util/ArrayList;") (fin := true) (ty := (.object "java/util/ArrayList")) (host := "BarredBooks") hx hb hts hown hK hR rfl (Fam.one (r := (RX16, TX16, 3)) hg11 rfl ok16 (by decide)) (Or.inr (hN.at q905 rfl)) (fun _ h9 => h9) (v := rfv z (wR qw7 (wZ w) 2)) rfl dX15_decree_9 ?_
  refine lv_aload_n hx hb dX15_decree_12 rfl (lv_at hl 1 rfl) ?_
  obtain ⟨hg12, h⟩ := grd h
  obtain ⟨⟨v13 | x14, qw15⟩, hq16, h⟩ := bnd h
  rotate_left
  · dsimp only at h
    obtain ⟨hz17, h⟩ := grd h
    have h := Option.some.inj h
    subst h
    refine k_TT (w := qw15) (x := x14) (mc := wZ qw15 - wZ qw7) (ms := 80 * (wZ qw15 - wZ qw7)) (runT_V (As := []) (rest := [rfv z (wR qw7 (wZ w) 2)]) ⟨hx, hb, hml, hown, hts⟩ (met_X15_clause l htr G z H0 B n qw7 a0 (.inr x14, qw15) hq16 hg12 hZ.2) hd_X15_clause q914 q916 qs7 q122 q917 ⟨Nat.le_of_ble_eq_true rfl, Nat.le_of_ble_eq_true rfl⟩ (preVT (q := (RX15, TX15, 4)) hK hR hF hN hS hg12 rfl) rfl rfl hl.1 rfl (lv_room (by simp [cat_rfv, cat_i, cat_r, cat_l, cat_n])) dX15_decree_13 ⟨by dsimp only; omega, by dsimp only; omega⟩) hL (fun H locs hR hF hL => ?_)
    refine WT.widen (k := wZ qw15 - z0) (n := 80 * (wZ qw15 - z0)) (by omega) (by omega) ?_
    exact WT.leave (fun x9 hx9 => hnoh x9 hx9 13) (fun t ht _ => ⟨rfl, by rw [ht]; exact hR, hF⟩) hL hlocks
  dsimp only at h
  obtain ⟨hz17, h⟩ := grd h
  refine k_TR (v := (some (rfv z v13))) (w := qw15) (mc := wZ qw15 - wZ qw7) (ms := 80 * (wZ qw15 - wZ qw7)) (st1 := [rfv z v13, rfv z (wR qw7 (wZ w) 2)]) (runT_V (As := []) (rest := [rfv z (wR qw7 (wZ w) 2)]) ⟨hx, hb, hml, hown, hts⟩ (met_X15_clause l htr G z H0 B n qw7 a0 (.inl v13, qw15) hq16 hg12 hZ.2) hd_X15_clause q914 q916 qs7 q122 q917 ⟨Nat.le_of_ble_eq_true rfl, Nat.le_of_ble_eq_true rfl⟩ (preVT (q := (RX15, TX15, 4)) hK hR hF hN hS hg12 rfl) rfl rfl hl.1 rfl (lv_room (by simp [cat_rfv, cat_i, cat_r, cat_l, cat_n])) dX15_decree_13 ⟨by dsimp only; omega, by dsimp only; omega⟩) hL rfl (fun H locs hR hF hL => ?_)
  refine W.wid (b := wZ qw15) (by omega) hZ.1 (Nat.le_refl _) ?_
  have hZ : z0 ≤ wZ qw15 ∧ wZ qw15 ≤ B := ⟨by omega, hz17.2⟩
  obtain ⟨r19, hr20, h⟩ := bnd h
  obtain ⟨hg21, h⟩ := grd h
  obtain ⟨⟨v22 | x23, qw24⟩, hq25, h⟩ := bnd h
  rotate_left
  · dsimp only at h
    obtain ⟨hz26, h⟩ := grd h
    have h := Option.some.inj h
    subst h
    refine k_TT (w := qw24) (x := x23) (mc := wZ qw24 - wZ qw15) (ms := 80 * (wZ qw24 - wZ qw15)) (runT_V (As := [rfv z v13]) (rest := []) ⟨hx, hb, hml, hown, hts⟩ (met_J9_add l htr G z H0 B n qw15 r19 v13 (.inr x23, qw24) hq25 hg21 hZ.2) hd_J9_add q1101 q1102 q1103 q126 q1104 ⟨Nat.le_of_ble_eq_true rfl, Nat.le_of_ble_eq_true rfl⟩ (preVL hK hR hF hN hS hg21) rfl rfl hl.1 (by rw [(rfv_some hr20)]; rfl) (lv_room (Nat.le_of_ble_eq_true rfl)) dX15_decree_16 ⟨by dsimp only; omega, by dsimp only; omega⟩) hL (fun H locs hR hF hL => ?_)
    refine WT.widen (k := wZ qw24 - z0) (n := 80 * (wZ qw24 - z0)) (by omega) (by omega) ?_
    exact WT.leave (fun x9 hx9 => hnoh x9 hx9 16) (fun t ht _ => ⟨rfl, by rw [ht]; exact hR, hF⟩) hL hlocks
  dsimp only at h
  obtain ⟨hz26, h⟩ := grd h
  refine k_TR (v := (some (.int (bI v22)))) (w := qw24) (mc := wZ qw24 - wZ qw15) (ms := 80 * (wZ qw24 - wZ qw15)) (st1 := [.int (bI v22)]) (runT_V (As := [rfv z v13]) (rest := []) ⟨hx, hb, hml, hown, hts⟩ (met_J9_add l htr G z H0 B n qw15 r19 v13 (.inl v22, qw24) hq25 hg21 hZ.2) hd_J9_add q1101 q1102 q1103 q126 q1104 ⟨Nat.le_of_ble_eq_true rfl, Nat.le_of_ble_eq_true rfl⟩ (preVL hK hR hF hN hS hg21) rfl rfl hl.1 (by rw [(rfv_some hr20)]; rfl) (lv_room (Nat.le_of_ble_eq_true rfl)) dX15_decree_16 ⟨by dsimp only; omega, by dsimp only; omega⟩) hL rfl (fun H locs hR hF hL => ?_)
  refine W.wid (b := wZ qw24) (by omega) hZ.1 (Nat.le_refl _) ?_
  have hZ : z0 ≤ wZ qw24 ∧ wZ qw24 ≤ B := ⟨by omega, hz26.2⟩
  refine lv_pop hx hb dX15_decree_19 rfl ?_
  have hX20_66 : ∀ (q20_66 : Wd), (if (wT q20_66 a0).1 = 16 then (if (wI q20_66 a0 1) ≤ (wI q20_66 a0 2) then (some (.inl (some (wZ w)), q20_66)) else ((f_X15_off B n a0 q20_66).bind fun q60 => (match q60 with | (.inl v55, qw57) => if wZ q20_66 ≤ wZ qw57 ∧ wZ qw57 ≤ B then ((v55).bind fun r61 => some (.inr r61, qw57)) else none | (.inr x56, qw57) => if wZ q20_66 ≤ wZ qw57 ∧ wZ qw57 ≤ B then (some (.inr x56, qw57)) else none))) else none) = some q → ∀ (H : Heap) (locs : List Loc) (ls : Array Slot), Rp G z H0 q20_66 H → Fix q20_66 → lok z locs → (z0 ≤ wZ q20_66 ∧ wZ q20_66 ≤ B) → lv_has ls 2 [(1, .ref (z + wZ w)), (0, .ref (z + a0))] → W p l e ({ frames := 31, cells := B - z0, slots := 80 * (B - z0), locals := 675 } : Room) s m ([.ref (z + a0)] : List Value).toArray below meth c H locs (wZ q20_66 - z0) (80 * (wZ q20_66 - z0)) (MQT below (qT G z H0 q.2 (cvR z q.1)) ([.ref (z + a0)] : List Value).toArray s (wZ q.2 - z0) (80 * (wZ q.2 - z0)) (fun q => z ≤ q)) (F0 m 66 ls []) := by
    intro q20_66 h H locs ls hR hF hL hZ hl
    refine lv_aload_n hx hb dX15_decree_66 rfl (lv_at hl 1 rfl) ?_
    obtain ⟨hg53, h⟩ := grd h
    refine x_get (k := 2) (o := "BarredBooks$Reader") (n := "at") (d := "I") (fin := false) (ty := .int) (host := "BarredBooks") hx hb hts hown hK hR rfl (Fam.one (r := (RX15, TX15, 4)) hg53 rfl ok15 (by decide)) (Or.inl (hts _ q854)) (fun _ h9 => h9) (v := .int (wI q20_66 a0 2)) rfl dX15_decree_67 ?_
    refine lv_aload_n hx hb dX15_decree_70 rfl (lv_at hl 1 rfl) ?_
    refine x_get (k := 1) (o := "BarredBooks$Reader") (n := "size") (d := "I") (fin := true) (ty := .int) (host := "BarredBooks") hx hb hts hown hK hR rfl (Fam.one (r := (RX15, TX15, 4)) hg53 rfl ok15 (by decide)) (Or.inl (hts _ q853)) (fun _ h9 => h9) (v := .int (wI q20_66 a0 1)) rfl dX15_decree_71 ?_
    refine lv_icmp_ge (tgt := 82) hx hb dX15_decree_74 (by decide) (fun c54 => ?_) (fun c54 => ?_)
    · rw [if_pos c54] at h
      refine lv_aload_n hx hb dX15_decree_82 rfl (lv_at hl 0 rfl) ?_
      have h := Option.some.inj h
      subst h
      exact W.toT (x_aret (r := some (wZ w)) hx hb hr rfl (fun t ht _ => ⟨rfl, by rw [ht]; exact hR, hF⟩) hL dX15_decree_83 hlocks)
    · rw [if_neg c54] at h
      refine lv_aload_n hx hb dX15_decree_77 rfl (lv_at hl 1 rfl) ?_
      obtain ⟨⟨v55 | x56, qw57⟩, hq58, h⟩ := bnd h
      rotate_left
      · dsimp only at h
        obtain ⟨hz59, h⟩ := grd h
        have h := Option.some.inj h
        subst h
        refine k_TT (w := qw57) (x := x56) (mc := wZ qw57 - wZ q20_66) (ms := 80 * (wZ qw57 - wZ q20_66)) (runT_V (As := []) (rest := []) ⟨hx, hb, hml, hown, hts⟩ (met_X15_off l htr G z H0 B n q20_66 a0 (.inr x56, qw57) hq58 hg53 hZ.2) hd_X15_off q979 q981 qs11 q122 q982 ⟨Nat.le_of_ble_eq_true rfl, Nat.le_of_ble_eq_true rfl⟩ (preVT (q := (RX15, TX15, 4)) hK hR hF hN hS hg53 rfl) rfl rfl hl.1 rfl (lv_room (Nat.le_of_ble_eq_true rfl)) dX15_decree_78 ⟨by dsimp only; omega, by dsimp only; omega⟩) hL (fun H locs hR hF hL => ?_)
        refine WT.widen (k := wZ qw57 - z0) (n := 80 * (wZ qw57 - z0)) (by omega) (by omega) ?_
        exact WT.leave (fun x9 hx9 => hnoh x9 hx9 78) (fun t ht _ => ⟨rfl, by rw [ht]; exact hR, hF⟩) hL hlocks
      dsimp only at h
      obtain ⟨hz59, h⟩ := grd h
      refine k_TR (v := (some (rfv z v55))) (w := qw57) (mc := wZ qw57 - wZ q20_66) (ms := 80 * (wZ qw57 - wZ q20_66)) (st1 := [rfv z v55]) (runT_V (As := []) (rest := []) ⟨hx, hb, hml, hown, hts⟩ (met_X15_off l htr G z H0 B n q20_66 a0 (.inl v55, qw57) hq58 hg53 hZ.2) hd_X15_off q979 q981 qs11 q122 q982 ⟨Nat.le_of_ble_eq_true rfl, Nat.le_of_ble_eq_true rfl⟩ (preVT (q := (RX15, TX15, 4)) hK hR hF hN hS hg53 rfl) rfl rfl hl.1 rfl (lv_room (Nat.le_of_ble_eq_true rfl)) dX15_decree_78 ⟨by dsimp only; omega, by dsimp only; omega⟩) hL rfl (fun H locs hR hF hL => ?_)
      refine W.wid (b := wZ qw57) (by omega) hZ.1 (Nat.le_refl _) ?_
      have hZ : z0 ≤ wZ qw57 ∧ wZ qw57 ≤ B := ⟨by omega, hz59.2⟩
      obtain ⟨r61, hr62, h⟩ := bnd h
      have h := Option.some.inj h
      subst h
      exact t_throw hx hb (fun x9 hx9 => hnoh x9 hx9 81) (rfv_some hr62) (fun t ht _ => ⟨rfl, by rw [ht]; exact hR, hF⟩) hL dX15_decree_81 hlocks
  obtain ⟨t63, hq64, h⟩ := bnd h
  refine it_W (b := f_X15_decree_L20 B n (wZ w) a0) (P := fun (s1 : Wd) => ∀ (H : Heap) (locs : List Loc) (ls : Array Slot), Rp G z H0 s1 H → Fix s1 → lok z locs → (z0 ≤ wZ s1 ∧ wZ s1 ≤ B) → lv_has ls 2 [(1, .ref (z + wZ w)), (0, .ref (z + a0))] → W p l e ({ frames := 31, cells := B - z0, slots := 80 * (B - z0), locals := 675 } : Room) s m ([.ref (z + a0)] : List Value).toArray below meth c H locs (wZ s1 - z0) (80 * (wZ s1 - z0)) (MQT below (qT G z H0 q.2 (cvR z q.1)) ([.ref (z + a0)] : List Value).toArray s (wZ q.2 - z0) (80 * (wZ q.2 - z0)) (fun q => z ≤ q)) (F0 m 20 ls [])) (K := fun t20 => ((match t20 with | .inl q20_66 => if (wT q20_66 a0).1 = 16 then (if (wI q20_66 a0 1) ≤ (wI q20_66 a0 2) then (some (.inl (some (wZ w)), q20_66)) else ((f_X15_off B n a0 q20_66).bind fun q60 => (match q60 with | (.inl v55, qw57) => if wZ q20_66 ≤ wZ qw57 ∧ wZ qw57 ≤ B then ((v55).bind fun r61 => some (.inr r61, qw57)) else none | (.inr x56, qw57) => if wZ q20_66 ≤ wZ qw57 ∧ wZ qw57 ≤ B then (some (.inr x56, qw57)) else none))) else none | .inr r20 => some r20)) = some q) (fun s1 x1 h hc1 ht1 => ?_) n qw24 t63 hq64 h H locs ls hR hF hL hZ (lv_sub hl [0, 1] rfl)
  intro H locs ls hR hF hL hZ hl
  unfold f_X15_decree_L20 at h
  refine lv_aload_n hx hb dX15_decree_20 rfl (lv_at hl 0 rfl) ?_
  obtain ⟨hg28, h⟩ := grd h
  refine x_get (k := 2) (o := "BarredBooks$Decree") (n := "clauses") (d := "Ljava/util/ArrayList;") (fin := true) (ty := (.object "java/util/ArrayList")) (host := "BarredBooks") hx hb hts hown hK hR rfl (Fam.one (r := (RX16, TX16, 3)) hg28 rfl ok16 (by decide)) (Or.inr (hN.at q905 rfl)) (fun _ h9 => h9) (v := rfv z (wR s1 (wZ w) 2)) rfl dX15_decree_21 ?_
  obtain ⟨r29, hr30, h⟩ := bnd h
  obtain ⟨hg31, h⟩ := grd h
  obtain ⟨q32, hq33, h⟩ := bnd h
  refine k_P (st1 := [.int q32]) (va_runV (As := []) (rest := []) ⟨hx, hb, hml, hown, hts⟩ (met_J9_size l G z H0 s1 r29 q32 hq33 hg31) (cwV 0 hts (lw_V q1201 q1202 q1203 q126 q1204) rfl rfl rfl ⟨rfl, hd_J9_size⟩ ⟨Nat.le_of_ble_eq_true rfl, Nat.le_of_ble_eq_true rfl⟩) (preV (q := (RJ9, TJ9, 3)) hK hR hF hN hg31 rfl) rfl rfl hl.1 (by rw [(rfv_some hr30)]; rfl) (lv_room (Nat.le_of_ble_eq_true rfl)) dX15_decree_24 ⟨by dsimp only; omega, by dsimp only; omega⟩) hL rfl (fun locs hL => ?_)
  refine W.wid (b := wZ s1) (Nat.le_refl _) hZ.1 (Nat.le_refl _) ?_
  refine lv_bipush (v := 8) hx hb dX15_decree_27 (by decide) ?_
  refine lv_icmp_ge (tgt := 66) hx hb dX15_decree_29 (by decide) (fun c34 => ?_) (fun c34 => ?_)
  · rw [if_pos c34] at h
    exact hX20_66 s1 (ht1 _ (Option.some.inj h).symm) H locs ls hR hF hL hZ (lv_sub hl [0, 1] rfl)
  · rw [if_neg c34] at h
    refine lv_aload_n hx hb dX15_decree_32 rfl (lv_at hl 1 rfl) ?_
    obtain ⟨hg35, h⟩ := grd h
    obtain ⟨q36, hq37, h⟩ := bnd h
    refine k_P (st1 := [.int q36]) (va_runV (As := []) (rest := []) ⟨hx, hb, hml, hown, hts⟩ (met_X15_here l G z H0 s1 a0 q36 hq37 hg35) (cwV 0 hts (lw_V q918 q920 qs8 q122 q921) rfl rfl rfl ⟨rfl, hd_X15_here⟩ ⟨Nat.le_of_ble_eq_true rfl, Nat.le_of_ble_eq_true rfl⟩) (preV (q := (RX15, TX15, 4)) hK hR hF hN hg35 rfl) rfl rfl hl.1 rfl (lv_room (Nat.le_of_ble_eq_true rfl)) dX15_decree_33 ⟨by dsimp only; omega, by dsimp only; omega⟩) hL rfl (fun locs hL => ?_)
    refine W.wid (b := wZ s1) (Nat.le_refl _) hZ.1 (Nat.le_refl _) ?_
    refine lv_bipush (v := 59) hx hb dX15_decree_36 (by decide) ?_
    refine lv_icmp_ne (tgt := 66) hx hb dX15_decree_38 (by decide) (fun c38 => ?_) (fun c38 => ?_)
    · rw [if_neg c38] at h
      exact hX20_66 s1 (ht1 _ (Option.some.inj h).symm) H locs ls hR hF hL hZ (lv_sub hl [0, 1] rfl)
    · rw [if_pos c38] at h
      refine lv_aload_n hx hb dX15_decree_41 rfl (lv_at hl 1 rfl) ?_
      refine lv_dup hx hb dX15_decree_42 rfl ?_
      refine x_get (k := 2) (o := "BarredBooks$Reader") (n := "at") (d := "I") (fin := false) (ty := .int) (host := "BarredBooks") hx hb hts hown hK hR rfl (Fam.one (r := (RX15, TX15, 4)) hg35 rfl ok15 (by decide)) (Or.inl (hts _ q854)) (fun _ h9 => h9) (v := .int (wI s1 a0 2)) rfl dX15_decree_43 ?_
      refine lv_iconst (v := 1) hx hb dX15_decree_46 (by decide) ?_
      refine lv_iadd hx hb dX15_decree_47 ?_
      refine x_putI (k := 2) (o := "BarredBooks$Reader") (n := "at") (d := "I") (fin := false) (ty := .int) (host := "BarredBooks") hx hb hts hown hK hR hL rfl (Fam.one (r := (RX15, TX15, 4)) hg35 rfl ok15 (by decide)) (Or.inl (hts _ q854)) (fun _ h9 => h9) (Or.inl rfl) rfl rfl rfl dX15_decree_48 (fun H locs hR hL => ?_)
      rw [← wT_sI _ a0 2 ((wI s1 a0 2) + (1 : Int32))] at hg28
      rw [← wT_sI _ a0 2 ((wI s1 a0 2) + (1 : Int32))] at hg31
      rw [← wT_sI _ a0 2 ((wI s1 a0 2) + (1 : Int32))] at hg35
      have hF := hF.sI a0 2 ((wI s1 a0 2) + (1 : Int32))
      refine lv_aload_n hx hb dX15_decree_51 rfl (lv_at hl 0 rfl) ?_
      refine x_get (k := 2) (o := "BarredBooks$Decree") (n := "clauses") (d := "Ljava/util/ArrayList;") (fin := true) (ty := (.object "java/util/ArrayList")) (host := "BarredBooks") hx hb hts hown hK hR rfl (Fam.one (r := (RX16, TX16, 3)) hg28 rfl ok16 (by decide)) (Or.inr (hN.at q905 rfl)) (fun _ h9 => h9) (v := rfv z (wR s1 (wZ w) 2)) rfl dX15_decree_52 ?_
      refine lv_aload_n hx hb dX15_decree_55 rfl (lv_at hl 1 rfl) ?_
      have ez45 : wZ (sI s1 a0 2 ((wI s1 a0 2) + (1 : Int32))) = wZ s1 := rfl
      obtain ⟨⟨v39 | x40, qw41⟩, hq42, h⟩ := bnd h
      rotate_left
      · dsimp only at h
        obtain ⟨hz43, h⟩ := grd h
        have h : (some (.inr x40, qw41)) = some q := ht1 _ (Option.some.inj h).symm
        have h := Option.some.inj h
        subst h
        refine k_TT (w := qw41) (x := x40) (mc := wZ qw41 - wZ (sI s1 a0 2 ((wI s1 a0 2) + (1 : Int32)))) (ms := 80 * (wZ qw41 - wZ (sI s1 a0 2 ((wI s1 a0 2) + (1 : Int32))))) (runT_V (As := []) (rest := [rfv z (wR s1 (wZ w) 2)]) ⟨hx, hb, hml, hown, hts⟩ (met_X15_clause l htr G z H0 B n (sI s1 a0 2 ((wI s1 a0 2) + (1 : Int32))) a0 (.inr x40, qw41) hq42 hg35 hZ.2) hd_X15_clause q914 q916 qs7 q122 q917 ⟨Nat.le_of_ble_eq_true rfl, Nat.le_of_ble_eq_true rfl⟩ (preVT (q := (RX15, TX15, 4)) hK hR hF hN hS hg35 rfl) rfl rfl hl.1 rfl (lv_room (by simp [cat_rfv, cat_i, cat_r, cat_l, cat_n])) dX15_decree_56 ⟨by dsimp only; omega, by dsimp only; omega⟩) hL (fun H locs hR hF hL => ?_)
        refine WT.widen (k := wZ qw41 - z0) (n := 80 * (wZ qw41 - z0)) (by omega) (by omega) ?_
        exact WT.leave (fun x9 hx9 => hnoh x9 hx9 56) (fun t ht _ => ⟨rfl, by rw [ht]; exact hR, hF⟩) hL hlocks
      dsimp only at h
      obtain ⟨hz43, h⟩ := grd h
      refine k_TR (v := (some (rfv z v39))) (w := qw41) (mc := wZ qw41 - wZ (sI s1 a0 2 ((wI s1 a0 2) + (1 : Int32)))) (ms := 80 * (wZ qw41 - wZ (sI s1 a0 2 ((wI s1 a0 2) + (1 : Int32))))) (st1 := [rfv z v39, rfv z (wR s1 (wZ w) 2)]) (runT_V (As := []) (rest := [rfv z (wR s1 (wZ w) 2)]) ⟨hx, hb, hml, hown, hts⟩ (met_X15_clause l htr G z H0 B n (sI s1 a0 2 ((wI s1 a0 2) + (1 : Int32))) a0 (.inl v39, qw41) hq42 hg35 hZ.2) hd_X15_clause q914 q916 qs7 q122 q917 ⟨Nat.le_of_ble_eq_true rfl, Nat.le_of_ble_eq_true rfl⟩ (preVT (q := (RX15, TX15, 4)) hK hR hF hN hS hg35 rfl) rfl rfl hl.1 rfl (lv_room (by simp [cat_rfv, cat_i, cat_r, cat_l, cat_n])) dX15_decree_56 ⟨by dsimp only; omega, by dsimp only; omega⟩) hL rfl (fun H locs hR hF hL => ?_)
      refine W.wid (b := wZ qw41) (by omega) hZ.1 (Nat.le_refl _) ?_
      have hZ : z0 ≤ wZ qw41 ∧ wZ qw41 ≤ B := ⟨by omega, hz43.2⟩
      obtain ⟨hg46, h⟩ := grd h
      obtain ⟨⟨v47 | x48, qw49⟩, hq50, h⟩ := bnd h
      rotate_left
      · dsimp only at h
        obtain ⟨hz51, h⟩ := grd h
        have h : (some (.inr x48, qw49)) = some q := ht1 _ (Option.some.inj h).symm
        have h := Option.some.inj h
        subst h
        refine k_TT (w := qw49) (x := x48) (mc := wZ qw49 - wZ qw41) (ms := 80 * (wZ qw49 - wZ qw41)) (runT_V (As := [rfv z v39]) (rest := []) ⟨hx, hb, hml, hown, hts⟩ (met_J9_add l htr G z H0 B n qw41 r29 v39 (.inr x48, qw49) hq50 hg46 hZ.2) hd_J9_add q1101 q1102 q1103 q126 q1104 ⟨Nat.le_of_ble_eq_true rfl, Nat.le_of_ble_eq_true rfl⟩ (preVL hK hR hF hN hS hg46) rfl rfl hl.1 (by rw [(rfv_some hr30)]; rfl) (lv_room (Nat.le_of_ble_eq_true rfl)) dX15_decree_59 ⟨by dsimp only; omega, by dsimp only; omega⟩) hL (fun H locs hR hF hL => ?_)
        refine WT.widen (k := wZ qw49 - z0) (n := 80 * (wZ qw49 - z0)) (by omega) (by omega) ?_
        exact WT.leave (fun x9 hx9 => hnoh x9 hx9 59) (fun t ht _ => ⟨rfl, by rw [ht]; exact hR, hF⟩) hL hlocks
      dsimp only at h
      obtain ⟨hz51, h⟩ := grd h
      refine k_TR (v := (some (.int (bI v47)))) (w := qw49) (mc := wZ qw49 - wZ qw41) (ms := 80 * (wZ qw49 - wZ qw41)) (st1 := [.int (bI v47)]) (runT_V (As := [rfv z v39]) (rest := []) ⟨hx, hb, hml, hown, hts⟩ (met_J9_add l htr G z H0 B n qw41 r29 v39 (.inl v47, qw49) hq50 hg46 hZ.2) hd_J9_add q1101 q1102 q1103 q126 q1104 ⟨Nat.le_of_ble_eq_true rfl, Nat.le_of_ble_eq_true rfl⟩ (preVL hK hR hF hN hS hg46) rfl rfl hl.1 (by rw [(rfv_some hr30)]; rfl) (lv_room (Nat.le_of_ble_eq_true rfl)) dX15_decree_59 ⟨by dsimp only; omega, by dsimp only; omega⟩) hL rfl (fun H locs hR hF hL => ?_)
      refine W.wid (b := wZ qw49) (by omega) hZ.1 (Nat.le_refl _) ?_
      have hZ : z0 ≤ wZ qw49 ∧ wZ qw49 ≤ B := ⟨by omega, hz51.2⟩
      refine lv_pop hx hb dX15_decree_62 rfl ?_
      refine lv_goto (tgt := 20) hx hb dX15_decree_63 (by decide) ?_
      exact hc1 _ (Option.some.inj h).symm H locs ls hR hF hL hZ (lv_sub hl [0, 1] rfl)
def f_X0_takesText (B n : Nat) (w : Wd) : Option ((Option Nat ⊕ Nat) × Wd) :=
  if wZ w + 1 ≤ B then ((f_X15_init (wZ (sI w 0 12 (0 : Int32))) (some 16) (wI w 0 12) (sN (sI w 0 12 (0 : Int32)) 16 0)).bind fun q4 => if wZ (sN (sI w 0 12 (0 : Int32)) 16 0) ≤ wZ q4 ∧ wZ q4 ≤ B then (if (wT q4 (wZ (sI w 0 12 (0 : Int32)))).1 = 16 then ((f_X15_decree B n (wZ (sI w 0 12 (0 : Int32))) q4).bind fun q13 => (match q13 with | (.inl v8, qw10) => if wZ q4 ≤ wZ qw10 ∧ wZ qw10 ≤ B then (some (.inl v8, qw10)) else none | (.inr x9, qw10) => if wZ q4 ≤ wZ qw10 ∧ wZ qw10 ≤ B then (some (.inr x9, qw10)) else none)) else none) else none) else none
theorem hd_X0_takesText : yX0_takesText.cls ≠ "java/lang/invoke/MethodHandle" ∧ yX0_takesText.cls ≠ "java/lang/invoke/VarHandle" ∧ (parseMethodDescriptor yX0_takesText.desc).map (fun d => d.parameters.length) = some 0 := by decide +kernel
set_option maxHeartbeats 4000000 in
set_option maxRecDepth 100000 in
theorem met_X0_takesText (l : Launch) (htr : ∀ e, l.admits e → e.platform.stackTraces = false) (G : Gw) (z : Nat) (H0 : Heap) (B n : Nat) (w : Wd)  (q : (Option Nat ⊕ Nat) × Wd) (h : f_X0_takesText B n w = some q)  (hB : wZ w ≤ B) : MetT l yX0_takesText (ws_ yX0_takesText cX0_takesText 2 (some (.object "BarredBooks$Decree"))) ({ frames := 32, cells := B - wZ w, slots := 80 * (B - wZ w), locals := 696 } : Room) (pcT G z H0 w [.ref (z + 0)]) (qT G z H0 q.2 (cvR z q.1)) (wZ q.2 - wZ w) (80 * (wZ q.2 - wZ w)) (fun q => z ≤ q) := by
  refine mT (by decide) (Nat.le_of_ble_eq_true rfl) ?_
  intro p e s m below meth c ls hx hb hr hml hown hts hlocks hnm hnoh hK hR hF hN hS hl
  have hown : s.vm.findClass RX0 = some m.cls := hown
  have hl : lv_has ls 2 [(0, .ref (z + 0))] := hl
  have hL : lok z [] := lok_nil
  unfold f_X0_takesText at h
  obtain ⟨z0, hz0⟩ : ∃ z0, wZ w = z0 := ⟨_, rfl⟩
  rw [hz0]
  refine W.widen (k := wZ w - z0) (n := 80 * (wZ w - z0)) (Nat.zero_le _) (Nat.zero_le _) ?_
  have hZ : z0 ≤ wZ w ∧ wZ w ≤ B := ⟨by omega, hB⟩
  generalize s.heap = H at hR ⊢
  generalize ([] : List Loc) = locs at hL ⊢
  refine lv_aload_n hx hb dX0_takesText_0 rfl (lv_at hl 0 rfl) ?_
  refine x_get (k := 12) (o := "BarredBooks") (n := "texted") (d := "I") (fin := false) (ty := .int) (host := "BarredBooks") hx hb hts hown hK hR rfl (Fam.one (r := (RX0, TX0, 40)) (congrArg Prod.fst (hF.2.1 0 (1, 0) rfl)) rfl ok0 (by decide)) (Or.inl (hts _ q231)) (fun _ h9 => h9) (v := .int (wI w 0 12)) rfl dX0_takesText_1 ?_
  refine lv_istore_n (lv' := [(1, .int (wI w 0 12)), (0, .ref (z + 0))]) hx hb dX0_takesText_4 rfl hl (by decide) rfl (fun ls hl => ?_)
  refine lv_aload_n hx hb dX0_takesText_5 rfl (lv_at hl 1 rfl) ?_
  refine lv_iconst (v := 0) hx hb dX0_takesText_6 (by decide) ?_
  refine x_putI (k := 12) (o := "BarredBooks") (n := "texted") (d := "I") (fin := false) (ty := .int) (host := "BarredBooks") hx hb hts hown hK hR hL rfl (Fam.one (r := (RX0, TX0, 40)) (congrArg Prod.fst (hF.2.1 0 (1, 0) rfl)) rfl ok0 (by decide)) (Or.inl (hts _ q231)) (fun _ h9 => h9) (Or.inl rfl) rfl rfl rfl dX0_takesText_7 (fun H locs hR hL => ?_)
  have hF := hF.sI 0 12 (0 : Int32)
  obtain ⟨hz1, h⟩ := grd h
  refine x_new (C := RX15) (T := TX15) (N := 4) (nS := 4) (ci := 15) hx hb hts ok15 hown (hts _ q846) (hts _ q847) (hts _ q122) hK hR rfl (ty_ok15) (by dsimp only; omega) (by dsimp only; omega) dX0_takesText_10 (fun H hR => ?_)
  have hF := hF.sN 16 0
  have ez2 : wZ (sN (sI w 0 12 (0 : Int32)) 16 0) = wZ w + 1 := rfl
  refine W.wid (b := wZ (sN (sI w 0 12 (0 : Int32)) 16 0)) (by omega) hZ.1 (by decide) ?_
  have hZ : z0 ≤ wZ (sN (sI w 0 12 (0 : Int32)) 16 0) ∧ wZ (sN (sI w 0 12 (0 : Int32)) 16 0) ≤ B := ⟨by omega, by omega⟩
  have hg3 : (wT (sN (sI w 0 12 (0 : Int32)) 16 0) (wZ (sI w 0 12 (0 : Int32)))).1 = 16 := by rw [wT_sN, if_pos rfl]
  refine lv_dup hx hb dX0_takesText_13 rfl ?_
  refine lv_aload_n hx hb dX0_takesText_14 rfl (lv_at hl 1 rfl) ?_
  refine x_get (k := 11) (o := "BarredBooks") (n := "text") (d := "[B") (fin := true) (ty := (.array .byte)) (host := "BarredBooks") hx hb hts hown hK hR rfl (Fam.one (r := (RX0, TX0, 40)) (congrArg Prod.fst (hF.2.1 0 (1, 0) rfl)) rfl ok0 (by decide)) (Or.inl (hts _ q230)) (fun _ h9 => h9) (v := .ref (z + 16)) (fv_fix hF rfl rfl) dX0_takesText_15 ?_
  refine lv_iload_n hx hb dX0_takesText_18 rfl (lv_at hl 0 rfl) ?_
  obtain ⟨q4, hq5, h⟩ := bnd h
  obtain ⟨hz6, h⟩ := grd h
  refine k_W (st1 := [.ref (z + wZ (sI w 0 12 (0 : Int32)))]) (va_runI (As := [.ref (z + 16), .int (wI w 0 12)]) (rest := [.ref (z + wZ (sI w 0 12 (0 : Int32)))]) ⟨hx, hb, hml, hown, hts⟩ (met_X15_init l G z H0 (sN (sI w 0 12 (0 : Int32)) 16 0) (wZ (sI w 0 12 (0 : Int32))) (some 16) (wI w 0 12) q4 hq5 hg3) (cwI 2 hts (lw_meth q850) rfl rfl rfl (hts _ q122) (hts _ q848) (hts _ q849) rfl hd_X15_init ⟨Nat.le_of_ble_eq_true rfl, Nat.le_of_ble_eq_true rfl⟩) (preS hK hR hF hN) rfl rfl hl.1 rfl (lv_room (Nat.le_of_ble_eq_true rfl)) dX0_takesText_19 ⟨by dsimp only; omega, by dsimp only; omega⟩) hL rfl (fun H locs hR hF hL => ?_)
  refine W.wid (b := wZ q4) (by omega) hZ.1 (by decide) ?_
  have hZ : z0 ≤ wZ q4 ∧ wZ q4 ≤ B := ⟨by omega, hz6.2⟩
  obtain ⟨hg7, h⟩ := grd h
  obtain ⟨⟨v8 | x9, qw10⟩, hq11, h⟩ := bnd h
  rotate_left
  · dsimp only at h
    obtain ⟨hz12, h⟩ := grd h
    have h := Option.some.inj h
    subst h
    refine k_TT (w := qw10) (x := x9) (mc := wZ qw10 - wZ q4) (ms := 80 * (wZ qw10 - wZ q4)) (runT_V (As := []) (rest := []) ⟨hx, hb, hml, hown, hts⟩ (met_X15_decree l htr G z H0 B n q4 (wZ (sI w 0 12 (0 : Int32))) (.inr x9, qw10) hq11 hg7 hZ.2) hd_X15_decree q865 q866 q867 q122 q868 ⟨Nat.le_of_ble_eq_true rfl, Nat.le_of_ble_eq_true rfl⟩ (preVT (q := (RX15, TX15, 4)) hK hR hF hN hS hg7 rfl) rfl rfl hl.1 rfl (lv_room (Nat.le_of_ble_eq_true rfl)) dX0_takesText_22 ⟨by dsimp only; omega, by dsimp only; omega⟩) hL (fun H locs hR hF hL => ?_)
    refine WT.widen (k := wZ qw10 - z0) (n := 80 * (wZ qw10 - z0)) (by omega) (by omega) ?_
    exact WT.leave (fun x9 hx9 => hnoh x9 hx9 22) (fun t ht _ => ⟨rfl, by rw [ht]; exact hR, hF⟩) hL hlocks
  dsimp only at h
  obtain ⟨hz12, h⟩ := grd h
  refine k_TR (v := (some (rfv z v8))) (w := qw10) (mc := wZ qw10 - wZ q4) (ms := 80 * (wZ qw10 - wZ q4)) (st1 := [rfv z v8]) (runT_V (As := []) (rest := []) ⟨hx, hb, hml, hown, hts⟩ (met_X15_decree l htr G z H0 B n q4 (wZ (sI w 0 12 (0 : Int32))) (.inl v8, qw10) hq11 hg7 hZ.2) hd_X15_decree q865 q866 q867 q122 q868 ⟨Nat.le_of_ble_eq_true rfl, Nat.le_of_ble_eq_true rfl⟩ (preVT (q := (RX15, TX15, 4)) hK hR hF hN hS hg7 rfl) rfl rfl hl.1 rfl (lv_room (Nat.le_of_ble_eq_true rfl)) dX0_takesText_22 ⟨by dsimp only; omega, by dsimp only; omega⟩) hL rfl (fun H locs hR hF hL => ?_)
  refine W.wid (b := wZ qw10) (by omega) hZ.1 (Nat.le_refl _) ?_
  have hZ : z0 ≤ wZ qw10 ∧ wZ qw10 ≤ B := ⟨by omega, hz12.2⟩
  have h := Option.some.inj h
  subst h
  exact W.toT (x_aret (r := v8) hx hb hr rfl (fun t ht _ => ⟨rfl, by rw [ht]; exact hR, hF⟩) hL dX0_takesText_25 hlocks)
