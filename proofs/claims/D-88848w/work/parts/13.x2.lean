def f_X15_off (B n : Nat) (a0 : Nat) (w : Wd) : Option ((Option Nat ⊕ Nat) × Wd) :=
  if wZ w + 1 ≤ B then (some (.inl (some (wZ w)), sI (sN w 18 0) (wZ w) 0 (wI (sN w 18 0) a0 2))) else none
theorem hd_X15_off : yX15_off.cls ≠ "java/lang/invoke/MethodHandle" ∧ yX15_off.cls ≠ "java/lang/invoke/VarHandle" ∧ (parseMethodDescriptor yX15_off.desc).map (fun d => d.parameters.length) = some 0 := by decide +kernel
set_option maxHeartbeats 4000000 in
set_option maxRecDepth 100000 in
theorem met_X15_off (l : Launch) (htr : ∀ e, l.admits e → e.platform.stackTraces = false) (G : Gw) (z : Nat) (H0 : Heap) (B n : Nat) (w : Wd) (a0 : Nat) (q : (Option Nat ⊕ Nat) × Wd) (h : f_X15_off B n a0 w = some q) (ht0 : (wT w a0).1 = 16) (hB : wZ w ≤ B) : MetT l yX15_off (ws_ yX15_off cX15_off 1 (some (.object "BarredBooks$Off"))) ({ frames := 6, cells := B - wZ w, slots := 80 * (B - wZ w), locals := 101 } : Room) (pcT G z H0 w [.ref (z + a0)]) (qT G z H0 q.2 (cvR z q.1)) (wZ q.2 - wZ w) (80 * (wZ q.2 - wZ w)) (fun q => z ≤ q) := by
  refine mT (by decide) (Nat.le_of_ble_eq_true rfl) ?_
  intro p e s m below meth c ls hx hb hr hml hown hts hlocks hnm hnoh hK hR hF hN hS hl
  have hown : s.vm.findClass RX15 = some m.cls := hown
  have hl : lv_has ls 1 [(0, .ref (z + a0))] := hl
  have hL : lok z [] := lok_nil
  unfold f_X15_off at h
  obtain ⟨z0, hz0⟩ : ∃ z0, wZ w = z0 := ⟨_, rfl⟩
  rw [hz0]
  refine W.widen (k := wZ w - z0) (n := 80 * (wZ w - z0)) (Nat.zero_le _) (Nat.zero_le _) ?_
  have hZ : z0 ≤ wZ w ∧ wZ w ≤ B := ⟨by omega, hB⟩
  generalize s.heap = H at hR ⊢
  generalize ([] : List Loc) = locs at hL ⊢
  obtain ⟨hz1, h⟩ := grd h
  have hs2 : wT (sN w 18 0) a0 = wT w a0 := tag_sN hR (by rw [ht0]; decide)
  refine x_newOff hx hb hts hown (hts _ q983) hK hR (by dsimp only; omega) (by dsimp only; omega) dX15_off_0 (fun H hR hfr3 => ?_)
  have hF := hF.sN 18 0
  rw [← hs2] at ht0
  have ez4 : wZ (sN w 18 0) = wZ w + 1 := rfl
  refine W.wid (b := wZ (sN w 18 0)) (by omega) hZ.1 (by decide) ?_
  have hZ : z0 ≤ wZ (sN w 18 0) ∧ wZ (sN w 18 0) ≤ B := ⟨by omega, by omega⟩
  have hg5 : (wT (sN w 18 0) (wZ w)).1 = 18 := by rw [wT_sN, if_pos rfl]
  refine lv_dup hx hb dX15_off_3 rfl ?_
  refine lv_aload_n hx hb dX15_off_4 rfl (lv_at hl 0 rfl) ?_
  refine x_get (k := 2) (o := "BarredBooks$Reader") (n := "at") (d := "I") (fin := false) (ty := .int) (host := "BarredBooks") hx hb hts hown hK hR rfl (Fam.one (r := (RX15, TX15, 4)) ht0 rfl ok15 (by decide)) (Or.inl (hts _ q854)) (fun _ h9 => h9) (v := .int (wI (sN w 18 0) a0 2)) rfl dX15_off_5 ?_
  refine k_W (st1 := [.ref (z + wZ w)]) (va_runI (As := [.int (wI (sN w 18 0) a0 2)]) (rest := [.ref (z + wZ w)]) ⟨hx, hb, hml, hown, hts⟩ (met_X17_init l htr G z H0 (sN w 18 0) (wZ w) (wI (sN w 18 0) a0 2) hg5) (cwI 1 hts (lw_meth q994) rfl rfl rfl (hts _ q130) (hts _ q992) (hts _ q993) rfl hd_X17_init ⟨Nat.le_of_ble_eq_true rfl, Nat.le_of_ble_eq_true rfl⟩) (preO hK hR hF hN hS hfr3) rfl rfl hl.1 rfl (lv_room (Nat.le_of_ble_eq_true rfl)) dX15_off_8 ⟨by dsimp only; omega, by dsimp only; omega⟩) hL rfl (fun H locs hR hF hL => ?_)
  rw [← wT_sI _ (wZ w) 0 (wI (sN w 18 0) a0 2)] at ht0
  rw [← wT_sI _ (wZ w) 0 (wI (sN w 18 0) a0 2)] at hg5
  refine W.wid (b := wZ (sN w 18 0)) (Nat.le_refl _) hZ.1 (Nat.le_refl _) ?_
  have h := Option.some.inj h
  subst h
  refine W.widen (k := wZ (sI (sN w 18 0) (wZ w) 0 (wI (sN w 18 0) a0 2)) - z0) (n := 80 * (wZ (sI (sN w 18 0) (wZ w) 0 (wI (sN w 18 0) a0 2)) - z0)) (Nat.le_refl _) (Nat.le_refl _) ?_
  exact W.toT (x_aret (r := some (wZ w)) hx hb hr rfl (fun t ht _ => ⟨rfl, by rw [ht]; exact hR, hF⟩) hL dX15_off_11 hlocks)
def f_X15_must (B n : Nat) (a0 : Nat) (a1 : Int32) (w : Wd) : Option ((Unit ⊕ Nat) × Wd) :=
  (f_X15_here a0 w).bind fun q1 => if q1 = a1 then (some (.inl (), sI w a0 2 ((wI w a0 2) + (1 : Int32)))) else ((f_X15_off B n a0 w).bind fun q9 => (match q9 with | (.inl v4, qw6) => if wZ w ≤ wZ qw6 ∧ wZ qw6 ≤ B then ((v4).bind fun r10 => some (.inr r10, qw6)) else none | (.inr x5, qw6) => if wZ w ≤ wZ qw6 ∧ wZ qw6 ≤ B then (some (.inr x5, qw6)) else none))
theorem hd_X15_must : yX15_must.cls ≠ "java/lang/invoke/MethodHandle" ∧ yX15_must.cls ≠ "java/lang/invoke/VarHandle" ∧ (parseMethodDescriptor yX15_must.desc).map (fun d => d.parameters.length) = some 1 := by decide +kernel
set_option maxHeartbeats 4000000 in
set_option maxRecDepth 100000 in
theorem met_X15_must (l : Launch) (htr : ∀ e, l.admits e → e.platform.stackTraces = false) (G : Gw) (z : Nat) (H0 : Heap) (B n : Nat) (w : Wd) (a0 : Nat) (a1 : Int32) (q : (Unit ⊕ Nat) × Wd) (h : f_X15_must B n a0 a1 w = some q) (ht0 : (wT w a0).1 = 16) (hB : wZ w ≤ B) : MetT l yX15_must (ws_ yX15_must cX15_must 2 none) ({ frames := 7, cells := B - wZ w, slots := 80 * (B - wZ w), locals := 121 } : Room) (pcT G z H0 w [.ref (z + a0), .int a1]) (qT G z H0 q.2 (cvV q.1)) (wZ q.2 - wZ w) (80 * (wZ q.2 - wZ w)) (fun q => z ≤ q) := by
  refine mT (by decide) (Nat.le_of_ble_eq_true rfl) ?_
  intro p e s m below meth c ls hx hb hr hml hown hts hlocks hnm hnoh hK hR hF hN hS hl
  have hown : s.vm.findClass RX15 = some m.cls := hown
  have hl : lv_has ls 2 [(0, .ref (z + a0)), (1, .int a1)] := hl
  have hL : lok z [] := lok_nil
  unfold f_X15_must at h
  obtain ⟨z0, hz0⟩ : ∃ z0, wZ w = z0 := ⟨_, rfl⟩
  rw [hz0]
  refine W.widen (k := wZ w - z0) (n := 80 * (wZ w - z0)) (Nat.zero_le _) (Nat.zero_le _) ?_
  have hZ : z0 ≤ wZ w ∧ wZ w ≤ B := ⟨by omega, hB⟩
  generalize s.heap = H at hR ⊢
  generalize ([] : List Loc) = locs at hL ⊢
  refine lv_aload_n hx hb dX15_must_0 rfl (lv_at hl 0 rfl) ?_
  obtain ⟨q1, hq2, h⟩ := bnd h
  refine k_P (st1 := [.int q1]) (va_runV (As := []) (rest := []) ⟨hx, hb, hml, hown, hts⟩ (met_X15_here l G z H0 w a0 q1 hq2 ht0) (cwV 0 hts (lw_V q918 q920 qs8 q122 q921) rfl rfl rfl ⟨rfl, hd_X15_here⟩ ⟨Nat.le_of_ble_eq_true rfl, Nat.le_of_ble_eq_true rfl⟩) (preV (q := (RX15, TX15, 4)) hK hR hF hN ht0 rfl) rfl rfl hl.1 rfl (lv_room (Nat.le_of_ble_eq_true rfl)) dX15_must_1 ⟨by dsimp only; omega, by dsimp only; omega⟩) hL rfl (fun locs hL => ?_)
  refine W.wid (b := wZ w) (Nat.le_refl _) hZ.1 (Nat.le_refl _) ?_
  refine lv_iload_n hx hb dX15_must_4 rfl (lv_at hl 1 rfl) ?_
  refine lv_icmp_eq (tgt := 13) hx hb dX15_must_5 (by decide) (fun c3 => ?_) (fun c3 => ?_)
  · rw [if_pos c3] at h
    refine lv_aload_n hx hb dX15_must_13 rfl (lv_at hl 0 rfl) ?_
    refine lv_dup hx hb dX15_must_14 rfl ?_
    refine x_get (k := 2) (o := "BarredBooks$Reader") (n := "at") (d := "I") (fin := false) (ty := .int) (host := "BarredBooks") hx hb hts hown hK hR rfl (Fam.one (r := (RX15, TX15, 4)) ht0 rfl ok15 (by decide)) (Or.inl (hts _ q854)) (fun _ h9 => h9) (v := .int (wI w a0 2)) rfl dX15_must_15 ?_
    refine lv_iconst (v := 1) hx hb dX15_must_18 (by decide) ?_
    refine lv_iadd hx hb dX15_must_19 ?_
    refine x_putI (k := 2) (o := "BarredBooks$Reader") (n := "at") (d := "I") (fin := false) (ty := .int) (host := "BarredBooks") hx hb hts hown hK hR hL rfl (Fam.one (r := (RX15, TX15, 4)) ht0 rfl ok15 (by decide)) (Or.inl (hts _ q854)) (fun _ h9 => h9) (Or.inl rfl) rfl rfl rfl dX15_must_20 (fun H locs hR hL => ?_)
    rw [← wT_sI _ a0 2 ((wI w a0 2) + (1 : Int32))] at ht0
    have hF := hF.sI a0 2 ((wI w a0 2) + (1 : Int32))
    have h := Option.some.inj h
    subst h
    refine W.widen (k := wZ (sI w a0 2 ((wI w a0 2) + (1 : Int32))) - z0) (n := 80 * (wZ (sI w a0 2 ((wI w a0 2) + (1 : Int32))) - z0)) (Nat.le_refl _) (Nat.le_refl _) ?_
    exact W.toT (W.vret hx hb hr (fun t ht _ => ⟨rfl, by rw [ht]; exact hR, hF⟩) hL dX15_must_23)
  · rw [if_neg c3] at h
    refine lv_aload_n hx hb dX15_must_8 rfl (lv_at hl 0 rfl) ?_
    obtain ⟨⟨v4 | x5, qw6⟩, hq7, h⟩ := bnd h
    rotate_left
    · dsimp only at h
      obtain ⟨hz8, h⟩ := grd h
      have h := Option.some.inj h
      subst h
      refine k_TT (w := qw6) (x := x5) (mc := wZ qw6 - wZ w) (ms := 80 * (wZ qw6 - wZ w)) (runT_V (As := []) (rest := []) ⟨hx, hb, hml, hown, hts⟩ (met_X15_off l htr G z H0 B n w a0 (.inr x5, qw6) hq7 ht0 hZ.2) hd_X15_off q979 q981 qs11 q122 q982 ⟨Nat.le_of_ble_eq_true rfl, Nat.le_of_ble_eq_true rfl⟩ (preVT (q := (RX15, TX15, 4)) hK hR hF hN hS ht0 rfl) rfl rfl hl.1 rfl (lv_room (Nat.le_of_ble_eq_true rfl)) dX15_must_9 ⟨by dsimp only; omega, by dsimp only; omega⟩) hL (fun H locs hR hF hL => ?_)
      refine WT.widen (k := wZ qw6 - z0) (n := 80 * (wZ qw6 - z0)) (by omega) (by omega) ?_
      exact WT.leave (fun x9 hx9 => hnoh x9 hx9 9) (fun t ht _ => ⟨rfl, by rw [ht]; exact hR, hF⟩) hL hlocks
    dsimp only at h
    obtain ⟨hz8, h⟩ := grd h
    refine k_TR (v := (some (rfv z v4))) (w := qw6) (mc := wZ qw6 - wZ w) (ms := 80 * (wZ qw6 - wZ w)) (st1 := [rfv z v4]) (runT_V (As := []) (rest := []) ⟨hx, hb, hml, hown, hts⟩ (met_X15_off l htr G z H0 B n w a0 (.inl v4, qw6) hq7 ht0 hZ.2) hd_X15_off q979 q981 qs11 q122 q982 ⟨Nat.le_of_ble_eq_true rfl, Nat.le_of_ble_eq_true rfl⟩ (preVT (q := (RX15, TX15, 4)) hK hR hF hN hS ht0 rfl) rfl rfl hl.1 rfl (lv_room (Nat.le_of_ble_eq_true rfl)) dX15_must_9 ⟨by dsimp only; omega, by dsimp only; omega⟩) hL rfl (fun H locs hR hF hL => ?_)
    refine W.wid (b := wZ qw6) (by omega) hZ.1 (Nat.le_refl _) ?_
    have hZ : z0 ≤ wZ qw6 ∧ wZ qw6 ≤ B := ⟨by omega, hz8.2⟩
    obtain ⟨r10, hr11, h⟩ := bnd h
    have h := Option.some.inj h
    subst h
    exact t_throw hx hb (fun x9 hx9 => hnoh x9 hx9 12) (rfv_some hr11) (fun t ht _ => ⟨rfl, by rw [ht]; exact hR, hF⟩) hL dX15_must_12 hlocks
def f_X15_deeper (B n : Nat) (a0 : Nat) (w : Wd) : Option ((Unit ⊕ Nat) × Wd) :=
  if (wI w a0 3) = (5 : Int32) then ((f_X15_off B n a0 w).bind fun q7 => (match q7 with | (.inl v2, qw4) => if wZ w ≤ wZ qw4 ∧ wZ qw4 ≤ B then ((v2).bind fun r8 => some (.inr r8, qw4)) else none | (.inr x3, qw4) => if wZ w ≤ wZ qw4 ∧ wZ qw4 ≤ B then (some (.inr x3, qw4)) else none)) else (some (.inl (), sI (sI w a0 3 ((wI w a0 3) + (1 : Int32))) a0 2 ((wI w a0 2) + (1 : Int32))))
theorem hd_X15_deeper : yX15_deeper.cls ≠ "java/lang/invoke/MethodHandle" ∧ yX15_deeper.cls ≠ "java/lang/invoke/VarHandle" ∧ (parseMethodDescriptor yX15_deeper.desc).map (fun d => d.parameters.length) = some 0 := by decide +kernel
set_option maxHeartbeats 4000000 in
set_option maxRecDepth 100000 in
theorem met_X15_deeper (l : Launch) (htr : ∀ e, l.admits e → e.platform.stackTraces = false) (G : Gw) (z : Nat) (H0 : Heap) (B n : Nat) (w : Wd) (a0 : Nat) (q : (Unit ⊕ Nat) × Wd) (h : f_X15_deeper B n a0 w = some q) (ht0 : (wT w a0).1 = 16) (hB : wZ w ≤ B) : MetT l yX15_deeper (ws_ yX15_deeper cX15_deeper 1 none) ({ frames := 7, cells := B - wZ w, slots := 80 * (B - wZ w), locals := 121 } : Room) (pcT G z H0 w [.ref (z + a0)]) (qT G z H0 q.2 (cvV q.1)) (wZ q.2 - wZ w) (80 * (wZ q.2 - wZ w)) (fun q => z ≤ q) := by
  refine mT (by decide) (Nat.le_of_ble_eq_true rfl) ?_
  intro p e s m below meth c ls hx hb hr hml hown hts hlocks hnm hnoh hK hR hF hN hS hl
  have hown : s.vm.findClass RX15 = some m.cls := hown
  have hl : lv_has ls 1 [(0, .ref (z + a0))] := hl
  have hL : lok z [] := lok_nil
  unfold f_X15_deeper at h
  obtain ⟨z0, hz0⟩ : ∃ z0, wZ w = z0 := ⟨_, rfl⟩
  rw [hz0]
  refine W.widen (k := wZ w - z0) (n := 80 * (wZ w - z0)) (Nat.zero_le _) (Nat.zero_le _) ?_
  have hZ : z0 ≤ wZ w ∧ wZ w ≤ B := ⟨by omega, hB⟩
  generalize s.heap = H at hR ⊢
  generalize ([] : List Loc) = locs at hL ⊢
  refine lv_aload_n hx hb dX15_deeper_0 rfl (lv_at hl 0 rfl) ?_
  refine x_get (k := 3) (o := "BarredBooks$Reader") (n := "deep") (d := "I") (fin := false) (ty := .int) (host := "BarredBooks") hx hb hts hown hK hR rfl (Fam.one (r := (RX15, TX15, 4)) ht0 rfl ok15 (by decide)) (Or.inl (hts _ q855)) (fun _ h9 => h9) (v := .int (wI w a0 3)) rfl dX15_deeper_1 ?_
  refine lv_iconst (v := 5) hx hb dX15_deeper_4 (by decide) ?_
  refine lv_icmp_ne (tgt := 13) hx hb dX15_deeper_5 (by decide) (fun c1 => ?_) (fun c1 => ?_)
  · rw [if_neg c1] at h
    refine lv_aload_n hx hb dX15_deeper_13 rfl (lv_at hl 0 rfl) ?_
    refine lv_dup hx hb dX15_deeper_14 rfl ?_
    refine x_get (k := 3) (o := "BarredBooks$Reader") (n := "deep") (d := "I") (fin := false) (ty := .int) (host := "BarredBooks") hx hb hts hown hK hR rfl (Fam.one (r := (RX15, TX15, 4)) ht0 rfl ok15 (by decide)) (Or.inl (hts _ q855)) (fun _ h9 => h9) (v := .int (wI w a0 3)) rfl dX15_deeper_15 ?_
    refine lv_iconst (v := 1) hx hb dX15_deeper_18 (by decide) ?_
    refine lv_iadd hx hb dX15_deeper_19 ?_
    refine x_putI (k := 3) (o := "BarredBooks$Reader") (n := "deep") (d := "I") (fin := false) (ty := .int) (host := "BarredBooks") hx hb hts hown hK hR hL rfl (Fam.one (r := (RX15, TX15, 4)) ht0 rfl ok15 (by decide)) (Or.inl (hts _ q855)) (fun _ h9 => h9) (Or.inl rfl) rfl rfl rfl dX15_deeper_20 (fun H locs hR hL => ?_)
    rw [← wT_sI _ a0 3 ((wI w a0 3) + (1 : Int32))] at ht0
    have hF := hF.sI a0 3 ((wI w a0 3) + (1 : Int32))
    refine lv_aload_n hx hb dX15_deeper_23 rfl (lv_at hl 0 rfl) ?_
    refine lv_dup hx hb dX15_deeper_24 rfl ?_
    refine x_get (k := 2) (o := "BarredBooks$Reader") (n := "at") (d := "I") (fin := false) (ty := .int) (host := "BarredBooks") hx hb hts hown hK hR rfl (Fam.one (r := (RX15, TX15, 4)) ht0 rfl ok15 (by decide)) (Or.inl (hts _ q854)) (fun _ h9 => h9) (v := .int (wI w a0 2)) (by simp [fv, ftS, wI_sI, wI_sR, wI_sL, wL_sL, wL_sI, wL_sR, wR_sR, wR_sI, wR_sL]) dX15_deeper_25 ?_
    refine lv_iconst (v := 1) hx hb dX15_deeper_28 (by decide) ?_
    refine lv_iadd hx hb dX15_deeper_29 ?_
    refine x_putI (k := 2) (o := "BarredBooks$Reader") (n := "at") (d := "I") (fin := false) (ty := .int) (host := "BarredBooks") hx hb hts hown hK hR hL rfl (Fam.one (r := (RX15, TX15, 4)) ht0 rfl ok15 (by decide)) (Or.inl (hts _ q854)) (fun _ h9 => h9) (Or.inl rfl) rfl rfl rfl dX15_deeper_30 (fun H locs hR hL => ?_)
    rw [← wT_sI _ a0 2 ((wI w a0 2) + (1 : Int32))] at ht0
    have hF := hF.sI a0 2 ((wI w a0 2) + (1 : Int32))
    have h := Option.some.inj h
    subst h
    refine W.widen (k := wZ (sI (sI w a0 3 ((wI w a0 3) + (1 : Int32))) a0 2 ((wI w a0 2) + (1 : Int32))) - z0) (n := 80 * (wZ (sI (sI w a0 3 ((wI w a0 3) + (1 : Int32))) a0 2 ((wI w a0 2) + (1 : Int32))) - z0)) (Nat.le_refl _) (Nat.le_refl _) ?_
    exact W.toT (W.vret hx hb hr (fun t ht _ => ⟨rfl, by rw [ht]; exact hR, hF⟩) hL dX15_deeper_33)
  · rw [if_pos c1] at h
    refine lv_aload_n hx hb dX15_deeper_8 rfl (lv_at hl 0 rfl) ?_
    obtain ⟨⟨v2 | x3, qw4⟩, hq5, h⟩ := bnd h
    rotate_left
    · dsimp only at h
      obtain ⟨hz6, h⟩ := grd h
      have h := Option.some.inj h
      subst h
      refine k_TT (w := qw4) (x := x3) (mc := wZ qw4 - wZ w) (ms := 80 * (wZ qw4 - wZ w)) (runT_V (As := []) (rest := []) ⟨hx, hb, hml, hown, hts⟩ (met_X15_off l htr G z H0 B n w a0 (.inr x3, qw4) hq5 ht0 hZ.2) hd_X15_off q979 q981 qs11 q122 q982 ⟨Nat.le_of_ble_eq_true rfl, Nat.le_of_ble_eq_true rfl⟩ (preVT (q := (RX15, TX15, 4)) hK hR hF hN hS ht0 rfl) rfl rfl hl.1 rfl (lv_room (Nat.le_of_ble_eq_true rfl)) dX15_deeper_9 ⟨by dsimp only; omega, by dsimp only; omega⟩) hL (fun H locs hR hF hL => ?_)
      refine WT.widen (k := wZ qw4 - z0) (n := 80 * (wZ qw4 - z0)) (by omega) (by omega) ?_
      exact WT.leave (fun x9 hx9 => hnoh x9 hx9 9) (fun t ht _ => ⟨rfl, by rw [ht]; exact hR, hF⟩) hL hlocks
    dsimp only at h
    obtain ⟨hz6, h⟩ := grd h
    refine k_TR (v := (some (rfv z v2))) (w := qw4) (mc := wZ qw4 - wZ w) (ms := 80 * (wZ qw4 - wZ w)) (st1 := [rfv z v2]) (runT_V (As := []) (rest := []) ⟨hx, hb, hml, hown, hts⟩ (met_X15_off l htr G z H0 B n w a0 (.inl v2, qw4) hq5 ht0 hZ.2) hd_X15_off q979 q981 qs11 q122 q982 ⟨Nat.le_of_ble_eq_true rfl, Nat.le_of_ble_eq_true rfl⟩ (preVT (q := (RX15, TX15, 4)) hK hR hF hN hS ht0 rfl) rfl rfl hl.1 rfl (lv_room (Nat.le_of_ble_eq_true rfl)) dX15_deeper_9 ⟨by dsimp only; omega, by dsimp only; omega⟩) hL rfl (fun H locs hR hF hL => ?_)
    refine W.wid (b := wZ qw4) (by omega) hZ.1 (Nat.le_refl _) ?_
    have hZ : z0 ≤ wZ qw4 ∧ wZ qw4 ≤ B := ⟨by omega, hz6.2⟩
    obtain ⟨r8, hr9, h⟩ := bnd h
    have h := Option.some.inj h
    subst h
    exact t_throw hx hb (fun x9 hx9 => hnoh x9 hx9 12) (rfv_some hr9) (fun t ht _ => ⟨rfl, by rw [ht]; exact hR, hF⟩) hL dX15_deeper_12 hlocks
def f_X15_number_L23 (B n : Nat) (u1_0 : Nat) (s1 : Int32 × Int32 × Wd) : Option ((Int32 × Int32 × Wd) ⊕ ((Int32 × Int32 × Wd))) :=
  if (4 : Int32) ≤ s1.1 then (some (.inr (s1.1, s1.2.1, s1.2.2))) else (if (wT s1.2.2 u1_0).1 = 16 then ((f_X15_here u1_0 s1.2.2).bind fun q6 => if (f_X0_in q6 (48 : Int32) (57 : Int32) s1.2.2) then ((wR s1.2.2 u1_0 0).bind fun r9 => if (wT (sI s1.2.2 u1_0 2 ((wI s1.2.2 u1_0 2) + (1 : Int32))) r9).1 = 201 then (if inb (wI s1.2.2 u1_0 2) (wT (sI s1.2.2 u1_0 2 ((wI s1.2.2 u1_0 2) + (1 : Int32))) r9).2 then (some (.inl (s1.1 + (1 : Int32), (((10 : Int32) * s1.2.1) + (wI (sI s1.2.2 u1_0 2 ((wI s1.2.2 u1_0 2) + (1 : Int32))) r9 ((wI s1.2.2 u1_0 2).toNatClampNeg))) - (48 : Int32), sI s1.2.2 u1_0 2 ((wI s1.2.2 u1_0 2) + (1 : Int32))))) else none) else none) else (some (.inr (s1.1, s1.2.1, s1.2.2)))) else none)
def f_X15_number (B n : Nat) (a0 : Nat) (w : Wd) : Option ((Int32 ⊕ Nat) × Wd) :=
  (f_X15_here a0 w).bind fun q1 => if (f_X0_in q1 (48 : Int32) (57 : Int32) w) then ((it n (f_X15_number_L23 B n a0) ((0 : Int32), (0 : Int32), w)).bind fun q23_73 => some (.inl q23_73.2.1, q23_73.2.2)) else ((f_X15_off B n a0 w).bind fun q20 => (match q20 with | (.inl v15, qw17) => if wZ w ≤ wZ qw17 ∧ wZ qw17 ≤ B then ((v15).bind fun r21 => some (.inr r21, qw17)) else none | (.inr x16, qw17) => if wZ w ≤ wZ qw17 ∧ wZ qw17 ≤ B then (some (.inr x16, qw17)) else none))
theorem hd_X15_number : yX15_number.cls ≠ "java/lang/invoke/MethodHandle" ∧ yX15_number.cls ≠ "java/lang/invoke/VarHandle" ∧ (parseMethodDescriptor yX15_number.desc).map (fun d => d.parameters.length) = some 0 := by decide +kernel
set_option maxHeartbeats 4000000 in
set_option maxRecDepth 100000 in
theorem met_X15_number (l : Launch) (htr : ∀ e, l.admits e → e.platform.stackTraces = false) (G : Gw) (z : Nat) (H0 : Heap) (B n : Nat) (w : Wd) (a0 : Nat) (q : (Int32 ⊕ Nat) × Wd) (h : f_X15_number B n a0 w = some q) (ht0 : (wT w a0).1 = 16) (hB : wZ w ≤ B) : MetT l yX15_number (ws_ yX15_number cX15_number 3 (some .int)) ({ frames := 7, cells := B - wZ w, slots := 80 * (B - wZ w), locals := 121 } : Room) (pcT G z H0 w [.ref (z + a0)]) (qT G z H0 q.2 (cvI q.1)) (wZ q.2 - wZ w) (80 * (wZ q.2 - wZ w)) (fun q => z ≤ q) := by
  refine mT (by decide) (Nat.le_of_ble_eq_true rfl) ?_
  intro p e s m below meth c ls hx hb hr hml hown hts hlocks hnm hnoh hK hR hF hN hS hl
  have hown : s.vm.findClass RX15 = some m.cls := hown
  have hl : lv_has ls 3 [(0, .ref (z + a0))] := hl
  have hL : lok z [] := lok_nil
  unfold f_X15_number at h
  obtain ⟨z0, hz0⟩ : ∃ z0, wZ w = z0 := ⟨_, rfl⟩
  rw [hz0]
  refine W.widen (k := wZ w - z0) (n := 80 * (wZ w - z0)) (Nat.zero_le _) (Nat.zero_le _) ?_
  have hZ : z0 ≤ wZ w ∧ wZ w ≤ B := ⟨by omega, hB⟩
  generalize s.heap = H at hR ⊢
  generalize ([] : List Loc) = locs at hL ⊢
  refine lv_aload_n hx hb dX15_number_0 rfl (lv_at hl 0 rfl) ?_
  obtain ⟨q1, hq2, h⟩ := bnd h
  refine k_P (st1 := [.int q1]) (va_runV (As := []) (rest := []) ⟨hx, hb, hml, hown, hts⟩ (met_X15_here l G z H0 w a0 q1 hq2 ht0) (cwV 0 hts (lw_V q918 q920 qs8 q122 q921) rfl rfl rfl ⟨rfl, hd_X15_here⟩ ⟨Nat.le_of_ble_eq_true rfl, Nat.le_of_ble_eq_true rfl⟩) (preV (q := (RX15, TX15, 4)) hK hR hF hN ht0 rfl) rfl rfl hl.1 rfl (lv_room (Nat.le_of_ble_eq_true rfl)) dX15_number_1 ⟨by dsimp only; omega, by dsimp only; omega⟩) hL rfl (fun locs hL => ?_)
  refine W.wid (b := wZ w) (Nat.le_refl _) hZ.1 (Nat.le_refl _) ?_
  refine lv_bipush (v := 48) hx hb dX15_number_4 (by decide) ?_
  refine lv_bipush (v := 57) hx hb dX15_number_6 (by decide) ?_
  refine k_P (st1 := [.int (bI (f_X0_in q1 (48 : Int32) (57 : Int32) w))]) (va_runSN (As := [.int q1, .int (48 : Int32), .int (57 : Int32)]) (rest := []) ⟨hx, hb, hml, hown, hts⟩ (met_X0_in l G z H0 w q1 (48 : Int32) (57 : Int32) _ rfl) ⟨va_cnB (host := "BarredBooks") 3 hts (lw_meth q346) rfl rfl rfl (hN.at q1008 rfl) (hts _ q100) hd_X0_in ⟨Nat.le_of_ble_eq_true rfl, Nat.le_of_ble_eq_true rfl⟩, hts _ q345, trivial⟩ (preS hK hR hF hN) rfl rfl hl.1 rfl (lv_room (Nat.le_of_ble_eq_true rfl)) dX15_number_8 ⟨by dsimp only; omega, by dsimp only; omega⟩) hL rfl (fun locs hL => ?_)
  refine W.wid (b := wZ w) (Nat.le_refl _) hZ.1 (Nat.le_refl _) ?_
  refine lv_if_ne (tgt := 19) hx hb dX15_number_11 (by decide) (fun c3 => ?_) (fun c3 => ?_)
  · rw [if_pos (bI_p c3)] at h
    refine lv_iconst (v := 0) hx hb dX15_number_19 (by decide) ?_
    refine lv_istore_n (lv' := [(1, .int (0 : Int32)), (0, .ref (z + a0))]) hx hb dX15_number_20 rfl hl (by decide) rfl (fun ls hl => ?_)
    refine lv_iconst (v := 0) hx hb dX15_number_21 (by decide) ?_
    refine lv_istore_n (lv' := [(2, .int (0 : Int32)), (1, .int (0 : Int32)), (0, .ref (z + a0))]) hx hb dX15_number_22 rfl hl (by decide) rfl (fun ls hl => ?_)
    have hX23_73 : ∀ (q23_73 : Int32 × Int32 × Wd), (some (.inl q23_73.2.1, q23_73.2.2)) = some q → ∀ (H : Heap) (locs : List Loc) (ls : Array Slot), Rp G z H0 q23_73.2.2 H → Fix q23_73.2.2 → lok z locs → (z0 ≤ wZ q23_73.2.2 ∧ wZ q23_73.2.2 ≤ B) → lv_has ls 3 [(1, .int q23_73.2.1)] → W p l e ({ frames := 7, cells := B - z0, slots := 80 * (B - z0), locals := 121 } : Room) s m ([.ref (z + a0)] : List Value).toArray below meth c H locs (wZ q23_73.2.2 - z0) (80 * (wZ q23_73.2.2 - z0)) (MQT below (qT G z H0 q.2 (cvI q.1)) ([.ref (z + a0)] : List Value).toArray s (wZ q.2 - z0) (80 * (wZ q.2 - z0)) (fun q => z ≤ q)) (F0 m 73 ls []) := by
      intro q23_73 h H locs ls hR hF hL hZ hl
      refine lv_iload_n hx hb dX15_number_73 rfl (lv_at hl 0 rfl) ?_
      have h := Option.some.inj h
      subst h
      exact W.toT (W.iret (v := q23_73.2.1) hx hb hr (fun t ht _ => ⟨rfl, by rw [ht]; exact hR, hF⟩) hL dX15_number_74)
    obtain ⟨t13, hq14, h⟩ := bnd h
    refine it_W (b := f_X15_number_L23 B n a0) (P := fun (s1 : Int32 × Int32 × Wd) => ∀ (H : Heap) (locs : List Loc) (ls : Array Slot), Rp G z H0 s1.2.2 H → Fix s1.2.2 → lok z locs → (z0 ≤ wZ s1.2.2 ∧ wZ s1.2.2 ≤ B) → lv_has ls 3 [(2, .int s1.1), (1, .int s1.2.1), (0, .ref (z + a0))] → W p l e ({ frames := 7, cells := B - z0, slots := 80 * (B - z0), locals := 121 } : Room) s m ([.ref (z + a0)] : List Value).toArray below meth c H locs (wZ s1.2.2 - z0) (80 * (wZ s1.2.2 - z0)) (MQT below (qT G z H0 q.2 (cvI q.1)) ([.ref (z + a0)] : List Value).toArray s (wZ q.2 - z0) (80 * (wZ q.2 - z0)) (fun q => z ≤ q)) (F0 m 23 ls [])) (K := fun q23_73 => (some (.inl q23_73.2.1, q23_73.2.2)) = some q) (fun s1 x1 h hc1 ht1 => ?_) n ((0 : Int32), (0 : Int32), w) t13 hq14 h H locs ls hR hF hL hZ (lv_sub hl [0, 1, 2] rfl)
    intro H locs ls hR hF hL hZ hl
    unfold f_X15_number_L23 at h
    refine lv_iload_n hx hb dX15_number_23 rfl (lv_at hl 0 rfl) ?_
    refine lv_iconst (v := 4) hx hb dX15_number_24 (by decide) ?_
    refine lv_icmp_ge (tgt := 73) hx hb dX15_number_25 (by decide) (fun c4 => ?_) (fun c4 => ?_)
    · rw [if_pos c4] at h
      exact hX23_73 (s1.1, s1.2.1, s1.2.2) (ht1 _ (Option.some.inj h).symm) H locs ls hR hF hL hZ (lv_sub hl [1] rfl)
    · rw [if_neg c4] at h
      refine lv_aload_n hx hb dX15_number_28 rfl (lv_at hl 2 rfl) ?_
      obtain ⟨hg5, h⟩ := grd h
      obtain ⟨q6, hq7, h⟩ := bnd h
      refine k_P (st1 := [.int q6]) (va_runV (As := []) (rest := []) ⟨hx, hb, hml, hown, hts⟩ (met_X15_here l G z H0 s1.2.2 a0 q6 hq7 hg5) (cwV 0 hts (lw_V q918 q920 qs8 q122 q921) rfl rfl rfl ⟨rfl, hd_X15_here⟩ ⟨Nat.le_of_ble_eq_true rfl, Nat.le_of_ble_eq_true rfl⟩) (preV (q := (RX15, TX15, 4)) hK hR hF hN hg5 rfl) rfl rfl hl.1 rfl (lv_room (Nat.le_of_ble_eq_true rfl)) dX15_number_29 ⟨by dsimp only; omega, by dsimp only; omega⟩) hL rfl (fun locs hL => ?_)
      refine W.wid (b := wZ s1.2.2) (Nat.le_refl _) hZ.1 (Nat.le_refl _) ?_
      refine lv_bipush (v := 48) hx hb dX15_number_32 (by decide) ?_
      refine lv_bipush (v := 57) hx hb dX15_number_34 (by decide) ?_
      refine k_P (st1 := [.int (bI (f_X0_in q6 (48 : Int32) (57 : Int32) s1.2.2))]) (va_runSN (As := [.int q6, .int (48 : Int32), .int (57 : Int32)]) (rest := []) ⟨hx, hb, hml, hown, hts⟩ (met_X0_in l G z H0 s1.2.2 q6 (48 : Int32) (57 : Int32) _ rfl) ⟨va_cnB (host := "BarredBooks") 3 hts (lw_meth q346) rfl rfl rfl (hN.at q1008 rfl) (hts _ q100) hd_X0_in ⟨Nat.le_of_ble_eq_true rfl, Nat.le_of_ble_eq_true rfl⟩, hts _ q345, trivial⟩ (preS hK hR hF hN) rfl rfl hl.1 rfl (lv_room (Nat.le_of_ble_eq_true rfl)) dX15_number_36 ⟨by dsimp only; omega, by dsimp only; omega⟩) hL rfl (fun locs hL => ?_)
      refine W.wid (b := wZ s1.2.2) (Nat.le_refl _) hZ.1 (Nat.le_refl _) ?_
      refine lv_if_eq (tgt := 73) hx hb dX15_number_39 (by decide) (fun c8 => ?_) (fun c8 => ?_)
      · rw [if_neg (bI_n c8)] at h
        exact hX23_73 (s1.1, s1.2.1, s1.2.2) (ht1 _ (Option.some.inj h).symm) H locs ls hR hF hL hZ (lv_sub hl [1] rfl)
      · rw [if_pos (bI_p c8)] at h
        refine lv_bipush (v := 10) hx hb dX15_number_42 (by decide) ?_
        refine lv_iload_n hx hb dX15_number_44 rfl (lv_at hl 1 rfl) ?_
        refine lv_imul hx hb dX15_number_45 ?_
        refine lv_aload_n hx hb dX15_number_46 rfl (lv_at hl 2 rfl) ?_
        refine x_get (k := 0) (o := "BarredBooks$Reader") (n := "text") (d := "[B") (fin := true) (ty := (.array .byte)) (host := "BarredBooks") hx hb hts hown hK hR rfl (Fam.one (r := (RX15, TX15, 4)) hg5 rfl ok15 (by decide)) (Or.inl (hts _ q852)) (fun _ h9 => h9) (v := rfv z (wR s1.2.2 a0 0)) rfl dX15_number_47 ?_
        refine lv_aload_n hx hb dX15_number_50 rfl (lv_at hl 2 rfl) ?_
        refine lv_dup hx hb dX15_number_51 rfl ?_
        refine x_get (k := 2) (o := "BarredBooks$Reader") (n := "at") (d := "I") (fin := false) (ty := .int) (host := "BarredBooks") hx hb hts hown hK hR rfl (Fam.one (r := (RX15, TX15, 4)) hg5 rfl ok15 (by decide)) (Or.inl (hts _ q854)) (fun _ h9 => h9) (v := .int (wI s1.2.2 a0 2)) rfl dX15_number_52 ?_
        refine lv_dup_x1 hx hb dX15_number_55 rfl rfl ?_
        refine lv_iconst (v := 1) hx hb dX15_number_56 (by decide) ?_
        refine lv_iadd hx hb dX15_number_57 ?_
        refine x_putI (k := 2) (o := "BarredBooks$Reader") (n := "at") (d := "I") (fin := false) (ty := .int) (host := "BarredBooks") hx hb hts hown hK hR hL rfl (Fam.one (r := (RX15, TX15, 4)) hg5 rfl ok15 (by decide)) (Or.inl (hts _ q854)) (fun _ h9 => h9) (Or.inl rfl) rfl rfl rfl dX15_number_58 (fun H locs hR hL => ?_)
        rw [← wT_sI _ a0 2 ((wI s1.2.2 a0 2) + (1 : Int32))] at hg5
        have hF := hF.sI a0 2 ((wI s1.2.2 a0 2) + (1 : Int32))
        obtain ⟨r9, hr10, h⟩ := bnd h
        obtain ⟨hg11, h⟩ := grd h
        obtain ⟨hb12, h⟩ := grd h
        refine x_bald (v := wI (sI s1.2.2 a0 2 ((wI s1.2.2 a0 2) + (1 : Int32))) r9 ((wI s1.2.2 a0 2).toNatClampNeg)) hx hb hK hR (rfv_some hr10) (wT_pair hg11) hb12 rfl dX15_number_61 ?_
        refine lv_iadd hx hb dX15_number_62 ?_
        refine lv_bipush (v := 48) hx hb dX15_number_63 (by decide) ?_
        refine lv_isub hx hb dX15_number_65 ?_
        refine lv_istore_n (lv' := [(1, .int ((((10 : Int32) * s1.2.1) + (wI (sI s1.2.2 a0 2 ((wI s1.2.2 a0 2) + (1 : Int32))) r9 ((wI s1.2.2 a0 2).toNatClampNeg))) - (48 : Int32))), (2, .int s1.1), (0, .ref (z + a0))]) hx hb dX15_number_66 rfl hl (by decide) rfl (fun ls hl => ?_)
        refine lv_iinc (v := s1.1 + (1 : Int32)) (lv' := [(2, .int (s1.1 + (1 : Int32))), (1, .int ((((10 : Int32) * s1.2.1) + (wI (sI s1.2.2 a0 2 ((wI s1.2.2 a0 2) + (1 : Int32))) r9 ((wI s1.2.2 a0 2).toNatClampNeg))) - (48 : Int32))), (0, .ref (z + a0))]) hx hb dX15_number_67 hl (k := 1) rfl rfl (by decide) rfl (fun ls hl => ?_)
        refine lv_goto (tgt := 23) hx hb dX15_number_70 (by decide) ?_
        exact hc1 _ (Option.some.inj h).symm H locs ls hR hF hL hZ (lv_sub hl [0, 1, 2] rfl)
  · rw [if_neg (bI_n c3)] at h
    refine lv_aload_n hx hb dX15_number_14 rfl (lv_at hl 0 rfl) ?_
    obtain ⟨⟨v15 | x16, qw17⟩, hq18, h⟩ := bnd h
    rotate_left
    · dsimp only at h
      obtain ⟨hz19, h⟩ := grd h
      have h := Option.some.inj h
      subst h
      refine k_TT (w := qw17) (x := x16) (mc := wZ qw17 - wZ w) (ms := 80 * (wZ qw17 - wZ w)) (runT_V (As := []) (rest := []) ⟨hx, hb, hml, hown, hts⟩ (met_X15_off l htr G z H0 B n w a0 (.inr x16, qw17) hq18 ht0 hZ.2) hd_X15_off q979 q981 qs11 q122 q982 ⟨Nat.le_of_ble_eq_true rfl, Nat.le_of_ble_eq_true rfl⟩ (preVT (q := (RX15, TX15, 4)) hK hR hF hN hS ht0 rfl) rfl rfl hl.1 rfl (lv_room (Nat.le_of_ble_eq_true rfl)) dX15_number_15 ⟨by dsimp only; omega, by dsimp only; omega⟩) hL (fun H locs hR hF hL => ?_)
      refine WT.widen (k := wZ qw17 - z0) (n := 80 * (wZ qw17 - z0)) (by omega) (by omega) ?_
      exact WT.leave (fun x9 hx9 => hnoh x9 hx9 15) (fun t ht _ => ⟨rfl, by rw [ht]; exact hR, hF⟩) hL hlocks
    dsimp only at h
    obtain ⟨hz19, h⟩ := grd h
    refine k_TR (v := (some (rfv z v15))) (w := qw17) (mc := wZ qw17 - wZ w) (ms := 80 * (wZ qw17 - wZ w)) (st1 := [rfv z v15]) (runT_V (As := []) (rest := []) ⟨hx, hb, hml, hown, hts⟩ (met_X15_off l htr G z H0 B n w a0 (.inl v15, qw17) hq18 ht0 hZ.2) hd_X15_off q979 q981 qs11 q122 q982 ⟨Nat.le_of_ble_eq_true rfl, Nat.le_of_ble_eq_true rfl⟩ (preVT (q := (RX15, TX15, 4)) hK hR hF hN hS ht0 rfl) rfl rfl hl.1 rfl (lv_room (Nat.le_of_ble_eq_true rfl)) dX15_number_15 ⟨by dsimp only; omega, by dsimp only; omega⟩) hL rfl (fun H locs hR hF hL => ?_)
    refine W.wid (b := wZ qw17) (by omega) hZ.1 (Nat.le_refl _) ?_
    have hZ : z0 ≤ wZ qw17 ∧ wZ qw17 ≤ B := ⟨by omega, hz19.2⟩
    obtain ⟨r21, hr22, h⟩ := bnd h
    have h := Option.some.inj h
    subst h
    exact t_throw hx hb (fun x9 hx9 => hnoh x9 hx9 18) (rfv_some hr22) (fun t ht _ => ⟨rfl, by rw [ht]; exact hR, hF⟩) hL dX15_number_18 hlocks
def f_X3_has (B n : Nat) (a0 : Nat) (a1 : Int32) (w : Wd) : Option ((Unit ⊕ Nat) × Wd) :=
  if (wR w a0 0) = none then (if wZ w + 1 ≤ B then (some (.inr (wZ w), sI (sN w 18 0) (wZ w) 0 (-11 : Int32))) else none) else ((f_X3_size a0 w).bind fun q2 => if (f_X0_in a1 (0 : Int32) (q2 - (1 : Int32)) w) then (some (.inl (), w)) else (if wZ w + 1 ≤ B then (some (.inr (wZ w), sI (sN w 18 0) (wZ w) 0 (-13 : Int32))) else none))
theorem hd_X3_has : yX3_has.cls ≠ "java/lang/invoke/MethodHandle" ∧ yX3_has.cls ≠ "java/lang/invoke/VarHandle" ∧ (parseMethodDescriptor yX3_has.desc).map (fun d => d.parameters.length) = some 1 := by decide +kernel
set_option maxHeartbeats 4000000 in
set_option maxRecDepth 100000 in
theorem met_X3_has (l : Launch) (htr : ∀ e, l.admits e → e.platform.stackTraces = false) (G : Gw) (z : Nat) (H0 : Heap) (B n : Nat) (w : Wd) (a0 : Nat) (a1 : Int32) (q : (Unit ⊕ Nat) × Wd) (h : f_X3_has B n a0 a1 w = some q) (ht0 : (wT w a0).1 = 4) (hB : wZ w ≤ B) : MetT l yX3_has (ws_ yX3_has cX3_has 2 none) ({ frames := 6, cells := B - wZ w, slots := 80 * (B - wZ w), locals := 101 } : Room) (pcT G z H0 w [.ref (z + a0), .int a1]) (qT G z H0 q.2 (cvV q.1)) (wZ q.2 - wZ w) (80 * (wZ q.2 - wZ w)) (fun q => z ≤ q) := by
  refine mT (by decide) (Nat.le_of_ble_eq_true rfl) ?_
  intro p e s m below meth c ls hx hb hr hml hown hts hlocks hnm hnoh hK hR hF hN hS hl
  have hown : s.vm.findClass RX3 = some m.cls := hown
  have hl : lv_has ls 2 [(0, .ref (z + a0)), (1, .int a1)] := hl
  have hL : lok z [] := lok_nil
  unfold f_X3_has at h
  obtain ⟨z0, hz0⟩ : ∃ z0, wZ w = z0 := ⟨_, rfl⟩
  rw [hz0]
  refine W.widen (k := wZ w - z0) (n := 80 * (wZ w - z0)) (Nat.zero_le _) (Nat.zero_le _) ?_
  have hZ : z0 ≤ wZ w ∧ wZ w ≤ B := ⟨by omega, hB⟩
  generalize s.heap = H at hR ⊢
  generalize ([] : List Loc) = locs at hL ⊢
  refine lv_aload_n hx hb dX3_has_0 rfl (lv_at hl 0 rfl) ?_
  refine x_get (k := 0) (o := "BarredBooks$Tape") (n := "row") (d := "Ljava/lang/Object;") (fin := false) (ty := (.object "java/lang/Object")) (host := "BarredBooks") hx hb hts hown hK hR rfl (Fam.one (r := (RX3, TX3, 1)) ht0 rfl ok3 (by decide)) (Or.inl (hts _ q214)) (fun _ h9 => h9) (v := rfv z (wR w a0 0)) rfl dX3_has_1 ?_
  refine x_ifnonnull (r := wR w a0 0) (tgt := 17) hx hb dX3_has_4 (by decide) (fun c1 => ?_) (fun c1 => ?_)
  · rw [if_neg c1] at h
    refine lv_iload_n hx hb dX3_has_17 rfl (lv_at hl 1 rfl) ?_
    refine lv_iconst (v := 0) hx hb dX3_has_18 (by decide) ?_
    refine lv_aload_n hx hb dX3_has_19 rfl (lv_at hl 0 rfl) ?_
    obtain ⟨q2, hq3, h⟩ := bnd h
    refine k_P (st1 := [.int q2, .int (0 : Int32), .int a1]) (va_runV (As := []) (rest := [.int (0 : Int32), .int a1]) ⟨hx, hb, hml, hown, hts⟩ (met_X3_size l G z H0 w a0 q2 hq3 ht0) (cwV 0 hts (lw_V q1570 q1572 qs40 q103 q1573) rfl rfl rfl ⟨rfl, hd_X3_size⟩ ⟨Nat.le_of_ble_eq_true rfl, Nat.le_of_ble_eq_true rfl⟩) (preV (q := (RX3, TX3, 1)) hK hR hF hN ht0 rfl) rfl rfl hl.1 rfl (lv_room (Nat.le_of_ble_eq_true rfl)) dX3_has_20 ⟨by dsimp only; omega, by dsimp only; omega⟩) hL rfl (fun locs hL => ?_)
    refine W.wid (b := wZ w) (Nat.le_refl _) hZ.1 (Nat.le_refl _) ?_
    refine lv_iconst (v := 1) hx hb dX3_has_23 (by decide) ?_
    refine lv_isub hx hb dX3_has_24 ?_
    refine k_P (st1 := [.int (bI (f_X0_in a1 (0 : Int32) (q2 - (1 : Int32)) w))]) (va_runSN (As := [.int a1, .int (0 : Int32), .int (q2 - (1 : Int32))]) (rest := []) ⟨hx, hb, hml, hown, hts⟩ (met_X0_in l G z H0 w a1 (0 : Int32) (q2 - (1 : Int32)) _ rfl) ⟨va_cnB (host := "BarredBooks") 3 hts (lw_meth q346) rfl rfl rfl (hN.at q1579 rfl) (hts _ q100) hd_X0_in ⟨Nat.le_of_ble_eq_true rfl, Nat.le_of_ble_eq_true rfl⟩, hts _ q345, trivial⟩ (preS hK hR hF hN) rfl rfl hl.1 rfl (lv_room (Nat.le_of_ble_eq_true rfl)) dX3_has_25 ⟨by dsimp only; omega, by dsimp only; omega⟩) hL rfl (fun locs hL => ?_)
    refine W.wid (b := wZ w) (Nat.le_refl _) hZ.1 (Nat.le_refl _) ?_
    refine lv_if_ne (tgt := 41) hx hb dX3_has_28 (by decide) (fun c4 => ?_) (fun c4 => ?_)
    · rw [if_pos (bI_p c4)] at h
      have h := Option.some.inj h
      subst h
      exact W.toT (W.vret hx hb hr (fun t ht _ => ⟨rfl, by rw [ht]; exact hR, hF⟩) hL dX3_has_41)
    · rw [if_neg (bI_n c4)] at h
      obtain ⟨hz5, h⟩ := grd h
      have hs6 : wT (sN w 18 0) a0 = wT w a0 := tag_sN hR (by rw [ht0]; decide)
      refine x_newOff hx hb hts hown (hts _ q1568) hK hR (by dsimp only; omega) (by dsimp only; omega) dX3_has_31 (fun H hR hfr7 => ?_)
      have hF := hF.sN 18 0
      rw [← hs6] at ht0
      have ez8 : wZ (sN w 18 0) = wZ w + 1 := rfl
      refine W.wid (b := wZ (sN w 18 0)) (by omega) hZ.1 (by decide) ?_
      have hZ : z0 ≤ wZ (sN w 18 0) ∧ wZ (sN w 18 0) ≤ B := ⟨by omega, by omega⟩
      have hg9 : (wT (sN w 18 0) (wZ w)).1 = 18 := by rw [wT_sN, if_pos rfl]
      refine lv_dup hx hb dX3_has_34 rfl ?_
      refine lv_bipush (v := -13) hx hb dX3_has_35 (by decide) ?_
      refine k_W (st1 := [.ref (z + wZ w)]) (va_runI (As := [.int (-13 : Int32)]) (rest := [.ref (z + wZ w)]) ⟨hx, hb, hml, hown, hts⟩ (met_X17_init l htr G z H0 (sN w 18 0) (wZ w) (-13 : Int32) hg9) (cwI 1 hts (lw_meth q994) rfl rfl rfl (hts _ q130) (hts _ q1569) (hts _ q993) rfl hd_X17_init ⟨Nat.le_of_ble_eq_true rfl, Nat.le_of_ble_eq_true rfl⟩) (preO hK hR hF hN hS hfr7) rfl rfl hl.1 rfl (lv_room (Nat.le_of_ble_eq_true rfl)) dX3_has_37 ⟨by dsimp only; omega, by dsimp only; omega⟩) hL rfl (fun H locs hR hF hL => ?_)
      rw [← wT_sI _ (wZ w) 0 (-13 : Int32)] at ht0
      rw [← wT_sI _ (wZ w) 0 (-13 : Int32)] at hg9
      refine W.wid (b := wZ (sN w 18 0)) (Nat.le_refl _) hZ.1 (Nat.le_refl _) ?_
      have h := Option.some.inj h
      subst h
      refine W.widen (k := wZ (sI (sN w 18 0) (wZ w) 0 (-13 : Int32)) - z0) (n := 80 * (wZ (sI (sN w 18 0) (wZ w) 0 (-13 : Int32)) - z0)) (Nat.le_refl _) (Nat.le_refl _) ?_
      exact t_throw hx hb (fun x9 hx9 => hnoh x9 hx9 40) rfl (fun t ht _ => ⟨rfl, by rw [ht]; exact hR, hF⟩) hL dX3_has_40 hlocks
  · rw [if_pos c1] at h
    obtain ⟨hz10, h⟩ := grd h
    have hs11 : wT (sN w 18 0) a0 = wT w a0 := tag_sN hR (by rw [ht0]; decide)
    refine x_newOff hx hb hts hown (hts _ q1568) hK hR (by dsimp only; omega) (by dsimp only; omega) dX3_has_7 (fun H hR hfr12 => ?_)
    have hF := hF.sN 18 0
    rw [← hs11] at ht0
    have ez13 : wZ (sN w 18 0) = wZ w + 1 := rfl
    refine W.wid (b := wZ (sN w 18 0)) (by omega) hZ.1 (by decide) ?_
    have hZ : z0 ≤ wZ (sN w 18 0) ∧ wZ (sN w 18 0) ≤ B := ⟨by omega, by omega⟩
    have hg14 : (wT (sN w 18 0) (wZ w)).1 = 18 := by rw [wT_sN, if_pos rfl]
    refine lv_dup hx hb dX3_has_10 rfl ?_
    refine lv_bipush (v := -11) hx hb dX3_has_11 (by decide) ?_
    refine k_W (st1 := [.ref (z + wZ w)]) (va_runI (As := [.int (-11 : Int32)]) (rest := [.ref (z + wZ w)]) ⟨hx, hb, hml, hown, hts⟩ (met_X17_init l htr G z H0 (sN w 18 0) (wZ w) (-11 : Int32) hg14) (cwI 1 hts (lw_meth q994) rfl rfl rfl (hts _ q130) (hts _ q1569) (hts _ q993) rfl hd_X17_init ⟨Nat.le_of_ble_eq_true rfl, Nat.le_of_ble_eq_true rfl⟩) (preO hK hR hF hN hS hfr12) rfl rfl hl.1 rfl (lv_room (Nat.le_of_ble_eq_true rfl)) dX3_has_13 ⟨by dsimp only; omega, by dsimp only; omega⟩) hL rfl (fun H locs hR hF hL => ?_)
    rw [← wT_sI _ (wZ w) 0 (-11 : Int32)] at ht0
    rw [← wT_sI _ (wZ w) 0 (-11 : Int32)] at hg14
    refine W.wid (b := wZ (sN w 18 0)) (Nat.le_refl _) hZ.1 (Nat.le_refl _) ?_
    have h := Option.some.inj h
    subst h
    refine W.widen (k := wZ (sI (sN w 18 0) (wZ w) 0 (-11 : Int32)) - z0) (n := 80 * (wZ (sI (sN w 18 0) (wZ w) 0 (-11 : Int32)) - z0)) (Nat.le_refl _) (Nat.le_refl _) ?_
    exact t_throw hx hb (fun x9 hx9 => hnoh x9 hx9 16) rfl (fun t ht _ => ⟨rfl, by rw [ht]; exact hR, hF⟩) hL dX3_has_16 hlocks
def f_J7_init (a0 : Nat) (w : Wd) : Unit :=
  ()
theorem hd_J7_init : yJ7_init.cls ≠ "java/lang/invoke/MethodHandle" ∧ yJ7_init.cls ≠ "java/lang/invoke/VarHandle" ∧ (parseMethodDescriptor yJ7_init.desc).map (fun d => d.parameters.length) = some 0 := by decide +kernel
set_option maxHeartbeats 4000000 in
set_option maxRecDepth 100000 in
theorem met_J7_init (l : Launch) (G : Gw) (z : Nat) (H0 : Heap)  (w : Wd) (a0 : Nat) (q : Unit) (h : f_J7_init a0 w = q) (ht0 : (wT w a0).1 = 27) : Met l yJ7_init (ws_ yJ7_init cJ7_init 1 none) ({ frames := 1, cells := 0, slots := 0, locals := 20 } : Room) (pcX G z H0 w [.ref (z + a0)]) (qP none) 0 0 (fun q => z ≤ q) := by
  refine mX (by decide) (Nat.le_of_ble_eq_true rfl) ?_
  intro p e s m below meth c ls hx hb hr hml hown hts hlocks hnm hK hR hF hN hl
  have hown : s.vm.findClass RJ7 = some m.cls := hown
  have hl : lv_has ls 1 [(0, .ref (z + a0))] := hl
  have hL : lok z [] := lok_nil
  unfold f_J7_init at h
  generalize ([] : List Loc) = locs at hL ⊢
  refine lv_aload_n hx hb dJ7_init_0 rfl (lv_at hl 0 rfl) ?_
  refine W.objInit hx hb hown (hts _ q886) (hts _ q156) (hts _ q157) rfl (hl.1.trans hml.symm) rfl dJ7_init_1 (Nat.le_of_ble_eq_true rfl) (Nat.le_of_ble_eq_true rfl) ?_
  subst h
  exact W.vret hx hb hr (fun t ht _ => ⟨rfl, ht⟩) hL dJ7_init_4
def f_J8_init (a0 : Nat) (w : Wd) : Option (Wd) :=
  some (sI w a0 0 (0 : Int32))
theorem hd_J8_init : yJ8_init.cls ≠ "java/lang/invoke/MethodHandle" ∧ yJ8_init.cls ≠ "java/lang/invoke/VarHandle" ∧ (parseMethodDescriptor yJ8_init.desc).map (fun d => d.parameters.length) = some 0 := by decide +kernel
set_option maxHeartbeats 4000000 in
set_option maxRecDepth 100000 in
theorem met_J8_init (l : Launch) (G : Gw) (z : Nat) (H0 : Heap)  (w : Wd) (a0 : Nat) (q : Wd) (h : f_J8_init a0 w = some q) (ht0 : (wT w a0).1 = 27) : Met l yJ8_init (ws_ yJ8_init cJ8_init 1 none) ({ frames := 2, cells := 0, slots := 0, locals := 40 } : Room) (pcX G z H0 w [.ref (z + a0)]) (qW G z H0 q none) 0 0 (fun q => z ≤ q) := by
  refine mX (by decide) (Nat.le_of_ble_eq_true rfl) ?_
  intro p e s m below meth c ls hx hb hr hml hown hts hlocks hnm hK hR hF hN hl
  have hown : s.vm.findClass RJ8 = some m.cls := hown
  have hl : lv_has ls 1 [(0, .ref (z + a0))] := hl
  have hL : lok z [] := lok_nil
  unfold f_J8_init at h
  generalize s.heap = H at hR ⊢
  generalize ([] : List Loc) = locs at hL ⊢
  refine lv_aload_n hx hb dJ8_init_0 rfl (lv_at hl 0 rfl) ?_
  refine k_P (st1 := []) (va_runI (As := []) (rest := []) ⟨hx, hb, hml, hown, hts⟩ (met_J7_init l G z H0 w a0 _ rfl ht0) (cwI 0 hts (lw_meth q885) rfl rfl rfl (hts _ q124) (hts _ q883) (hts _ q884) rfl hd_J7_init ⟨Nat.le_of_ble_eq_true rfl, Nat.le_of_ble_eq_true rfl⟩) (preS hK hR hF hN) rfl rfl hl.1 rfl (lv_room (Nat.le_of_ble_eq_true rfl)) dJ8_init_1 ⟨Nat.le_of_ble_eq_true rfl, Nat.le_of_ble_eq_true rfl⟩) hL rfl (fun locs hL => ?_)
  refine lv_aload_n hx hb dJ8_init_4 rfl (lv_at hl 0 rfl) ?_
  refine lv_iconst (v := 0) hx hb dJ8_init_5 (by decide) ?_
  refine x_putI (k := 0) (o := "java/util/AbstractList") (n := "modCount") (d := "I") (fin := false) (ty := .int) (host := "BarredBooks") hx hb hts hown hK hR hL rfl (Fam.one (r := (RJ9, TJ9, 3)) ht0 rfl ok26 (by decide)) (Or.inl (hts _ q891)) (fun _ h9 => h9) (Or.inl rfl) rfl rfl rfl dJ8_init_6 (fun H locs hR hL => ?_)
  rw [← wT_sI _ a0 0 (0 : Int32)] at ht0
  have hF := hF.sI a0 0 (0 : Int32)
  have h := Option.some.inj h
  subst h
  exact W.vret hx hb hr (fun t ht _ => ⟨rfl, by rw [ht]; exact hR, hF⟩) hL dJ8_init_9
def f_J9_init (B n : Nat) (a0 : Nat) (w : Wd) : Option ((Unit ⊕ Nat) × Wd) :=
  (f_J8_init a0 w).bind fun q1 => if wZ w ≤ wZ q1 ∧ wZ q1 ≤ B then (if (wT q1 a0).1 = 27 then (if 108 ≤ a0 then (some (.inl (), sT q1 a0 100)) else none) else none) else none
theorem hd_J9_init : yJ9_init.cls ≠ "java/lang/invoke/MethodHandle" ∧ yJ9_init.cls ≠ "java/lang/invoke/VarHandle" ∧ (parseMethodDescriptor yJ9_init.desc).map (fun d => d.parameters.length) = some 0 := by decide +kernel
set_option maxHeartbeats 4000000 in
set_option maxRecDepth 100000 in
theorem met_J9_init (l : Launch) (htr : ∀ e, l.admits e → e.platform.stackTraces = false) (G : Gw) (z : Nat) (H0 : Heap) (B n : Nat) (w : Wd) (a0 : Nat) (q : (Unit ⊕ Nat) × Wd) (h : f_J9_init B n a0 w = some q) (ht0 : (wT w a0).1 = 27) (hB : wZ w ≤ B) : MetT l yJ9_init (ws_ yJ9_init cJ9_init 1 none) ({ frames := 3, cells := B - wZ w, slots := 80 * (B - wZ w), locals := 60 } : Room) (pcT G z H0 w [.ref (z + a0)]) (qT G z H0 q.2 (cvV q.1)) (wZ q.2 - wZ w) (80 * (wZ q.2 - wZ w)) (fun q => z ≤ q) := by
  refine mT (by decide) (Nat.le_of_ble_eq_true rfl) ?_
  intro p e s m below meth c ls hx hb hr hml hown hts hlocks hnm hnoh hK hR hF hN hS hl
  have hown : s.vm.findClass RJ9 = some m.cls := hown
  have hl : lv_has ls 1 [(0, .ref (z + a0))] := hl
  have hL : lok z [] := lok_nil
  unfold f_J9_init at h
  obtain ⟨z0, hz0⟩ : ∃ z0, wZ w = z0 := ⟨_, rfl⟩
  rw [hz0]
  refine W.widen (k := wZ w - z0) (n := 80 * (wZ w - z0)) (Nat.zero_le _) (Nat.zero_le _) ?_
  have hZ : z0 ≤ wZ w ∧ wZ w ≤ B := ⟨by omega, hB⟩
  generalize s.heap = H at hR ⊢
  generalize ([] : List Loc) = locs at hL ⊢
  refine lv_aload_n hx hb dJ9_init_0 rfl (lv_at hl 0 rfl) ?_
  obtain ⟨q1, hq2, h⟩ := bnd h
  obtain ⟨hz3, h⟩ := grd h
  refine k_W (st1 := []) (va_runI (As := []) (rest := []) ⟨hx, hb, hml, hown, hts⟩ (met_J8_init l G z H0 w a0 q1 hq2 ht0) (cwI 0 hts (lw_meth q882) rfl rfl rfl (hts _ q125) (hts _ q880) (hts _ q881) rfl hd_J8_init ⟨Nat.le_of_ble_eq_true rfl, Nat.le_of_ble_eq_true rfl⟩) (preS hK hR hF hN) rfl rfl hl.1 rfl (lv_room (Nat.le_of_ble_eq_true rfl)) dJ9_init_1 ⟨by dsimp only; omega, by dsimp only; omega⟩) hL rfl (fun H locs hR hF hL => ?_)
  refine W.wid (b := wZ q1) (by omega) hZ.1 (by decide) ?_
  have hZ : z0 ≤ wZ q1 ∧ wZ q1 ≤ B := ⟨by omega, hz3.2⟩
  refine lv_aload_n hx hb dJ9_init_4 rfl (lv_at hl 0 rfl) ?_
  refine x_gets hx hb hS.2.1 hR.2.1 hown (hts _ q887) (fun _ h9 => h9) dJ9_init_5 ?_
  obtain ⟨hg4, h⟩ := grd h
  refine j9_put hx hb hts hown hK hL (hR.2.2.2.1 a0 26 (RJ9, TJ9, 3) hg4 rfl) 1 (by decide) rfl (hts _ q889) (fun _ h9 => h9) rfl rfl dJ9_init_8 (fun H locs e1 e2 e3 hL => ?_)
  obtain ⟨hd5, h⟩ := grd h
  have hR := hR.empty hg4 e1 e2 e3
  have hF := hF.sT (a := a0) (t := 100) hd5
  refine W.widen (k := wZ (sT q1 a0 100) - z0) (n := 80 * (wZ (sT q1 a0 100) - z0)) (Nat.le_refl _) (Nat.le_refl _) ?_
  have hZ : z0 ≤ wZ (sT q1 a0 100) ∧ wZ (sT q1 a0 100) ≤ B := hZ
  have h := Option.some.inj h
  subst h
  exact W.toT (W.vret hx hb hr (fun t ht _ => ⟨rfl, by rw [ht]; exact hR, hF⟩) hL dJ9_init_11)
def f_J13_newLength (a1 : Int32) (a2 : Int32) (a3 : Int32) (w : Wd) : Option (Int32) :=
  if (a1 + (if a2 < a3 then a3 else a2)) ≤ (0 : Int32) then none else (if (2147483639 : Int32) < (a1 + (if a2 < a3 then a3 else a2)) then none else (some (a1 + (if a2 < a3 then a3 else a2))))
theorem hd_J13_newLength : yJ13_newLength.cls ≠ "java/lang/invoke/MethodHandle" ∧ yJ13_newLength.cls ≠ "java/lang/invoke/VarHandle" ∧ (parseMethodDescriptor yJ13_newLength.desc).map (fun d => d.parameters.length) = some 3 := by decide +kernel
set_option maxHeartbeats 4000000 in
set_option maxRecDepth 100000 in
theorem met_J13_newLength (l : Launch) (G : Gw) (z : Nat) (H0 : Heap)  (w : Wd) (a1 : Int32) (a2 : Int32) (a3 : Int32) (q : Int32) (h : f_J13_newLength a1 a2 a3 w = some q)  : Met l yJ13_newLength (ws_ yJ13_newLength cJ13_newLength 4 (some .int)) ({ frames := 1, cells := 0, slots := 0, locals := 21 } : Room) (pcX G z H0 w [.int a1, .int a2, .int a3]) (qP (some (.int q))) 0 0 (fun q => z ≤ q) := by
  refine mX (by decide) (Nat.le_of_ble_eq_true rfl) ?_
  intro p e s m below meth c ls hx hb hr hml hown hts hlocks hnm hK hR hF hN hl
  have hown : s.vm.findClass RJ13 = some m.cls := hown
  have hl : lv_has ls 4 [(0, .int a1), (1, .int a2), (2, .int a3)] := hl
  have hL : lok z [] := lok_nil
  unfold f_J13_newLength at h
  generalize ([] : List Loc) = locs at hL ⊢
  refine lv_iload_n hx hb dJ13_newLength_0 rfl (lv_at hl 0 rfl) ?_
  refine lv_iload_n hx hb dJ13_newLength_1 rfl (lv_at hl 1 rfl) ?_
  refine lv_iload_n hx hb dJ13_newLength_2 rfl (lv_at hl 2 rfl) ?_
  refine va_mmax hx hb (by rw [hml]; exact hl.1.symm) hown (hts _ q1120) (hts _ q1121) (hts _ q105) (hts _ q1122) (Nat.le_of_ble_eq_true rfl) (Nat.le_of_ble_eq_true rfl) (Nat.le_refl 0) (Nat.le_refl 0) dJ13_newLength_3 ?_
  refine lv_iadd hx hb dJ13_newLength_6 ?_
  refine lv_istore_n (lv' := [(3, .int (a1 + (if a2 < a3 then a3 else a2))), (0, .int a1), (1, .int a2), (2, .int a3)]) hx hb dJ13_newLength_7 rfl hl (by decide) rfl (fun ls hl => ?_)
  refine lv_iconst (v := 0) hx hb dJ13_newLength_8 (by decide) ?_
  refine lv_iload_n hx hb dJ13_newLength_9 rfl (lv_at hl 0 rfl) ?_
  refine lv_icmp_ge (tgt := 21) hx hb dJ13_newLength_10 (by decide) (fun c1 => ?_) (fun c1 => ?_)
  · rw [if_pos c1] at h
    refine lv_iload_n hx hb dJ13_newLength_21 rfl (lv_at hl 1 rfl) ?_
    refine lv_iload_n hx hb dJ13_newLength_22 rfl (lv_at hl 2 rfl) ?_
    cases h
  · rw [if_neg c1] at h
    refine lv_iload_n hx hb dJ13_newLength_13 rfl (lv_at hl 0 rfl) ?_
    refine lv_ldc (v := 2147483639) hx hb hown (hts _ q1123) dJ13_newLength_14 ?_
    refine lv_icmp_gt (tgt := 21) hx hb dJ13_newLength_16 (by decide) (fun c2 => ?_) (fun c2 => ?_)
    · rw [if_pos c2] at h
      refine lv_iload_n hx hb dJ13_newLength_21 rfl (lv_at hl 1 rfl) ?_
      refine lv_iload_n hx hb dJ13_newLength_22 rfl (lv_at hl 2 rfl) ?_
      cases h
    · rw [if_neg c2] at h
      refine lv_iload_n hx hb dJ13_newLength_19 rfl (lv_at hl 0 rfl) ?_
      have h := Option.some.inj h
      subst h
      exact W.iret (v := a1 + (if a2 < a3 then a3 else a2)) hx hb hr (fun t ht _ => ⟨rfl, ht⟩) hL dJ13_newLength_20
def f_J14_copyOf_2 (B n : Nat) (a1 : Option Nat) (a2 : Int32) (w : Wd) : Option ((Option Nat ⊕ Nat) × Wd) :=
  if ¬ a2 < 0 ∧ a2.toNatClampNeg ≤ 80 ∧ wZ w + 1 ≤ B then ((a1).bind fun r4 => if (wT (sN w 205 (a2.toNatClampNeg)) r4).1 = 205 then (if ¬ (if a2 < (Int32.ofNat ((wT (sN w 205 (a2.toNatClampNeg)) r4).2)) then a2 else (Int32.ofNat ((wT (sN w 205 (a2.toNatClampNeg)) r4).2))) < 0 ∧ (if a2 < (Int32.ofNat ((wT (sN w 205 (a2.toNatClampNeg)) r4).2)) then a2 else (Int32.ofNat ((wT (sN w 205 (a2.toNatClampNeg)) r4).2))).toNatClampNeg ≤ (wT (sN w 205 (a2.toNatClampNeg)) r4).2 ∧ (if a2 < (Int32.ofNat ((wT (sN w 205 (a2.toNatClampNeg)) r4).2)) then a2 else (Int32.ofNat ((wT (sN w 205 (a2.toNatClampNeg)) r4).2))).toNatClampNeg ≤ (wT (sN w 205 (a2.toNatClampNeg)) (wZ w)).2 ∧ (∀ i, i < (if a2 < (Int32.ofNat ((wT (sN w 205 (a2.toNatClampNeg)) r4).2)) then a2 else (Int32.ofNat ((wT (sN w 205 (a2.toNatClampNeg)) r4).2))).toNatClampNeg → elOk (sN w 205 (a2.toNatClampNeg)) (wR (sN w 205 (a2.toNatClampNeg)) r4 i) = true) then (if 108 ≤ (wZ w) then (some (.inl (some (wZ w)), sC (sN w 205 (a2.toNatClampNeg)) (wZ w) (va_cpy (wR (sN w 205 (a2.toNatClampNeg)) r4) (wR (sN w 205 (a2.toNatClampNeg)) (wZ w)) 0 0 (if a2 < (Int32.ofNat ((wT (sN w 205 (a2.toNatClampNeg)) r4).2)) then a2 else (Int32.ofNat ((wT (sN w 205 (a2.toNatClampNeg)) r4).2))).toNatClampNeg))) else none) else none) else none) else none
theorem hd_J14_copyOf_2 : yJ14_copyOf_2.cls ≠ "java/lang/invoke/MethodHandle" ∧ yJ14_copyOf_2.cls ≠ "java/lang/invoke/VarHandle" ∧ (parseMethodDescriptor yJ14_copyOf_2.desc).map (fun d => d.parameters.length) = some 3 := by decide +kernel
set_option maxHeartbeats 4000000 in
set_option maxRecDepth 100000 in
theorem met_J14_copyOf_2 (l : Launch) (htr : ∀ e, l.admits e → e.platform.stackTraces = false) (G : Gw) (z : Nat) (H0 : Heap) (mi : Nat) (B n : Nat) (w : Wd) (a1 : Option Nat) (a2 : Int32) (q : (Option Nat ⊕ Nat) × Wd) (h : f_J14_copyOf_2 B n a1 a2 w = some q)  (hB : wZ w ≤ B) : MetT l yJ14_copyOf_2 (ws_ yJ14_copyOf_2 cJ14_copyOf_2 4 (some (.array (.object "java/lang/Object")))) ({ frames := 1, cells := B - wZ w, slots := 80 * (B - wZ w), locals := 60 } : Room) (pcQ G z H0 w [rfv z a1, .int a2, .ref mi] (va_Mi "[Ljava/lang/Object;" mi)) (qT G z H0 q.2 (cvR z q.1)) (wZ q.2 - wZ w) (80 * (wZ q.2 - wZ w)) (fun q => z ≤ q) := by
  refine mTQ (by decide) (by simp [lg_sl, cat_rfv, cat_i, cat_r, cat_l, cat_n]) ?_
  intro p e s m below meth c ls hQ hx hb hr hml hown hts hlocks hnm hnoh hK hR hF hN hS hl
  have hown : s.vm.findClass RJ14 = some m.cls := hown
  have hl : lv_has ls 4 [(0, rfv z a1), (1, .int a2), (2, .ref mi)] := by simpa [lv_args, cat_rfv, cat_i, cat_r, cat_l, cat_n] using hl
  have hL : lok z [] := lok_nil
  unfold f_J14_copyOf_2 at h
  obtain ⟨z0, hz0⟩ : ∃ z0, wZ w = z0 := ⟨_, rfl⟩
  rw [hz0]
  refine W.widen (k := wZ w - z0) (n := 80 * (wZ w - z0)) (Nat.zero_le _) (Nat.zero_le _) ?_
  have hZ : z0 ≤ wZ w ∧ wZ w ≤ B := ⟨by omega, hB⟩
  generalize s.heap = H at hR ⊢
  generalize ([] : List Loc) = locs at hL ⊢
  refine lv_aload_n hx hb dJ14_copyOf_2_0 rfl (lv_at hl 2 rfl) ?_
  refine va_ldcM hx hb hown (hts _ q1169) hQ dJ14_copyOf_2_1 ?_
  refine x_acmpSn (tgt := 13) hx hb dJ14_copyOf_2_3 (by decide) ?_
  refine lv_iload_n hx hb dJ14_copyOf_2_6 rfl (lv_at hl 1 rfl) ?_
  obtain ⟨hz1, h⟩ := grd h
  refine x_anewa (t := 5) (N := (a2.toNatClampNeg)) hx hb hown (hts _ q1171) hN hK hR (by decide) rfl hz1.1 rfl (by omega) (by dsimp only; omega) (by dsimp only; omega) dJ14_copyOf_2_7 (fun H hR => ?_)
  have hF := hF.sN 205 (a2.toNatClampNeg)
  have ez2 : wZ (sN w 205 (a2.toNatClampNeg)) = wZ w + 1 := rfl
  refine W.wid (b := wZ (sN w 205 (a2.toNatClampNeg))) (by omega) hZ.1 (by omega) ?_
  have hZ : z0 ≤ wZ (sN w 205 (a2.toNatClampNeg)) ∧ wZ (sN w 205 (a2.toNatClampNeg)) ≤ B := ⟨by omega, by omega⟩
  have hg3 : (wT (sN w 205 (a2.toNatClampNeg)) (wZ w)).1 = 205 := by rw [wT_sN, if_pos rfl]
  refine lv_goto (tgt := 24) hx hb dJ14_copyOf_2_10 (by decide) ?_
  refine lv_astore_n (lv' := [(3, .ref (z + wZ w)), (0, rfv z a1), (1, .int a2), (2, .ref mi)]) hx hb dJ14_copyOf_2_24 rfl hl (by decide) rfl (fun ls hl => ?_)
  refine x_aload_n hx hb dJ14_copyOf_2_25 rfl (lv_at hl 1 rfl) ?_
  refine lv_iconst (v := 0) hx hb dJ14_copyOf_2_26 (by decide) ?_
  refine lv_aload_n hx hb dJ14_copyOf_2_27 rfl (lv_at hl 0 rfl) ?_
  refine lv_iconst (v := 0) hx hb dJ14_copyOf_2_28 (by decide) ?_
  refine x_aload_n hx hb dJ14_copyOf_2_29 rfl (lv_at hl 1 rfl) ?_
  obtain ⟨r4, hr5, h⟩ := bnd h
  obtain ⟨hg6, h⟩ := grd h
  refine x_alen (t := 5) hx hb hK hR (rfv_some hr5) (wT_pair hg6) (by decide) dJ14_copyOf_2_30 ?_
  refine lv_iload_n hx hb dJ14_copyOf_2_31 rfl (lv_at hl 2 rfl) ?_
  refine va_mmin hx hb (by rw [hml]; exact hl.1.symm) hown (hts _ q1172) (hts _ q355) (hts _ q105) (hts _ q356) (Nat.le_of_ble_eq_true rfl) (by simp [cat_rfv, cat_i, cat_r, cat_l, cat_n]) (by dsimp only; omega) (by dsimp only; omega) dJ14_copyOf_2_32 ?_
  obtain ⟨hz7, h⟩ := grd h
  obtain ⟨hd8, h⟩ := grd h
  refine x_copyL hx hb (by rw [hml]; exact hl.1.symm) hown hts (hts _ q1173) hN hK hR hL (rfv_some hr5) rfl (wT_pair hg6) (wT_pair hg3) hz7.1 hz7.2.1 hz7.2.2.1 (fun i hi y hy => elOk_el (hz7.2.2.2 i hi) hy) (Nat.le_of_ble_eq_true rfl) (Nat.le_of_ble_eq_true rfl) dJ14_copyOf_2_35 (fun H locs hR hL => ?_)
  have hF := hF.sC (a := wZ w) (g := va_cpy (wR (sN w 205 (a2.toNatClampNeg)) r4) (wR (sN w 205 (a2.toNatClampNeg)) (wZ w)) 0 0 (if a2 < (Int32.ofNat ((wT (sN w 205 (a2.toNatClampNeg)) r4).2)) then a2 else (Int32.ofNat ((wT (sN w 205 (a2.toNatClampNeg)) r4).2))).toNatClampNeg) hd8
  refine W.widen (k := wZ (sC (sN w 205 (a2.toNatClampNeg)) (wZ w) (va_cpy (wR (sN w 205 (a2.toNatClampNeg)) r4) (wR (sN w 205 (a2.toNatClampNeg)) (wZ w)) 0 0 (if a2 < (Int32.ofNat ((wT (sN w 205 (a2.toNatClampNeg)) r4).2)) then a2 else (Int32.ofNat ((wT (sN w 205 (a2.toNatClampNeg)) r4).2))).toNatClampNeg)) - z0) (n := 80 * (wZ (sC (sN w 205 (a2.toNatClampNeg)) (wZ w) (va_cpy (wR (sN w 205 (a2.toNatClampNeg)) r4) (wR (sN w 205 (a2.toNatClampNeg)) (wZ w)) 0 0 (if a2 < (Int32.ofNat ((wT (sN w 205 (a2.toNatClampNeg)) r4).2)) then a2 else (Int32.ofNat ((wT (sN w 205 (a2.toNatClampNeg)) r4).2))).toNatClampNeg)) - z0)) (Nat.le_refl _) (Nat.le_refl _) ?_
  have hZ : z0 ≤ wZ (sC (sN w 205 (a2.toNatClampNeg)) (wZ w) (va_cpy (wR (sN w 205 (a2.toNatClampNeg)) r4) (wR (sN w 205 (a2.toNatClampNeg)) (wZ w)) 0 0 (if a2 < (Int32.ofNat ((wT (sN w 205 (a2.toNatClampNeg)) r4).2)) then a2 else (Int32.ofNat ((wT (sN w 205 (a2.toNatClampNeg)) r4).2))).toNatClampNeg)) ∧ wZ (sC (sN w 205 (a2.toNatClampNeg)) (wZ w) (va_cpy (wR (sN w 205 (a2.toNatClampNeg)) r4) (wR (sN w 205 (a2.toNatClampNeg)) (wZ w)) 0 0 (if a2 < (Int32.ofNat ((wT (sN w 205 (a2.toNatClampNeg)) r4).2)) then a2 else (Int32.ofNat ((wT (sN w 205 (a2.toNatClampNeg)) r4).2))).toNatClampNeg)) ≤ B := hZ
  refine lv_aload_n hx hb dJ14_copyOf_2_38 rfl (lv_at hl 0 rfl) ?_
  have h := Option.some.inj h
  subst h
  exact W.toT (x_aret (r := some (wZ w)) hx hb hr rfl (fun t ht _ => ⟨rfl, by rw [ht]; exact hR, hF⟩) hL dJ14_copyOf_2_39 hlocks)
def f_J14_copyOf (B n : Nat) (a1 : Option Nat) (a2 : Int32) (w : Wd) : Option ((Option Nat ⊕ Nat) × Wd) :=
  (a1).bind fun r1 => if (wT w r1).1 = 205 then ((f_J14_copyOf_2 B n a1 a2 w).bind fun q9 => (match q9 with | (.inl v4, qw6) => if wZ w ≤ wZ qw6 ∧ wZ qw6 ≤ B then (some (.inl v4, qw6)) else none | (.inr x5, qw6) => if wZ w ≤ wZ qw6 ∧ wZ qw6 ≤ B then (some (.inr x5, qw6)) else none)) else none
theorem hd_J14_copyOf : yJ14_copyOf.cls ≠ "java/lang/invoke/MethodHandle" ∧ yJ14_copyOf.cls ≠ "java/lang/invoke/VarHandle" ∧ (parseMethodDescriptor yJ14_copyOf.desc).map (fun d => d.parameters.length) = some 2 := by decide +kernel
set_option maxHeartbeats 4000000 in
set_option maxRecDepth 100000 in
theorem met_J14_copyOf (l : Launch) (htr : ∀ e, l.admits e → e.platform.stackTraces = false) (G : Gw) (z : Nat) (H0 : Heap) (B n : Nat) (w : Wd) (a1 : Option Nat) (a2 : Int32) (q : (Option Nat ⊕ Nat) × Wd) (h : f_J14_copyOf B n a1 a2 w = some q)  (hB : wZ w ≤ B) : MetT l yJ14_copyOf (ws_ yJ14_copyOf cJ14_copyOf 2 (some (.array (.object "java/lang/Object")))) ({ frames := 2, cells := B - wZ w, slots := 80 * (B - wZ w), locals := 83 } : Room) (pcT G z H0 w [rfv z a1, .int a2]) (qT G z H0 q.2 (cvR z q.1)) (wZ q.2 - wZ w) (80 * (wZ q.2 - wZ w)) (fun q => z ≤ q) := by
  refine mT (by decide) (by simp [lg_sl, cat_rfv, cat_i, cat_r, cat_l, cat_n]) ?_
  intro p e s m below meth c ls hx hb hr hml hown hts hlocks hnm hnoh hK hR hF hN hS hl
  have hown : s.vm.findClass RJ14 = some m.cls := hown
  have hl : lv_has ls 2 [(0, rfv z a1), (1, .int a2)] := by simpa [lv_args, cat_rfv, cat_i, cat_r, cat_l, cat_n] using hl
  have hL : lok z [] := lok_nil
  unfold f_J14_copyOf at h
  obtain ⟨z0, hz0⟩ : ∃ z0, wZ w = z0 := ⟨_, rfl⟩
  rw [hz0]
  refine W.widen (k := wZ w - z0) (n := 80 * (wZ w - z0)) (Nat.zero_le _) (Nat.zero_le _) ?_
  have hZ : z0 ≤ wZ w ∧ wZ w ≤ B := ⟨by omega, hB⟩
  generalize s.heap = H at hR ⊢
  generalize ([] : List Loc) = locs at hL ⊢
  refine x_aload_n hx hb dJ14_copyOf_0 rfl (lv_at hl 0 rfl) ?_
  refine lv_iload_n hx hb dJ14_copyOf_1 rfl (lv_at hl 1 rfl) ?_
  refine x_aload_n hx hb dJ14_copyOf_2 rfl (lv_at hl 0 rfl) ?_
  obtain ⟨r1, hr2, h⟩ := bnd h
  obtain ⟨hg3, h⟩ := grd h
  obtain ⟨mi, hQ⟩ := hS.2.2.2.1
  refine x_getC hx hb (by rw [hml]; exact hl.1.symm) hown hts (hts _ q1130) hN hK hR (rfv_some hr2) (wT_pair hg3) hQ (Nat.le_of_ble_eq_true rfl) (by simp [cat_rfv, cat_i, cat_r, cat_l, cat_n]) dJ14_copyOf_3 ?_
  obtain ⟨⟨v4 | x5, qw6⟩, hq7, h⟩ := bnd h
  rotate_left
  · dsimp only at h
    obtain ⟨hz8, h⟩ := grd h
    have h := Option.some.inj h
    subst h
    refine k_TT (w := qw6) (x := x5) (mc := wZ qw6 - wZ w) (ms := 80 * (wZ qw6 - wZ w)) (runT_S (As := [rfv z a1, .int a2, .ref mi]) (rest := []) ⟨hx, hb, hml, hown, hts⟩ (met_J14_copyOf_2 l htr G z H0 mi B n w a1 a2 (.inr x5, qw6) hq7 hZ.2) hd_J14_copyOf_2 q1166 q1167 q140 q1168 ⟨Nat.le_of_ble_eq_true rfl, Nat.le_of_ble_eq_true rfl⟩ (preSQ (fun u U h1 h2 => va_Mi.moved h1 h2) hQ hK hR hF hN hS) rfl rfl hl.1 rfl (lv_room (Nat.le_of_ble_eq_true rfl)) dJ14_copyOf_6 ⟨by dsimp only; omega, by dsimp only; omega⟩) hL (fun H locs hR hF hL => ?_)
    refine WT.widen (k := wZ qw6 - z0) (n := 80 * (wZ qw6 - z0)) (by omega) (by omega) ?_
    exact WT.leave (fun x9 hx9 => hnoh x9 hx9 6) (fun t ht _ => ⟨rfl, by rw [ht]; exact hR, hF⟩) hL hlocks
  dsimp only at h
  obtain ⟨hz8, h⟩ := grd h
  refine k_TR (v := (some (rfv z v4))) (w := qw6) (mc := wZ qw6 - wZ w) (ms := 80 * (wZ qw6 - wZ w)) (st1 := [rfv z v4]) (runT_S (As := [rfv z a1, .int a2, .ref mi]) (rest := []) ⟨hx, hb, hml, hown, hts⟩ (met_J14_copyOf_2 l htr G z H0 mi B n w a1 a2 (.inl v4, qw6) hq7 hZ.2) hd_J14_copyOf_2 q1166 q1167 q140 q1168 ⟨Nat.le_of_ble_eq_true rfl, Nat.le_of_ble_eq_true rfl⟩ (preSQ (fun u U h1 h2 => va_Mi.moved h1 h2) hQ hK hR hF hN hS) rfl rfl hl.1 rfl (lv_room (Nat.le_of_ble_eq_true rfl)) dJ14_copyOf_6 ⟨by dsimp only; omega, by dsimp only; omega⟩) hL rfl (fun H locs hR hF hL => ?_)
  refine W.wid (b := wZ qw6) (by omega) hZ.1 (Nat.le_refl _) ?_
  have hZ : z0 ≤ wZ qw6 ∧ wZ qw6 ≤ B := ⟨by omega, hz8.2⟩
  have h := Option.some.inj h
  subst h
  exact W.toT (x_aret (r := v4) hx hb hr rfl (fun t ht _ => ⟨rfl, by rw [ht]; exact hR, hF⟩) hL dJ14_copyOf_9 hlocks)
def f_J9_grow_2E (B n : Nat) (a0 : Nat) (a1 : Int32) (w : Wd) : Option ((Option Nat ⊕ Nat) × Wd) :=
  if ¬ (if (10 : Int32) < a1 then a1 else (10 : Int32)) < 0 ∧ (if (10 : Int32) < a1 then a1 else (10 : Int32)).toNatClampNeg ≤ 80 ∧ wZ w + 1 ≤ B then (if 108 ≤ a0 then (some (.inl (some (wZ w)), sR (sT (sN w 205 ((if (10 : Int32) < a1 then a1 else (10 : Int32)).toNatClampNeg)) a0 27) a0 1 (some (wZ w)))) else none) else none
theorem hd_J9_grow_2 : yJ9_grow_2.cls ≠ "java/lang/invoke/MethodHandle" ∧ yJ9_grow_2.cls ≠ "java/lang/invoke/VarHandle" ∧ (parseMethodDescriptor yJ9_grow_2.desc).map (fun d => d.parameters.length) = some 1 := by decide +kernel
set_option maxHeartbeats 4000000 in
set_option maxRecDepth 100000 in
theorem met_J9_grow_2E (l : Launch) (htr : ∀ e, l.admits e → e.platform.stackTraces = false) (G : Gw) (z : Nat) (H0 : Heap) (B n : Nat) (w : Wd) (a0 : Nat) (a1 : Int32) (q : (Option Nat ⊕ Nat) × Wd) (h : f_J9_grow_2E B n a0 a1 w = some q) (ht0 : (wT w a0).1 = 100) (hB : wZ w ≤ B) : MetT l yJ9_grow_2 (ws_ yJ9_grow_2 cJ9_grow_2 4 (some (.array (.object "java/lang/Object")))) ({ frames := 3, cells := B - wZ w, slots := 80 * (B - wZ w), locals := 104 } : Room) (pcT G z H0 w [.ref (z + a0), .int a1]) (qT G z H0 q.2 (cvR z q.1)) (wZ q.2 - wZ w) (80 * (wZ q.2 - wZ w)) (fun q => z ≤ q) := by
  refine mT (by decide) (Nat.le_of_ble_eq_true rfl) ?_
  intro p e s m below meth c ls hx hb hr hml hown hts hlocks hnm hnoh hK hR hF hN hS hl
  have hown : s.vm.findClass RJ9 = some m.cls := hown
  have hl : lv_has ls 4 [(0, .ref (z + a0)), (1, .int a1)] := hl
  have hL : lok z [] := lok_nil
  unfold f_J9_grow_2E at h
  obtain ⟨z0, hz0⟩ : ∃ z0, wZ w = z0 := ⟨_, rfl⟩
  rw [hz0]
  refine W.widen (k := wZ w - z0) (n := 80 * (wZ w - z0)) (Nat.zero_le _) (Nat.zero_le _) ?_
  have hZ : z0 ≤ wZ w ∧ wZ w ≤ B := ⟨by omega, hB⟩
  generalize s.heap = H at hR ⊢
  generalize ([] : List Loc) = locs at hL ⊢
  refine lv_aload_n hx hb dJ9_grow_2_0 rfl (lv_at hl 0 rfl) ?_
  refine j9_get hx hb hts hown hK (r_100 hR ht0) 1 (by decide) rfl (hts _ q889) (fun _ h9 => h9) (v := .ref G.2.2.2) rfl dJ9_grow_2_1 ?_
  refine x_tlen hx hb hS.2.2.1 hR.2.1 (v := 0) (by decide) dJ9_grow_2_4 ?_
  refine lv_istore_n (lv' := [(2, .int (0 : Int32)), (0, .ref (z + a0)), (1, .int a1)]) hx hb dJ9_grow_2_5 rfl hl (by decide) rfl (fun ls hl => ?_)
  refine lv_iload_n hx hb dJ9_grow_2_6 rfl (lv_at hl 0 rfl) ?_
  refine lv_if_gt (tgt := 20) hx hb dJ9_grow_2_7 (by decide) (fun c9 => absurd c9 (by decide)) (fun _ => ?_)
  refine lv_aload_n hx hb dJ9_grow_2_10 rfl (lv_at hl 1 rfl) ?_
  refine j9_get hx hb hts hown hK (r_100 hR ht0) 1 (by decide) rfl (hts _ q889) (fun _ h9 => h9) (v := .ref G.2.2.2) rfl dJ9_grow_2_11 ?_
  refine x_gets hx hb hS.2.1 hR.2.1 hown (hts _ q887) (fun _ h9 => h9) dJ9_grow_2_14 ?_
  refine x_acmpS (tgt := 45) hx hb dJ9_grow_2_17 (by decide) ?_
  refine lv_aload_n hx hb dJ9_grow_2_45 rfl (lv_at hl 1 rfl) ?_
  refine lv_bipush (v := 10) hx hb dJ9_grow_2_46 (by decide) ?_
  refine lv_iload_n hx hb dJ9_grow_2_48 rfl (lv_at hl 2 rfl) ?_
  refine va_mmax hx hb (by rw [hml]; exact hl.1.symm) hown (hts _ q1176) (hts _ q1121) (hts _ q105) (hts _ q1122) (Nat.le_of_ble_eq_true rfl) (Nat.le_of_ble_eq_true rfl) (by dsimp only; omega) (by dsimp only; omega) dJ9_grow_2_49 ?_
  obtain ⟨hz1, h⟩ := grd h
  have hs2 : wT (sN w 205 ((if (10 : Int32) < a1 then a1 else (10 : Int32)).toNatClampNeg)) a0 = wT w a0 := tag_sN hR (by rw [ht0]; decide)
  refine x_anewa (t := 5) (N := ((if (10 : Int32) < a1 then a1 else (10 : Int32)).toNatClampNeg)) hx hb hown (hts _ q1177) hN hK hR (by decide) rfl hz1.1 rfl (by omega) (by dsimp only; omega) (by dsimp only; omega) dJ9_grow_2_52 (fun H hR => ?_)
  have hF := hF.sN 205 ((if (10 : Int32) < a1 then a1 else (10 : Int32)).toNatClampNeg)
  rw [← hs2] at ht0
  have ez3 : wZ (sN w 205 ((if (10 : Int32) < a1 then a1 else (10 : Int32)).toNatClampNeg)) = wZ w + 1 := rfl
  refine W.wid (b := wZ (sN w 205 ((if (10 : Int32) < a1 then a1 else (10 : Int32)).toNatClampNeg))) (by omega) hZ.1 (by omega) ?_
  have hZ : z0 ≤ wZ (sN w 205 ((if (10 : Int32) < a1 then a1 else (10 : Int32)).toNatClampNeg)) ∧ wZ (sN w 205 ((if (10 : Int32) < a1 then a1 else (10 : Int32)).toNatClampNeg)) ≤ B := ⟨by omega, by omega⟩
  have hg4 : (wT (sN w 205 ((if (10 : Int32) < a1 then a1 else (10 : Int32)).toNatClampNeg)) (wZ w)).1 = 205 := by rw [wT_sN, if_pos rfl]
  refine lv_dup_x1 hx hb dJ9_grow_2_55 rfl rfl ?_
  refine j9_put hx hb hts hown hK hL (r_100 hR ht0) 1 (by decide) rfl (hts _ q889) (fun _ h9 => h9) rfl rfl dJ9_grow_2_56 (fun H locs e1 e2 e3 hL => ?_)
  obtain ⟨hd5, h⟩ := grd h
  have hR := hR.first ht0 e1 e2 e3
  have hF := (hF.sT (a := a0) (t := 27) hd5).sR (a := a0) (f := 1) (v := some (wZ w)) (fixR_dyn hd5)
  refine W.widen (k := wZ (sR (sT (sN w 205 ((if (10 : Int32) < a1 then a1 else (10 : Int32)).toNatClampNeg)) a0 27) a0 1 (some (wZ w))) - z0) (n := 80 * (wZ (sR (sT (sN w 205 ((if (10 : Int32) < a1 then a1 else (10 : Int32)).toNatClampNeg)) a0 27) a0 1 (some (wZ w))) - z0)) (Nat.le_refl _) (Nat.le_refl _) ?_
  have hZ : z0 ≤ wZ (sR (sT (sN w 205 ((if (10 : Int32) < a1 then a1 else (10 : Int32)).toNatClampNeg)) a0 27) a0 1 (some (wZ w))) ∧ wZ (sR (sT (sN w 205 ((if (10 : Int32) < a1 then a1 else (10 : Int32)).toNatClampNeg)) a0 27) a0 1 (some (wZ w))) ≤ B := hZ
  have h := Option.some.inj h
  subst h
  exact W.toT (x_aret (r := some (wZ w)) hx hb hr rfl (fun t ht _ => ⟨rfl, by rw [ht]; exact hR, hF⟩) hL dJ9_grow_2_59 hlocks)
def f_J9_growE (B n : Nat) (a0 : Nat) (w : Wd) : Option ((Option Nat ⊕ Nat) × Wd) :=
  (f_J9_grow_2E B n a0 ((wI w a0 2) + (1 : Int32)) w).bind fun q6 => (match q6 with | (.inl v1, qw3) => if wZ w ≤ wZ qw3 ∧ wZ qw3 ≤ B then (some (.inl v1, qw3)) else none | (.inr x2, qw3) => if wZ w ≤ wZ qw3 ∧ wZ qw3 ≤ B then (some (.inr x2, qw3)) else none)
theorem hd_J9_grow : yJ9_grow.cls ≠ "java/lang/invoke/MethodHandle" ∧ yJ9_grow.cls ≠ "java/lang/invoke/VarHandle" ∧ (parseMethodDescriptor yJ9_grow.desc).map (fun d => d.parameters.length) = some 0 := by decide +kernel
set_option maxHeartbeats 4000000 in
set_option maxRecDepth 100000 in
theorem met_J9_growE (l : Launch) (htr : ∀ e, l.admits e → e.platform.stackTraces = false) (G : Gw) (z : Nat) (H0 : Heap) (B n : Nat) (w : Wd) (a0 : Nat) (q : (Option Nat ⊕ Nat) × Wd) (h : f_J9_growE B n a0 w = some q) (ht0 : (wT w a0).1 = 100) (hB : wZ w ≤ B) : MetT l yJ9_grow (ws_ yJ9_grow cJ9_grow 1 (some (.array (.object "java/lang/Object")))) ({ frames := 4, cells := B - wZ w, slots := 80 * (B - wZ w), locals := 127 } : Room) (pcT G z H0 w [.ref (z + a0)]) (qT G z H0 q.2 (cvR z q.1)) (wZ q.2 - wZ w) (80 * (wZ q.2 - wZ w)) (fun q => z ≤ q) := by
  refine mT (by decide) (Nat.le_of_ble_eq_true rfl) ?_
  intro p e s m below meth c ls hx hb hr hml hown hts hlocks hnm hnoh hK hR hF hN hS hl
  have hown : s.vm.findClass RJ9 = some m.cls := hown
  have hl : lv_has ls 1 [(0, .ref (z + a0))] := hl
  have hL : lok z [] := lok_nil
  unfold f_J9_growE at h
  obtain ⟨z0, hz0⟩ : ∃ z0, wZ w = z0 := ⟨_, rfl⟩
  rw [hz0]
  refine W.widen (k := wZ w - z0) (n := 80 * (wZ w - z0)) (Nat.zero_le _) (Nat.zero_le _) ?_
  have hZ : z0 ≤ wZ w ∧ wZ w ≤ B := ⟨by omega, hB⟩
  generalize s.heap = H at hR ⊢
  generalize ([] : List Loc) = locs at hL ⊢
  refine lv_aload_n hx hb dJ9_grow_0 rfl (lv_at hl 0 rfl) ?_
  refine lv_aload_n hx hb dJ9_grow_1 rfl (lv_at hl 0 rfl) ?_
  refine j9_get hx hb hts hown hK (r_100 hR ht0) 2 (by decide) rfl (hts _ q890) (fun _ h9 => h9) (v := .int (wI w a0 2)) rfl dJ9_grow_2 ?_
  refine lv_iconst (v := 1) hx hb dJ9_grow_5 (by decide) ?_
  refine lv_iadd hx hb dJ9_grow_6 ?_
  obtain ⟨⟨v1 | x2, qw3⟩, hq4, h⟩ := bnd h
  rotate_left
  · dsimp only at h
    obtain ⟨hz5, h⟩ := grd h
    have h := Option.some.inj h
    subst h
    refine k_TT (w := qw3) (x := x2) (mc := wZ qw3 - wZ w) (ms := 80 * (wZ qw3 - wZ w)) (runT_V (As := [.int ((wI w a0 2) + (1 : Int32))]) (rest := []) ⟨hx, hb, hml, hown, hts⟩ (met_J9_grow_2E l htr G z H0 B n w a0 ((wI w a0 2) + (1 : Int32)) (.inr x2, qw3) hq4 ht0 hZ.2) hd_J9_grow_2 q1113 q1115 qs20 q126 q1116 ⟨Nat.le_of_ble_eq_true rfl, Nat.le_of_ble_eq_true rfl⟩ (preVE hK hR hF hN hS ht0) rfl rfl hl.1 rfl (lv_room (Nat.le_of_ble_eq_true rfl)) dJ9_grow_7 ⟨by dsimp only; omega, by dsimp only; omega⟩) hL (fun H locs hR hF hL => ?_)
    refine WT.widen (k := wZ qw3 - z0) (n := 80 * (wZ qw3 - z0)) (by omega) (by omega) ?_
    exact WT.leave (fun x9 hx9 => hnoh x9 hx9 7) (fun t ht _ => ⟨rfl, by rw [ht]; exact hR, hF⟩) hL hlocks
  dsimp only at h
  obtain ⟨hz5, h⟩ := grd h
  refine k_TR (v := (some (rfv z v1))) (w := qw3) (mc := wZ qw3 - wZ w) (ms := 80 * (wZ qw3 - wZ w)) (st1 := [rfv z v1]) (runT_V (As := [.int ((wI w a0 2) + (1 : Int32))]) (rest := []) ⟨hx, hb, hml, hown, hts⟩ (met_J9_grow_2E l htr G z H0 B n w a0 ((wI w a0 2) + (1 : Int32)) (.inl v1, qw3) hq4 ht0 hZ.2) hd_J9_grow_2 q1113 q1115 qs20 q126 q1116 ⟨Nat.le_of_ble_eq_true rfl, Nat.le_of_ble_eq_true rfl⟩ (preVE hK hR hF hN hS ht0) rfl rfl hl.1 rfl (lv_room (Nat.le_of_ble_eq_true rfl)) dJ9_grow_7 ⟨by dsimp only; omega, by dsimp only; omega⟩) hL rfl (fun H locs hR hF hL => ?_)
  refine W.wid (b := wZ qw3) (by omega) hZ.1 (Nat.le_refl _) ?_
  have hZ : z0 ≤ wZ qw3 ∧ wZ qw3 ≤ B := ⟨by omega, hz5.2⟩
  have h := Option.some.inj h
  subst h
  exact W.toT (x_aret (r := v1) hx hb hr rfl (fun t ht _ => ⟨rfl, by rw [ht]; exact hR, hF⟩) hL dJ9_grow_10 hlocks)
def f_J9_add_2E (B n : Nat) (a0 : Nat) (a1 : Option Nat) (a3 : Int32) (w : Wd) : Option ((Unit ⊕ Nat) × Wd) :=
  if a3 = 0 then ((f_J9_growE B n a0 w).bind fun q7 => (match q7 with | (.inl v2, qw4) => if wZ w ≤ wZ qw4 ∧ wZ qw4 ≤ B then ((v2).bind fun r8 => if (wT qw4 r8).1 = 205 then ((a1).bind fun r14 => if inb a3 (wT qw4 r8).2 then (if 108 ≤ r8 then (if 19 ≤ (wT qw4 r14).1 ∧ (wT qw4 r14).1 ≤ 25 then (if (wT (sR qw4 r8 a3.toNatClampNeg (some r14)) a0).1 = 27 then (some (.inl (), sI (sR qw4 r8 a3.toNatClampNeg (some r14)) a0 2 (a3 + (1 : Int32)))) else none) else none) else none) else none) else none) else none | (.inr x3, qw4) => if wZ w ≤ wZ qw4 ∧ wZ qw4 ≤ B then (some (.inr x3, qw4)) else none)) else none
theorem hd_J9_add_2 : yJ9_add_2.cls ≠ "java/lang/invoke/MethodHandle" ∧ yJ9_add_2.cls ≠ "java/lang/invoke/VarHandle" ∧ (parseMethodDescriptor yJ9_add_2.desc).map (fun d => d.parameters.length) = some 3 := by decide +kernel
set_option maxHeartbeats 4000000 in
set_option maxRecDepth 100000 in
theorem met_J9_add_2E (l : Launch) (htr : ∀ e, l.admits e → e.platform.stackTraces = false) (G : Gw) (z : Nat) (H0 : Heap) (B n : Nat) (w : Wd) (a0 : Nat) (a1 : Option Nat) (a3 : Int32) (q : (Unit ⊕ Nat) × Wd) (h : f_J9_add_2E B n a0 a1 a3 w = some q) (ht0 : (wT w a0).1 = 100) (hB : wZ w ≤ B) : MetT l yJ9_add_2 (ws_ yJ9_add_2 cJ9_add_2 4 none) ({ frames := 5, cells := B - wZ w, slots := 80 * (B - wZ w), locals := 147 } : Room) (pcT G z H0 w [.ref (z + a0), rfv z a1, .ref G.2.2.2, .int a3]) (qT G z H0 q.2 (cvV q.1)) (wZ q.2 - wZ w) (80 * (wZ q.2 - wZ w)) (fun q => z ≤ q) := by
  refine mT (by decide) (by simp [lg_sl, cat_rfv, cat_i, cat_r, cat_l, cat_n]) ?_
  intro p e s m below meth c ls hx hb hr hml hown hts hlocks hnm hnoh hK hR hF hN hS hl
  have hown : s.vm.findClass RJ9 = some m.cls := hown
  have hl : lv_has ls 4 [(0, .ref (z + a0)), (1, rfv z a1), (2, .ref G.2.2.2), (3, .int a3)] := by simpa [lv_args, cat_rfv, cat_i, cat_r, cat_l, cat_n] using hl
  have hL : lok z [] := lok_nil
  unfold f_J9_add_2E at h
  obtain ⟨z0, hz0⟩ : ∃ z0, wZ w = z0 := ⟨_, rfl⟩
  rw [hz0]
  refine W.widen (k := wZ w - z0) (n := 80 * (wZ w - z0)) (Nat.zero_le _) (Nat.zero_le _) ?_
  have hZ : z0 ≤ wZ w ∧ wZ w ≤ B := ⟨by omega, hB⟩
  generalize s.heap = H at hR ⊢
  generalize ([] : List Loc) = locs at hL ⊢
  refine lv_iload_n hx hb dJ9_add_2_0 rfl (lv_at hl 3 rfl) ?_
  refine lv_aload_n hx hb dJ9_add_2_1 rfl (lv_at hl 2 rfl) ?_
  refine x_tlen hx hb hS.2.2.1 hR.2.1 (v := 0) (by decide) dJ9_add_2_2 ?_
  obtain ⟨hz1, h⟩ := grd h
  refine lv_icmp_ne (tgt := 11) hx hb dJ9_add_2_3 (by decide) (fun c9 => absurd hz1 c9) (fun _ => ?_)
  refine lv_aload_n hx hb dJ9_add_2_6 rfl (lv_at hl 0 rfl) ?_
  obtain ⟨⟨v2 | x3, qw4⟩, hq5, h⟩ := bnd h
  rotate_left
  · dsimp only at h
    obtain ⟨hz6, h⟩ := grd h
    have h := Option.some.inj h
    subst h
    refine k_TT (w := qw4) (x := x3) (mc := wZ qw4 - wZ w) (ms := 80 * (wZ qw4 - wZ w)) (runT_V (As := []) (rest := []) ⟨hx, hb, hml, hown, hts⟩ (met_J9_growE l htr G z H0 B n w a0 (.inr x3, qw4) hq5 ht0 hZ.2) hd_J9_grow q1109 q1111 qs19 q126 q1112 ⟨Nat.le_of_ble_eq_true rfl, Nat.le_of_ble_eq_true rfl⟩ (preVE hK hR hF hN hS ht0) rfl rfl hl.1 rfl (lv_room (Nat.le_of_ble_eq_true rfl)) dJ9_add_2_7 ⟨by dsimp only; omega, by dsimp only; omega⟩) hL (fun H locs hR hF hL => ?_)
    refine WT.widen (k := wZ qw4 - z0) (n := 80 * (wZ qw4 - z0)) (by omega) (by omega) ?_
    exact WT.leave (fun x9 hx9 => hnoh x9 hx9 7) (fun t ht _ => ⟨rfl, by rw [ht]; exact hR, hF⟩) hL hlocks
  dsimp only at h
  obtain ⟨hz6, h⟩ := grd h
  refine k_TR (v := (some (rfv z v2))) (w := qw4) (mc := wZ qw4 - wZ w) (ms := 80 * (wZ qw4 - wZ w)) (st1 := [rfv z v2]) (runT_V (As := []) (rest := []) ⟨hx, hb, hml, hown, hts⟩ (met_J9_growE l htr G z H0 B n w a0 (.inl v2, qw4) hq5 ht0 hZ.2) hd_J9_grow q1109 q1111 qs19 q126 q1112 ⟨Nat.le_of_ble_eq_true rfl, Nat.le_of_ble_eq_true rfl⟩ (preVE hK hR hF hN hS ht0) rfl rfl hl.1 rfl (lv_room (Nat.le_of_ble_eq_true rfl)) dJ9_add_2_7 ⟨by dsimp only; omega, by dsimp only; omega⟩) hL rfl (fun H locs hR hF hL => ?_)
  refine W.wid (b := wZ qw4) (by omega) hZ.1 (Nat.le_refl _) ?_
  have hZ : z0 ≤ wZ qw4 ∧ wZ qw4 ≤ B := ⟨by omega, hz6.2⟩
  refine x_astore_n (lv' := [(2, rfv z v2), (0, .ref (z + a0)), (1, rfv z a1), (3, .int a3)]) hx hb dJ9_add_2_10 rfl hl (by decide) (by simp [cat_rfv, cat_i, cat_r, cat_l, cat_n]) (fun ls hl => ?_)
  refine x_aload_n hx hb dJ9_add_2_11 rfl (lv_at hl 0 rfl) ?_
  refine lv_iload_n hx hb dJ9_add_2_12 rfl (lv_at hl 3 rfl) ?_
  refine x_aload_n hx hb dJ9_add_2_13 rfl (lv_at hl 2 rfl) ?_
  obtain ⟨r8, hr9, h⟩ := bnd h
  obtain ⟨hg10, h⟩ := grd h
  obtain ⟨r14, hr15, h⟩ := bnd h
  obtain ⟨hb11, h⟩ := grd h
  obtain ⟨hd12, h⟩ := grd h
  obtain ⟨he13, h⟩ := grd h
  refine x_lsSt hx hb hN hK hR hL (rfv_some hr9) (wT_pair hg10) (rfv_some hr15) he13 hb11 dJ9_add_2_14 (fun H locs hR hL => ?_)
  rw [← wT_sR _ r8 a3.toNatClampNeg (some r14)] at hg10
  have hF := hF.sR (a := r8) (f := a3.toNatClampNeg) (v := some r14) (fixR_dyn hd12)
  refine lv_aload_n hx hb dJ9_add_2_15 rfl (lv_at hl 1 rfl) ?_
  refine lv_iload_n hx hb dJ9_add_2_16 rfl (lv_at hl 3 rfl) ?_
  refine lv_iconst (v := 1) hx hb dJ9_add_2_17 (by decide) ?_
  refine lv_iadd hx hb dJ9_add_2_18 ?_
  obtain ⟨hg16, h⟩ := grd h
  refine x_putI (k := 2) (o := "java/util/ArrayList") (n := "size") (d := "I") (fin := false) (ty := .int) (host := "BarredBooks") hx hb hts hown hK hR hL rfl (Fam.one (r := (RJ9, TJ9, 3)) hg16 rfl ok26 (by decide)) (Or.inl (hts _ q890)) (fun _ h9 => h9) (Or.inl rfl) rfl rfl rfl dJ9_add_2_19 (fun H locs hR hL => ?_)
  rw [← wT_sI _ a0 2 (a3 + (1 : Int32))] at hg10
  rw [← wT_sI _ a0 2 (a3 + (1 : Int32))] at hg16
  have hF := hF.sI a0 2 (a3 + (1 : Int32))
  have h := Option.some.inj h
  subst h
  refine W.widen (k := wZ (sI (sR qw4 r8 a3.toNatClampNeg (some r14)) a0 2 (a3 + (1 : Int32))) - z0) (n := 80 * (wZ (sI (sR qw4 r8 a3.toNatClampNeg (some r14)) a0 2 (a3 + (1 : Int32))) - z0)) (Nat.le_refl _) (Nat.le_refl _) ?_
  exact W.toT (W.vret hx hb hr (fun t ht _ => ⟨rfl, by rw [ht]; exact hR, hF⟩) hL dJ9_add_2_22)
def f_J9_addE (B n : Nat) (a0 : Nat) (a1 : Option Nat) (w : Wd) : Option ((Bool ⊕ Nat) × Wd) :=
  (f_J9_add_2E B n a0 a1 (wI w a0 2) (sI w a0 0 ((wI w a0 0) + (1 : Int32)))).bind fun q6 => (match q6 with | (.inl v1, qw3) => if wZ w ≤ wZ qw3 ∧ wZ qw3 ≤ B then (some (.inl true, qw3)) else none | (.inr x2, qw3) => if wZ w ≤ wZ qw3 ∧ wZ qw3 ≤ B then (some (.inr x2, qw3)) else none)
theorem hd_J9_add : yJ9_add.cls ≠ "java/lang/invoke/MethodHandle" ∧ yJ9_add.cls ≠ "java/lang/invoke/VarHandle" ∧ (parseMethodDescriptor yJ9_add.desc).map (fun d => d.parameters.length) = some 1 := by decide +kernel
set_option maxHeartbeats 4000000 in
set_option maxRecDepth 100000 in
theorem met_J9_addE (l : Launch) (htr : ∀ e, l.admits e → e.platform.stackTraces = false) (G : Gw) (z : Nat) (H0 : Heap) (B n : Nat) (w : Wd) (a0 : Nat) (a1 : Option Nat) (q : (Bool ⊕ Nat) × Wd) (h : f_J9_addE B n a0 a1 w = some q) (ht0 : (wT w a0).1 = 100) (hB : wZ w ≤ B) : MetT l yJ9_add (ws_ yJ9_add cJ9_add 2 (some .boolean)) ({ frames := 6, cells := B - wZ w, slots := 80 * (B - wZ w), locals := 170 } : Room) (pcT G z H0 w [.ref (z + a0), rfv z a1]) (qT G z H0 q.2 (cvB q.1)) (wZ q.2 - wZ w) (80 * (wZ q.2 - wZ w)) (fun q => z ≤ q) := by
  refine mT (by decide) (by simp [lg_sl, cat_rfv, cat_i, cat_r, cat_l, cat_n]) ?_
  intro p e s m below meth c ls hx hb hr hml hown hts hlocks hnm hnoh hK hR hF hN hS hl
  have hown : s.vm.findClass RJ9 = some m.cls := hown
  have hl : lv_has ls 2 [(0, .ref (z + a0)), (1, rfv z a1)] := by simpa [lv_args, cat_rfv, cat_i, cat_r, cat_l, cat_n] using hl
  have hL : lok z [] := lok_nil
  unfold f_J9_addE at h
  obtain ⟨z0, hz0⟩ : ∃ z0, wZ w = z0 := ⟨_, rfl⟩
  rw [hz0]
  refine W.widen (k := wZ w - z0) (n := 80 * (wZ w - z0)) (Nat.zero_le _) (Nat.zero_le _) ?_
  have hZ : z0 ≤ wZ w ∧ wZ w ≤ B := ⟨by omega, hB⟩
  generalize s.heap = H at hR ⊢
  generalize ([] : List Loc) = locs at hL ⊢
  refine lv_aload_n hx hb dJ9_add_0 rfl (lv_at hl 0 rfl) ?_
  refine lv_dup hx hb dJ9_add_1 rfl ?_
  refine j9_get hx hb hts hown hK (r_100 hR ht0) 0 (by decide) rfl (hts _ q892) (u_same (hts _ q893)) (v := .int (wI w a0 0)) rfl dJ9_add_2 ?_
  refine lv_iconst (v := 1) hx hb dJ9_add_5 (by decide) ?_
  refine lv_iadd hx hb dJ9_add_6 ?_
  refine j9_put hx hb hts hown hK hL (r_100 hR ht0) 0 (by decide) rfl (hts _ q892) (u_same (hts _ q893)) rfl rfl dJ9_add_7 (fun H locs e1 e2 e3 hL => ?_)
  have hR := hR.put100 ht0 (by decide) e1 e2 e3
  rw [← wT_sI _ a0 0 ((wI w a0 0) + (1 : Int32))] at ht0
  have hF := hF.sI a0 0 ((wI w a0 0) + (1 : Int32))
  refine lv_aload_n hx hb dJ9_add_10 rfl (lv_at hl 0 rfl) ?_
  refine x_aload_n hx hb dJ9_add_11 rfl (lv_at hl 1 rfl) ?_
  refine lv_aload_n hx hb dJ9_add_12 rfl (lv_at hl 0 rfl) ?_
  refine j9_get hx hb hts hown hK (r_100 hR ht0) 1 (by decide) rfl (hts _ q889) (fun _ h9 => h9) (v := .ref G.2.2.2) rfl dJ9_add_13 ?_
  refine lv_aload_n hx hb dJ9_add_16 rfl (lv_at hl 0 rfl) ?_
  refine j9_get hx hb hts hown hK (r_100 hR ht0) 2 (by decide) rfl (hts _ q890) (fun _ h9 => h9) (v := .int (wI w a0 2)) (by simp [fv, ftS, wI_sI, wI_sR, wI_sL, wL_sL, wL_sI, wL_sR, wR_sR, wR_sI, wR_sL]) dJ9_add_17 ?_
  have ez7 : wZ (sI w a0 0 ((wI w a0 0) + (1 : Int32))) = wZ w := rfl
  obtain ⟨⟨v1 | x2, qw3⟩, hq4, h⟩ := bnd h
  rotate_left
  · dsimp only at h
    obtain ⟨hz5, h⟩ := grd h
    have h := Option.some.inj h
    subst h
    refine k_TT (w := qw3) (x := x2) (mc := wZ qw3 - wZ (sI w a0 0 ((wI w a0 0) + (1 : Int32)))) (ms := 80 * (wZ qw3 - wZ (sI w a0 0 ((wI w a0 0) + (1 : Int32))))) (runT_V (As := [rfv z a1, .ref G.2.2.2, .int (wI w a0 2)]) (rest := []) ⟨hx, hb, hml, hown, hts⟩ (met_J9_add_2E l htr G z H0 B n (sI w a0 0 ((wI w a0 0) + (1 : Int32))) a0 a1 (wI w a0 2) (.inr x2, qw3) hq4 ht0 hZ.2) hd_J9_add_2 q1105 q1107 qs18 q126 q1108 ⟨Nat.le_of_ble_eq_true rfl, Nat.le_of_ble_eq_true rfl⟩ (preVE hK hR hF hN hS ht0) rfl rfl hl.1 rfl (lv_room (Nat.le_of_ble_eq_true rfl)) dJ9_add_20 ⟨by dsimp only; omega, by dsimp only; omega⟩) hL (fun H locs hR hF hL => ?_)
    refine WT.widen (k := wZ qw3 - z0) (n := 80 * (wZ qw3 - z0)) (by omega) (by omega) ?_
    exact WT.leave (fun x9 hx9 => hnoh x9 hx9 20) (fun t ht _ => ⟨rfl, by rw [ht]; exact hR, hF⟩) hL hlocks
  dsimp only at h
  obtain ⟨hz5, h⟩ := grd h
  refine k_TR (v := none) (w := qw3) (mc := wZ qw3 - wZ (sI w a0 0 ((wI w a0 0) + (1 : Int32)))) (ms := 80 * (wZ qw3 - wZ (sI w a0 0 ((wI w a0 0) + (1 : Int32))))) (st1 := []) (runT_V (As := [rfv z a1, .ref G.2.2.2, .int (wI w a0 2)]) (rest := []) ⟨hx, hb, hml, hown, hts⟩ (met_J9_add_2E l htr G z H0 B n (sI w a0 0 ((wI w a0 0) + (1 : Int32))) a0 a1 (wI w a0 2) (.inl v1, qw3) hq4 ht0 hZ.2) hd_J9_add_2 q1105 q1107 qs18 q126 q1108 ⟨Nat.le_of_ble_eq_true rfl, Nat.le_of_ble_eq_true rfl⟩ (preVE hK hR hF hN hS ht0) rfl rfl hl.1 rfl (lv_room (Nat.le_of_ble_eq_true rfl)) dJ9_add_20 ⟨by dsimp only; omega, by dsimp only; omega⟩) hL rfl (fun H locs hR hF hL => ?_)
  refine W.wid (b := wZ qw3) (by omega) hZ.1 (Nat.le_refl _) ?_
  have hZ : z0 ≤ wZ qw3 ∧ wZ qw3 ≤ B := ⟨by omega, hz5.2⟩
  refine lv_iconst (v := 1) hx hb dJ9_add_23 (by decide) ?_
  have h := Option.some.inj h
  subst h
  exact W.toT (W.zret (v := bI true) hx hb hr (bI_nar _) (fun t ht _ => ⟨rfl, by rw [ht]; exact hR, hF⟩) hL dJ9_add_24)
def f_J9_grow_2L_J20 (B n : Nat) (a0 : Nat) (a1 : Int32) (j2 : Int32) (w : Wd) : Option ((Option Nat ⊕ Nat) × Wd) :=
  (f_J13_newLength j2 (a1 - j2) (j2 >>> ((1 : Int32) &&& 31)) w).bind fun q5 => if (wT w a0).1 = 27 then ((f_J14_copyOf B n (wR w a0 1) q5 w).bind fun q13 => (match q13 with | (.inl v8, qw10) => if wZ w ≤ wZ qw10 ∧ wZ qw10 ≤ B then (if (wT qw10 a0).1 = 27 then (if 108 ≤ a0 then (some (.inl v8, sR qw10 a0 1 v8)) else none) else none) else none | (.inr x9, qw10) => if wZ w ≤ wZ qw10 ∧ wZ qw10 ≤ B then (some (.inr x9, qw10)) else none)) else none
def f_J9_grow_2L (B n : Nat) (a0 : Nat) (a1 : Int32) (w : Wd) : Option ((Option Nat ⊕ Nat) × Wd) :=
  (wR w a0 1).bind fun r1 => if (wT w r1).1 = 205 then (if 0 < (Int32.ofNat ((wT w r1).2)) then (f_J9_grow_2L_J20 B n a0 a1 (Int32.ofNat ((wT w r1).2)) w) else none) else none
set_option maxHeartbeats 4000000 in
set_option maxRecDepth 100000 in
theorem met_J9_grow_2L (l : Launch) (htr : ∀ e, l.admits e → e.platform.stackTraces = false) (G : Gw) (z : Nat) (H0 : Heap) (B n : Nat) (w : Wd) (a0 : Nat) (a1 : Int32) (q : (Option Nat ⊕ Nat) × Wd) (h : f_J9_grow_2L B n a0 a1 w = some q) (ht0 : (wT w a0).1 = 27) (hB : wZ w ≤ B) : MetT l yJ9_grow_2 (ws_ yJ9_grow_2 cJ9_grow_2 4 (some (.array (.object "java/lang/Object")))) ({ frames := 3, cells := B - wZ w, slots := 80 * (B - wZ w), locals := 104 } : Room) (pcT G z H0 w [.ref (z + a0), .int a1]) (qT G z H0 q.2 (cvR z q.1)) (wZ q.2 - wZ w) (80 * (wZ q.2 - wZ w)) (fun q => z ≤ q) := by
  refine mT (by decide) (Nat.le_of_ble_eq_true rfl) ?_
  intro p e s m below meth c ls hx hb hr hml hown hts hlocks hnm hnoh hK hR hF hN hS hl
  have hown : s.vm.findClass RJ9 = some m.cls := hown
  have hl : lv_has ls 4 [(0, .ref (z + a0)), (1, .int a1)] := hl
  have hL : lok z [] := lok_nil
  unfold f_J9_grow_2L at h
  obtain ⟨z0, hz0⟩ : ∃ z0, wZ w = z0 := ⟨_, rfl⟩
  rw [hz0]
  refine W.widen (k := wZ w - z0) (n := 80 * (wZ w - z0)) (Nat.zero_le _) (Nat.zero_le _) ?_
  have hZ : z0 ≤ wZ w ∧ wZ w ≤ B := ⟨by omega, hB⟩
  generalize s.heap = H at hR ⊢
  generalize ([] : List Loc) = locs at hL ⊢
  have hJ20 : ∀ (j2 : Int32) (w : Wd), f_J9_grow_2L_J20 B n a0 a1 j2 w = some q → ∀ (H : Heap) (locs : List Loc) (ls : Array Slot), Rp G z H0 w H → Fix w → lok z locs → (z0 ≤ wZ w ∧ wZ w ≤ B) → lv_has ls 4 [(2, .int j2), (0, .ref (z + a0)), (1, .int a1)] → W p l e ({ frames := 3, cells := B - z0, slots := 80 * (B - z0), locals := 104 } : Room) s m ([.ref (z + a0), .int a1] : List Value).toArray below meth c H locs (wZ w - z0) (80 * (wZ w - z0)) (MQT below (qT G z H0 q.2 (cvR z q.1)) ([.ref (z + a0), .int a1] : List Value).toArray s (wZ q.2 - z0) (80 * (wZ q.2 - z0)) (fun q => z ≤ q)) (F0 m 20 ls []) := by
    intro j2 w h H locs ls hR hF hL hZ hl
    unfold f_J9_grow_2L_J20 at h
    refine lv_iload_n hx hb dJ9_grow_2_20 rfl (lv_at hl 0 rfl) ?_
    refine lv_iload_n hx hb dJ9_grow_2_21 rfl (lv_at hl 2 rfl) ?_
    refine lv_iload_n hx hb dJ9_grow_2_22 rfl (lv_at hl 0 rfl) ?_
    refine lv_isub hx hb dJ9_grow_2_23 ?_
    refine lv_iload_n hx hb dJ9_grow_2_24 rfl (lv_at hl 0 rfl) ?_
    refine lv_iconst (v := 1) hx hb dJ9_grow_2_25 (by decide) ?_
    refine lv_ishr hx hb dJ9_grow_2_26 ?_
    obtain ⟨q5, hq6, h⟩ := bnd h
    refine k_P (st1 := [.int q5]) (va_runS (As := [.int j2, .int (a1 - j2), .int (j2 >>> ((1 : Int32) &&& 31))]) (rest := []) ⟨hx, hb, hml, hown, hts⟩ (met_J13_newLength l G z H0 w j2 (a1 - j2) (j2 >>> ((1 : Int32) &&& 31)) q5 hq6) (va_cwS 3 hts (lw_S q1117 q1118 q139 q1119) rfl rfl rfl hd_J13_newLength ⟨Nat.le_of_ble_eq_true rfl, Nat.le_of_ble_eq_true rfl⟩) (preS hK hR hF hN) rfl rfl hl.1 rfl (lv_room (Nat.le_of_ble_eq_true rfl)) dJ9_grow_2_27 ⟨by dsimp only; omega, by dsimp only; omega⟩) hL rfl (fun locs hL => ?_)
    refine W.wid (b := wZ w) (Nat.le_refl _) hZ.1 (Nat.le_refl _) ?_
    refine lv_istore_n (lv' := [(3, .int q5), (2, .int j2), (0, .ref (z + a0)), (1, .int a1)]) hx hb dJ9_grow_2_30 rfl hl (by decide) rfl (fun ls hl => ?_)
    refine lv_aload_n hx hb dJ9_grow_2_31 rfl (lv_at hl 2 rfl) ?_
    refine lv_aload_n hx hb dJ9_grow_2_32 rfl (lv_at hl 2 rfl) ?_
    obtain ⟨hg7, h⟩ := grd h
    refine x_get (k := 1) (o := "java/util/ArrayList") (n := "elementData") (d := "[Ljava/lang/Object;") (fin := false) (ty := (.array (.object "java/lang/Object"))) (host := "BarredBooks") hx hb hts hown hK hR rfl (Fam.one (r := (RJ9, TJ9, 3)) hg7 rfl ok26 (by decide)) (Or.inl (hts _ q889)) (fun _ h9 => h9) (v := rfv z (wR w a0 1)) rfl dJ9_grow_2_33 ?_
    refine lv_iload_n hx hb dJ9_grow_2_36 rfl (lv_at hl 0 rfl) ?_
    obtain ⟨⟨v8 | x9, qw10⟩, hq11, h⟩ := bnd h
    rotate_left
    · dsimp only at h
      obtain ⟨hz12, h⟩ := grd h
      have h := Option.some.inj h
      subst h
      refine k_TT (w := qw10) (x := x9) (mc := wZ qw10 - wZ w) (ms := 80 * (wZ qw10 - wZ w)) (runT_S (As := [rfv z (wR w a0 1), .int q5]) (rest := [.ref (z + a0)]) ⟨hx, hb, hml, hown, hts⟩ (met_J14_copyOf l htr G z H0 B n w (wR w a0 1) q5 (.inr x9, qw10) hq11 hZ.2) hd_J14_copyOf q1127 q1128 q140 q1129 ⟨Nat.le_of_ble_eq_true rfl, Nat.le_of_ble_eq_true rfl⟩ (preST hK hR hF hN hS) rfl rfl hl.1 rfl (lv_room (Nat.le_of_ble_eq_true rfl)) dJ9_grow_2_37 ⟨by dsimp only; omega, by dsimp only; omega⟩) hL (fun H locs hR hF hL => ?_)
      refine WT.widen (k := wZ qw10 - z0) (n := 80 * (wZ qw10 - z0)) (by omega) (by omega) ?_
      exact WT.leave (fun x9 hx9 => hnoh x9 hx9 37) (fun t ht _ => ⟨rfl, by rw [ht]; exact hR, hF⟩) hL hlocks
    dsimp only at h
    obtain ⟨hz12, h⟩ := grd h
    refine k_TR (v := (some (rfv z v8))) (w := qw10) (mc := wZ qw10 - wZ w) (ms := 80 * (wZ qw10 - wZ w)) (st1 := [rfv z v8, .ref (z + a0)]) (runT_S (As := [rfv z (wR w a0 1), .int q5]) (rest := [.ref (z + a0)]) ⟨hx, hb, hml, hown, hts⟩ (met_J14_copyOf l htr G z H0 B n w (wR w a0 1) q5 (.inl v8, qw10) hq11 hZ.2) hd_J14_copyOf q1127 q1128 q140 q1129 ⟨Nat.le_of_ble_eq_true rfl, Nat.le_of_ble_eq_true rfl⟩ (preST hK hR hF hN hS) rfl rfl hl.1 rfl (lv_room (Nat.le_of_ble_eq_true rfl)) dJ9_grow_2_37 ⟨by dsimp only; omega, by dsimp only; omega⟩) hL rfl (fun H locs hR hF hL => ?_)
    refine W.wid (b := wZ qw10) (by omega) hZ.1 (Nat.le_refl _) ?_
    have hZ : z0 ≤ wZ qw10 ∧ wZ qw10 ≤ B := ⟨by omega, hz12.2⟩
    refine lv_dup_x1 hx hb dJ9_grow_2_40 (cat_rfv _ _) rfl ?_
    obtain ⟨hg14, h⟩ := grd h
    obtain ⟨hd15, h⟩ := grd h
    refine x_putR (k := 1) (o := "java/util/ArrayList") (n := "elementData") (d := "[Ljava/lang/Object;") (fin := false) (ty := (.array (.object "java/lang/Object"))) (v := v8) (host := "BarredBooks") hx hb hts hown hK hR hL rfl (Fam.one (r := (RJ9, TJ9, 3)) hg14 rfl ok26 (by decide)) (Or.inl (hts _ q889)) (fun _ h9 => h9) (Or.inl rfl) rfl rfl dJ9_grow_2_41 (fun H locs hR hL => ?_)
    rw [← wT_sR _ a0 1 v8] at hg14
    have hF := hF.sR (a := a0) (f := 1) (v := v8) (fixR_dyn hd15)
    have h := Option.some.inj h
    subst h
    refine W.widen (k := wZ (sR qw10 a0 1 v8) - z0) (n := 80 * (wZ (sR qw10 a0 1 v8) - z0)) (Nat.le_refl _) (Nat.le_refl _) ?_
    exact W.toT (x_aret (r := v8) hx hb hr rfl (fun t ht _ => ⟨rfl, by rw [ht]; exact hR, hF⟩) hL dJ9_grow_2_44 hlocks)
  refine lv_aload_n hx hb dJ9_grow_2_0 rfl (lv_at hl 0 rfl) ?_
  refine x_get (k := 1) (o := "java/util/ArrayList") (n := "elementData") (d := "[Ljava/lang/Object;") (fin := false) (ty := (.array (.object "java/lang/Object"))) (host := "BarredBooks") hx hb hts hown hK hR rfl (Fam.one (r := (RJ9, TJ9, 3)) ht0 rfl ok26 (by decide)) (Or.inl (hts _ q889)) (fun _ h9 => h9) (v := rfv z (wR w a0 1)) rfl dJ9_grow_2_1 ?_
  obtain ⟨r1, hr2, h⟩ := bnd h
  obtain ⟨hg3, h⟩ := grd h
  refine x_alen (t := 5) hx hb hK hR (rfv_some hr2) (wT_pair hg3) (by decide) dJ9_grow_2_4 ?_
  refine lv_istore_n (lv' := [(2, .int (Int32.ofNat ((wT w r1).2))), (0, .ref (z + a0)), (1, .int a1)]) hx hb dJ9_grow_2_5 rfl hl (by decide) rfl (fun ls hl => ?_)
  refine lv_iload_n hx hb dJ9_grow_2_6 rfl (lv_at hl 0 rfl) ?_
  obtain ⟨hz4, h⟩ := grd h
  refine lv_if_gt (tgt := 20) hx hb dJ9_grow_2_7 (by decide) (fun _ => ?_) (fun c9 => absurd hz4 c9)
  exact hJ20 (Int32.ofNat ((wT w r1).2)) w h H locs ls hR hF hL hZ (lv_sub hl [0, 1, 2] rfl)
def f_J9_growL (B n : Nat) (a0 : Nat) (w : Wd) : Option ((Option Nat ⊕ Nat) × Wd) :=
  (f_J9_grow_2L B n a0 ((wI w a0 2) + (1 : Int32)) w).bind fun q6 => (match q6 with | (.inl v1, qw3) => if wZ w ≤ wZ qw3 ∧ wZ qw3 ≤ B then (some (.inl v1, qw3)) else none | (.inr x2, qw3) => if wZ w ≤ wZ qw3 ∧ wZ qw3 ≤ B then (some (.inr x2, qw3)) else none)
set_option maxHeartbeats 4000000 in
set_option maxRecDepth 100000 in
theorem met_J9_growL (l : Launch) (htr : ∀ e, l.admits e → e.platform.stackTraces = false) (G : Gw) (z : Nat) (H0 : Heap) (B n : Nat) (w : Wd) (a0 : Nat) (q : (Option Nat ⊕ Nat) × Wd) (h : f_J9_growL B n a0 w = some q) (ht0 : (wT w a0).1 = 27) (hB : wZ w ≤ B) : MetT l yJ9_grow (ws_ yJ9_grow cJ9_grow 1 (some (.array (.object "java/lang/Object")))) ({ frames := 4, cells := B - wZ w, slots := 80 * (B - wZ w), locals := 127 } : Room) (pcT G z H0 w [.ref (z + a0)]) (qT G z H0 q.2 (cvR z q.1)) (wZ q.2 - wZ w) (80 * (wZ q.2 - wZ w)) (fun q => z ≤ q) := by
  refine mT (by decide) (Nat.le_of_ble_eq_true rfl) ?_
  intro p e s m below meth c ls hx hb hr hml hown hts hlocks hnm hnoh hK hR hF hN hS hl
  have hown : s.vm.findClass RJ9 = some m.cls := hown
  have hl : lv_has ls 1 [(0, .ref (z + a0))] := hl
  have hL : lok z [] := lok_nil
  unfold f_J9_growL at h
  obtain ⟨z0, hz0⟩ : ∃ z0, wZ w = z0 := ⟨_, rfl⟩
  rw [hz0]
  refine W.widen (k := wZ w - z0) (n := 80 * (wZ w - z0)) (Nat.zero_le _) (Nat.zero_le _) ?_
  have hZ : z0 ≤ wZ w ∧ wZ w ≤ B := ⟨by omega, hB⟩
  generalize s.heap = H at hR ⊢
  generalize ([] : List Loc) = locs at hL ⊢
  refine lv_aload_n hx hb dJ9_grow_0 rfl (lv_at hl 0 rfl) ?_
  refine lv_aload_n hx hb dJ9_grow_1 rfl (lv_at hl 0 rfl) ?_
  refine x_get (k := 2) (o := "java/util/ArrayList") (n := "size") (d := "I") (fin := false) (ty := .int) (host := "BarredBooks") hx hb hts hown hK hR rfl (Fam.one (r := (RJ9, TJ9, 3)) ht0 rfl ok26 (by decide)) (Or.inl (hts _ q890)) (fun _ h9 => h9) (v := .int (wI w a0 2)) rfl dJ9_grow_2 ?_
  refine lv_iconst (v := 1) hx hb dJ9_grow_5 (by decide) ?_
  refine lv_iadd hx hb dJ9_grow_6 ?_
  obtain ⟨⟨v1 | x2, qw3⟩, hq4, h⟩ := bnd h
  rotate_left
  · dsimp only at h
    obtain ⟨hz5, h⟩ := grd h
    have h := Option.some.inj h
    subst h
    refine k_TT (w := qw3) (x := x2) (mc := wZ qw3 - wZ w) (ms := 80 * (wZ qw3 - wZ w)) (runT_V (As := [.int ((wI w a0 2) + (1 : Int32))]) (rest := []) ⟨hx, hb, hml, hown, hts⟩ (met_J9_grow_2L l htr G z H0 B n w a0 ((wI w a0 2) + (1 : Int32)) (.inr x2, qw3) hq4 ht0 hZ.2) hd_J9_grow_2 q1113 q1115 qs20 q126 q1116 ⟨Nat.le_of_ble_eq_true rfl, Nat.le_of_ble_eq_true rfl⟩ (preVT (q := (RJ9, TJ9, 3)) hK hR hF hN hS ht0 rfl) rfl rfl hl.1 rfl (lv_room (Nat.le_of_ble_eq_true rfl)) dJ9_grow_7 ⟨by dsimp only; omega, by dsimp only; omega⟩) hL (fun H locs hR hF hL => ?_)
    refine WT.widen (k := wZ qw3 - z0) (n := 80 * (wZ qw3 - z0)) (by omega) (by omega) ?_
    exact WT.leave (fun x9 hx9 => hnoh x9 hx9 7) (fun t ht _ => ⟨rfl, by rw [ht]; exact hR, hF⟩) hL hlocks
  dsimp only at h
  obtain ⟨hz5, h⟩ := grd h
  refine k_TR (v := (some (rfv z v1))) (w := qw3) (mc := wZ qw3 - wZ w) (ms := 80 * (wZ qw3 - wZ w)) (st1 := [rfv z v1]) (runT_V (As := [.int ((wI w a0 2) + (1 : Int32))]) (rest := []) ⟨hx, hb, hml, hown, hts⟩ (met_J9_grow_2L l htr G z H0 B n w a0 ((wI w a0 2) + (1 : Int32)) (.inl v1, qw3) hq4 ht0 hZ.2) hd_J9_grow_2 q1113 q1115 qs20 q126 q1116 ⟨Nat.le_of_ble_eq_true rfl, Nat.le_of_ble_eq_true rfl⟩ (preVT (q := (RJ9, TJ9, 3)) hK hR hF hN hS ht0 rfl) rfl rfl hl.1 rfl (lv_room (Nat.le_of_ble_eq_true rfl)) dJ9_grow_7 ⟨by dsimp only; omega, by dsimp only; omega⟩) hL rfl (fun H locs hR hF hL => ?_)
  refine W.wid (b := wZ qw3) (by omega) hZ.1 (Nat.le_refl _) ?_
  have hZ : z0 ≤ wZ qw3 ∧ wZ qw3 ≤ B := ⟨by omega, hz5.2⟩
  have h := Option.some.inj h
  subst h
  exact W.toT (x_aret (r := v1) hx hb hr rfl (fun t ht _ => ⟨rfl, by rw [ht]; exact hR, hF⟩) hL dJ9_grow_10 hlocks)
def f_J9_add_2L (B n : Nat) (a0 : Nat) (a1 : Option Nat) (a2 : Option Nat) (a3 : Int32) (w : Wd) : Option ((Unit ⊕ Nat) × Wd) :=
  (a2).bind fun r1 => if (wT w r1).1 = 205 then (if a3 = (Int32.ofNat ((wT w r1).2)) then ((f_J9_growL B n a0 w).bind fun q15 => (match q15 with | (.inl v10, qw12) => if wZ w ≤ wZ qw12 ∧ wZ qw12 ≤ B then ((v10).bind fun r16 => if (wT qw12 r16).1 = 205 then ((a1).bind fun r22 => if inb a3 (wT qw12 r16).2 then (if 108 ≤ r16 then (if 19 ≤ (wT qw12 r22).1 ∧ (wT qw12 r22).1 ≤ 25 then (if (wT (sR qw12 r16 a3.toNatClampNeg (some r22)) a0).1 = 27 then (some (.inl (), sI (sR qw12 r16 a3.toNatClampNeg (some r22)) a0 2 (a3 + (1 : Int32)))) else none) else none) else none) else none) else none) else none | (.inr x11, qw12) => if wZ w ≤ wZ qw12 ∧ wZ qw12 ≤ B then (some (.inr x11, qw12)) else none)) else ((a1).bind fun r8 => if inb a3 (wT w r1).2 then (if 108 ≤ r1 then (if 19 ≤ (wT w r8).1 ∧ (wT w r8).1 ≤ 25 then (some (.inl (), sI (sR w r1 a3.toNatClampNeg (some r8)) a0 2 (a3 + (1 : Int32)))) else none) else none) else none)) else none
set_option maxHeartbeats 4000000 in
set_option maxRecDepth 100000 in
theorem met_J9_add_2L (l : Launch) (htr : ∀ e, l.admits e → e.platform.stackTraces = false) (G : Gw) (z : Nat) (H0 : Heap) (B n : Nat) (w : Wd) (a0 : Nat) (a1 : Option Nat) (a2 : Option Nat) (a3 : Int32) (q : (Unit ⊕ Nat) × Wd) (h : f_J9_add_2L B n a0 a1 a2 a3 w = some q) (ht0 : (wT w a0).1 = 27) (hB : wZ w ≤ B) : MetT l yJ9_add_2 (ws_ yJ9_add_2 cJ9_add_2 4 none) ({ frames := 5, cells := B - wZ w, slots := 80 * (B - wZ w), locals := 147 } : Room) (pcT G z H0 w [.ref (z + a0), rfv z a1, rfv z a2, .int a3]) (qT G z H0 q.2 (cvV q.1)) (wZ q.2 - wZ w) (80 * (wZ q.2 - wZ w)) (fun q => z ≤ q) := by
  refine mT (by decide) (by simp [lg_sl, cat_rfv, cat_i, cat_r, cat_l, cat_n]) ?_
  intro p e s m below meth c ls hx hb hr hml hown hts hlocks hnm hnoh hK hR hF hN hS hl
  have hown : s.vm.findClass RJ9 = some m.cls := hown
  have hl : lv_has ls 4 [(0, .ref (z + a0)), (1, rfv z a1), (2, rfv z a2), (3, .int a3)] := by simpa [lv_args, cat_rfv, cat_i, cat_r, cat_l, cat_n] using hl
  have hL : lok z [] := lok_nil
  unfold f_J9_add_2L at h
  obtain ⟨z0, hz0⟩ : ∃ z0, wZ w = z0 := ⟨_, rfl⟩
  rw [hz0]
  refine W.widen (k := wZ w - z0) (n := 80 * (wZ w - z0)) (Nat.zero_le _) (Nat.zero_le _) ?_
  have hZ : z0 ≤ wZ w ∧ wZ w ≤ B := ⟨by omega, hB⟩
  generalize s.heap = H at hR ⊢
  generalize ([] : List Loc) = locs at hL ⊢
  refine lv_iload_n hx hb dJ9_add_2_0 rfl (lv_at hl 3 rfl) ?_
  refine x_aload_n hx hb dJ9_add_2_1 rfl (lv_at hl 2 rfl) ?_
  obtain ⟨r1, hr2, h⟩ := bnd h
  obtain ⟨hg3, h⟩ := grd h
  refine x_alen (t := 5) hx hb hK hR (rfv_some hr2) (wT_pair hg3) (by decide) dJ9_add_2_2 ?_
  refine lv_icmp_ne (tgt := 11) hx hb dJ9_add_2_3 (by decide) (fun c4 => ?_) (fun c4 => ?_)
  · rw [if_neg c4] at h
    refine x_aload_n hx hb dJ9_add_2_11 rfl (lv_at hl 2 rfl) ?_
    refine lv_iload_n hx hb dJ9_add_2_12 rfl (lv_at hl 3 rfl) ?_
    refine x_aload_n hx hb dJ9_add_2_13 rfl (lv_at hl 1 rfl) ?_
    obtain ⟨r8, hr9, h⟩ := bnd h
    obtain ⟨hb5, h⟩ := grd h
    obtain ⟨hd6, h⟩ := grd h
    obtain ⟨he7, h⟩ := grd h
    refine x_lsSt hx hb hN hK hR hL (rfv_some hr2) (wT_pair hg3) (rfv_some hr9) he7 hb5 dJ9_add_2_14 (fun H locs hR hL => ?_)
    rw [← wT_sR _ r1 a3.toNatClampNeg (some r8)] at ht0
    rw [← wT_sR _ r1 a3.toNatClampNeg (some r8)] at hg3
    have hF := hF.sR (a := r1) (f := a3.toNatClampNeg) (v := some r8) (fixR_dyn hd6)
    refine lv_aload_n hx hb dJ9_add_2_15 rfl (lv_at hl 0 rfl) ?_
    refine lv_iload_n hx hb dJ9_add_2_16 rfl (lv_at hl 3 rfl) ?_
    refine lv_iconst (v := 1) hx hb dJ9_add_2_17 (by decide) ?_
    refine lv_iadd hx hb dJ9_add_2_18 ?_
    refine x_putI (k := 2) (o := "java/util/ArrayList") (n := "size") (d := "I") (fin := false) (ty := .int) (host := "BarredBooks") hx hb hts hown hK hR hL rfl (Fam.one (r := (RJ9, TJ9, 3)) ht0 rfl ok26 (by decide)) (Or.inl (hts _ q890)) (fun _ h9 => h9) (Or.inl rfl) rfl rfl rfl dJ9_add_2_19 (fun H locs hR hL => ?_)
    rw [← wT_sI _ a0 2 (a3 + (1 : Int32))] at ht0
    rw [← wT_sI _ a0 2 (a3 + (1 : Int32))] at hg3
    have hF := hF.sI a0 2 (a3 + (1 : Int32))
    have h := Option.some.inj h
    subst h
    refine W.widen (k := wZ (sI (sR w r1 a3.toNatClampNeg (some r8)) a0 2 (a3 + (1 : Int32))) - z0) (n := 80 * (wZ (sI (sR w r1 a3.toNatClampNeg (some r8)) a0 2 (a3 + (1 : Int32))) - z0)) (Nat.le_refl _) (Nat.le_refl _) ?_
    exact W.toT (W.vret hx hb hr (fun t ht _ => ⟨rfl, by rw [ht]; exact hR, hF⟩) hL dJ9_add_2_22)
  · rw [if_pos c4] at h
    refine lv_aload_n hx hb dJ9_add_2_6 rfl (lv_at hl 0 rfl) ?_
    obtain ⟨⟨v10 | x11, qw12⟩, hq13, h⟩ := bnd h
    rotate_left
    · dsimp only at h
      obtain ⟨hz14, h⟩ := grd h
      have h := Option.some.inj h
      subst h
      refine k_TT (w := qw12) (x := x11) (mc := wZ qw12 - wZ w) (ms := 80 * (wZ qw12 - wZ w)) (runT_V (As := []) (rest := []) ⟨hx, hb, hml, hown, hts⟩ (met_J9_growL l htr G z H0 B n w a0 (.inr x11, qw12) hq13 ht0 hZ.2) hd_J9_grow q1109 q1111 qs19 q126 q1112 ⟨Nat.le_of_ble_eq_true rfl, Nat.le_of_ble_eq_true rfl⟩ (preVT (q := (RJ9, TJ9, 3)) hK hR hF hN hS ht0 rfl) rfl rfl hl.1 rfl (lv_room (Nat.le_of_ble_eq_true rfl)) dJ9_add_2_7 ⟨by dsimp only; omega, by dsimp only; omega⟩) hL (fun H locs hR hF hL => ?_)
      refine WT.widen (k := wZ qw12 - z0) (n := 80 * (wZ qw12 - z0)) (by omega) (by omega) ?_
      exact WT.leave (fun x9 hx9 => hnoh x9 hx9 7) (fun t ht _ => ⟨rfl, by rw [ht]; exact hR, hF⟩) hL hlocks
    dsimp only at h
    obtain ⟨hz14, h⟩ := grd h
    refine k_TR (v := (some (rfv z v10))) (w := qw12) (mc := wZ qw12 - wZ w) (ms := 80 * (wZ qw12 - wZ w)) (st1 := [rfv z v10]) (runT_V (As := []) (rest := []) ⟨hx, hb, hml, hown, hts⟩ (met_J9_growL l htr G z H0 B n w a0 (.inl v10, qw12) hq13 ht0 hZ.2) hd_J9_grow q1109 q1111 qs19 q126 q1112 ⟨Nat.le_of_ble_eq_true rfl, Nat.le_of_ble_eq_true rfl⟩ (preVT (q := (RJ9, TJ9, 3)) hK hR hF hN hS ht0 rfl) rfl rfl hl.1 rfl (lv_room (Nat.le_of_ble_eq_true rfl)) dJ9_add_2_7 ⟨by dsimp only; omega, by dsimp only; omega⟩) hL rfl (fun H locs hR hF hL => ?_)
    refine W.wid (b := wZ qw12) (by omega) hZ.1 (Nat.le_refl _) ?_
    have hZ : z0 ≤ wZ qw12 ∧ wZ qw12 ≤ B := ⟨by omega, hz14.2⟩
    refine x_astore_n (lv' := [(2, rfv z v10), (0, .ref (z + a0)), (1, rfv z a1), (3, .int a3)]) hx hb dJ9_add_2_10 rfl hl (by decide) (by simp [cat_rfv, cat_i, cat_r, cat_l, cat_n]) (fun ls hl => ?_)
    refine x_aload_n hx hb dJ9_add_2_11 rfl (lv_at hl 0 rfl) ?_
    refine lv_iload_n hx hb dJ9_add_2_12 rfl (lv_at hl 3 rfl) ?_
    refine x_aload_n hx hb dJ9_add_2_13 rfl (lv_at hl 2 rfl) ?_
    obtain ⟨r16, hr17, h⟩ := bnd h
    obtain ⟨hg18, h⟩ := grd h
    obtain ⟨r22, hr23, h⟩ := bnd h
    obtain ⟨hb19, h⟩ := grd h
    obtain ⟨hd20, h⟩ := grd h
    obtain ⟨he21, h⟩ := grd h
    refine x_lsSt hx hb hN hK hR hL (rfv_some hr17) (wT_pair hg18) (rfv_some hr23) he21 hb19 dJ9_add_2_14 (fun H locs hR hL => ?_)
    rw [← wT_sR _ r16 a3.toNatClampNeg (some r22)] at hg18
    have hF := hF.sR (a := r16) (f := a3.toNatClampNeg) (v := some r22) (fixR_dyn hd20)
    refine lv_aload_n hx hb dJ9_add_2_15 rfl (lv_at hl 1 rfl) ?_
    refine lv_iload_n hx hb dJ9_add_2_16 rfl (lv_at hl 3 rfl) ?_
    refine lv_iconst (v := 1) hx hb dJ9_add_2_17 (by decide) ?_
    refine lv_iadd hx hb dJ9_add_2_18 ?_
    obtain ⟨hg24, h⟩ := grd h
    refine x_putI (k := 2) (o := "java/util/ArrayList") (n := "size") (d := "I") (fin := false) (ty := .int) (host := "BarredBooks") hx hb hts hown hK hR hL rfl (Fam.one (r := (RJ9, TJ9, 3)) hg24 rfl ok26 (by decide)) (Or.inl (hts _ q890)) (fun _ h9 => h9) (Or.inl rfl) rfl rfl rfl dJ9_add_2_19 (fun H locs hR hL => ?_)
    rw [← wT_sI _ a0 2 (a3 + (1 : Int32))] at hg18
    rw [← wT_sI _ a0 2 (a3 + (1 : Int32))] at hg24
    have hF := hF.sI a0 2 (a3 + (1 : Int32))
    have h := Option.some.inj h
    subst h
    refine W.widen (k := wZ (sI (sR qw12 r16 a3.toNatClampNeg (some r22)) a0 2 (a3 + (1 : Int32))) - z0) (n := 80 * (wZ (sI (sR qw12 r16 a3.toNatClampNeg (some r22)) a0 2 (a3 + (1 : Int32))) - z0)) (Nat.le_refl _) (Nat.le_refl _) ?_
    exact W.toT (W.vret hx hb hr (fun t ht _ => ⟨rfl, by rw [ht]; exact hR, hF⟩) hL dJ9_add_2_22)
def f_J9_addL (B n : Nat) (a0 : Nat) (a1 : Option Nat) (w : Wd) : Option ((Bool ⊕ Nat) × Wd) :=
  (f_J9_add_2L B n a0 a1 (wR w a0 1) (wI w a0 2) (sI w a0 0 ((wI w a0 0) + (1 : Int32)))).bind fun q6 => (match q6 with | (.inl v1, qw3) => if wZ w ≤ wZ qw3 ∧ wZ qw3 ≤ B then (some (.inl true, qw3)) else none | (.inr x2, qw3) => if wZ w ≤ wZ qw3 ∧ wZ qw3 ≤ B then (some (.inr x2, qw3)) else none)
set_option maxHeartbeats 4000000 in
set_option maxRecDepth 100000 in
theorem met_J9_addL (l : Launch) (htr : ∀ e, l.admits e → e.platform.stackTraces = false) (G : Gw) (z : Nat) (H0 : Heap) (B n : Nat) (w : Wd) (a0 : Nat) (a1 : Option Nat) (q : (Bool ⊕ Nat) × Wd) (h : f_J9_addL B n a0 a1 w = some q) (ht0 : (wT w a0).1 = 27) (hB : wZ w ≤ B) : MetT l yJ9_add (ws_ yJ9_add cJ9_add 2 (some .boolean)) ({ frames := 6, cells := B - wZ w, slots := 80 * (B - wZ w), locals := 170 } : Room) (pcT G z H0 w [.ref (z + a0), rfv z a1]) (qT G z H0 q.2 (cvB q.1)) (wZ q.2 - wZ w) (80 * (wZ q.2 - wZ w)) (fun q => z ≤ q) := by
  refine mT (by decide) (by simp [lg_sl, cat_rfv, cat_i, cat_r, cat_l, cat_n]) ?_
  intro p e s m below meth c ls hx hb hr hml hown hts hlocks hnm hnoh hK hR hF hN hS hl
  have hown : s.vm.findClass RJ9 = some m.cls := hown
  have hl : lv_has ls 2 [(0, .ref (z + a0)), (1, rfv z a1)] := by simpa [lv_args, cat_rfv, cat_i, cat_r, cat_l, cat_n] using hl
  have hL : lok z [] := lok_nil
  unfold f_J9_addL at h
  obtain ⟨z0, hz0⟩ : ∃ z0, wZ w = z0 := ⟨_, rfl⟩
  rw [hz0]
  refine W.widen (k := wZ w - z0) (n := 80 * (wZ w - z0)) (Nat.zero_le _) (Nat.zero_le _) ?_
  have hZ : z0 ≤ wZ w ∧ wZ w ≤ B := ⟨by omega, hB⟩
  generalize s.heap = H at hR ⊢
  generalize ([] : List Loc) = locs at hL ⊢
  refine lv_aload_n hx hb dJ9_add_0 rfl (lv_at hl 0 rfl) ?_
  refine lv_dup hx hb dJ9_add_1 rfl ?_
  refine x_get (k := 0) (o := "java/util/AbstractList") (n := "modCount") (d := "I") (fin := false) (ty := .int) (host := "BarredBooks") hx hb hts hown hK hR rfl (Fam.one (r := (RJ9, TJ9, 3)) ht0 rfl ok26 (by decide)) (Or.inl (hts _ q892)) (u_same (hts _ q893)) (v := .int (wI w a0 0)) rfl dJ9_add_2 ?_
  refine lv_iconst (v := 1) hx hb dJ9_add_5 (by decide) ?_
  refine lv_iadd hx hb dJ9_add_6 ?_
  refine x_putI (k := 0) (o := "java/util/AbstractList") (n := "modCount") (d := "I") (fin := false) (ty := .int) (host := "BarredBooks") hx hb hts hown hK hR hL rfl (Fam.one (r := (RJ9, TJ9, 3)) ht0 rfl ok26 (by decide)) (Or.inl (hts _ q892)) (u_same (hts _ q893)) (Or.inl rfl) rfl rfl rfl dJ9_add_7 (fun H locs hR hL => ?_)
  rw [← wT_sI _ a0 0 ((wI w a0 0) + (1 : Int32))] at ht0
  have hF := hF.sI a0 0 ((wI w a0 0) + (1 : Int32))
  refine lv_aload_n hx hb dJ9_add_10 rfl (lv_at hl 0 rfl) ?_
  refine x_aload_n hx hb dJ9_add_11 rfl (lv_at hl 1 rfl) ?_
  refine lv_aload_n hx hb dJ9_add_12 rfl (lv_at hl 0 rfl) ?_
  refine x_get (k := 1) (o := "java/util/ArrayList") (n := "elementData") (d := "[Ljava/lang/Object;") (fin := false) (ty := (.array (.object "java/lang/Object"))) (host := "BarredBooks") hx hb hts hown hK hR rfl (Fam.one (r := (RJ9, TJ9, 3)) ht0 rfl ok26 (by decide)) (Or.inl (hts _ q889)) (fun _ h9 => h9) (v := rfv z (wR w a0 1)) rfl dJ9_add_13 ?_
  refine lv_aload_n hx hb dJ9_add_16 rfl (lv_at hl 0 rfl) ?_
  refine x_get (k := 2) (o := "java/util/ArrayList") (n := "size") (d := "I") (fin := false) (ty := .int) (host := "BarredBooks") hx hb hts hown hK hR rfl (Fam.one (r := (RJ9, TJ9, 3)) ht0 rfl ok26 (by decide)) (Or.inl (hts _ q890)) (fun _ h9 => h9) (v := .int (wI w a0 2)) (by simp [fv, ftS, wI_sI, wI_sR, wI_sL, wL_sL, wL_sI, wL_sR, wR_sR, wR_sI, wR_sL]) dJ9_add_17 ?_
  have ez7 : wZ (sI w a0 0 ((wI w a0 0) + (1 : Int32))) = wZ w := rfl
  obtain ⟨⟨v1 | x2, qw3⟩, hq4, h⟩ := bnd h
  rotate_left
  · dsimp only at h
    obtain ⟨hz5, h⟩ := grd h
    have h := Option.some.inj h
    subst h
    refine k_TT (w := qw3) (x := x2) (mc := wZ qw3 - wZ (sI w a0 0 ((wI w a0 0) + (1 : Int32)))) (ms := 80 * (wZ qw3 - wZ (sI w a0 0 ((wI w a0 0) + (1 : Int32))))) (runT_V (As := [rfv z a1, rfv z (wR w a0 1), .int (wI w a0 2)]) (rest := []) ⟨hx, hb, hml, hown, hts⟩ (met_J9_add_2L l htr G z H0 B n (sI w a0 0 ((wI w a0 0) + (1 : Int32))) a0 a1 (wR w a0 1) (wI w a0 2) (.inr x2, qw3) hq4 ht0 hZ.2) hd_J9_add_2 q1105 q1107 qs18 q126 q1108 ⟨Nat.le_of_ble_eq_true rfl, Nat.le_of_ble_eq_true rfl⟩ (preVT (q := (RJ9, TJ9, 3)) hK hR hF hN hS ht0 rfl) rfl rfl hl.1 rfl (lv_room (Nat.le_of_ble_eq_true rfl)) dJ9_add_20 ⟨by dsimp only; omega, by dsimp only; omega⟩) hL (fun H locs hR hF hL => ?_)
    refine WT.widen (k := wZ qw3 - z0) (n := 80 * (wZ qw3 - z0)) (by omega) (by omega) ?_
    exact WT.leave (fun x9 hx9 => hnoh x9 hx9 20) (fun t ht _ => ⟨rfl, by rw [ht]; exact hR, hF⟩) hL hlocks
  dsimp only at h
  obtain ⟨hz5, h⟩ := grd h
  refine k_TR (v := none) (w := qw3) (mc := wZ qw3 - wZ (sI w a0 0 ((wI w a0 0) + (1 : Int32)))) (ms := 80 * (wZ qw3 - wZ (sI w a0 0 ((wI w a0 0) + (1 : Int32))))) (st1 := []) (runT_V (As := [rfv z a1, rfv z (wR w a0 1), .int (wI w a0 2)]) (rest := []) ⟨hx, hb, hml, hown, hts⟩ (met_J9_add_2L l htr G z H0 B n (sI w a0 0 ((wI w a0 0) + (1 : Int32))) a0 a1 (wR w a0 1) (wI w a0 2) (.inl v1, qw3) hq4 ht0 hZ.2) hd_J9_add_2 q1105 q1107 qs18 q126 q1108 ⟨Nat.le_of_ble_eq_true rfl, Nat.le_of_ble_eq_true rfl⟩ (preVT (q := (RJ9, TJ9, 3)) hK hR hF hN hS ht0 rfl) rfl rfl hl.1 rfl (lv_room (Nat.le_of_ble_eq_true rfl)) dJ9_add_20 ⟨by dsimp only; omega, by dsimp only; omega⟩) hL rfl (fun H locs hR hF hL => ?_)
  refine W.wid (b := wZ qw3) (by omega) hZ.1 (Nat.le_refl _) ?_
  have hZ : z0 ≤ wZ qw3 ∧ wZ qw3 ≤ B := ⟨by omega, hz5.2⟩
  refine lv_iconst (v := 1) hx hb dJ9_add_23 (by decide) ?_
  have h := Option.some.inj h
  subst h
  exact W.toT (W.zret (v := bI true) hx hb hr (bI_nar _) (fun t ht _ => ⟨rfl, by rw [ht]; exact hR, hF⟩) hL dJ9_add_24)
def f_J9_add (B n : Nat) (a0 : Nat) (a1 : Option Nat) (w : Wd) : Option ((Bool ⊕ Nat) × Wd) :=
  if (wT w a0).1 = 100 then f_J9_addE B n a0 a1 w else f_J9_addL B n a0 a1 w
theorem met_J9_add (l : Launch) (htr : ∀ e, l.admits e → e.platform.stackTraces = false) (G : Gw) (z : Nat) (H0 : Heap) (B n : Nat) (w : Wd) (a0 : Nat) (a1 : Option Nat) (q : (Bool ⊕ Nat) × Wd) (h : f_J9_add B n a0 a1 w = some q) (ht0 : (wT w a0).1 = 27 ∨ (wT w a0).1 = 100) (hB : wZ w ≤ B) : MetT l yJ9_add (ws_ yJ9_add cJ9_add 2 (some .boolean)) ({ frames := 6, cells := B - wZ w, slots := 80 * (B - wZ w), locals := 170 } : Room) (pcT G z H0 w [.ref (z + a0), rfv z a1]) (qT G z H0 q.2 (cvB q.1)) (wZ q.2 - wZ w) (80 * (wZ q.2 - wZ w)) (fun q => z ≤ q) := by
  unfold f_J9_add at h
  by_cases ht : (wT w a0).1 = 100
  · rw [if_pos ht] at h
    exact met_J9_addE l htr G z H0 B n w a0 a1 q h ht hB
  · rw [if_neg ht] at h
    exact met_J9_addL l htr G z H0 B n w a0 a1 q h (by omega) hB
def f_X23_init (B n : Nat) (a0 : Nat) (a1 : Int32) (w : Wd) : Option ((Unit ⊕ Nat) × Wd) :=
  if wZ w + 1 ≤ B then ((f_J9_init B n (wZ w) (sN w 27 0)).bind fun q10 => (match q10 with | (.inl v5, qw7) => if wZ (sN w 27 0) ≤ wZ qw7 ∧ wZ qw7 ≤ B then (if (wT qw7 a0).1 = 23 then (if 108 ≤ a0 then (if a1 = 0 ∨ a1 = 1 then (some (.inl (), sI (sR qw7 a0 1 (some (wZ w))) a0 0 a1)) else none) else none) else none) else none | (.inr x6, qw7) => if wZ (sN w 27 0) ≤ wZ qw7 ∧ wZ qw7 ≤ B then (some (.inr x6, qw7)) else none)) else none
theorem hd_X23_init : yX23_init.cls ≠ "java/lang/invoke/MethodHandle" ∧ yX23_init.cls ≠ "java/lang/invoke/VarHandle" ∧ (parseMethodDescriptor yX23_init.desc).map (fun d => d.parameters.length) = some 1 := by decide +kernel
set_option maxHeartbeats 4000000 in
set_option maxRecDepth 100000 in
theorem met_X23_init (l : Launch) (htr : ∀ e, l.admits e → e.platform.stackTraces = false) (G : Gw) (z : Nat) (H0 : Heap) (B n : Nat) (w : Wd) (a0 : Nat) (a1 : Int32) (q : (Unit ⊕ Nat) × Wd) (h : f_X23_init B n a0 a1 w = some q) (ht0 : (wT w a0).1 = 23) (hB : wZ w ≤ B) : MetT l yX23_init (ws_ yX23_init cX23_init 2 none) ({ frames := 4, cells := B - wZ w, slots := 80 * (B - wZ w), locals := 80 } : Room) (pcT G z H0 w [.ref (z + a0), .int a1]) (qT G z H0 q.2 (cvV q.1)) (wZ q.2 - wZ w) (80 * (wZ q.2 - wZ w)) (fun q => z ≤ q) := by
  refine mT (by decide) (Nat.le_of_ble_eq_true rfl) ?_
  intro p e s m below meth c ls hx hb hr hml hown hts hlocks hnm hnoh hK hR hF hN hS hl
  have hown : s.vm.findClass RX23 = some m.cls := hown
  have hl : lv_has ls 2 [(0, .ref (z + a0)), (1, .int a1)] := hl
  have hL : lok z [] := lok_nil
  unfold f_X23_init at h
  obtain ⟨z0, hz0⟩ : ∃ z0, wZ w = z0 := ⟨_, rfl⟩
  rw [hz0]
  refine W.widen (k := wZ w - z0) (n := 80 * (wZ w - z0)) (Nat.zero_le _) (Nat.zero_le _) ?_
  have hZ : z0 ≤ wZ w ∧ wZ w ≤ B := ⟨by omega, hB⟩
  generalize s.heap = H at hR ⊢
  generalize ([] : List Loc) = locs at hL ⊢
  refine lv_aload_n hx hb dX23_init_0 rfl (lv_at hl 0 rfl) ?_
  refine k_P (st1 := []) (va_runIN (As := []) (rest := []) ⟨hx, hb, hml, hown, hts⟩ (met_X22_init l G z H0 w a0 _ rfl (by omega)) ⟨va_cnB (host := "BarredBooks") 0 hts (lw_meth q1054) rfl rfl rfl (hN.at q1052 rfl) (hts _ q135) hd_X22_init ⟨Nat.le_of_ble_eq_true rfl, Nat.le_of_ble_eq_true rfl⟩, rfl, hts _ q1053⟩ (preS hK hR hF hN) rfl rfl hl.1 rfl (lv_room (Nat.le_of_ble_eq_true rfl)) dX23_init_1 ⟨by dsimp only; omega, by dsimp only; omega⟩) hL rfl (fun locs hL => ?_)
  refine W.wid (b := wZ w) (Nat.le_refl _) hZ.1 (Nat.le_refl _) ?_
  refine lv_aload_n hx hb dX23_init_4 rfl (lv_at hl 0 rfl) ?_
  obtain ⟨hz1, h⟩ := grd h
  have hs2 : wT (sN w 27 0) a0 = wT w a0 := tag_sN hR (by rw [ht0]; decide)
  refine x_new (C := RJ9) (T := TJ9) (N := 3) (nS := 3) (ci := 26) hx hb hts ok26 hown (hts _ q1056) (hts _ q876) (hts _ q126) hK hR rfl (ty_ok26) (by dsimp only; omega) (by dsimp only; omega) dX23_init_5 (fun H hR => ?_)
  have hF := hF.sN 27 0
  rw [← hs2] at ht0
  have ez3 : wZ (sN w 27 0) = wZ w + 1 := rfl
  refine W.wid (b := wZ (sN w 27 0)) (by omega) hZ.1 (by decide) ?_
  have hZ : z0 ≤ wZ (sN w 27 0) ∧ wZ (sN w 27 0) ≤ B := ⟨by omega, by omega⟩
  have hg4 : (wT (sN w 27 0) (wZ w)).1 = 27 := by rw [wT_sN, if_pos rfl]
  refine lv_dup hx hb dX23_init_8 rfl ?_
  obtain ⟨⟨v5 | x6, qw7⟩, hq8, h⟩ := bnd h
  rotate_left
  · dsimp only at h
    obtain ⟨hz9, h⟩ := grd h
    have h := Option.some.inj h
    subst h
    refine k_TT (w := qw7) (x := x6) (mc := wZ qw7 - wZ (sN w 27 0)) (ms := 80 * (wZ qw7 - wZ (sN w 27 0))) (runT_I (As := []) (rest := [.ref (z + wZ w), .ref (z + a0)]) ⟨hx, hb, hml, hown, hts⟩ (met_J9_init l htr G z H0 B n (sN w 27 0) (wZ w) (.inr x6, qw7) hq8 hg4 hZ.2) hd_J9_init q1057 q878 rfl q126 q879 ⟨Nat.le_of_ble_eq_true rfl, Nat.le_of_ble_eq_true rfl⟩ (preST hK hR hF hN hS) rfl rfl hl.1 rfl (lv_room (Nat.le_of_ble_eq_true rfl)) dX23_init_9 ⟨by dsimp only; omega, by dsimp only; omega⟩) hL (fun H locs hR hF hL => ?_)
    refine WT.widen (k := wZ qw7 - z0) (n := 80 * (wZ qw7 - z0)) (by omega) (by omega) ?_
    exact WT.leave (fun x9 hx9 => hnoh x9 hx9 9) (fun t ht _ => ⟨rfl, by rw [ht]; exact hR, hF⟩) hL hlocks
  dsimp only at h
  obtain ⟨hz9, h⟩ := grd h
  refine k_TR (v := none) (w := qw7) (mc := wZ qw7 - wZ (sN w 27 0)) (ms := 80 * (wZ qw7 - wZ (sN w 27 0))) (st1 := [.ref (z + wZ w), .ref (z + a0)]) (runT_I (As := []) (rest := [.ref (z + wZ w), .ref (z + a0)]) ⟨hx, hb, hml, hown, hts⟩ (met_J9_init l htr G z H0 B n (sN w 27 0) (wZ w) (.inl v5, qw7) hq8 hg4 hZ.2) hd_J9_init q1057 q878 rfl q126 q879 ⟨Nat.le_of_ble_eq_true rfl, Nat.le_of_ble_eq_true rfl⟩ (preST hK hR hF hN hS) rfl rfl hl.1 rfl (lv_room (Nat.le_of_ble_eq_true rfl)) dX23_init_9 ⟨by dsimp only; omega, by dsimp only; omega⟩) hL rfl (fun H locs hR hF hL => ?_)
  refine W.wid (b := wZ qw7) (by omega) hZ.1 (Nat.le_refl _) ?_
  have hZ : z0 ≤ wZ qw7 ∧ wZ qw7 ≤ B := ⟨by omega, hz9.2⟩
  obtain ⟨hg11, h⟩ := grd h
  obtain ⟨hd12, h⟩ := grd h
  refine x_putR (k := 1) (o := "BarredBooks$Some") (n := "of") (d := "Ljava/util/ArrayList;") (fin := true) (ty := (.object "java/util/ArrayList")) (v := some (wZ w)) (host := "BarredBooks") hx hb hts hown hK hR hL rfl (Fam.one (r := (RX23, TX23, 2)) hg11 rfl ok22 (by decide)) (Or.inl (hts _ q1059)) (fun _ h9 => h9) (Or.inr ⟨rfl, hnm, rfl⟩) rfl rfl dX23_init_12 (fun H locs hR hL => ?_)
  rw [← wT_sR _ a0 1 (some (wZ w))] at hg11
  have hF := hF.sR (a := a0) (f := 1) (v := some (wZ w)) (fixR_dyn hd12)
  refine lv_aload_n hx hb dX23_init_15 rfl (lv_at hl 0 rfl) ?_
  refine lv_iload_n hx hb dX23_init_16 rfl (lv_at hl 1 rfl) ?_
  obtain ⟨hz13, h⟩ := grd h
  refine x_putI (k := 0) (o := "BarredBooks$Some") (n := "isAll") (d := "Z") (fin := true) (ty := .boolean) (host := "BarredBooks") hx hb hts hown hK hR hL rfl (Fam.one (r := (RX23, TX23, 2)) hg11 rfl ok22 (by decide)) (Or.inl (hts _ q1058)) (fun _ h9 => h9) (Or.inr ⟨rfl, hnm, rfl⟩) rfl (nar_bool hz13) (fit_bool hz13) dX23_init_17 (fun H locs hR hL => ?_)
  rw [← wT_sI _ a0 0 a1] at hg11
  have hF := hF.sI a0 0 a1
  have h := Option.some.inj h
  subst h
  refine W.widen (k := wZ (sI (sR qw7 a0 1 (some (wZ w))) a0 0 a1) - z0) (n := 80 * (wZ (sI (sR qw7 a0 1 (some (wZ w))) a0 0 a1) - z0)) (Nat.le_refl _) (Nat.le_refl _) ?_
  exact W.toT (W.vret hx hb hr (fun t ht _ => ⟨rfl, by rw [ht]; exact hR, hF⟩) hL dX23_init_20)
def f_X16_init (B n : Nat) (a0 : Nat) (w : Wd) : Option ((Unit ⊕ Nat) × Wd) :=
  if wZ w + 1 ≤ B then ((f_J9_init B n (wZ (sI w a0 1 (-1 : Int32))) (sN (sI w a0 1 (-1 : Int32)) 27 0)).bind fun q10 => (match q10 with | (.inl v5, qw7) => if wZ (sN (sI w a0 1 (-1 : Int32)) 27 0) ≤ wZ qw7 ∧ wZ qw7 ≤ B then (if (wT qw7 a0).1 = 17 then (if 108 ≤ a0 then (some (.inl (), sR qw7 a0 2 (some (wZ (sI w a0 1 (-1 : Int32)))))) else none) else none) else none | (.inr x6, qw7) => if wZ (sN (sI w a0 1 (-1 : Int32)) 27 0) ≤ wZ qw7 ∧ wZ qw7 ≤ B then (some (.inr x6, qw7)) else none)) else none
theorem hd_X16_init : yX16_init.cls ≠ "java/lang/invoke/MethodHandle" ∧ yX16_init.cls ≠ "java/lang/invoke/VarHandle" ∧ (parseMethodDescriptor yX16_init.desc).map (fun d => d.parameters.length) = some 0 := by decide +kernel
set_option maxHeartbeats 4000000 in
set_option maxRecDepth 100000 in
theorem met_X16_init (l : Launch) (htr : ∀ e, l.admits e → e.platform.stackTraces = false) (G : Gw) (z : Nat) (H0 : Heap) (B n : Nat) (w : Wd) (a0 : Nat) (q : (Unit ⊕ Nat) × Wd) (h : f_X16_init B n a0 w = some q) (ht0 : (wT w a0).1 = 17) (hB : wZ w ≤ B) : MetT l yX16_init (ws_ yX16_init cX16_init 1 none) ({ frames := 4, cells := B - wZ w, slots := 80 * (B - wZ w), locals := 80 } : Room) (pcT G z H0 w [.ref (z + a0)]) (qT G z H0 q.2 (cvV q.1)) (wZ q.2 - wZ w) (80 * (wZ q.2 - wZ w)) (fun q => z ≤ q) := by
  refine mT (by decide) (Nat.le_of_ble_eq_true rfl) ?_
  intro p e s m below meth c ls hx hb hr hml hown hts hlocks hnm hnoh hK hR hF hN hS hl
  have hown : s.vm.findClass RX16 = some m.cls := hown
  have hl : lv_has ls 1 [(0, .ref (z + a0))] := hl
  have hL : lok z [] := lok_nil
  unfold f_X16_init at h
  obtain ⟨z0, hz0⟩ : ∃ z0, wZ w = z0 := ⟨_, rfl⟩
  rw [hz0]
  refine W.widen (k := wZ w - z0) (n := 80 * (wZ w - z0)) (Nat.zero_le _) (Nat.zero_le _) ?_
  have hZ : z0 ≤ wZ w ∧ wZ w ≤ B := ⟨by omega, hB⟩
  generalize s.heap = H at hR ⊢
  generalize ([] : List Loc) = locs at hL ⊢
  refine lv_aload_n hx hb dX16_init_0 rfl (lv_at hl 0 rfl) ?_
  refine W.objInit hx hb hown (hts _ q874) (hts _ q156) (hts _ q157) rfl (hl.1.trans hml.symm) rfl dX16_init_1 (Nat.le_of_ble_eq_true rfl) (Nat.le_of_ble_eq_true rfl) ?_
  refine lv_aload_n hx hb dX16_init_4 rfl (lv_at hl 0 rfl) ?_
  refine lv_iconst (v := -1) hx hb dX16_init_5 (by decide) ?_
  refine x_putI (k := 1) (o := "BarredBooks$Decree") (n := "revoked") (d := "I") (fin := false) (ty := .int) (host := "BarredBooks") hx hb hts hown hK hR hL rfl (Fam.one (r := (RX16, TX16, 3)) ht0 rfl ok16 (by decide)) (Or.inl (hts _ q902)) (fun _ h9 => h9) (Or.inl rfl) rfl rfl rfl dX16_init_6 (fun H locs hR hL => ?_)
  rw [← wT_sI _ a0 1 (-1 : Int32)] at ht0
  have hF := hF.sI a0 1 (-1 : Int32)
  refine lv_aload_n hx hb dX16_init_9 rfl (lv_at hl 0 rfl) ?_
  obtain ⟨hz1, h⟩ := grd h
  have hs2 : wT (sN (sI w a0 1 (-1 : Int32)) 27 0) a0 = wT (sI w a0 1 (-1 : Int32)) a0 := tag_sN hR (by rw [ht0]; decide)
  refine x_new (C := RJ9) (T := TJ9) (N := 3) (nS := 3) (ci := 26) hx hb hts ok26 hown (hts _ q875) (hts _ q876) (hts _ q126) hK hR rfl (ty_ok26) (by dsimp only; omega) (by dsimp only; omega) dX16_init_10 (fun H hR => ?_)
  have hF := hF.sN 27 0
  rw [← hs2] at ht0
  have ez3 : wZ (sN (sI w a0 1 (-1 : Int32)) 27 0) = wZ w + 1 := rfl
  refine W.wid (b := wZ (sN (sI w a0 1 (-1 : Int32)) 27 0)) (by omega) hZ.1 (by decide) ?_
  have hZ : z0 ≤ wZ (sN (sI w a0 1 (-1 : Int32)) 27 0) ∧ wZ (sN (sI w a0 1 (-1 : Int32)) 27 0) ≤ B := ⟨by omega, by omega⟩
  have hg4 : (wT (sN (sI w a0 1 (-1 : Int32)) 27 0) (wZ (sI w a0 1 (-1 : Int32)))).1 = 27 := by rw [wT_sN, if_pos rfl]
  refine lv_dup hx hb dX16_init_13 rfl ?_
  obtain ⟨⟨v5 | x6, qw7⟩, hq8, h⟩ := bnd h
  rotate_left
  · dsimp only at h
    obtain ⟨hz9, h⟩ := grd h
    have h := Option.some.inj h
    subst h
    refine k_TT (w := qw7) (x := x6) (mc := wZ qw7 - wZ (sN (sI w a0 1 (-1 : Int32)) 27 0)) (ms := 80 * (wZ qw7 - wZ (sN (sI w a0 1 (-1 : Int32)) 27 0))) (runT_I (As := []) (rest := [.ref (z + wZ (sI w a0 1 (-1 : Int32))), .ref (z + a0)]) ⟨hx, hb, hml, hown, hts⟩ (met_J9_init l htr G z H0 B n (sN (sI w a0 1 (-1 : Int32)) 27 0) (wZ (sI w a0 1 (-1 : Int32))) (.inr x6, qw7) hq8 hg4 hZ.2) hd_J9_init q877 q878 rfl q126 q879 ⟨Nat.le_of_ble_eq_true rfl, Nat.le_of_ble_eq_true rfl⟩ (preST hK hR hF hN hS) rfl rfl hl.1 rfl (lv_room (Nat.le_of_ble_eq_true rfl)) dX16_init_14 ⟨by dsimp only; omega, by dsimp only; omega⟩) hL (fun H locs hR hF hL => ?_)
    refine WT.widen (k := wZ qw7 - z0) (n := 80 * (wZ qw7 - z0)) (by omega) (by omega) ?_
    exact WT.leave (fun x9 hx9 => hnoh x9 hx9 14) (fun t ht _ => ⟨rfl, by rw [ht]; exact hR, hF⟩) hL hlocks
  dsimp only at h
  obtain ⟨hz9, h⟩ := grd h
  refine k_TR (v := none) (w := qw7) (mc := wZ qw7 - wZ (sN (sI w a0 1 (-1 : Int32)) 27 0)) (ms := 80 * (wZ qw7 - wZ (sN (sI w a0 1 (-1 : Int32)) 27 0))) (st1 := [.ref (z + wZ (sI w a0 1 (-1 : Int32))), .ref (z + a0)]) (runT_I (As := []) (rest := [.ref (z + wZ (sI w a0 1 (-1 : Int32))), .ref (z + a0)]) ⟨hx, hb, hml, hown, hts⟩ (met_J9_init l htr G z H0 B n (sN (sI w a0 1 (-1 : Int32)) 27 0) (wZ (sI w a0 1 (-1 : Int32))) (.inl v5, qw7) hq8 hg4 hZ.2) hd_J9_init q877 q878 rfl q126 q879 ⟨Nat.le_of_ble_eq_true rfl, Nat.le_of_ble_eq_true rfl⟩ (preST hK hR hF hN hS) rfl rfl hl.1 rfl (lv_room (Nat.le_of_ble_eq_true rfl)) dX16_init_14 ⟨by dsimp only; omega, by dsimp only; omega⟩) hL rfl (fun H locs hR hF hL => ?_)
  refine W.wid (b := wZ qw7) (by omega) hZ.1 (Nat.le_refl _) ?_
  have hZ : z0 ≤ wZ qw7 ∧ wZ qw7 ≤ B := ⟨by omega, hz9.2⟩
  obtain ⟨hg11, h⟩ := grd h
  obtain ⟨hd12, h⟩ := grd h
  refine x_putR (k := 2) (o := "BarredBooks$Decree") (n := "clauses") (d := "Ljava/util/ArrayList;") (fin := true) (ty := (.object "java/util/ArrayList")) (v := some (wZ (sI w a0 1 (-1 : Int32)))) (host := "BarredBooks") hx hb hts hown hK hR hL rfl (Fam.one (r := (RX16, TX16, 3)) hg11 rfl ok16 (by decide)) (Or.inl (hts _ q904)) (fun _ h9 => h9) (Or.inr ⟨rfl, hnm, rfl⟩) rfl rfl dX16_init_17 (fun H locs hR hL => ?_)
  rw [← wT_sR _ a0 2 (some (wZ (sI w a0 1 (-1 : Int32))))] at hg11
  have hF := hF.sR (a := a0) (f := 2) (v := some (wZ (sI w a0 1 (-1 : Int32)))) (fixR_dyn hd12)
  have h := Option.some.inj h
  subst h
  refine W.widen (k := wZ (sR qw7 a0 2 (some (wZ (sI w a0 1 (-1 : Int32))))) - z0) (n := 80 * (wZ (sR qw7 a0 2 (some (wZ (sI w a0 1 (-1 : Int32))))) - z0)) (Nat.le_refl _) (Nat.le_refl _) ?_
  exact W.toT (W.vret hx hb hr (fun t ht _ => ⟨rfl, by rw [ht]; exact hR, hF⟩) hL dX16_init_20)
