def f_X0_initN_L244 (n : Nat) (u2_1 : Int32) (u2_0 : Nat) (s2 : Int32 × Wd) : Option ((Int32 × Wd) ⊕ ((Int32 × Wd))) :=
  if (8 : Int32) ≤ s2.1 then (some (.inr (s2.1, s2.2))) else (if (wT s2.2 u2_0).1 = 1 then ((wR s2.2 u2_0 1).bind fun r108 => if (wT s2.2 r108).1 = 206 then (if inb u2_1 (wT s2.2 r108).2 then (if u2_1 = s2.1 then ((wR s2.2 r108 u2_1.toNatClampNeg).bind fun r117 => if (wT s2.2 r117).1 = 200 then (if inb s2.1 (wT s2.2 r117).2 then (some (.inl (s2.1 + (1 : Int32), sI s2.2 r117 s2.1.toNatClampNeg (0 : Int32)))) else none) else none) else ((wR s2.2 r108 u2_1.toNatClampNeg).bind fun r113 => if (wT s2.2 r113).1 = 200 then (if inb s2.1 (wT s2.2 r113).2 then (some (.inl (s2.1 + (1 : Int32), sI s2.2 r113 s2.1.toNatClampNeg (9999 : Int32)))) else none) else none)) else none) else none) else none)
def f_X0_initN_L284 (n : Nat) (u1_0 : Nat) (s1 : Int32 × Wd) : Option ((Int32 × Wd) ⊕ ((Int32 × Wd))) :=
  if (6 : Int32) ≤ s1.1 then (if s1.1.toNatClampNeg ≤ 6 then (some (.inr (s1.1, s1.2))) else none) else (if s1.1.toNatClampNeg < 6 ∧ (s1.1 + (1 : Int32)).toNatClampNeg = s1.1.toNatClampNeg + 1 then (if (wT s1.2 u1_0).1 = 1 then ((f_X3_initN (wZ s1.2) (sN s1.2 4 0)).bind fun q127 => (wR s1.2 u1_0 16).bind fun r129 => if (wT q127 r129).1 = 212 then (if inb s1.1 (wT q127 r129).2 then (if (wT q127 (wZ s1.2)).1 = 4 then (some (.inl (s1.1 + (1 : Int32), sR q127 r129 s1.1.toNatClampNeg (some (wZ s1.2))))) else none) else none) else none) else none) else none)
def f_X0_initN_L236 (n : Nat) (u1_0 : Nat) (s1 : Int32 × Wd) : Option ((Int32 × Wd) ⊕ ((Int32 × Wd))) :=
  if (8 : Int32) ≤ s1.1 then (some (.inr (s1.1, s1.2))) else ((it n (f_X0_initN_L244 n s1.1 u1_0) ((0 : Int32), s1.2)).bind fun q244_276 => some (.inl (s1.1 + (1 : Int32), q244_276.2)))
def f_X0_initN (n : Nat) (a0 : Nat) (w : Wd) : Option (Wd) :=
  (some (sR (sM w 8 8) a0 1 (some (wZ w)))).bind fun w3 => (some (sR (sN w3 207 16) a0 2 (some (wZ w3)))).bind fun w7 => (some (sR (sN w7 208 16) a0 4 (some (wZ w7)))).bind fun w11 => (some (sR (sN w11 209 24) a0 6 (some (wZ w11)))).bind fun w15 => (some (sR (sN w15 210 50) a0 8 (some (wZ w15)))).bind fun w19 => (f_X1_initN (wZ w19) (sN w19 2 0)).bind fun q23 => if (wT q23 a0).1 = 1 then ((some (sR q23 a0 10 (some (wZ w19)))).bind fun w26 => (some (sR (sN w26 201 120) a0 11 (some (wZ w26)))).bind fun w30 => (some (sR (sN w30 211 16) a0 13 (some (wZ w30)))).bind fun w34 => (f_X2_initN (wZ w34) (sN w34 3 0)).bind fun q38 => if (wT q38 a0).1 = 1 then ((some (sR q38 a0 15 (some (wZ w34)))).bind fun w41 => (some (sR (sN w41 212 6) a0 16 (some (wZ w41)))).bind fun w45 => (some (sR (sN w45 200 30) a0 17 (some (wZ w45)))).bind fun w49 => (some (sR (sN w49 200 30) a0 18 (some (wZ w49)))).bind fun w53 => (some (sR (sN w53 200 30) a0 19 (some (wZ w53)))).bind fun w57 => (some (sR (sN w57 200 30) a0 20 (some (wZ w57)))).bind fun w61 => (some (sR (sN w61 213 40) a0 22 (some (wZ w61)))).bind fun w65 => (some (sR (sN w65 200 16) a0 24 (some (wZ w65)))).bind fun w69 => (some (sR (sM w69 8 7) a0 25 (some (wZ w69)))).bind fun w73 => (some (sR (sM w73 9 31) a0 26 (some (wZ w73)))).bind fun w77 => (some (sR (sN w77 214 8) a0 27 (some (wZ w77)))).bind fun w81 => (some (sR (sN w81 200 20) a0 29 (some (wZ w81)))).bind fun w85 => (some (sR (sN w85 200 20) a0 30 (some (wZ w85)))).bind fun w89 => (some (sR (sN w89 209 60) a0 34 (some (wZ w89)))).bind fun w93 => (some (sR (sN w93 200 200) a0 36 (some (wZ w93)))).bind fun w97 => (some (sR (sN w97 200 200) a0 37 (some (wZ w97)))).bind fun w101 => (it n (f_X0_initN_L236 n a0) ((0 : Int32), sR (sN w101 200 200) a0 38 (some (wZ w101)))).bind fun q236_282 => (it n (f_X0_initN_L284 n a0) ((0 : Int32), q236_282.2)).bind fun q284_309 => some q284_309.2) else none) else none
theorem hd_X0_initN : yX0_init.cls ≠ "java/lang/invoke/MethodHandle" ∧ yX0_init.cls ≠ "java/lang/invoke/VarHandle" ∧ (parseMethodDescriptor yX0_init.desc).map (fun d => d.parameters.length) = some 0 := by decide +kernel
set_option maxHeartbeats 4000000 in
set_option maxRecDepth 100000 in
theorem met_X0_initN (l : Launch) (G : Gw) (z : Nat) (H0 : Heap) (n : Nat) (w : Wd) (a0 : Nat) (q : Wd) (h : f_X0_initN n a0 w = some q) (ht0 : (wT w a0).1 = 1) : Met l yX0_init (ws_ yX0_init cX0_init 3 none) ({ frames := 2, cells := 57, slots := 1586, locals := 40 } : Room) (pcInA G z H0 w [.ref (z + a0)]) (qIn G z H0 q none) 57 1586 (fun q => z ≤ q) := by
  refine mInA (by decide) (Nat.le_of_ble_eq_true rfl) ?_
  intro p e s m below meth c ls hA hx hb hr hml hown hts hlocks hnm hK hR hN hl
  have hown : s.vm.findClass RX0 = some m.cls := hown
  have hl : lv_has ls 3 [(0, .ref (z + a0))] := hl
  have hL : lok z [] := lok_nil
  unfold f_X0_initN at h
  generalize s.heap = H at hR ⊢
  generalize ([] : List Loc) = locs at hL ⊢
  refine lv_aload_n hx hb dX0_init_0 rfl (lv_at hl 0 rfl) ?_
  refine W.objInit hx hb hown (hts _ q155) (hts _ q156) (hts _ q157) rfl (hl.1.trans hml.symm) rfl dX0_init_1 (Nat.le_of_ble_eq_true rfl) (Nat.le_of_ble_eq_true rfl) ?_
  refine lv_aload_n hx hb dX0_init_4 rfl (lv_at hl 0 rfl) ?_
  refine lv_bipush (v := 8) hx hb dX0_init_5 (by decide) ?_
  refine lv_bipush (v := 8) hx hb dX0_init_7 (by decide) ?_
  have hs1 : wT (sM w 8 8) a0 = wT w a0 := tag_sM hR (by rw [ht0]; decide)
  refine x_multi (k := 8) (n := 8) hx hb hown (hts _ q158) hK hA hR hL (by decide) (by decide) (by decide) (by decide) (by decide) (by decide) (by decide) (by decide) (by decide) dX0_init_9 (fun H locs hR hL => ?_)
  rw [← hs1] at ht0
  have hg2 : (wT (sM w 8 8) (wZ w)).1 = 206 := tag_sMo _ _ _
  refine x_putR (k := 1) (o := "BarredBooks") (n := "way") (d := "[[I") (fin := true) (ty := (.array (.array .int))) (v := some (wZ w)) (host := "BarredBooks") hx hb hts hown hK hR hL rfl (Fam.one (r := (RX0, TX0, 40)) ht0 rfl ok0 (by decide)) (Or.inl (hts _ q220)) (fun _ h9 => h9) (Or.inr ⟨rfl, hnm, rfl⟩) rfl rfl dX0_init_13 (fun H locs hR hL => ?_)
  rw [← wT_sR _ a0 1 (some (wZ w))] at ht0
  rw [← wT_sR _ a0 1 (some (wZ w))] at hg2
  obtain ⟨w3, hw4, h⟩ := bnd h
  have hw4 := Option.some.inj hw4
  rw [hw4] at hR ht0
  refine lv_aload_n hx hb dX0_init_16 rfl (lv_at hl 0 rfl) ?_
  refine lv_bipush (v := 16) hx hb dX0_init_17 (by decide) ?_
  have hs5 : wT (sN w3 207 16) a0 = wT w3 a0 := tag_sN hR (by rw [ht0]; decide)
  refine x_anewa (t := 7) (N := 16) hx hb hown (hts _ q160) hN hK hR (by decide) rfl (by decide) (by decide) (by decide) (by decide) (by decide) dX0_init_19 (fun H hR => ?_)
  rw [← hs5] at ht0
  have hg6 : (wT (sN w3 207 16) (wZ w3)).1 = 207 := by rw [wT_sN, if_pos rfl]
  refine x_putR (k := 2) (o := "BarredBooks") (n := "persons") (d := "[LBarredBooks$Person;") (fin := true) (ty := (.array (.object "BarredBooks$Person"))) (v := some (wZ w3)) (host := "BarredBooks") hx hb hts hown hK hR hL rfl (Fam.one (r := (RX0, TX0, 40)) ht0 rfl ok0 (by decide)) (Or.inl (hts _ q221)) (fun _ h9 => h9) (Or.inr ⟨rfl, hnm, rfl⟩) rfl rfl dX0_init_22 (fun H locs hR hL => ?_)
  rw [← wT_sR _ a0 2 (some (wZ w3))] at ht0
  rw [← wT_sR _ a0 2 (some (wZ w3))] at hg6
  obtain ⟨w7, hw8, h⟩ := bnd h
  have hw8 := Option.some.inj hw8
  rw [hw8] at hR ht0
  refine lv_aload_n hx hb dX0_init_25 rfl (lv_at hl 0 rfl) ?_
  refine lv_bipush (v := 16) hx hb dX0_init_26 (by decide) ?_
  have hs9 : wT (sN w7 208 16) a0 = wT w7 a0 := tag_sN hR (by rw [ht0]; decide)
  refine x_anewa (t := 8) (N := 16) hx hb hown (hts _ q162) hN hK hR (by decide) rfl (by decide) (by decide) (by decide) (by decide) (by decide) dX0_init_28 (fun H hR => ?_)
  rw [← hs9] at ht0
  have hg10 : (wT (sN w7 208 16) (wZ w7)).1 = 208 := by rw [wT_sN, if_pos rfl]
  refine x_putR (k := 4) (o := "BarredBooks") (n := "books") (d := "[LBarredBooks$Book;") (fin := true) (ty := (.array (.object "BarredBooks$Book"))) (v := some (wZ w7)) (host := "BarredBooks") hx hb hts hown hK hR hL rfl (Fam.one (r := (RX0, TX0, 40)) ht0 rfl ok0 (by decide)) (Or.inl (hts _ q223)) (fun _ h9 => h9) (Or.inr ⟨rfl, hnm, rfl⟩) rfl rfl dX0_init_31 (fun H locs hR hL => ?_)
  rw [← wT_sR _ a0 4 (some (wZ w7))] at ht0
  rw [← wT_sR _ a0 4 (some (wZ w7))] at hg10
  obtain ⟨w11, hw12, h⟩ := bnd h
  have hw12 := Option.some.inj hw12
  rw [hw12] at hR ht0
  refine lv_aload_n hx hb dX0_init_34 rfl (lv_at hl 0 rfl) ?_
  refine lv_bipush (v := 24) hx hb dX0_init_35 (by decide) ?_
  have hs13 : wT (sN w11 209 24) a0 = wT w11 a0 := tag_sN hR (by rw [ht0]; decide)
  refine x_anewa (t := 9) (N := 24) hx hb hown (hts _ q164) hN hK hR (by decide) rfl (by decide) (by decide) (by decide) (by decide) (by decide) dX0_init_37 (fun H hR => ?_)
  rw [← hs13] at ht0
  have hg14 : (wT (sN w11 209 24) (wZ w11)).1 = 209 := by rw [wT_sN, if_pos rfl]
  refine x_putR (k := 6) (o := "BarredBooks") (n := "editions") (d := "[LBarredBooks$Edition;") (fin := true) (ty := (.array (.object "BarredBooks$Edition"))) (v := some (wZ w11)) (host := "BarredBooks") hx hb hts hown hK hR hL rfl (Fam.one (r := (RX0, TX0, 40)) ht0 rfl ok0 (by decide)) (Or.inl (hts _ q225)) (fun _ h9 => h9) (Or.inr ⟨rfl, hnm, rfl⟩) rfl rfl dX0_init_40 (fun H locs hR hL => ?_)
  rw [← wT_sR _ a0 6 (some (wZ w11))] at ht0
  rw [← wT_sR _ a0 6 (some (wZ w11))] at hg14
  obtain ⟨w15, hw16, h⟩ := bnd h
  have hw16 := Option.some.inj hw16
  rw [hw16] at hR ht0
  refine lv_aload_n hx hb dX0_init_43 rfl (lv_at hl 0 rfl) ?_
  refine lv_bipush (v := 50) hx hb dX0_init_44 (by decide) ?_
  have hs17 : wT (sN w15 210 50) a0 = wT w15 a0 := tag_sN hR (by rw [ht0]; decide)
  refine x_anewa (t := 10) (N := 50) hx hb hown (hts _ q166) hN hK hR (by decide) rfl (by decide) (by decide) (by decide) (by decide) (by decide) dX0_init_46 (fun H hR => ?_)
  rw [← hs17] at ht0
  have hg18 : (wT (sN w15 210 50) (wZ w15)).1 = 210 := by rw [wT_sN, if_pos rfl]
  refine x_putR (k := 8) (o := "BarredBooks") (n := "cards") (d := "[LBarredBooks$Card;") (fin := true) (ty := (.array (.object "BarredBooks$Card"))) (v := some (wZ w15)) (host := "BarredBooks") hx hb hts hown hK hR hL rfl (Fam.one (r := (RX0, TX0, 40)) ht0 rfl ok0 (by decide)) (Or.inl (hts _ q227)) (fun _ h9 => h9) (Or.inr ⟨rfl, hnm, rfl⟩) rfl rfl dX0_init_49 (fun H locs hR hL => ?_)
  rw [← wT_sR _ a0 8 (some (wZ w15))] at ht0
  rw [← wT_sR _ a0 8 (some (wZ w15))] at hg18
  obtain ⟨w19, hw20, h⟩ := bnd h
  have hw20 := Option.some.inj hw20
  rw [hw20] at hR ht0
  refine lv_aload_n hx hb dX0_init_52 rfl (lv_at hl 0 rfl) ?_
  have hs21 : wT (sN w19 2 0) a0 = wT w19 a0 := tag_sN hR (by rw [ht0]; decide)
  refine x_new (C := RX1) (T := TX1) (N := 2) (nS := 2) (ci := 1) hx hb hts ok1 hown (hts _ q168) (hts _ q169) (hts _ q101) hK hR rfl (ty_ok1) (by decide) (by decide) dX0_init_53 (fun H hR => ?_)
  rw [← hs21] at ht0
  have hg22 : (wT (sN w19 2 0) (wZ w19)).1 = 2 := by rw [wT_sN, if_pos rfl]
  refine lv_dup hx hb dX0_init_56 rfl ?_
  obtain ⟨q23, hq24, h⟩ := bnd h
  refine kN_W (st1 := [.ref (z + wZ w19), .ref (z + a0)]) (va_runIN (As := []) (rest := [.ref (z + wZ w19), .ref (z + a0)]) ⟨hx, hb, hml, hown, hts⟩ (met_X1_initN l G z H0 (sN w19 2 0) (wZ w19) q23 hq24 hg22) ⟨va_cnB (host := "BarredBooks") 0 hts (lw_meth q172) rfl rfl rfl (hN.at q170 rfl) (hts _ q101) hd_X1_initN ⟨Nat.le_of_ble_eq_true rfl, Nat.le_of_ble_eq_true rfl⟩, rfl, hts _ q171⟩ (preSN hK hR hN) rfl rfl hl.1 rfl (lv_room (Nat.le_of_ble_eq_true rfl)) dX0_init_57 ⟨Nat.le_of_ble_eq_true rfl, Nat.le_of_ble_eq_true rfl⟩) hL rfl (fun H locs hR hL => ?_)
  obtain ⟨hg25, h⟩ := grd h
  refine x_putR (k := 10) (o := "BarredBooks") (n := "trace") (d := "LBarredBooks$Trace;") (fin := true) (ty := (.object "BarredBooks$Trace")) (v := some (wZ w19)) (host := "BarredBooks") hx hb hts hown hK hR hL rfl (Fam.one (r := (RX0, TX0, 40)) hg25 rfl ok0 (by decide)) (Or.inl (hts _ q229)) (fun _ h9 => h9) (Or.inr ⟨rfl, hnm, rfl⟩) rfl rfl dX0_init_60 (fun H locs hR hL => ?_)
  rw [← wT_sR _ a0 10 (some (wZ w19))] at hg25
  obtain ⟨w26, hw27, h⟩ := bnd h
  have hw27 := Option.some.inj hw27
  rw [hw27] at hR hg25
  refine lv_aload_n hx hb dX0_init_63 rfl (lv_at hl 0 rfl) ?_
  refine lv_bipush (v := 120) hx hb dX0_init_64 (by decide) ?_
  have hs28 : wT (sN w26 201 120) a0 = wT w26 a0 := tag_sN hR (by rw [hg25]; decide)
  refine x_newa (atype := .byte) (t := 1) (N := 120) hx hb (hts _ q202) hK hR rfl (by decide) (by decide) (by decide) (by decide) (by decide) (by decide) (by decide) dX0_init_66 (fun H hR => ?_)
  rw [← hs28] at hg25
  have hg29 : (wT (sN w26 201 120) (wZ w26)).1 = 201 := by rw [wT_sN, if_pos rfl]
  refine x_putR (k := 11) (o := "BarredBooks") (n := "text") (d := "[B") (fin := true) (ty := (.array .byte)) (v := some (wZ w26)) (host := "BarredBooks") hx hb hts hown hK hR hL rfl (Fam.one (r := (RX0, TX0, 40)) hg25 rfl ok0 (by decide)) (Or.inl (hts _ q230)) (fun _ h9 => h9) (Or.inr ⟨rfl, hnm, rfl⟩) rfl rfl dX0_init_68 (fun H locs hR hL => ?_)
  rw [← wT_sR _ a0 11 (some (wZ w26))] at hg25
  rw [← wT_sR _ a0 11 (some (wZ w26))] at hg29
  obtain ⟨w30, hw31, h⟩ := bnd h
  have hw31 := Option.some.inj hw31
  rw [hw31] at hR hg25
  refine lv_aload_n hx hb dX0_init_71 rfl (lv_at hl 0 rfl) ?_
  refine lv_bipush (v := 16) hx hb dX0_init_72 (by decide) ?_
  have hs32 : wT (sN w30 211 16) a0 = wT w30 a0 := tag_sN hR (by rw [hg25]; decide)
  refine x_anewa (t := 11) (N := 16) hx hb hown (hts _ q184) hN hK hR (by decide) rfl (by decide) (by decide) (by decide) (by decide) (by decide) dX0_init_74 (fun H hR => ?_)
  rw [← hs32] at hg25
  have hg33 : (wT (sN w30 211 16) (wZ w30)).1 = 211 := by rw [wT_sN, if_pos rfl]
  refine x_putR (k := 13) (o := "BarredBooks") (n := "decrees") (d := "[LBarredBooks$Decree;") (fin := true) (ty := (.array (.object "BarredBooks$Decree"))) (v := some (wZ w30)) (host := "BarredBooks") hx hb hts hown hK hR hL rfl (Fam.one (r := (RX0, TX0, 40)) hg25 rfl ok0 (by decide)) (Or.inl (hts _ q232)) (fun _ h9 => h9) (Or.inr ⟨rfl, hnm, rfl⟩) rfl rfl dX0_init_77 (fun H locs hR hL => ?_)
  rw [← wT_sR _ a0 13 (some (wZ w30))] at hg25
  rw [← wT_sR _ a0 13 (some (wZ w30))] at hg33
  obtain ⟨w34, hw35, h⟩ := bnd h
  have hw35 := Option.some.inj hw35
  rw [hw35] at hR hg25
  refine lv_aload_n hx hb dX0_init_80 rfl (lv_at hl 0 rfl) ?_
  have hs36 : wT (sN w34 3 0) a0 = wT w34 a0 := tag_sN hR (by rw [hg25]; decide)
  refine x_new (C := RX2) (T := TX2) (N := 2) (nS := 2) (ci := 2) hx hb hts ok2 hown (hts _ q186) (hts _ q187) (hts _ q102) hK hR rfl (ty_ok2) (by decide) (by decide) dX0_init_81 (fun H hR => ?_)
  rw [← hs36] at hg25
  have hg37 : (wT (sN w34 3 0) (wZ w34)).1 = 3 := by rw [wT_sN, if_pos rfl]
  refine lv_dup hx hb dX0_init_84 rfl ?_
  obtain ⟨q38, hq39, h⟩ := bnd h
  refine kN_W (st1 := [.ref (z + wZ w34), .ref (z + a0)]) (va_runIN (As := []) (rest := [.ref (z + wZ w34), .ref (z + a0)]) ⟨hx, hb, hml, hown, hts⟩ (met_X2_initN l G z H0 (sN w34 3 0) (wZ w34) q38 hq39 hg37) ⟨va_cnB (host := "BarredBooks") 0 hts (lw_meth q190) rfl rfl rfl (hN.at q188 rfl) (hts _ q102) hd_X2_initN ⟨Nat.le_of_ble_eq_true rfl, Nat.le_of_ble_eq_true rfl⟩, rfl, hts _ q189⟩ (preSN hK hR hN) rfl rfl hl.1 rfl (lv_room (Nat.le_of_ble_eq_true rfl)) dX0_init_85 ⟨Nat.le_of_ble_eq_true rfl, Nat.le_of_ble_eq_true rfl⟩) hL rfl (fun H locs hR hL => ?_)
  obtain ⟨hg40, h⟩ := grd h
  refine x_putR (k := 15) (o := "BarredBooks") (n := "look") (d := "LBarredBooks$Look;") (fin := true) (ty := (.object "BarredBooks$Look")) (v := some (wZ w34)) (host := "BarredBooks") hx hb hts hown hK hR hL rfl (Fam.one (r := (RX0, TX0, 40)) hg40 rfl ok0 (by decide)) (Or.inl (hts _ q234)) (fun _ h9 => h9) (Or.inr ⟨rfl, hnm, rfl⟩) rfl rfl dX0_init_88 (fun H locs hR hL => ?_)
  rw [← wT_sR _ a0 15 (some (wZ w34))] at hg40
  obtain ⟨w41, hw42, h⟩ := bnd h
  have hw42 := Option.some.inj hw42
  rw [hw42] at hR hg40
  refine lv_aload_n hx hb dX0_init_91 rfl (lv_at hl 0 rfl) ?_
  refine lv_bipush (v := 6) hx hb dX0_init_92 (by decide) ?_
  have hs43 : wT (sN w41 212 6) a0 = wT w41 a0 := tag_sN hR (by rw [hg40]; decide)
  refine x_anewa (t := 12) (N := 6) hx hb hown (hts _ q203) hN hK hR (by decide) rfl (by decide) (by decide) (by decide) (by decide) (by decide) dX0_init_94 (fun H hR => ?_)
  rw [← hs43] at hg40
  have hg44 : (wT (sN w41 212 6) (wZ w41)).1 = 212 := by rw [wT_sN, if_pos rfl]
  refine x_putR (k := 16) (o := "BarredBooks") (n := "tapes") (d := "[LBarredBooks$Tape;") (fin := true) (ty := (.array (.object "BarredBooks$Tape"))) (v := some (wZ w41)) (host := "BarredBooks") hx hb hts hown hK hR hL rfl (Fam.one (r := (RX0, TX0, 40)) hg40 rfl ok0 (by decide)) (Or.inl (hts _ q235)) (fun _ h9 => h9) (Or.inr ⟨rfl, hnm, rfl⟩) rfl rfl dX0_init_97 (fun H locs hR hL => ?_)
  rw [← wT_sR _ a0 16 (some (wZ w41))] at hg40
  rw [← wT_sR _ a0 16 (some (wZ w41))] at hg44
  obtain ⟨w45, hw46, h⟩ := bnd h
  have hw46 := Option.some.inj hw46
  rw [hw46] at hR hg40
  refine lv_aload_n hx hb dX0_init_100 rfl (lv_at hl 0 rfl) ?_
  refine lv_bipush (v := 30) hx hb dX0_init_101 (by decide) ?_
  have hs47 : wT (sN w45 200 30) a0 = wT w45 a0 := tag_sN hR (by rw [hg40]; decide)
  refine x_newa (atype := .int) (t := 0) (N := 30) hx hb (hts _ q183) hK hR rfl (by decide) (by decide) (by decide) (by decide) (by decide) (by decide) (by decide) dX0_init_103 (fun H hR => ?_)
  rw [← hs47] at hg40
  have hg48 : (wT (sN w45 200 30) (wZ w45)).1 = 200 := by rw [wT_sN, if_pos rfl]
  refine x_putR (k := 17) (o := "BarredBooks") (n := "leavePerson") (d := "[I") (fin := true) (ty := (.array .int)) (v := some (wZ w45)) (host := "BarredBooks") hx hb hts hown hK hR hL rfl (Fam.one (r := (RX0, TX0, 40)) hg40 rfl ok0 (by decide)) (Or.inl (hts _ q236)) (fun _ h9 => h9) (Or.inr ⟨rfl, hnm, rfl⟩) rfl rfl dX0_init_105 (fun H locs hR hL => ?_)
  rw [← wT_sR _ a0 17 (some (wZ w45))] at hg40
  rw [← wT_sR _ a0 17 (some (wZ w45))] at hg48
  obtain ⟨w49, hw50, h⟩ := bnd h
  have hw50 := Option.some.inj hw50
  rw [hw50] at hR hg40
  refine lv_aload_n hx hb dX0_init_108 rfl (lv_at hl 0 rfl) ?_
  refine lv_bipush (v := 30) hx hb dX0_init_109 (by decide) ?_
  have hs51 : wT (sN w49 200 30) a0 = wT w49 a0 := tag_sN hR (by rw [hg40]; decide)
  refine x_newa (atype := .int) (t := 0) (N := 30) hx hb (hts _ q183) hK hR rfl (by decide) (by decide) (by decide) (by decide) (by decide) (by decide) (by decide) dX0_init_111 (fun H hR => ?_)
  rw [← hs51] at hg40
  have hg52 : (wT (sN w49 200 30) (wZ w49)).1 = 200 := by rw [wT_sN, if_pos rfl]
  refine x_putR (k := 18) (o := "BarredBooks") (n := "leaveBook") (d := "[I") (fin := true) (ty := (.array .int)) (v := some (wZ w49)) (host := "BarredBooks") hx hb hts hown hK hR hL rfl (Fam.one (r := (RX0, TX0, 40)) hg40 rfl ok0 (by decide)) (Or.inl (hts _ q237)) (fun _ h9 => h9) (Or.inr ⟨rfl, hnm, rfl⟩) rfl rfl dX0_init_113 (fun H locs hR hL => ?_)
  rw [← wT_sR _ a0 18 (some (wZ w49))] at hg40
  rw [← wT_sR _ a0 18 (some (wZ w49))] at hg52
  obtain ⟨w53, hw54, h⟩ := bnd h
  have hw54 := Option.some.inj hw54
  rw [hw54] at hR hg40
  refine lv_aload_n hx hb dX0_init_116 rfl (lv_at hl 0 rfl) ?_
  refine lv_bipush (v := 30) hx hb dX0_init_117 (by decide) ?_
  have hs55 : wT (sN w53 200 30) a0 = wT w53 a0 := tag_sN hR (by rw [hg40]; decide)
  refine x_newa (atype := .int) (t := 0) (N := 30) hx hb (hts _ q183) hK hR rfl (by decide) (by decide) (by decide) (by decide) (by decide) (by decide) (by decide) dX0_init_119 (fun H hR => ?_)
  rw [← hs55] at hg40
  have hg56 : (wT (sN w53 200 30) (wZ w53)).1 = 200 := by rw [wT_sN, if_pos rfl]
  refine x_putR (k := 19) (o := "BarredBooks") (n := "leaveFrom") (d := "[I") (fin := true) (ty := (.array .int)) (v := some (wZ w53)) (host := "BarredBooks") hx hb hts hown hK hR hL rfl (Fam.one (r := (RX0, TX0, 40)) hg40 rfl ok0 (by decide)) (Or.inl (hts _ q238)) (fun _ h9 => h9) (Or.inr ⟨rfl, hnm, rfl⟩) rfl rfl dX0_init_121 (fun H locs hR hL => ?_)
  rw [← wT_sR _ a0 19 (some (wZ w53))] at hg40
  rw [← wT_sR _ a0 19 (some (wZ w53))] at hg56
  obtain ⟨w57, hw58, h⟩ := bnd h
  have hw58 := Option.some.inj hw58
  rw [hw58] at hR hg40
  refine lv_aload_n hx hb dX0_init_124 rfl (lv_at hl 0 rfl) ?_
  refine lv_bipush (v := 30) hx hb dX0_init_125 (by decide) ?_
  have hs59 : wT (sN w57 200 30) a0 = wT w57 a0 := tag_sN hR (by rw [hg40]; decide)
  refine x_newa (atype := .int) (t := 0) (N := 30) hx hb (hts _ q183) hK hR rfl (by decide) (by decide) (by decide) (by decide) (by decide) (by decide) (by decide) dX0_init_127 (fun H hR => ?_)
  rw [← hs59] at hg40
  have hg60 : (wT (sN w57 200 30) (wZ w57)).1 = 200 := by rw [wT_sN, if_pos rfl]
  refine x_putR (k := 20) (o := "BarredBooks") (n := "leaveTo") (d := "[I") (fin := true) (ty := (.array .int)) (v := some (wZ w57)) (host := "BarredBooks") hx hb hts hown hK hR hL rfl (Fam.one (r := (RX0, TX0, 40)) hg40 rfl ok0 (by decide)) (Or.inl (hts _ q239)) (fun _ h9 => h9) (Or.inr ⟨rfl, hnm, rfl⟩) rfl rfl dX0_init_129 (fun H locs hR hL => ?_)
  rw [← wT_sR _ a0 20 (some (wZ w57))] at hg40
  rw [← wT_sR _ a0 20 (some (wZ w57))] at hg60
  obtain ⟨w61, hw62, h⟩ := bnd h
  have hw62 := Option.some.inj hw62
  rw [hw62] at hR hg40
  refine lv_aload_n hx hb dX0_init_132 rfl (lv_at hl 0 rfl) ?_
  refine lv_bipush (v := 40) hx hb dX0_init_133 (by decide) ?_
  have hs63 : wT (sN w61 213 40) a0 = wT w61 a0 := tag_sN hR (by rw [hg40]; decide)
  refine x_anewa (t := 13) (N := 40) hx hb hown (hts _ q205) hN hK hR (by decide) rfl (by decide) (by decide) (by decide) (by decide) (by decide) dX0_init_135 (fun H hR => ?_)
  rw [← hs63] at hg40
  have hg64 : (wT (sN w61 213 40) (wZ w61)).1 = 213 := by rw [wT_sN, if_pos rfl]
  refine x_putR (k := 22) (o := "BarredBooks") (n := "slips") (d := "[LBarredBooks$Slip;") (fin := true) (ty := (.array (.object "BarredBooks$Slip"))) (v := some (wZ w61)) (host := "BarredBooks") hx hb hts hown hK hR hL rfl (Fam.one (r := (RX0, TX0, 40)) hg40 rfl ok0 (by decide)) (Or.inl (hts _ q241)) (fun _ h9 => h9) (Or.inr ⟨rfl, hnm, rfl⟩) rfl rfl dX0_init_138 (fun H locs hR hL => ?_)
  rw [← wT_sR _ a0 22 (some (wZ w61))] at hg40
  rw [← wT_sR _ a0 22 (some (wZ w61))] at hg64
  obtain ⟨w65, hw66, h⟩ := bnd h
  have hw66 := Option.some.inj hw66
  rw [hw66] at hR hg40
  refine lv_aload_n hx hb dX0_init_141 rfl (lv_at hl 0 rfl) ?_
  refine lv_bipush (v := 16) hx hb dX0_init_142 (by decide) ?_
  have hs67 : wT (sN w65 200 16) a0 = wT w65 a0 := tag_sN hR (by rw [hg40]; decide)
  refine x_newa (atype := .int) (t := 0) (N := 16) hx hb (hts _ q183) hK hR rfl (by decide) (by decide) (by decide) (by decide) (by decide) (by decide) (by decide) dX0_init_144 (fun H hR => ?_)
  rw [← hs67] at hg40
  have hg68 : (wT (sN w65 200 16) (wZ w65)).1 = 200 := by rw [wT_sN, if_pos rfl]
  refine x_putR (k := 24) (o := "BarredBooks") (n := "reader") (d := "[I") (fin := true) (ty := (.array .int)) (v := some (wZ w65)) (host := "BarredBooks") hx hb hts hown hK hR hL rfl (Fam.one (r := (RX0, TX0, 40)) hg40 rfl ok0 (by decide)) (Or.inl (hts _ q243)) (fun _ h9 => h9) (Or.inr ⟨rfl, hnm, rfl⟩) rfl rfl dX0_init_146 (fun H locs hR hL => ?_)
  rw [← wT_sR _ a0 24 (some (wZ w65))] at hg40
  rw [← wT_sR _ a0 24 (some (wZ w65))] at hg68
  obtain ⟨w69, hw70, h⟩ := bnd h
  have hw70 := Option.some.inj hw70
  rw [hw70] at hR hg40
  refine lv_aload_n hx hb dX0_init_149 rfl (lv_at hl 0 rfl) ?_
  refine lv_bipush (v := 8) hx hb dX0_init_150 (by decide) ?_
  refine lv_bipush (v := 7) hx hb dX0_init_152 (by decide) ?_
  have hs71 : wT (sM w69 8 7) a0 = wT w69 a0 := tag_sM hR (by rw [hg40]; decide)
  refine x_multi (k := 8) (n := 7) hx hb hown (hts _ q158) hK hA hR hL (by decide) (by decide) (by decide) (by decide) (by decide) (by decide) (by decide) (by decide) (by decide) dX0_init_154 (fun H locs hR hL => ?_)
  rw [← hs71] at hg40
  have hg72 : (wT (sM w69 8 7) (wZ w69)).1 = 206 := tag_sMo _ _ _
  refine x_putR (k := 25) (o := "BarredBooks") (n := "found") (d := "[[I") (fin := true) (ty := (.array (.array .int))) (v := some (wZ w69)) (host := "BarredBooks") hx hb hts hown hK hR hL rfl (Fam.one (r := (RX0, TX0, 40)) hg40 rfl ok0 (by decide)) (Or.inl (hts _ q244)) (fun _ h9 => h9) (Or.inr ⟨rfl, hnm, rfl⟩) rfl rfl dX0_init_158 (fun H locs hR hL => ?_)
  rw [← wT_sR _ a0 25 (some (wZ w69))] at hg40
  rw [← wT_sR _ a0 25 (some (wZ w69))] at hg72
  obtain ⟨w73, hw74, h⟩ := bnd h
  have hw74 := Option.some.inj hw74
  rw [hw74] at hR hg40
  refine lv_aload_n hx hb dX0_init_161 rfl (lv_at hl 0 rfl) ?_
  refine lv_bipush (v := 9) hx hb dX0_init_162 (by decide) ?_
  refine lv_bipush (v := 31) hx hb dX0_init_164 (by decide) ?_
  have hs75 : wT (sM w73 9 31) a0 = wT w73 a0 := tag_sM hR (by rw [hg40]; decide)
  refine x_multi (k := 9) (n := 31) hx hb hown (hts _ q158) hK hA hR hL (by decide) (by decide) (by decide) (by decide) (by decide) (by decide) (by decide) (by decide) (by decide) dX0_init_166 (fun H locs hR hL => ?_)
  rw [← hs75] at hg40
  have hg76 : (wT (sM w73 9 31) (wZ w73)).1 = 206 := tag_sMo _ _ _
  refine x_putR (k := 26) (o := "BarredBooks") (n := "most") (d := "[[I") (fin := true) (ty := (.array (.array .int))) (v := some (wZ w73)) (host := "BarredBooks") hx hb hts hown hK hR hL rfl (Fam.one (r := (RX0, TX0, 40)) hg40 rfl ok0 (by decide)) (Or.inl (hts _ q245)) (fun _ h9 => h9) (Or.inr ⟨rfl, hnm, rfl⟩) rfl rfl dX0_init_170 (fun H locs hR hL => ?_)
  rw [← wT_sR _ a0 26 (some (wZ w73))] at hg40
  rw [← wT_sR _ a0 26 (some (wZ w73))] at hg76
  obtain ⟨w77, hw78, h⟩ := bnd h
  have hw78 := Option.some.inj hw78
  rw [hw78] at hR hg40
  refine lv_aload_n hx hb dX0_init_173 rfl (lv_at hl 0 rfl) ?_
  refine lv_bipush (v := 8) hx hb dX0_init_174 (by decide) ?_
  have hs79 : wT (sN w77 214 8) a0 = wT w77 a0 := tag_sN hR (by rw [hg40]; decide)
  refine x_anewa (t := 14) (N := 8) hx hb hown (hts _ q207) hN hK hR (by decide) rfl (by decide) (by decide) (by decide) (by decide) (by decide) dX0_init_176 (fun H hR => ?_)
  rw [← hs79] at hg40
  have hg80 : (wT (sN w77 214 8) (wZ w77)).1 = 214 := by rw [wT_sN, if_pos rfl]
  refine x_putR (k := 27) (o := "BarredBooks") (n := "choices") (d := "[LBarredBooks$Clause;") (fin := true) (ty := (.array (.object "BarredBooks$Clause"))) (v := some (wZ w77)) (host := "BarredBooks") hx hb hts hown hK hR hL rfl (Fam.one (r := (RX0, TX0, 40)) hg40 rfl ok0 (by decide)) (Or.inl (hts _ q246)) (fun _ h9 => h9) (Or.inr ⟨rfl, hnm, rfl⟩) rfl rfl dX0_init_179 (fun H locs hR hL => ?_)
  rw [← wT_sR _ a0 27 (some (wZ w77))] at hg40
  rw [← wT_sR _ a0 27 (some (wZ w77))] at hg80
  obtain ⟨w81, hw82, h⟩ := bnd h
  have hw82 := Option.some.inj hw82
  rw [hw82] at hR hg40
  refine lv_aload_n hx hb dX0_init_182 rfl (lv_at hl 0 rfl) ?_
  refine lv_bipush (v := 20) hx hb dX0_init_183 (by decide) ?_
  have hs83 : wT (sN w81 200 20) a0 = wT w81 a0 := tag_sN hR (by rw [hg40]; decide)
  refine x_newa (atype := .int) (t := 0) (N := 20) hx hb (hts _ q183) hK hR rfl (by decide) (by decide) (by decide) (by decide) (by decide) (by decide) (by decide) dX0_init_185 (fun H hR => ?_)
  rw [← hs83] at hg40
  have hg84 : (wT (sN w81 200 20) (wZ w81)).1 = 200 := by rw [wT_sN, if_pos rfl]
  refine x_putR (k := 29) (o := "BarredBooks") (n := "aimEdition") (d := "[I") (fin := true) (ty := (.array .int)) (v := some (wZ w81)) (host := "BarredBooks") hx hb hts hown hK hR hL rfl (Fam.one (r := (RX0, TX0, 40)) hg40 rfl ok0 (by decide)) (Or.inl (hts _ q248)) (fun _ h9 => h9) (Or.inr ⟨rfl, hnm, rfl⟩) rfl rfl dX0_init_187 (fun H locs hR hL => ?_)
  rw [← wT_sR _ a0 29 (some (wZ w81))] at hg40
  rw [← wT_sR _ a0 29 (some (wZ w81))] at hg84
  obtain ⟨w85, hw86, h⟩ := bnd h
  have hw86 := Option.some.inj hw86
  rw [hw86] at hR hg40
  refine lv_aload_n hx hb dX0_init_190 rfl (lv_at hl 0 rfl) ?_
  refine lv_bipush (v := 20) hx hb dX0_init_191 (by decide) ?_
  have hs87 : wT (sN w85 200 20) a0 = wT w85 a0 := tag_sN hR (by rw [hg40]; decide)
  refine x_newa (atype := .int) (t := 0) (N := 20) hx hb (hts _ q183) hK hR rfl (by decide) (by decide) (by decide) (by decide) (by decide) (by decide) (by decide) dX0_init_193 (fun H hR => ?_)
  rw [← hs87] at hg40
  have hg88 : (wT (sN w85 200 20) (wZ w85)).1 = 200 := by rw [wT_sN, if_pos rfl]
  refine x_putR (k := 30) (o := "BarredBooks") (n := "aimLine") (d := "[I") (fin := true) (ty := (.array .int)) (v := some (wZ w85)) (host := "BarredBooks") hx hb hts hown hK hR hL rfl (Fam.one (r := (RX0, TX0, 40)) hg40 rfl ok0 (by decide)) (Or.inl (hts _ q249)) (fun _ h9 => h9) (Or.inr ⟨rfl, hnm, rfl⟩) rfl rfl dX0_init_195 (fun H locs hR hL => ?_)
  rw [← wT_sR _ a0 30 (some (wZ w85))] at hg40
  rw [← wT_sR _ a0 30 (some (wZ w85))] at hg88
  obtain ⟨w89, hw90, h⟩ := bnd h
  have hw90 := Option.some.inj hw90
  rw [hw90] at hR hg40
  refine lv_aload_n hx hb dX0_init_198 rfl (lv_at hl 0 rfl) ?_
  refine lv_bipush (v := 60) hx hb dX0_init_199 (by decide) ?_
  have hs91 : wT (sN w89 209 60) a0 = wT w89 a0 := tag_sN hR (by rw [hg40]; decide)
  refine x_anewa (t := 9) (N := 60) hx hb hown (hts _ q164) hN hK hR (by decide) rfl (by decide) (by decide) (by decide) (by decide) (by decide) dX0_init_201 (fun H hR => ?_)
  rw [← hs91] at hg40
  have hg92 : (wT (sN w89 209 60) (wZ w89)).1 = 209 := by rw [wT_sN, if_pos rfl]
  refine x_putR (k := 34) (o := "BarredBooks") (n := "copies") (d := "[LBarredBooks$Edition;") (fin := true) (ty := (.array (.object "BarredBooks$Edition"))) (v := some (wZ w89)) (host := "BarredBooks") hx hb hts hown hK hR hL rfl (Fam.one (r := (RX0, TX0, 40)) hg40 rfl ok0 (by decide)) (Or.inl (hts _ q253)) (fun _ h9 => h9) (Or.inr ⟨rfl, hnm, rfl⟩) rfl rfl dX0_init_204 (fun H locs hR hL => ?_)
  rw [← wT_sR _ a0 34 (some (wZ w89))] at hg40
  rw [← wT_sR _ a0 34 (some (wZ w89))] at hg92
  obtain ⟨w93, hw94, h⟩ := bnd h
  have hw94 := Option.some.inj hw94
  rw [hw94] at hR hg40
  refine lv_aload_n hx hb dX0_init_207 rfl (lv_at hl 0 rfl) ?_
  refine lv_sipush (v := 200) hx hb dX0_init_208 (by decide) ?_
  have hs95 : wT (sN w93 200 200) a0 = wT w93 a0 := tag_sN hR (by rw [hg40]; decide)
  refine x_newa (atype := .int) (t := 0) (N := 200) hx hb (hts _ q183) hK hR rfl (by decide) (by decide) (by decide) (by decide) (by decide) (by decide) (by decide) dX0_init_211 (fun H hR => ?_)
  rw [← hs95] at hg40
  have hg96 : (wT (sN w93 200 200) (wZ w93)).1 = 200 := by rw [wT_sN, if_pos rfl]
  refine x_putR (k := 36) (o := "BarredBooks") (n := "entryCopy") (d := "[I") (fin := true) (ty := (.array .int)) (v := some (wZ w93)) (host := "BarredBooks") hx hb hts hown hK hR hL rfl (Fam.one (r := (RX0, TX0, 40)) hg40 rfl ok0 (by decide)) (Or.inl (hts _ q255)) (fun _ h9 => h9) (Or.inr ⟨rfl, hnm, rfl⟩) rfl rfl dX0_init_213 (fun H locs hR hL => ?_)
  rw [← wT_sR _ a0 36 (some (wZ w93))] at hg40
  rw [← wT_sR _ a0 36 (some (wZ w93))] at hg96
  obtain ⟨w97, hw98, h⟩ := bnd h
  have hw98 := Option.some.inj hw98
  rw [hw98] at hR hg40
  refine lv_aload_n hx hb dX0_init_216 rfl (lv_at hl 0 rfl) ?_
  refine lv_sipush (v := 200) hx hb dX0_init_217 (by decide) ?_
  have hs99 : wT (sN w97 200 200) a0 = wT w97 a0 := tag_sN hR (by rw [hg40]; decide)
  refine x_newa (atype := .int) (t := 0) (N := 200) hx hb (hts _ q183) hK hR rfl (by decide) (by decide) (by decide) (by decide) (by decide) (by decide) (by decide) dX0_init_220 (fun H hR => ?_)
  rw [← hs99] at hg40
  have hg100 : (wT (sN w97 200 200) (wZ w97)).1 = 200 := by rw [wT_sN, if_pos rfl]
  refine x_putR (k := 37) (o := "BarredBooks") (n := "entrySpot") (d := "[I") (fin := true) (ty := (.array .int)) (v := some (wZ w97)) (host := "BarredBooks") hx hb hts hown hK hR hL rfl (Fam.one (r := (RX0, TX0, 40)) hg40 rfl ok0 (by decide)) (Or.inl (hts _ q256)) (fun _ h9 => h9) (Or.inr ⟨rfl, hnm, rfl⟩) rfl rfl dX0_init_222 (fun H locs hR hL => ?_)
  rw [← wT_sR _ a0 37 (some (wZ w97))] at hg40
  rw [← wT_sR _ a0 37 (some (wZ w97))] at hg100
  obtain ⟨w101, hw102, h⟩ := bnd h
  have hw102 := Option.some.inj hw102
  rw [hw102] at hR hg40
  refine lv_aload_n hx hb dX0_init_225 rfl (lv_at hl 0 rfl) ?_
  refine lv_sipush (v := 200) hx hb dX0_init_226 (by decide) ?_
  have hs103 : wT (sN w101 200 200) a0 = wT w101 a0 := tag_sN hR (by rw [hg40]; decide)
  refine x_newa (atype := .int) (t := 0) (N := 200) hx hb (hts _ q183) hK hR rfl (by decide) (by decide) (by decide) (by decide) (by decide) (by decide) (by decide) dX0_init_229 (fun H hR => ?_)
  rw [← hs103] at hg40
  have hg104 : (wT (sN w101 200 200) (wZ w101)).1 = 200 := by rw [wT_sN, if_pos rfl]
  refine x_putR (k := 38) (o := "BarredBooks") (n := "entryDay") (d := "[I") (fin := true) (ty := (.array .int)) (v := some (wZ w101)) (host := "BarredBooks") hx hb hts hown hK hR hL rfl (Fam.one (r := (RX0, TX0, 40)) hg40 rfl ok0 (by decide)) (Or.inl (hts _ q257)) (fun _ h9 => h9) (Or.inr ⟨rfl, hnm, rfl⟩) rfl rfl dX0_init_231 (fun H locs hR hL => ?_)
  rw [← wT_sR _ a0 38 (some (wZ w101))] at hg40
  rw [← wT_sR _ a0 38 (some (wZ w101))] at hg104
  refine lv_iconst (v := 0) hx hb dX0_init_234 (by decide) ?_
  refine lv_istore_n (lv' := [(1, .int (0 : Int32)), (0, .ref (z + a0))]) hx hb dX0_init_235 rfl hl (by decide) rfl (fun ls hl => ?_)
  have hX236_282 : ∀ (q236_282 : Int32 × Wd), ((it n (f_X0_initN_L284 n a0) ((0 : Int32), q236_282.2)).bind fun q284_309 => some q284_309.2) = some q → ∀ (H : Heap) (locs : List Loc) (ls : Array Slot), Rp G z H0 q236_282.2 H → lok z locs → lv_has ls 3 [(0, .ref (z + a0))] → W p l e ({ frames := 2, cells := 57, slots := 1586, locals := 40 } : Room) s m ([.ref (z + a0)] : List Value).toArray below meth c H locs 51 1580 (MQ below (qIn G z H0 q none) ([.ref (z + a0)] : List Value).toArray s 57 1586 (fun q => z ≤ q)) (F0 m 282 ls []) := by
    intro q236_282 h H locs ls hR hL hl
    refine lv_iconst (v := 0) hx hb dX0_init_282 (by decide) ?_
    refine lv_istore_n (lv' := [(1, .int (0 : Int32)), (0, .ref (z + a0))]) hx hb dX0_init_283 rfl hl (by decide) rfl (fun ls hl => ?_)
    have hX284_309 : ∀ (q284_309 : Int32 × Wd), (some q284_309.2) = some q → ∀ (H : Heap) (locs : List Loc) (ls : Array Slot), Rp G z H0 q284_309.2 H → lok z locs → lv_has ls 3 [] → W p l e ({ frames := 2, cells := 57, slots := 1586, locals := 40 } : Room) s m ([.ref (z + a0)] : List Value).toArray below meth c H locs 57 1586 (MQ below (qIn G z H0 q none) ([.ref (z + a0)] : List Value).toArray s 57 1586 (fun q => z ≤ q)) (F0 m 309 ls []) := by
      intro q284_309 h H locs ls hR hL hl
      have h := Option.some.inj h
      subst h
      exact W.vret hx hb hr (fun t ht _ => ⟨rfl, by rw [ht]; exact hR⟩) hL dX0_init_309
    obtain ⟨t134, hq135, h⟩ := bnd h
    refine W.widen (k := 51 + ((0 : Int32), q236_282.2).1.toNatClampNeg) (n := 1580 + ((0 : Int32), q236_282.2).1.toNatClampNeg) (Nat.le_add_right _ _) (Nat.le_add_right _ _) ?_
    refine it_W (b := f_X0_initN_L284 n a0) (P := fun (s1 : Int32 × Wd) => ∀ (H : Heap) (locs : List Loc) (ls : Array Slot), Rp G z H0 s1.2 H → lok z locs → lv_has ls 3 [(1, .int s1.1), (0, .ref (z + a0))] → W p l e ({ frames := 2, cells := 57, slots := 1586, locals := 40 } : Room) s m ([.ref (z + a0)] : List Value).toArray below meth c H locs (51 + s1.1.toNatClampNeg) (1580 + s1.1.toNatClampNeg) (MQ below (qIn G z H0 q none) ([.ref (z + a0)] : List Value).toArray s 57 1586 (fun q => z ≤ q)) (F0 m 284 ls [])) (K := fun q284_309 => (some q284_309.2) = some q) (fun s1 x1 h hc1 ht1 => ?_) n ((0 : Int32), q236_282.2) t134 hq135 h H locs ls hR hL (lv_sub hl [0, 1] rfl)
    intro H locs ls hR hL hl
    unfold f_X0_initN_L284 at h
    refine lv_iload_n hx hb dX0_init_284 rfl (lv_at hl 0 rfl) ?_
    refine lv_bipush (v := 6) hx hb dX0_init_285 (by decide) ?_
    refine lv_icmp_ge (tgt := 309) hx hb dX0_init_287 (by decide) (fun c123 => ?_) (fun c123 => ?_)
    · rw [if_pos c123] at h
      obtain ⟨hi9, h⟩ := grd h
      refine W.widen (k := 57) (n := 1586) (by omega) (by omega) ?_
      exact hX284_309 (s1.1, s1.2) (ht1 _ (Option.some.inj h).symm) H locs ls hR hL (lv_sub hl [] rfl)
    · rw [if_neg c123] at h
      obtain ⟨hi9, h⟩ := grd h
      refine lv_aload_n hx hb dX0_init_290 rfl (lv_at hl 1 rfl) ?_
      obtain ⟨hg124, h⟩ := grd h
      refine x_get (k := 16) (o := "BarredBooks") (n := "tapes") (d := "[LBarredBooks$Tape;") (fin := true) (ty := (.array (.object "BarredBooks$Tape"))) (host := "BarredBooks") hx hb hts hown hK hR rfl (Fam.one (r := (RX0, TX0, 40)) hg124 rfl ok0 (by decide)) (Or.inl (hts _ q235)) (fun _ h9 => h9) (v := rfv z (wR s1.2 a0 16)) rfl dX0_init_291 ?_
      refine lv_iload_n hx hb dX0_init_294 rfl (lv_at hl 0 rfl) ?_
      have hs125 : wT (sN s1.2 4 0) a0 = wT s1.2 a0 := tag_sN hR (by rw [hg124]; decide)
      refine x_new (C := RX3) (T := TX3) (N := 1) (nS := 1) (ci := 3) hx hb hts ok3 hown (hts _ q203) (hts _ q209) (hts _ q103) hK hR rfl (ty_ok3) (by dsimp only; omega) (by dsimp only; omega) dX0_init_295 (fun H hR => ?_)
      rw [← hs125] at hg124
      have hg126 : (wT (sN s1.2 4 0) (wZ s1.2)).1 = 4 := by rw [wT_sN, if_pos rfl]
      refine lv_dup hx hb dX0_init_298 rfl ?_
      obtain ⟨q127, hq128, h⟩ := bnd h
      refine kN_W (st1 := [.ref (z + wZ s1.2), .int s1.1, rfv z (wR s1.2 a0 16)]) (va_runIN (As := []) (rest := [.ref (z + wZ s1.2), .int s1.1, rfv z (wR s1.2 a0 16)]) ⟨hx, hb, hml, hown, hts⟩ (met_X3_initN l G z H0 (sN s1.2 4 0) (wZ s1.2) q127 hq128 hg126) ⟨va_cnB (host := "BarredBooks") 0 hts (lw_meth q212) rfl rfl rfl (hN.at q210 rfl) (hts _ q103) hd_X3_initN ⟨Nat.le_of_ble_eq_true rfl, Nat.le_of_ble_eq_true rfl⟩, rfl, hts _ q211⟩ (preSN hK hR hN) rfl rfl hl.1 rfl (lv_room (by simp [cat_rfv, cat_i, cat_r, cat_l, cat_n])) dX0_init_299 ⟨by dsimp only; omega, by dsimp only; omega⟩) hL rfl (fun H locs hR hL => ?_)
      obtain ⟨r129, hr130, h⟩ := bnd h
      obtain ⟨hg131, h⟩ := grd h
      obtain ⟨hb132, h⟩ := grd h
      obtain ⟨hg133, h⟩ := grd h
      refine x_aast (t := 12) (E := "BarredBooks$Tape") (ci := 3) (r := (RX3, TX3, 1)) hx hb hK hR hL (rfv_some hr130) (wT_pair hg131) (by decide) rfl rfl hg133 rfl (Or.inl rfl) hb132 dX0_init_302 (fun H locs hR hL => ?_)
      rw [← wT_sR _ r129 s1.1.toNatClampNeg (some (wZ s1.2))] at hg131
      rw [← wT_sR _ r129 s1.1.toNatClampNeg (some (wZ s1.2))] at hg133
      refine lv_iinc (v := s1.1 + (1 : Int32)) (lv' := [(1, .int (s1.1 + (1 : Int32))), (0, .ref (z + a0))]) hx hb dX0_init_303 hl (k := 0) rfl rfl (by decide) rfl (fun ls hl => ?_)
      refine lv_goto (tgt := 284) hx hb dX0_init_306 (by decide) ?_
      refine W.widen (k := 51 + (s1.1 + (1 : Int32)).toNatClampNeg) (n := 1580 + (s1.1 + (1 : Int32)).toNatClampNeg) (by omega) (by omega) ?_
      exact hc1 _ (Option.some.inj h).symm H locs ls hR hL (lv_sub hl [0, 1] rfl)
  obtain ⟨t136, hq137, h⟩ := bnd h
  refine it_W (b := f_X0_initN_L236 n a0) (P := fun (s1 : Int32 × Wd) => ∀ (H : Heap) (locs : List Loc) (ls : Array Slot), Rp G z H0 s1.2 H → lok z locs → lv_has ls 3 [(1, .int s1.1), (0, .ref (z + a0))] → W p l e ({ frames := 2, cells := 57, slots := 1586, locals := 40 } : Room) s m ([.ref (z + a0)] : List Value).toArray below meth c H locs 51 1580 (MQ below (qIn G z H0 q none) ([.ref (z + a0)] : List Value).toArray s 57 1586 (fun q => z ≤ q)) (F0 m 236 ls [])) (K := fun q236_282 => ((it n (f_X0_initN_L284 n a0) ((0 : Int32), q236_282.2)).bind fun q284_309 => some q284_309.2) = some q) (fun s1 x1 h hc1 ht1 => ?_) n ((0 : Int32), sR (sN w101 200 200) a0 38 (some (wZ w101))) t136 hq137 h H locs ls hR hL (lv_sub hl [0, 1] rfl)
  intro H locs ls hR hL hl
  unfold f_X0_initN_L236 at h
  refine lv_iload_n hx hb dX0_init_236 rfl (lv_at hl 0 rfl) ?_
  refine lv_bipush (v := 8) hx hb dX0_init_237 (by decide) ?_
  refine lv_icmp_ge (tgt := 282) hx hb dX0_init_239 (by decide) (fun c105 => ?_) (fun c105 => ?_)
  · rw [if_pos c105] at h
    exact hX236_282 (s1.1, s1.2) (ht1 _ (Option.some.inj h).symm) H locs ls hR hL (lv_sub hl [1] rfl)
  · rw [if_neg c105] at h
    refine lv_iconst (v := 0) hx hb dX0_init_242 (by decide) ?_
    refine lv_istore_n (lv' := [(2, .int (0 : Int32)), (1, .int s1.1), (0, .ref (z + a0))]) hx hb dX0_init_243 rfl hl (by decide) rfl (fun ls hl => ?_)
    have hX244_276 : ∀ (q244_276 : Int32 × Wd), (some (.inl (s1.1 + (1 : Int32), q244_276.2))) = some x1 → ∀ (H : Heap) (locs : List Loc) (ls : Array Slot), Rp G z H0 q244_276.2 H → lok z locs → lv_has ls 3 [(1, .int s1.1), (0, .ref (z + a0))] → W p l e ({ frames := 2, cells := 57, slots := 1586, locals := 40 } : Room) s m ([.ref (z + a0)] : List Value).toArray below meth c H locs 51 1580 (MQ below (qIn G z H0 q none) ([.ref (z + a0)] : List Value).toArray s 57 1586 (fun q => z ≤ q)) (F0 m 276 ls []) := by
      intro q244_276 h H locs ls hR hL hl
      refine lv_iinc (v := s1.1 + (1 : Int32)) (lv' := [(1, .int (s1.1 + (1 : Int32))), (0, .ref (z + a0))]) hx hb dX0_init_276 hl (k := 0) rfl rfl (by decide) rfl (fun ls hl => ?_)
      refine lv_goto (tgt := 236) hx hb dX0_init_279 (by decide) ?_
      exact hc1 _ (Option.some.inj h).symm H locs ls hR hL (lv_sub hl [0, 1] rfl)
    obtain ⟨t121, hq122, h⟩ := bnd h
    refine it_W (b := f_X0_initN_L244 n s1.1 a0) (P := fun (s2 : Int32 × Wd) => ∀ (H : Heap) (locs : List Loc) (ls : Array Slot), Rp G z H0 s2.2 H → lok z locs → lv_has ls 3 [(2, .int s2.1), (1, .int s1.1), (0, .ref (z + a0))] → W p l e ({ frames := 2, cells := 57, slots := 1586, locals := 40 } : Room) s m ([.ref (z + a0)] : List Value).toArray below meth c H locs 51 1580 (MQ below (qIn G z H0 q none) ([.ref (z + a0)] : List Value).toArray s 57 1586 (fun q => z ≤ q)) (F0 m 244 ls [])) (K := fun q244_276 => (some (.inl (s1.1 + (1 : Int32), q244_276.2))) = some x1) (fun s2 x2 h hc2 ht2 => ?_) n ((0 : Int32), s1.2) t121 hq122 h H locs ls hR hL (lv_sub hl [0, 1, 2] rfl)
    intro H locs ls hR hL hl
    unfold f_X0_initN_L244 at h
    refine lv_iload_n hx hb dX0_init_244 rfl (lv_at hl 0 rfl) ?_
    refine lv_bipush (v := 8) hx hb dX0_init_245 (by decide) ?_
    refine lv_icmp_ge (tgt := 276) hx hb dX0_init_247 (by decide) (fun c106 => ?_) (fun c106 => ?_)
    · rw [if_pos c106] at h
      exact hX244_276 (s2.1, s2.2) (ht2 _ (Option.some.inj h).symm) H locs ls hR hL (lv_sub hl [1, 2] rfl)
    · rw [if_neg c106] at h
      refine lv_aload_n hx hb dX0_init_250 rfl (lv_at hl 2 rfl) ?_
      obtain ⟨hg107, h⟩ := grd h
      refine x_get (k := 1) (o := "BarredBooks") (n := "way") (d := "[[I") (fin := true) (ty := (.array (.array .int))) (host := "BarredBooks") hx hb hts hown hK hR rfl (Fam.one (r := (RX0, TX0, 40)) hg107 rfl ok0 (by decide)) (Or.inl (hts _ q220)) (fun _ h9 => h9) (v := rfv z (wR s2.2 a0 1)) rfl dX0_init_251 ?_
      refine lv_iload_n hx hb dX0_init_254 rfl (lv_at hl 1 rfl) ?_
      obtain ⟨r108, hr109, h⟩ := bnd h
      obtain ⟨hg110, h⟩ := grd h
      obtain ⟨hb111, h⟩ := grd h
      refine x_aald (v := rfv z (wR s2.2 r108 s1.1.toNatClampNeg)) (t := 6) hx hb hK hR (rfv_some hr109) (wT_pair hg110) (by decide) rfl hb111 rfl dX0_init_255 ?_
      refine lv_iload_n hx hb dX0_init_256 rfl (lv_at hl 0 rfl) ?_
      refine lv_iload_n hx hb dX0_init_257 rfl (lv_at hl 1 rfl) ?_
      refine lv_iload_n hx hb dX0_init_258 rfl (lv_at hl 0 rfl) ?_
      refine lv_icmp_ne (tgt := 266) hx hb dX0_init_259 (by decide) (fun c112 => ?_) (fun c112 => ?_)
      · rw [if_neg c112] at h
        refine lv_sipush (v := 9999) hx hb dX0_init_266 (by decide) ?_
        obtain ⟨r113, hr114, h⟩ := bnd h
        obtain ⟨hg115, h⟩ := grd h
        obtain ⟨hb116, h⟩ := grd h
        refine x_iast hx hb hK hR hL (rfv_some hr114) (wT_pair hg115) hb116 dX0_init_269 (fun H locs hR hL => ?_)
        rw [← wT_sI _ r113 s2.1.toNatClampNeg (9999 : Int32)] at hg107
        rw [← wT_sI _ r113 s2.1.toNatClampNeg (9999 : Int32)] at hg110
        rw [← wT_sI _ r113 s2.1.toNatClampNeg (9999 : Int32)] at hg115
        refine lv_iinc (v := s2.1 + (1 : Int32)) (lv' := [(2, .int (s2.1 + (1 : Int32))), (1, .int s1.1), (0, .ref (z + a0))]) hx hb dX0_init_270 hl (k := 0) rfl rfl (by decide) rfl (fun ls hl => ?_)
        refine lv_goto (tgt := 244) hx hb dX0_init_273 (by decide) ?_
        exact hc2 _ (Option.some.inj h).symm H locs ls hR hL (lv_sub hl [0, 1, 2] rfl)
      · rw [if_pos c112] at h
        refine lv_iconst (v := 0) hx hb dX0_init_262 (by decide) ?_
        refine lv_goto (tgt := 269) hx hb dX0_init_263 (by decide) ?_
        obtain ⟨r117, hr118, h⟩ := bnd h
        obtain ⟨hg119, h⟩ := grd h
        obtain ⟨hb120, h⟩ := grd h
        refine x_iast hx hb hK hR hL (rfv_some hr118) (wT_pair hg119) hb120 dX0_init_269 (fun H locs hR hL => ?_)
        rw [← wT_sI _ r117 s2.1.toNatClampNeg (0 : Int32)] at hg107
        rw [← wT_sI _ r117 s2.1.toNatClampNeg (0 : Int32)] at hg110
        rw [← wT_sI _ r117 s2.1.toNatClampNeg (0 : Int32)] at hg119
        refine lv_iinc (v := s2.1 + (1 : Int32)) (lv' := [(2, .int (s2.1 + (1 : Int32))), (1, .int s1.1), (0, .ref (z + a0))]) hx hb dX0_init_270 hl (k := 0) rfl rfl (by decide) rfl (fun ls hl => ?_)
        refine lv_goto (tgt := 244) hx hb dX0_init_273 (by decide) ?_
        exact hc2 _ (Option.some.inj h).symm H locs ls hR hL (lv_sub hl [0, 1, 2] rfl)
