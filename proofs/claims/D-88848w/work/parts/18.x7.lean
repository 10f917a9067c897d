def f_X1_initN (a0 : Nat) (w : Wd) : Option (Wd) :=
  some (sR (sN w 200 20) a0 0 (some (wZ w)))
theorem hd_X1_initN : yX1_init.cls ≠ "java/lang/invoke/MethodHandle" ∧ yX1_init.cls ≠ "java/lang/invoke/VarHandle" ∧ (parseMethodDescriptor yX1_init.desc).map (fun d => d.parameters.length) = some 0 := by decide +kernel
set_option maxHeartbeats 4000000 in
set_option maxRecDepth 100000 in
theorem met_X1_initN (l : Launch) (G : Gw) (z : Nat) (H0 : Heap)  (w : Wd) (a0 : Nat) (q : Wd) (h : f_X1_initN a0 w = some q) (ht0 : (wT w a0).1 = 2) : Met l yX1_init (ws_ yX1_init cX1_init 1 none) ({ frames := 1, cells := 1, slots := 20, locals := 20 } : Room) (pcIn G z H0 w [.ref (z + a0)]) (qIn G z H0 q none) 1 20 (fun q => z ≤ q) := by
  refine mIn (by decide) (Nat.le_of_ble_eq_true rfl) ?_
  intro p e s m below meth c ls hx hb hr hml hown hts hlocks hnm hK hR hN hl
  have hown : s.vm.findClass RX1 = some m.cls := hown
  have hl : lv_has ls 1 [(0, .ref (z + a0))] := hl
  have hL : lok z [] := lok_nil
  unfold f_X1_initN at h
  generalize s.heap = H at hR ⊢
  generalize ([] : List Loc) = locs at hL ⊢
  refine lv_aload_n hx hb dX1_init_0 rfl (lv_at hl 0 rfl) ?_
  refine W.objInit hx hb hown (hts _ q173) (hts _ q156) (hts _ q157) rfl (hl.1.trans hml.symm) rfl dX1_init_1 (Nat.le_of_ble_eq_true rfl) (Nat.le_of_ble_eq_true rfl) ?_
  refine lv_aload_n hx hb dX1_init_4 rfl (lv_at hl 0 rfl) ?_
  refine lv_bipush (v := 20) hx hb dX1_init_5 (by decide) ?_
  have hs1 : wT (sN w 200 20) a0 = wT w a0 := tag_sN hR (by rw [ht0]; decide)
  refine x_newa (atype := .int) (t := 0) (N := 20) hx hb (hts _ q183) hK hR rfl (by decide) (by decide) (by decide) (by decide) (by decide) (by decide) (by decide) dX1_init_7 (fun H hR => ?_)
  rw [← hs1] at ht0
  have hg2 : (wT (sN w 200 20) (wZ w)).1 = 200 := by rw [wT_sN, if_pos rfl]
  refine x_putR (k := 0) (o := "BarredBooks$Trace") (n := "bodies") (d := "[I") (fin := true) (ty := (.array .int)) (v := some (wZ w)) (host := "BarredBooks") hx hb hts hown hK hR hL rfl (Fam.one (r := (RX1, TX1, 2)) ht0 rfl ok1 (by decide)) (Or.inl (hts _ q174)) (fun _ h9 => h9) (Or.inr ⟨rfl, hnm, rfl⟩) rfl rfl dX1_init_9 (fun H locs hR hL => ?_)
  rw [← wT_sR _ a0 0 (some (wZ w))] at ht0
  rw [← wT_sR _ a0 0 (some (wZ w))] at hg2
  have h := Option.some.inj h
  subst h
  exact W.vret hx hb hr (fun t ht _ => ⟨rfl, by rw [ht]; exact hR⟩) hL dX1_init_12
def f_X2_initN (a0 : Nat) (w : Wd) : Option (Wd) :=
  some w
theorem hd_X2_initN : yX2_init.cls ≠ "java/lang/invoke/MethodHandle" ∧ yX2_init.cls ≠ "java/lang/invoke/VarHandle" ∧ (parseMethodDescriptor yX2_init.desc).map (fun d => d.parameters.length) = some 0 := by decide +kernel
set_option maxHeartbeats 4000000 in
set_option maxRecDepth 100000 in
theorem met_X2_initN (l : Launch) (G : Gw) (z : Nat) (H0 : Heap)  (w : Wd) (a0 : Nat) (q : Wd) (h : f_X2_initN a0 w = some q) (ht0 : (wT w a0).1 = 3) : Met l yX2_init (ws_ yX2_init cX2_init 1 none) ({ frames := 1, cells := 0, slots := 0, locals := 20 } : Room) (pcIn G z H0 w [.ref (z + a0)]) (qIn G z H0 q none) 0 0 (fun q => z ≤ q) := by
  refine mIn (by decide) (Nat.le_of_ble_eq_true rfl) ?_
  intro p e s m below meth c ls hx hb hr hml hown hts hlocks hnm hK hR hN hl
  have hown : s.vm.findClass RX2 = some m.cls := hown
  have hl : lv_has ls 1 [(0, .ref (z + a0))] := hl
  have hL : lok z [] := lok_nil
  unfold f_X2_initN at h
  generalize s.heap = H at hR ⊢
  generalize ([] : List Loc) = locs at hL ⊢
  refine lv_aload_n hx hb dX2_init_0 rfl (lv_at hl 0 rfl) ?_
  refine W.objInit hx hb hown (hts _ q191) (hts _ q156) (hts _ q157) rfl (hl.1.trans hml.symm) rfl dX2_init_1 (Nat.le_of_ble_eq_true rfl) (Nat.le_of_ble_eq_true rfl) ?_
  have h := Option.some.inj h
  subst h
  exact W.vret hx hb hr (fun t ht _ => ⟨rfl, by rw [ht]; exact hR⟩) hL dX2_init_4
def f_X3_initN (a0 : Nat) (w : Wd) : Option (Wd) :=
  some w
theorem hd_X3_initN : yX3_init.cls ≠ "java/lang/invoke/MethodHandle" ∧ yX3_init.cls ≠ "java/lang/invoke/VarHandle" ∧ (parseMethodDescriptor yX3_init.desc).map (fun d => d.parameters.length) = some 0 := by decide +kernel
set_option maxHeartbeats 4000000 in
set_option maxRecDepth 100000 in
theorem met_X3_initN (l : Launch) (G : Gw) (z : Nat) (H0 : Heap)  (w : Wd) (a0 : Nat) (q : Wd) (h : f_X3_initN a0 w = some q) (ht0 : (wT w a0).1 = 4) : Met l yX3_init (ws_ yX3_init cX3_init 1 none) ({ frames := 1, cells := 0, slots := 0, locals := 20 } : Room) (pcIn G z H0 w [.ref (z + a0)]) (qIn G z H0 q none) 0 0 (fun q => z ≤ q) := by
  refine mIn (by decide) (Nat.le_of_ble_eq_true rfl) ?_
  intro p e s m below meth c ls hx hb hr hml hown hts hlocks hnm hK hR hN hl
  have hown : s.vm.findClass RX3 = some m.cls := hown
  have hl : lv_has ls 1 [(0, .ref (z + a0))] := hl
  have hL : lok z [] := lok_nil
  unfold f_X3_initN at h
  generalize s.heap = H at hR ⊢
  generalize ([] : List Loc) = locs at hL ⊢
  refine lv_aload_n hx hb dX3_init_0 rfl (lv_at hl 0 rfl) ?_
  refine W.objInit hx hb hown (hts _ q213) (hts _ q156) (hts _ q157) rfl (hl.1.trans hml.symm) rfl dX3_init_1 (Nat.le_of_ble_eq_true rfl) (Nat.le_of_ble_eq_true rfl) ?_
  have h := Option.some.inj h
  subst h
  exact W.vret hx hb hr (fun t ht _ => ⟨rfl, by rw [ht]; exact hR⟩) hL dX3_init_4
def f_X4_initN_L586 (n : Nat) (u1_0 : Nat) (s1 : Int32 × Wd) : Option ((Int32 × Wd) ⊕ ((Int32 × Wd))) :=
  if (64 : Int32) ≤ s1.1 then (some (.inr (s1.1, s1.2))) else (if (wT s1.2 u1_0).1 = 5 then (if (s1.1 / (8 : Int32)) = (s1.1 - s1.1 / (8 : Int32) * (8 : Int32)) then ((wR s1.2 u1_0 4).bind fun r270 => if (wT s1.2 r270).1 = 200 then (if inb s1.1 (wT s1.2 r270).2 then (some (.inl (s1.1 + (1 : Int32), sI s1.2 r270 s1.1.toNatClampNeg (0 : Int32)))) else none) else none) else ((wR s1.2 u1_0 4).bind fun r266 => if (wT s1.2 r266).1 = 200 then (if inb s1.1 (wT s1.2 r266).2 then (some (.inl (s1.1 + (1 : Int32), sI s1.2 r266 s1.1.toNatClampNeg (9999 : Int32)))) else none) else none)) else none)
def f_X4_initN (n : Nat) (a0 : Nat) (w : Wd) : Option (Wd) :=
  (some (sI w a0 0 (0 : Int32))).bind fun w1 => (some (sI w1 a0 1 (0 : Int32))).bind fun w3 => (some (sI w3 a0 2 (0 : Int32))).bind fun w5 => (some (sI w5 a0 3 (0 : Int32))).bind fun w7 => (some (sR (sN w7 200 64) a0 4 (some (wZ w7)))).bind fun w11 => (some (sR (sN w11 200 16) a0 5 (some (wZ w11)))).bind fun w15 => (some (sR (sN w15 200 16) a0 6 (some (wZ w15)))).bind fun w19 => (some (sR (sN w19 200 16) a0 7 (some (wZ w19)))).bind fun w23 => (some (sR (sN w23 200 16) a0 8 (some (wZ w23)))).bind fun w27 => (some (sR (sN w27 200 16) a0 9 (some (wZ w27)))).bind fun w31 => (some (sR (sN w31 200 16) a0 10 (some (wZ w31)))).bind fun w35 => (some (sR (sN w35 200 256) a0 11 (some (wZ w35)))).bind fun w39 => (some (sR (sN w39 200 24) a0 12 (some (wZ w39)))).bind fun w43 => (some (sR (sN w43 200 24) a0 13 (some (wZ w43)))).bind fun w47 => (some (sR (sN w47 200 24) a0 14 (some (wZ w47)))).bind fun w51 => (some (sR (sN w51 200 24) a0 15 (some (wZ w51)))).bind fun w55 => (some (sR (sN w55 200 8) a0 16 (some (wZ w55)))).bind fun w59 => (some (sI w59 a0 17 (0 : Int32))).bind fun w61 => (some (sI w61 a0 18 (0 : Int32))).bind fun w63 => (some (sR (sN w63 200 50) a0 19 (some (wZ w63)))).bind fun w67 => (some (sR (sN w67 200 50) a0 20 (some (wZ w67)))).bind fun w71 => (some (sR (sN w71 200 50) a0 21 (some (wZ w71)))).bind fun w75 => (some (sR (sN w75 200 50) a0 22 (some (wZ w75)))).bind fun w79 => (some (sR (sN w79 200 20) a0 23 (some (wZ w79)))).bind fun w83 => (some (sR (sN w83 203 50) a0 24 (some (wZ w83)))).bind fun w87 => (some (sI w87 a0 25 (0 : Int32))).bind fun w89 => (some (sI w89 a0 26 (0 : Int32))).bind fun w91 => (some (sI w91 a0 27 (0 : Int32))).bind fun w93 => (some (sR (sN w93 200 16) a0 28 (some (wZ w93)))).bind fun w97 => (some (sR (sN w97 200 16) a0 29 (some (wZ w97)))).bind fun w101 => (some (sR (sN w101 200 3000) a0 30 (some (wZ w101)))).bind fun w105 => (some (sR (sN w105 200 25) a0 31 (some (wZ w105)))).bind fun w109 => (some (sI w109 a0 32 (-1 : Int32))).bind fun w111 => (some (sI w111 a0 33 (-1 : Int32))).bind fun w113 => (some (sI w113 a0 34 (-1 : Int32))).bind fun w115 => (some (sI w115 a0 35 (-1 : Int32))).bind fun w117 => (some (sI w117 a0 36 (0 : Int32))).bind fun w119 => (some (sI w119 a0 37 (0 : Int32))).bind fun w121 => (some (sI w121 a0 38 (0 : Int32))).bind fun w123 => (some (sI w123 a0 39 (0 : Int32))).bind fun w125 => (some (sI w125 a0 40 (0 : Int32))).bind fun w127 => (some (sI w127 a0 41 (0 : Int32))).bind fun w129 => (some (sI w129 a0 42 (0 : Int32))).bind fun w131 => (some (sI w131 a0 43 (0 : Int32))).bind fun w133 => (some (sR (sN w133 200 121) a0 44 (some (wZ w133)))).bind fun w137 => (some (sR (sN w137 203 121) a0 45 (some (wZ w137)))).bind fun w141 => (some (sI w141 a0 46 (0 : Int32))).bind fun w143 => (some (sI w143 a0 47 (0 : Int32))).bind fun w145 => (some (sI w145 a0 48 (0 : Int32))).bind fun w147 => (some (sI w147 a0 49 (0 : Int32))).bind fun w149 => (some (sI w149 a0 50 (0 : Int32))).bind fun w151 => (some (sR (sN w151 200 30) a0 51 (some (wZ w151)))).bind fun w155 => (some (sR (sN w155 200 30) a0 52 (some (wZ w155)))).bind fun w159 => (some (sR (sN w159 200 30) a0 53 (some (wZ w159)))).bind fun w163 => (some (sR (sN w163 200 30) a0 54 (some (wZ w163)))).bind fun w167 => (some (sI w167 a0 55 (0 : Int32))).bind fun w169 => (some (sR (sN w169 200 40) a0 56 (some (wZ w169)))).bind fun w173 => (some (sR (sN w173 200 40) a0 57 (some (wZ w173)))).bind fun w177 => (some (sR (sN w177 200 40) a0 58 (some (wZ w177)))).bind fun w181 => (some (sR (sN w181 200 40) a0 59 (some (wZ w181)))).bind fun w185 => (some (sR (sN w185 200 16) a0 60 (some (wZ w185)))).bind fun w189 => (some (sR (sN w189 200 256) a0 61 (some (wZ w189)))).bind fun w193 => (some (sR (sN w193 200 9) a0 62 (some (wZ w193)))).bind fun w197 => (some (sR (sN w197 200 9) a0 63 (some (wZ w197)))).bind fun w201 => (some (sI w201 a0 64 (0 : Int32))).bind fun w203 => (some (sR (sN w203 200 56) a0 65 (some (wZ w203)))).bind fun w207 => (some (sR (sN w207 200 279) a0 66 (some (wZ w207)))).bind fun w211 => (some (sI w211 a0 67 (0 : Int32))).bind fun w213 => (some (sR (sN w213 200 24) a0 68 (some (wZ w213)))).bind fun w217 => (some (sR (sN w217 200 192) a0 69 (some (wZ w217)))).bind fun w221 => (some (sI w221 a0 70 (0 : Int32))).bind fun w223 => (some (sI w223 a0 71 (0 : Int32))).bind fun w225 => (some (sR (sN w225 200 60) a0 72 (some (wZ w225)))).bind fun w229 => (some (sR (sN w229 200 200) a0 73 (some (wZ w229)))).bind fun w233 => (some (sR (sN w233 200 200) a0 74 (some (wZ w233)))).bind fun w237 => (some (sR (sN w237 200 200) a0 75 (some (wZ w237)))).bind fun w241 => if inb (0 : Int32) (wT (sN w241 200 6) (wZ w241)).2 then (if inb (1 : Int32) (wT (sI (sN w241 200 6) (wZ w241) ((0 : Int32).toNatClampNeg) (-1 : Int32)) (wZ w241)).2 then (if inb (2 : Int32) (wT (sI (sI (sN w241 200 6) (wZ w241) ((0 : Int32).toNatClampNeg) (-1 : Int32)) (wZ w241) ((1 : Int32).toNatClampNeg) (-1 : Int32)) (wZ w241)).2 then (if inb (3 : Int32) (wT (sI (sI (sI (sN w241 200 6) (wZ w241) ((0 : Int32).toNatClampNeg) (-1 : Int32)) (wZ w241) ((1 : Int32).toNatClampNeg) (-1 : Int32)) (wZ w241) ((2 : Int32).toNatClampNeg) (-1 : Int32)) (wZ w241)).2 then (if inb (4 : Int32) (wT (sI (sI (sI (sI (sN w241 200 6) (wZ w241) ((0 : Int32).toNatClampNeg) (-1 : Int32)) (wZ w241) ((1 : Int32).toNatClampNeg) (-1 : Int32)) (wZ w241) ((2 : Int32).toNatClampNeg) (-1 : Int32)) (wZ w241) ((3 : Int32).toNatClampNeg) (-1 : Int32)) (wZ w241)).2 then (if inb (5 : Int32) (wT (sI (sI (sI (sI (sI (sN w241 200 6) (wZ w241) ((0 : Int32).toNatClampNeg) (-1 : Int32)) (wZ w241) ((1 : Int32).toNatClampNeg) (-1 : Int32)) (wZ w241) ((2 : Int32).toNatClampNeg) (-1 : Int32)) (wZ w241) ((3 : Int32).toNatClampNeg) (-1 : Int32)) (wZ w241) ((4 : Int32).toNatClampNeg) (-1 : Int32)) (wZ w241)).2 then ((some (sR (sI (sI (sI (sI (sI (sI (sN w241 200 6) (wZ w241) ((0 : Int32).toNatClampNeg) (-1 : Int32)) (wZ w241) ((1 : Int32).toNatClampNeg) (-1 : Int32)) (wZ w241) ((2 : Int32).toNatClampNeg) (-1 : Int32)) (wZ w241) ((3 : Int32).toNatClampNeg) (-1 : Int32)) (wZ w241) ((4 : Int32).toNatClampNeg) (-1 : Int32)) (wZ w241) ((5 : Int32).toNatClampNeg) (-1 : Int32)) a0 76 (some (wZ w241)))).bind fun w251 => (some (sR (sN w251 200 6) a0 77 (some (wZ w251)))).bind fun w255 => (some (sR (sN w255 204 360) a0 78 (some (wZ w255)))).bind fun w259 => (it n (f_X4_initN_L586 n a0) ((0 : Int32), sR (sN w259 204 60) a0 79 (some (wZ w259)))).bind fun q586_622 => some q586_622.2) else none) else none) else none) else none) else none) else none
theorem hd_X4_initN : yX4_init.cls ≠ "java/lang/invoke/MethodHandle" ∧ yX4_init.cls ≠ "java/lang/invoke/VarHandle" ∧ (parseMethodDescriptor yX4_init.desc).map (fun d => d.parameters.length) = some 0 := by decide +kernel
set_option maxHeartbeats 4000000 in
set_option maxRecDepth 100000 in
theorem met_X4_initN (l : Launch) (G : Gw) (z : Nat) (H0 : Heap) (n : Nat) (w : Wd) (a0 : Nat) (q : Wd) (h : f_X4_initN n a0 w = some q) (ht0 : (wT w a0).1 = 5) : Met l yX4_init (ws_ yX4_init cX4_init 2 none) ({ frames := 1, cells := 49, slots := 6302, locals := 20 } : Room) (pcIn G z H0 w [.ref (z + a0)]) (qIn G z H0 q none) 49 6302 (fun q => z ≤ q) := by
  refine mIn (by decide) (Nat.le_of_ble_eq_true rfl) ?_
  intro p e s m below meth c ls hx hb hr hml hown hts hlocks hnm hK hR hN hl
  have hown : s.vm.findClass RX4 = some m.cls := hown
  have hl : lv_has ls 2 [(0, .ref (z + a0))] := hl
  have hL : lok z [] := lok_nil
  unfold f_X4_initN at h
  generalize s.heap = H at hR ⊢
  generalize ([] : List Loc) = locs at hL ⊢
  refine lv_aload_n hx hb dX4_init_0 rfl (lv_at hl 0 rfl) ?_
  refine W.objInit hx hb hown (hts _ q1632) (hts _ q156) (hts _ q157) rfl (hl.1.trans hml.symm) rfl dX4_init_1 (Nat.le_of_ble_eq_true rfl) (Nat.le_of_ble_eq_true rfl) ?_
  refine lv_aload_n hx hb dX4_init_4 rfl (lv_at hl 0 rfl) ?_
  refine lv_iconst (v := 0) hx hb dX4_init_5 (by decide) ?_
  refine x_putI (k := 0) (o := "BarredBooksModel") (n := "today") (d := "I") (fin := false) (ty := .int) (host := "BarredBooks") hx hb hts hown hK hR hL rfl (Fam.one (r := (RX4, TX4, 80)) ht0 rfl ok4 (by decide)) (Or.inl (hts _ q1633)) (fun _ h9 => h9) (Or.inl rfl) rfl rfl rfl dX4_init_6 (fun H locs hR hL => ?_)
  rw [← wT_sI _ a0 0 (0 : Int32)] at ht0
  obtain ⟨w1, hw2, h⟩ := bnd h
  have hw2 := Option.some.inj hw2
  rw [hw2] at hR ht0
  refine lv_aload_n hx hb dX4_init_9 rfl (lv_at hl 0 rfl) ?_
  refine lv_iconst (v := 0) hx hb dX4_init_10 (by decide) ?_
  refine x_putI (k := 1) (o := "BarredBooksModel") (n := "persons") (d := "I") (fin := false) (ty := .int) (host := "BarredBooks") hx hb hts hown hK hR hL rfl (Fam.one (r := (RX4, TX4, 80)) ht0 rfl ok4 (by decide)) (Or.inl (hts _ q1634)) (fun _ h9 => h9) (Or.inl rfl) rfl rfl rfl dX4_init_11 (fun H locs hR hL => ?_)
  rw [← wT_sI _ a0 1 (0 : Int32)] at ht0
  obtain ⟨w3, hw4, h⟩ := bnd h
  have hw4 := Option.some.inj hw4
  rw [hw4] at hR ht0
  refine lv_aload_n hx hb dX4_init_14 rfl (lv_at hl 0 rfl) ?_
  refine lv_iconst (v := 0) hx hb dX4_init_15 (by decide) ?_
  refine x_putI (k := 2) (o := "BarredBooksModel") (n := "books") (d := "I") (fin := false) (ty := .int) (host := "BarredBooks") hx hb hts hown hK hR hL rfl (Fam.one (r := (RX4, TX4, 80)) ht0 rfl ok4 (by decide)) (Or.inl (hts _ q1635)) (fun _ h9 => h9) (Or.inl rfl) rfl rfl rfl dX4_init_16 (fun H locs hR hL => ?_)
  rw [← wT_sI _ a0 2 (0 : Int32)] at ht0
  obtain ⟨w5, hw6, h⟩ := bnd h
  have hw6 := Option.some.inj hw6
  rw [hw6] at hR ht0
  refine lv_aload_n hx hb dX4_init_19 rfl (lv_at hl 0 rfl) ?_
  refine lv_iconst (v := 0) hx hb dX4_init_20 (by decide) ?_
  refine x_putI (k := 3) (o := "BarredBooksModel") (n := "editions") (d := "I") (fin := false) (ty := .int) (host := "BarredBooks") hx hb hts hown hK hR hL rfl (Fam.one (r := (RX4, TX4, 80)) ht0 rfl ok4 (by decide)) (Or.inl (hts _ q1636)) (fun _ h9 => h9) (Or.inl rfl) rfl rfl rfl dX4_init_21 (fun H locs hR hL => ?_)
  rw [← wT_sI _ a0 3 (0 : Int32)] at ht0
  obtain ⟨w7, hw8, h⟩ := bnd h
  have hw8 := Option.some.inj hw8
  rw [hw8] at hR ht0
  refine lv_aload_n hx hb dX4_init_24 rfl (lv_at hl 0 rfl) ?_
  refine lv_bipush (v := 64) hx hb dX4_init_25 (by decide) ?_
  have hs9 : wT (sN w7 200 64) a0 = wT w7 a0 := tag_sN hR (by rw [ht0]; decide)
  refine x_newa (atype := .int) (t := 0) (N := 64) hx hb (hts _ q183) hK hR rfl (by decide) (by decide) (by decide) (by decide) (by decide) (by decide) (by decide) dX4_init_27 (fun H hR => ?_)
  rw [← hs9] at ht0
  have hg10 : (wT (sN w7 200 64) (wZ w7)).1 = 200 := by rw [wT_sN, if_pos rfl]
  refine x_putR (k := 4) (o := "BarredBooksModel") (n := "road") (d := "[I") (fin := true) (ty := (.array .int)) (v := some (wZ w7)) (host := "BarredBooks") hx hb hts hown hK hR hL rfl (Fam.one (r := (RX4, TX4, 80)) ht0 rfl ok4 (by decide)) (Or.inl (hts _ q1637)) (fun _ h9 => h9) (Or.inr ⟨rfl, hnm, rfl⟩) rfl rfl dX4_init_29 (fun H locs hR hL => ?_)
  rw [← wT_sR _ a0 4 (some (wZ w7))] at ht0
  rw [← wT_sR _ a0 4 (some (wZ w7))] at hg10
  obtain ⟨w11, hw12, h⟩ := bnd h
  have hw12 := Option.some.inj hw12
  rw [hw12] at hR ht0
  refine lv_aload_n hx hb dX4_init_32 rfl (lv_at hl 0 rfl) ?_
  refine lv_bipush (v := 16) hx hb dX4_init_33 (by decide) ?_
  have hs13 : wT (sN w11 200 16) a0 = wT w11 a0 := tag_sN hR (by rw [ht0]; decide)
  refine x_newa (atype := .int) (t := 0) (N := 16) hx hb (hts _ q183) hK hR rfl (by decide) (by decide) (by decide) (by decide) (by decide) (by decide) (by decide) dX4_init_35 (fun H hR => ?_)
  rw [← hs13] at ht0
  have hg14 : (wT (sN w11 200 16) (wZ w11)).1 = 200 := by rw [wT_sN, if_pos rfl]
  refine x_putR (k := 5) (o := "BarredBooksModel") (n := "homeOf") (d := "[I") (fin := true) (ty := (.array .int)) (v := some (wZ w11)) (host := "BarredBooks") hx hb hts hown hK hR hL rfl (Fam.one (r := (RX4, TX4, 80)) ht0 rfl ok4 (by decide)) (Or.inl (hts _ q1638)) (fun _ h9 => h9) (Or.inr ⟨rfl, hnm, rfl⟩) rfl rfl dX4_init_37 (fun H locs hR hL => ?_)
  rw [← wT_sR _ a0 5 (some (wZ w11))] at ht0
  rw [← wT_sR _ a0 5 (some (wZ w11))] at hg14
  obtain ⟨w15, hw16, h⟩ := bnd h
  have hw16 := Option.some.inj hw16
  rw [hw16] at hR ht0
  refine lv_aload_n hx hb dX4_init_40 rfl (lv_at hl 0 rfl) ?_
  refine lv_bipush (v := 16) hx hb dX4_init_41 (by decide) ?_
  have hs17 : wT (sN w15 200 16) a0 = wT w15 a0 := tag_sN hR (by rw [ht0]; decide)
  refine x_newa (atype := .int) (t := 0) (N := 16) hx hb (hts _ q183) hK hR rfl (by decide) (by decide) (by decide) (by decide) (by decide) (by decide) (by decide) dX4_init_43 (fun H hR => ?_)
  rw [← hs17] at ht0
  have hg18 : (wT (sN w15 200 16) (wZ w15)).1 = 200 := by rw [wT_sN, if_pos rfl]
  refine x_putR (k := 6) (o := "BarredBooksModel") (n := "rankOf") (d := "[I") (fin := true) (ty := (.array .int)) (v := some (wZ w15)) (host := "BarredBooks") hx hb hts hown hK hR hL rfl (Fam.one (r := (RX4, TX4, 80)) ht0 rfl ok4 (by decide)) (Or.inl (hts _ q1639)) (fun _ h9 => h9) (Or.inr ⟨rfl, hnm, rfl⟩) rfl rfl dX4_init_45 (fun H locs hR hL => ?_)
  rw [← wT_sR _ a0 6 (some (wZ w15))] at ht0
  rw [← wT_sR _ a0 6 (some (wZ w15))] at hg18
  obtain ⟨w19, hw20, h⟩ := bnd h
  have hw20 := Option.some.inj hw20
  rw [hw20] at hR ht0
  refine lv_aload_n hx hb dX4_init_48 rfl (lv_at hl 0 rfl) ?_
  refine lv_bipush (v := 16) hx hb dX4_init_49 (by decide) ?_
  have hs21 : wT (sN w19 200 16) a0 = wT w19 a0 := tag_sN hR (by rw [ht0]; decide)
  refine x_newa (atype := .int) (t := 0) (N := 16) hx hb (hts _ q183) hK hR rfl (by decide) (by decide) (by decide) (by decide) (by decide) (by decide) (by decide) dX4_init_51 (fun H hR => ?_)
  rw [← hs21] at ht0
  have hg22 : (wT (sN w19 200 16) (wZ w19)).1 = 200 := by rw [wT_sN, if_pos rfl]
  refine x_putR (k := 7) (o := "BarredBooksModel") (n := "title") (d := "[I") (fin := true) (ty := (.array .int)) (v := some (wZ w19)) (host := "BarredBooks") hx hb hts hown hK hR hL rfl (Fam.one (r := (RX4, TX4, 80)) ht0 rfl ok4 (by decide)) (Or.inl (hts _ q1640)) (fun _ h9 => h9) (Or.inr ⟨rfl, hnm, rfl⟩) rfl rfl dX4_init_53 (fun H locs hR hL => ?_)
  rw [← wT_sR _ a0 7 (some (wZ w19))] at ht0
  rw [← wT_sR _ a0 7 (some (wZ w19))] at hg22
  obtain ⟨w23, hw24, h⟩ := bnd h
  have hw24 := Option.some.inj hw24
  rw [hw24] at hR ht0
  refine lv_aload_n hx hb dX4_init_56 rfl (lv_at hl 0 rfl) ?_
  refine lv_bipush (v := 16) hx hb dX4_init_57 (by decide) ?_
  have hs25 : wT (sN w23 200 16) a0 = wT w23 a0 := tag_sN hR (by rw [ht0]; decide)
  refine x_newa (atype := .int) (t := 0) (N := 16) hx hb (hts _ q183) hK hR rfl (by decide) (by decide) (by decide) (by decide) (by decide) (by decide) (by decide) dX4_init_59 (fun H hR => ?_)
  rw [← hs25] at ht0
  have hg26 : (wT (sN w23 200 16) (wZ w23)).1 = 200 := by rw [wT_sN, if_pos rfl]
  refine x_putR (k := 8) (o := "BarredBooksModel") (n := "author") (d := "[I") (fin := true) (ty := (.array .int)) (v := some (wZ w23)) (host := "BarredBooks") hx hb hts hown hK hR hL rfl (Fam.one (r := (RX4, TX4, 80)) ht0 rfl ok4 (by decide)) (Or.inl (hts _ q1641)) (fun _ h9 => h9) (Or.inr ⟨rfl, hnm, rfl⟩) rfl rfl dX4_init_61 (fun H locs hR hL => ?_)
  rw [← wT_sR _ a0 8 (some (wZ w23))] at ht0
  rw [← wT_sR _ a0 8 (some (wZ w23))] at hg26
  obtain ⟨w27, hw28, h⟩ := bnd h
  have hw28 := Option.some.inj hw28
  rw [hw28] at hR ht0
  refine lv_aload_n hx hb dX4_init_64 rfl (lv_at hl 0 rfl) ?_
  refine lv_bipush (v := 16) hx hb dX4_init_65 (by decide) ?_
  have hs29 : wT (sN w27 200 16) a0 = wT w27 a0 := tag_sN hR (by rw [ht0]; decide)
  refine x_newa (atype := .int) (t := 0) (N := 16) hx hb (hts _ q183) hK hR rfl (by decide) (by decide) (by decide) (by decide) (by decide) (by decide) (by decide) dX4_init_67 (fun H hR => ?_)
  rw [← hs29] at ht0
  have hg30 : (wT (sN w27 200 16) (wZ w27)).1 = 200 := by rw [wT_sN, if_pos rfl]
  refine x_putR (k := 9) (o := "BarredBooksModel") (n := "year") (d := "[I") (fin := true) (ty := (.array .int)) (v := some (wZ w27)) (host := "BarredBooks") hx hb hts hown hK hR hL rfl (Fam.one (r := (RX4, TX4, 80)) ht0 rfl ok4 (by decide)) (Or.inl (hts _ q1642)) (fun _ h9 => h9) (Or.inr ⟨rfl, hnm, rfl⟩) rfl rfl dX4_init_69 (fun H locs hR hL => ?_)
  rw [← wT_sR _ a0 9 (some (wZ w27))] at ht0
  rw [← wT_sR _ a0 9 (some (wZ w27))] at hg30
  obtain ⟨w31, hw32, h⟩ := bnd h
  have hw32 := Option.some.inj hw32
  rw [hw32] at hR ht0
  refine lv_aload_n hx hb dX4_init_72 rfl (lv_at hl 0 rfl) ?_
  refine lv_bipush (v := 16) hx hb dX4_init_73 (by decide) ?_
  have hs33 : wT (sN w31 200 16) a0 = wT w31 a0 := tag_sN hR (by rw [ht0]; decide)
  refine x_newa (atype := .int) (t := 0) (N := 16) hx hb (hts _ q183) hK hR rfl (by decide) (by decide) (by decide) (by decide) (by decide) (by decide) (by decide) dX4_init_75 (fun H hR => ?_)
  rw [← hs33] at ht0
  have hg34 : (wT (sN w31 200 16) (wZ w31)).1 = 200 := by rw [wT_sN, if_pos rfl]
  refine x_putR (k := 10) (o := "BarredBooksModel") (n := "lines") (d := "[I") (fin := true) (ty := (.array .int)) (v := some (wZ w31)) (host := "BarredBooks") hx hb hts hown hK hR hL rfl (Fam.one (r := (RX4, TX4, 80)) ht0 rfl ok4 (by decide)) (Or.inl (hts _ q1643)) (fun _ h9 => h9) (Or.inr ⟨rfl, hnm, rfl⟩) rfl rfl dX4_init_77 (fun H locs hR hL => ?_)
  rw [← wT_sR _ a0 10 (some (wZ w31))] at ht0
  rw [← wT_sR _ a0 10 (some (wZ w31))] at hg34
  obtain ⟨w35, hw36, h⟩ := bnd h
  have hw36 := Option.some.inj hw36
  rw [hw36] at hR ht0
  refine lv_aload_n hx hb dX4_init_80 rfl (lv_at hl 0 rfl) ?_
  refine lv_sipush (v := 256) hx hb dX4_init_81 (by decide) ?_
  have hs37 : wT (sN w35 200 256) a0 = wT w35 a0 := tag_sN hR (by rw [ht0]; decide)
  refine x_newa (atype := .int) (t := 0) (N := 256) hx hb (hts _ q183) hK hR rfl (by decide) (by decide) (by decide) (by decide) (by decide) (by decide) (by decide) dX4_init_84 (fun H hR => ?_)
  rw [← hs37] at ht0
  have hg38 : (wT (sN w35 200 256) (wZ w35)).1 = 200 := by rw [wT_sN, if_pos rfl]
  refine x_putR (k := 11) (o := "BarredBooksModel") (n := "words") (d := "[I") (fin := true) (ty := (.array .int)) (v := some (wZ w35)) (host := "BarredBooks") hx hb hts hown hK hR hL rfl (Fam.one (r := (RX4, TX4, 80)) ht0 rfl ok4 (by decide)) (Or.inl (hts _ q1644)) (fun _ h9 => h9) (Or.inr ⟨rfl, hnm, rfl⟩) rfl rfl dX4_init_86 (fun H locs hR hL => ?_)
  rw [← wT_sR _ a0 11 (some (wZ w35))] at ht0
  rw [← wT_sR _ a0 11 (some (wZ w35))] at hg38
  obtain ⟨w39, hw40, h⟩ := bnd h
  have hw40 := Option.some.inj hw40
  rw [hw40] at hR ht0
  refine lv_aload_n hx hb dX4_init_89 rfl (lv_at hl 0 rfl) ?_
  refine lv_bipush (v := 24) hx hb dX4_init_90 (by decide) ?_
  have hs41 : wT (sN w39 200 24) a0 = wT w39 a0 := tag_sN hR (by rw [ht0]; decide)
  refine x_newa (atype := .int) (t := 0) (N := 24) hx hb (hts _ q183) hK hR rfl (by decide) (by decide) (by decide) (by decide) (by decide) (by decide) (by decide) dX4_init_92 (fun H hR => ?_)
  rw [← hs41] at ht0
  have hg42 : (wT (sN w39 200 24) (wZ w39)).1 = 200 := by rw [wT_sN, if_pos rfl]
  refine x_putR (k := 12) (o := "BarredBooksModel") (n := "bookOf") (d := "[I") (fin := true) (ty := (.array .int)) (v := some (wZ w39)) (host := "BarredBooks") hx hb hts hown hK hR hL rfl (Fam.one (r := (RX4, TX4, 80)) ht0 rfl ok4 (by decide)) (Or.inl (hts _ q1645)) (fun _ h9 => h9) (Or.inr ⟨rfl, hnm, rfl⟩) rfl rfl dX4_init_94 (fun H locs hR hL => ?_)
  rw [← wT_sR _ a0 12 (some (wZ w39))] at ht0
  rw [← wT_sR _ a0 12 (some (wZ w39))] at hg42
  obtain ⟨w43, hw44, h⟩ := bnd h
  have hw44 := Option.some.inj hw44
  rw [hw44] at hR ht0
  refine lv_aload_n hx hb dX4_init_97 rfl (lv_at hl 0 rfl) ?_
  refine lv_bipush (v := 24) hx hb dX4_init_98 (by decide) ?_
  have hs45 : wT (sN w43 200 24) a0 = wT w43 a0 := tag_sN hR (by rw [ht0]; decide)
  refine x_newa (atype := .int) (t := 0) (N := 24) hx hb (hts _ q183) hK hR rfl (by decide) (by decide) (by decide) (by decide) (by decide) (by decide) (by decide) dX4_init_100 (fun H hR => ?_)
  rw [← hs45] at ht0
  have hg46 : (wT (sN w43 200 24) (wZ w43)).1 = 200 := by rw [wT_sN, if_pos rfl]
  refine x_putR (k := 13) (o := "BarredBooksModel") (n := "linesOf") (d := "[I") (fin := true) (ty := (.array .int)) (v := some (wZ w43)) (host := "BarredBooks") hx hb hts hown hK hR hL rfl (Fam.one (r := (RX4, TX4, 80)) ht0 rfl ok4 (by decide)) (Or.inl (hts _ q1646)) (fun _ h9 => h9) (Or.inr ⟨rfl, hnm, rfl⟩) rfl rfl dX4_init_102 (fun H locs hR hL => ?_)
  rw [← wT_sR _ a0 13 (some (wZ w43))] at ht0
  rw [← wT_sR _ a0 13 (some (wZ w43))] at hg46
  obtain ⟨w47, hw48, h⟩ := bnd h
  have hw48 := Option.some.inj hw48
  rw [hw48] at hR ht0
  refine lv_aload_n hx hb dX4_init_105 rfl (lv_at hl 0 rfl) ?_
  refine lv_bipush (v := 24) hx hb dX4_init_106 (by decide) ?_
  have hs49 : wT (sN w47 200 24) a0 = wT w47 a0 := tag_sN hR (by rw [ht0]; decide)
  refine x_newa (atype := .int) (t := 0) (N := 24) hx hb (hts _ q183) hK hR rfl (by decide) (by decide) (by decide) (by decide) (by decide) (by decide) (by decide) dX4_init_108 (fun H hR => ?_)
  rw [← hs49] at ht0
  have hg50 : (wT (sN w47 200 24) (wZ w47)).1 = 200 := by rw [wT_sN, if_pos rfl]
  refine x_putR (k := 14) (o := "BarredBooksModel") (n := "townOf") (d := "[I") (fin := true) (ty := (.array .int)) (v := some (wZ w47)) (host := "BarredBooks") hx hb hts hown hK hR hL rfl (Fam.one (r := (RX4, TX4, 80)) ht0 rfl ok4 (by decide)) (Or.inl (hts _ q1647)) (fun _ h9 => h9) (Or.inr ⟨rfl, hnm, rfl⟩) rfl rfl dX4_init_110 (fun H locs hR hL => ?_)
  rw [← wT_sR _ a0 14 (some (wZ w47))] at ht0
  rw [← wT_sR _ a0 14 (some (wZ w47))] at hg50
  obtain ⟨w51, hw52, h⟩ := bnd h
  have hw52 := Option.some.inj hw52
  rw [hw52] at hR ht0
  refine lv_aload_n hx hb dX4_init_113 rfl (lv_at hl 0 rfl) ?_
  refine lv_bipush (v := 24) hx hb dX4_init_114 (by decide) ?_
  have hs53 : wT (sN w51 200 24) a0 = wT w51 a0 := tag_sN hR (by rw [ht0]; decide)
  refine x_newa (atype := .int) (t := 0) (N := 24) hx hb (hts _ q183) hK hR rfl (by decide) (by decide) (by decide) (by decide) (by decide) (by decide) (by decide) dX4_init_116 (fun H hR => ?_)
  rw [← hs53] at ht0
  have hg54 : (wT (sN w51 200 24) (wZ w51)).1 = 200 := by rw [wT_sN, if_pos rfl]
  refine x_putR (k := 15) (o := "BarredBooksModel") (n := "fromOf") (d := "[I") (fin := true) (ty := (.array .int)) (v := some (wZ w51)) (host := "BarredBooks") hx hb hts hown hK hR hL rfl (Fam.one (r := (RX4, TX4, 80)) ht0 rfl ok4 (by decide)) (Or.inl (hts _ q1648)) (fun _ h9 => h9) (Or.inr ⟨rfl, hnm, rfl⟩) rfl rfl dX4_init_118 (fun H locs hR hL => ?_)
  rw [← wT_sR _ a0 15 (some (wZ w51))] at ht0
  rw [← wT_sR _ a0 15 (some (wZ w51))] at hg54
  obtain ⟨w55, hw56, h⟩ := bnd h
  have hw56 := Option.some.inj hw56
  rw [hw56] at hR ht0
  refine lv_aload_n hx hb dX4_init_121 rfl (lv_at hl 0 rfl) ?_
  refine lv_bipush (v := 8) hx hb dX4_init_122 (by decide) ?_
  have hs57 : wT (sN w55 200 8) a0 = wT w55 a0 := tag_sN hR (by rw [ht0]; decide)
  refine x_newa (atype := .int) (t := 0) (N := 8) hx hb (hts _ q183) hK hR rfl (by decide) (by decide) (by decide) (by decide) (by decide) (by decide) (by decide) dX4_init_124 (fun H hR => ?_)
  rw [← hs57] at ht0
  have hg58 : (wT (sN w55 200 8) (wZ w55)).1 = 200 := by rw [wT_sN, if_pos rfl]
  refine x_putR (k := 16) (o := "BarredBooksModel") (n := "fars") (d := "[I") (fin := true) (ty := (.array .int)) (v := some (wZ w55)) (host := "BarredBooks") hx hb hts hown hK hR hL rfl (Fam.one (r := (RX4, TX4, 80)) ht0 rfl ok4 (by decide)) (Or.inl (hts _ q1649)) (fun _ h9 => h9) (Or.inr ⟨rfl, hnm, rfl⟩) rfl rfl dX4_init_126 (fun H locs hR hL => ?_)
  rw [← wT_sR _ a0 16 (some (wZ w55))] at ht0
  rw [← wT_sR _ a0 16 (some (wZ w55))] at hg58
  obtain ⟨w59, hw60, h⟩ := bnd h
  have hw60 := Option.some.inj hw60
  rw [hw60] at hR ht0
  refine lv_aload_n hx hb dX4_init_129 rfl (lv_at hl 0 rfl) ?_
  refine lv_iconst (v := 0) hx hb dX4_init_130 (by decide) ?_
  refine x_putI (k := 17) (o := "BarredBooksModel") (n := "cards") (d := "I") (fin := false) (ty := .int) (host := "BarredBooks") hx hb hts hown hK hR hL rfl (Fam.one (r := (RX4, TX4, 80)) ht0 rfl ok4 (by decide)) (Or.inl (hts _ q1650)) (fun _ h9 => h9) (Or.inl rfl) rfl rfl rfl dX4_init_131 (fun H locs hR hL => ?_)
  rw [← wT_sI _ a0 17 (0 : Int32)] at ht0
  obtain ⟨w61, hw62, h⟩ := bnd h
  have hw62 := Option.some.inj hw62
  rw [hw62] at hR ht0
  refine lv_aload_n hx hb dX4_init_134 rfl (lv_at hl 0 rfl) ?_
  refine lv_iconst (v := 0) hx hb dX4_init_135 (by decide) ?_
  refine x_putI (k := 18) (o := "BarredBooksModel") (n := "ran") (d := "I") (fin := false) (ty := .int) (host := "BarredBooks") hx hb hts hown hK hR hL rfl (Fam.one (r := (RX4, TX4, 80)) ht0 rfl ok4 (by decide)) (Or.inl (hts _ q1651)) (fun _ h9 => h9) (Or.inl rfl) rfl rfl rfl dX4_init_136 (fun H locs hR hL => ?_)
  rw [← wT_sI _ a0 18 (0 : Int32)] at ht0
  obtain ⟨w63, hw64, h⟩ := bnd h
  have hw64 := Option.some.inj hw64
  rw [hw64] at hR ht0
  refine lv_aload_n hx hb dX4_init_139 rfl (lv_at hl 0 rfl) ?_
  refine lv_bipush (v := 50) hx hb dX4_init_140 (by decide) ?_
  have hs65 : wT (sN w63 200 50) a0 = wT w63 a0 := tag_sN hR (by rw [ht0]; decide)
  refine x_newa (atype := .int) (t := 0) (N := 50) hx hb (hts _ q183) hK hR rfl (by decide) (by decide) (by decide) (by decide) (by decide) (by decide) (by decide) dX4_init_142 (fun H hR => ?_)
  rw [← hs65] at ht0
  have hg66 : (wT (sN w63 200 50) (wZ w63)).1 = 200 := by rw [wT_sN, if_pos rfl]
  refine x_putR (k := 19) (o := "BarredBooksModel") (n := "cardKind") (d := "[I") (fin := true) (ty := (.array .int)) (v := some (wZ w63)) (host := "BarredBooks") hx hb hts hown hK hR hL rfl (Fam.one (r := (RX4, TX4, 80)) ht0 rfl ok4 (by decide)) (Or.inl (hts _ q1652)) (fun _ h9 => h9) (Or.inr ⟨rfl, hnm, rfl⟩) rfl rfl dX4_init_144 (fun H locs hR hL => ?_)
  rw [← wT_sR _ a0 19 (some (wZ w63))] at ht0
  rw [← wT_sR _ a0 19 (some (wZ w63))] at hg66
  obtain ⟨w67, hw68, h⟩ := bnd h
  have hw68 := Option.some.inj hw68
  rw [hw68] at hR ht0
  refine lv_aload_n hx hb dX4_init_147 rfl (lv_at hl 0 rfl) ?_
  refine lv_bipush (v := 50) hx hb dX4_init_148 (by decide) ?_
  have hs69 : wT (sN w67 200 50) a0 = wT w67 a0 := tag_sN hR (by rw [ht0]; decide)
  refine x_newa (atype := .int) (t := 0) (N := 50) hx hb (hts _ q183) hK hR rfl (by decide) (by decide) (by decide) (by decide) (by decide) (by decide) (by decide) dX4_init_150 (fun H hR => ?_)
  rw [← hs69] at ht0
  have hg70 : (wT (sN w67 200 50) (wZ w67)).1 = 200 := by rw [wT_sN, if_pos rfl]
  refine x_putR (k := 20) (o := "BarredBooksModel") (n := "cardEdition") (d := "[I") (fin := true) (ty := (.array .int)) (v := some (wZ w67)) (host := "BarredBooks") hx hb hts hown hK hR hL rfl (Fam.one (r := (RX4, TX4, 80)) ht0 rfl ok4 (by decide)) (Or.inl (hts _ q1653)) (fun _ h9 => h9) (Or.inr ⟨rfl, hnm, rfl⟩) rfl rfl dX4_init_152 (fun H locs hR hL => ?_)
  rw [← wT_sR _ a0 20 (some (wZ w67))] at ht0
  rw [← wT_sR _ a0 20 (some (wZ w67))] at hg70
  obtain ⟨w71, hw72, h⟩ := bnd h
  have hw72 := Option.some.inj hw72
  rw [hw72] at hR ht0
  refine lv_aload_n hx hb dX4_init_155 rfl (lv_at hl 0 rfl) ?_
  refine lv_bipush (v := 50) hx hb dX4_init_156 (by decide) ?_
  have hs73 : wT (sN w71 200 50) a0 = wT w71 a0 := tag_sN hR (by rw [ht0]; decide)
  refine x_newa (atype := .int) (t := 0) (N := 50) hx hb (hts _ q183) hK hR rfl (by decide) (by decide) (by decide) (by decide) (by decide) (by decide) (by decide) dX4_init_158 (fun H hR => ?_)
  rw [← hs73] at ht0
  have hg74 : (wT (sN w71 200 50) (wZ w71)).1 = 200 := by rw [wT_sN, if_pos rfl]
  refine x_putR (k := 21) (o := "BarredBooksModel") (n := "cardNumber") (d := "[I") (fin := true) (ty := (.array .int)) (v := some (wZ w71)) (host := "BarredBooks") hx hb hts hown hK hR hL rfl (Fam.one (r := (RX4, TX4, 80)) ht0 rfl ok4 (by decide)) (Or.inl (hts _ q1654)) (fun _ h9 => h9) (Or.inr ⟨rfl, hnm, rfl⟩) rfl rfl dX4_init_160 (fun H locs hR hL => ?_)
  rw [← wT_sR _ a0 21 (some (wZ w71))] at ht0
  rw [← wT_sR _ a0 21 (some (wZ w71))] at hg74
  obtain ⟨w75, hw76, h⟩ := bnd h
  have hw76 := Option.some.inj hw76
  rw [hw76] at hR ht0
  refine lv_aload_n hx hb dX4_init_163 rfl (lv_at hl 0 rfl) ?_
  refine lv_bipush (v := 50) hx hb dX4_init_164 (by decide) ?_
  have hs77 : wT (sN w75 200 50) a0 = wT w75 a0 := tag_sN hR (by rw [ht0]; decide)
  refine x_newa (atype := .int) (t := 0) (N := 50) hx hb (hts _ q183) hK hR rfl (by decide) (by decide) (by decide) (by decide) (by decide) (by decide) (by decide) dX4_init_166 (fun H hR => ?_)
  rw [← hs77] at ht0
  have hg78 : (wT (sN w75 200 50) (wZ w75)).1 = 200 := by rw [wT_sN, if_pos rfl]
  refine x_putR (k := 22) (o := "BarredBooksModel") (n := "righted") (d := "[I") (fin := true) (ty := (.array .int)) (v := some (wZ w75)) (host := "BarredBooks") hx hb hts hown hK hR hL rfl (Fam.one (r := (RX4, TX4, 80)) ht0 rfl ok4 (by decide)) (Or.inl (hts _ q1655)) (fun _ h9 => h9) (Or.inr ⟨rfl, hnm, rfl⟩) rfl rfl dX4_init_168 (fun H locs hR hL => ?_)
  rw [← wT_sR _ a0 22 (some (wZ w75))] at ht0
  rw [← wT_sR _ a0 22 (some (wZ w75))] at hg78
  obtain ⟨w79, hw80, h⟩ := bnd h
  have hw80 := Option.some.inj hw80
  rw [hw80] at hR ht0
  refine lv_aload_n hx hb dX4_init_171 rfl (lv_at hl 0 rfl) ?_
  refine lv_bipush (v := 20) hx hb dX4_init_172 (by decide) ?_
  have hs81 : wT (sN w79 200 20) a0 = wT w79 a0 := tag_sN hR (by rw [ht0]; decide)
  refine x_newa (atype := .int) (t := 0) (N := 20) hx hb (hts _ q183) hK hR rfl (by decide) (by decide) (by decide) (by decide) (by decide) (by decide) (by decide) dX4_init_174 (fun H hR => ?_)
  rw [← hs81] at ht0
  have hg82 : (wT (sN w79 200 20) (wZ w79)).1 = 200 := by rw [wT_sN, if_pos rfl]
  refine x_putR (k := 23) (o := "BarredBooksModel") (n := "bodies") (d := "[I") (fin := true) (ty := (.array .int)) (v := some (wZ w79)) (host := "BarredBooks") hx hb hts hown hK hR hL rfl (Fam.one (r := (RX4, TX4, 80)) ht0 rfl ok4 (by decide)) (Or.inl (hts _ q1656)) (fun _ h9 => h9) (Or.inr ⟨rfl, hnm, rfl⟩) rfl rfl dX4_init_176 (fun H locs hR hL => ?_)
  rw [← wT_sR _ a0 23 (some (wZ w79))] at ht0
  rw [← wT_sR _ a0 23 (some (wZ w79))] at hg82
  obtain ⟨w83, hw84, h⟩ := bnd h
  have hw84 := Option.some.inj hw84
  rw [hw84] at hR ht0
  refine lv_aload_n hx hb dX4_init_179 rfl (lv_at hl 0 rfl) ?_
  refine lv_bipush (v := 50) hx hb dX4_init_180 (by decide) ?_
  have hs85 : wT (sN w83 203 50) a0 = wT w83 a0 := tag_sN hR (by rw [ht0]; decide)
  refine x_newa (atype := .boolean) (t := 3) (N := 50) hx hb (hts _ q1559) hK hR rfl (by decide) (by decide) (by decide) (by decide) (by decide) (by decide) (by decide) dX4_init_182 (fun H hR => ?_)
  rw [← hs85] at ht0
  have hg86 : (wT (sN w83 203 50) (wZ w83)).1 = 203 := by rw [wT_sN, if_pos rfl]
  refine x_putR (k := 24) (o := "BarredBooksModel") (n := "isMended") (d := "[Z") (fin := true) (ty := (.array .boolean)) (v := some (wZ w83)) (host := "BarredBooks") hx hb hts hown hK hR hL rfl (Fam.one (r := (RX4, TX4, 80)) ht0 rfl ok4 (by decide)) (Or.inl (hts _ q1657)) (fun _ h9 => h9) (Or.inr ⟨rfl, hnm, rfl⟩) rfl rfl dX4_init_184 (fun H locs hR hL => ?_)
  rw [← wT_sR _ a0 24 (some (wZ w83))] at ht0
  rw [← wT_sR _ a0 24 (some (wZ w83))] at hg86
  obtain ⟨w87, hw88, h⟩ := bnd h
  have hw88 := Option.some.inj hw88
  rw [hw88] at hR ht0
  refine lv_aload_n hx hb dX4_init_187 rfl (lv_at hl 0 rfl) ?_
  refine lv_iconst (v := 0) hx hb dX4_init_188 (by decide) ?_
  refine x_putI (k := 25) (o := "BarredBooksModel") (n := "decrees") (d := "I") (fin := false) (ty := .int) (host := "BarredBooks") hx hb hts hown hK hR hL rfl (Fam.one (r := (RX4, TX4, 80)) ht0 rfl ok4 (by decide)) (Or.inl (hts _ q1658)) (fun _ h9 => h9) (Or.inl rfl) rfl rfl rfl dX4_init_189 (fun H locs hR hL => ?_)
  rw [← wT_sI _ a0 25 (0 : Int32)] at ht0
  obtain ⟨w89, hw90, h⟩ := bnd h
  have hw90 := Option.some.inj hw90
  rw [hw90] at hR ht0
  refine lv_aload_n hx hb dX4_init_192 rfl (lv_at hl 0 rfl) ?_
  refine lv_iconst (v := 0) hx hb dX4_init_193 (by decide) ?_
  refine x_putI (k := 26) (o := "BarredBooksModel") (n := "choices") (d := "I") (fin := false) (ty := .int) (host := "BarredBooks") hx hb hts hown hK hR hL rfl (Fam.one (r := (RX4, TX4, 80)) ht0 rfl ok4 (by decide)) (Or.inl (hts _ q1659)) (fun _ h9 => h9) (Or.inl rfl) rfl rfl rfl dX4_init_194 (fun H locs hR hL => ?_)
  rw [← wT_sI _ a0 26 (0 : Int32)] at ht0
  obtain ⟨w91, hw92, h⟩ := bnd h
  have hw92 := Option.some.inj hw92
  rw [hw92] at hR ht0
  refine lv_aload_n hx hb dX4_init_197 rfl (lv_at hl 0 rfl) ?_
  refine lv_iconst (v := 0) hx hb dX4_init_198 (by decide) ?_
  refine x_putI (k := 27) (o := "BarredBooksModel") (n := "fed") (d := "I") (fin := false) (ty := .int) (host := "BarredBooks") hx hb hts hown hK hR hL rfl (Fam.one (r := (RX4, TX4, 80)) ht0 rfl ok4 (by decide)) (Or.inl (hts _ q1660)) (fun _ h9 => h9) (Or.inl rfl) rfl rfl rfl dX4_init_199 (fun H locs hR hL => ?_)
  rw [← wT_sI _ a0 27 (0 : Int32)] at ht0
  obtain ⟨w93, hw94, h⟩ := bnd h
  have hw94 := Option.some.inj hw94
  rw [hw94] at hR ht0
  refine lv_aload_n hx hb dX4_init_202 rfl (lv_at hl 0 rfl) ?_
  refine lv_bipush (v := 16) hx hb dX4_init_203 (by decide) ?_
  have hs95 : wT (sN w93 200 16) a0 = wT w93 a0 := tag_sN hR (by rw [ht0]; decide)
  refine x_newa (atype := .int) (t := 0) (N := 16) hx hb (hts _ q183) hK hR rfl (by decide) (by decide) (by decide) (by decide) (by decide) (by decide) (by decide) dX4_init_205 (fun H hR => ?_)
  rw [← hs95] at ht0
  have hg96 : (wT (sN w93 200 16) (wZ w93)).1 = 200 := by rw [wT_sN, if_pos rfl]
  refine x_putR (k := 28) (o := "BarredBooksModel") (n := "issued") (d := "[I") (fin := true) (ty := (.array .int)) (v := some (wZ w93)) (host := "BarredBooks") hx hb hts hown hK hR hL rfl (Fam.one (r := (RX4, TX4, 80)) ht0 rfl ok4 (by decide)) (Or.inl (hts _ q1661)) (fun _ h9 => h9) (Or.inr ⟨rfl, hnm, rfl⟩) rfl rfl dX4_init_207 (fun H locs hR hL => ?_)
  rw [← wT_sR _ a0 28 (some (wZ w93))] at ht0
  rw [← wT_sR _ a0 28 (some (wZ w93))] at hg96
  obtain ⟨w97, hw98, h⟩ := bnd h
  have hw98 := Option.some.inj hw98
  rw [hw98] at hR ht0
  refine lv_aload_n hx hb dX4_init_210 rfl (lv_at hl 0 rfl) ?_
  refine lv_bipush (v := 16) hx hb dX4_init_211 (by decide) ?_
  have hs99 : wT (sN w97 200 16) a0 = wT w97 a0 := tag_sN hR (by rw [ht0]; decide)
  refine x_newa (atype := .int) (t := 0) (N := 16) hx hb (hts _ q183) hK hR rfl (by decide) (by decide) (by decide) (by decide) (by decide) (by decide) (by decide) dX4_init_213 (fun H hR => ?_)
  rw [← hs99] at ht0
  have hg100 : (wT (sN w97 200 16) (wZ w97)).1 = 200 := by rw [wT_sN, if_pos rfl]
  refine x_putR (k := 29) (o := "BarredBooksModel") (n := "revoked") (d := "[I") (fin := true) (ty := (.array .int)) (v := some (wZ w97)) (host := "BarredBooks") hx hb hts hown hK hR hL rfl (Fam.one (r := (RX4, TX4, 80)) ht0 rfl ok4 (by decide)) (Or.inl (hts _ q1662)) (fun _ h9 => h9) (Or.inr ⟨rfl, hnm, rfl⟩) rfl rfl dX4_init_215 (fun H locs hR hL => ?_)
  rw [← wT_sR _ a0 29 (some (wZ w97))] at ht0
  rw [← wT_sR _ a0 29 (some (wZ w97))] at hg100
  obtain ⟨w101, hw102, h⟩ := bnd h
  have hw102 := Option.some.inj hw102
  rw [hw102] at hR ht0
  refine lv_aload_n hx hb dX4_init_218 rfl (lv_at hl 0 rfl) ?_
  refine lv_sipush (v := 3000) hx hb dX4_init_219 (by decide) ?_
  have hs103 : wT (sN w101 200 3000) a0 = wT w101 a0 := tag_sN hR (by rw [ht0]; decide)
  refine x_newa (atype := .int) (t := 0) (N := 3000) hx hb (hts _ q183) hK hR rfl (by decide) (by decide) (by decide) (by decide) (by decide) (by decide) (by decide) dX4_init_222 (fun H hR => ?_)
  rw [← hs103] at ht0
  have hg104 : (wT (sN w101 200 3000) (wZ w101)).1 = 200 := by rw [wT_sN, if_pos rfl]
  refine x_putR (k := 30) (o := "BarredBooksModel") (n := "text") (d := "[I") (fin := true) (ty := (.array .int)) (v := some (wZ w101)) (host := "BarredBooks") hx hb hts hown hK hR hL rfl (Fam.one (r := (RX4, TX4, 80)) ht0 rfl ok4 (by decide)) (Or.inl (hts _ q1663)) (fun _ h9 => h9) (Or.inr ⟨rfl, hnm, rfl⟩) rfl rfl dX4_init_224 (fun H locs hR hL => ?_)
  rw [← wT_sR _ a0 30 (some (wZ w101))] at ht0
  rw [← wT_sR _ a0 30 (some (wZ w101))] at hg104
  obtain ⟨w105, hw106, h⟩ := bnd h
  have hw106 := Option.some.inj hw106
  rw [hw106] at hR ht0
  refine lv_aload_n hx hb dX4_init_227 rfl (lv_at hl 0 rfl) ?_
  refine lv_bipush (v := 25) hx hb dX4_init_228 (by decide) ?_
  have hs107 : wT (sN w105 200 25) a0 = wT w105 a0 := tag_sN hR (by rw [ht0]; decide)
  refine x_newa (atype := .int) (t := 0) (N := 25) hx hb (hts _ q183) hK hR rfl (by decide) (by decide) (by decide) (by decide) (by decide) (by decide) (by decide) dX4_init_230 (fun H hR => ?_)
  rw [← hs107] at ht0
  have hg108 : (wT (sN w105 200 25) (wZ w105)).1 = 200 := by rw [wT_sN, if_pos rfl]
  refine x_putR (k := 31) (o := "BarredBooksModel") (n := "size") (d := "[I") (fin := true) (ty := (.array .int)) (v := some (wZ w105)) (host := "BarredBooks") hx hb hts hown hK hR hL rfl (Fam.one (r := (RX4, TX4, 80)) ht0 rfl ok4 (by decide)) (Or.inl (hts _ q1664)) (fun _ h9 => h9) (Or.inr ⟨rfl, hnm, rfl⟩) rfl rfl dX4_init_232 (fun H locs hR hL => ?_)
  rw [← wT_sR _ a0 31 (some (wZ w105))] at ht0
  rw [← wT_sR _ a0 31 (some (wZ w105))] at hg108
  obtain ⟨w109, hw110, h⟩ := bnd h
  have hw110 := Option.some.inj hw110
  rw [hw110] at hR ht0
  refine lv_aload_n hx hb dX4_init_235 rfl (lv_at hl 0 rfl) ?_
  refine lv_iconst (v := -1) hx hb dX4_init_236 (by decide) ?_
  refine x_putI (k := 32) (o := "BarredBooksModel") (n := "askEdition") (d := "I") (fin := false) (ty := .int) (host := "BarredBooks") hx hb hts hown hK hR hL rfl (Fam.one (r := (RX4, TX4, 80)) ht0 rfl ok4 (by decide)) (Or.inl (hts _ q1665)) (fun _ h9 => h9) (Or.inl rfl) rfl rfl rfl dX4_init_237 (fun H locs hR hL => ?_)
  rw [← wT_sI _ a0 32 (-1 : Int32)] at ht0
  obtain ⟨w111, hw112, h⟩ := bnd h
  have hw112 := Option.some.inj hw112
  rw [hw112] at hR ht0
  refine lv_aload_n hx hb dX4_init_240 rfl (lv_at hl 0 rfl) ?_
  refine lv_iconst (v := -1) hx hb dX4_init_241 (by decide) ?_
  refine x_putI (k := 33) (o := "BarredBooksModel") (n := "askLine") (d := "I") (fin := false) (ty := .int) (host := "BarredBooks") hx hb hts hown hK hR hL rfl (Fam.one (r := (RX4, TX4, 80)) ht0 rfl ok4 (by decide)) (Or.inl (hts _ q1666)) (fun _ h9 => h9) (Or.inl rfl) rfl rfl rfl dX4_init_242 (fun H locs hR hL => ?_)
  rw [← wT_sI _ a0 33 (-1 : Int32)] at ht0
  obtain ⟨w113, hw114, h⟩ := bnd h
  have hw114 := Option.some.inj hw114
  rw [hw114] at hR ht0
  refine lv_aload_n hx hb dX4_init_245 rfl (lv_at hl 0 rfl) ?_
  refine lv_iconst (v := -1) hx hb dX4_init_246 (by decide) ?_
  refine x_putI (k := 34) (o := "BarredBooksModel") (n := "askRank") (d := "I") (fin := false) (ty := .int) (host := "BarredBooks") hx hb hts hown hK hR hL rfl (Fam.one (r := (RX4, TX4, 80)) ht0 rfl ok4 (by decide)) (Or.inl (hts _ q1667)) (fun _ h9 => h9) (Or.inl rfl) rfl rfl rfl dX4_init_247 (fun H locs hR hL => ?_)
  rw [← wT_sI _ a0 34 (-1 : Int32)] at ht0
  obtain ⟨w115, hw116, h⟩ := bnd h
  have hw116 := Option.some.inj hw116
  rw [hw116] at hR ht0
  refine lv_aload_n hx hb dX4_init_250 rfl (lv_at hl 0 rfl) ?_
  refine lv_iconst (v := -1) hx hb dX4_init_251 (by decide) ?_
  refine x_putI (k := 35) (o := "BarredBooksModel") (n := "bars") (d := "I") (fin := false) (ty := .int) (host := "BarredBooks") hx hb hts hown hK hR hL rfl (Fam.one (r := (RX4, TX4, 80)) ht0 rfl ok4 (by decide)) (Or.inl (hts _ q1668)) (fun _ h9 => h9) (Or.inl rfl) rfl rfl rfl dX4_init_252 (fun H locs hR hL => ?_)
  rw [← wT_sI _ a0 35 (-1 : Int32)] at ht0
  obtain ⟨w117, hw118, h⟩ := bnd h
  have hw118 := Option.some.inj hw118
  rw [hw118] at hR ht0
  refine lv_aload_n hx hb dX4_init_255 rfl (lv_at hl 0 rfl) ?_
  refine lv_iconst (v := 0) hx hb dX4_init_256 (by decide) ?_
  refine x_putI (k := 36) (o := "BarredBooksModel") (n := "leaveDays") (d := "I") (fin := false) (ty := .int) (host := "BarredBooks") hx hb hts hown hK hR hL rfl (Fam.one (r := (RX4, TX4, 80)) ht0 rfl ok4 (by decide)) (Or.inl (hts _ q1669)) (fun _ h9 => h9) (Or.inl rfl) rfl rfl rfl dX4_init_257 (fun H locs hR hL => ?_)
  rw [← wT_sI _ a0 36 (0 : Int32)] at ht0
  obtain ⟨w119, hw120, h⟩ := bnd h
  have hw120 := Option.some.inj hw120
  rw [hw120] at hR ht0
  refine lv_aload_n hx hb dX4_init_260 rfl (lv_at hl 0 rfl) ?_
  refine lv_iconst (v := 0) hx hb dX4_init_261 (by decide) ?_
  refine x_putI (k := 37) (o := "BarredBooksModel") (n := "clauses") (d := "I") (fin := false) (ty := .int) (host := "BarredBooks") hx hb hts hown hK hR hL rfl (Fam.one (r := (RX4, TX4, 80)) ht0 rfl ok4 (by decide)) (Or.inl (hts _ q1670)) (fun _ h9 => h9) (Or.inl rfl) rfl rfl rfl dX4_init_262 (fun H locs hR hL => ?_)
  rw [← wT_sI _ a0 37 (0 : Int32)] at ht0
  obtain ⟨w121, hw122, h⟩ := bnd h
  have hw122 := Option.some.inj hw122
  rw [hw122] at hR ht0
  refine lv_aload_n hx hb dX4_init_265 rfl (lv_at hl 0 rfl) ?_
  refine lv_iconst (v := 0) hx hb dX4_init_266 (by decide) ?_
  refine x_putI (k := 38) (o := "BarredBooksModel") (n := "base") (d := "I") (fin := false) (ty := .int) (host := "BarredBooks") hx hb hts hown hK hR hL rfl (Fam.one (r := (RX4, TX4, 80)) ht0 rfl ok4 (by decide)) (Or.inl (hts _ q1671)) (fun _ h9 => h9) (Or.inl rfl) rfl rfl rfl dX4_init_267 (fun H locs hR hL => ?_)
  rw [← wT_sI _ a0 38 (0 : Int32)] at ht0
  obtain ⟨w123, hw124, h⟩ := bnd h
  have hw124 := Option.some.inj hw124
  rw [hw124] at hR ht0
  refine lv_aload_n hx hb dX4_init_270 rfl (lv_at hl 0 rfl) ?_
  refine lv_iconst (v := 0) hx hb dX4_init_271 (by decide) ?_
  refine x_putI (k := 39) (o := "BarredBooksModel") (n := "many") (d := "I") (fin := false) (ty := .int) (host := "BarredBooks") hx hb hts hown hK hR hL rfl (Fam.one (r := (RX4, TX4, 80)) ht0 rfl ok4 (by decide)) (Or.inl (hts _ q1672)) (fun _ h9 => h9) (Or.inl rfl) rfl rfl rfl dX4_init_272 (fun H locs hR hL => ?_)
  rw [← wT_sI _ a0 39 (0 : Int32)] at ht0
  obtain ⟨w125, hw126, h⟩ := bnd h
  have hw126 := Option.some.inj hw126
  rw [hw126] at hR ht0
  refine lv_aload_n hx hb dX4_init_275 rfl (lv_at hl 0 rfl) ?_
  refine lv_iconst (v := 0) hx hb dX4_init_276 (by decide) ?_
  refine x_putI (k := 40) (o := "BarredBooksModel") (n := "at") (d := "I") (fin := false) (ty := .int) (host := "BarredBooks") hx hb hts hown hK hR hL rfl (Fam.one (r := (RX4, TX4, 80)) ht0 rfl ok4 (by decide)) (Or.inl (hts _ q1673)) (fun _ h9 => h9) (Or.inl rfl) rfl rfl rfl dX4_init_277 (fun H locs hR hL => ?_)
  rw [← wT_sI _ a0 40 (0 : Int32)] at ht0
  obtain ⟨w127, hw128, h⟩ := bnd h
  have hw128 := Option.some.inj hw128
  rw [hw128] at hR ht0
  refine lv_aload_n hx hb dX4_init_280 rfl (lv_at hl 0 rfl) ?_
  refine lv_iconst (v := 0) hx hb dX4_init_281 (by decide) ?_
  refine x_putI (k := 41) (o := "BarredBooksModel") (n := "isStruck") (d := "Z") (fin := false) (ty := .boolean) (host := "BarredBooks") hx hb hts hown hK hR hL rfl (Fam.one (r := (RX4, TX4, 80)) ht0 rfl ok4 (by decide)) (Or.inl (hts _ q1674)) (fun _ h9 => h9) (Or.inl rfl) rfl (by decide) (by decide) dX4_init_282 (fun H locs hR hL => ?_)
  rw [← wT_sI _ a0 41 (0 : Int32)] at ht0
  obtain ⟨w129, hw130, h⟩ := bnd h
  have hw130 := Option.some.inj hw130
  rw [hw130] at hR ht0
  refine lv_aload_n hx hb dX4_init_285 rfl (lv_at hl 0 rfl) ?_
  refine lv_iconst (v := 0) hx hb dX4_init_286 (by decide) ?_
  refine x_putI (k := 42) (o := "BarredBooksModel") (n := "isOther") (d := "Z") (fin := false) (ty := .boolean) (host := "BarredBooks") hx hb hts hown hK hR hL rfl (Fam.one (r := (RX4, TX4, 80)) ht0 rfl ok4 (by decide)) (Or.inl (hts _ q1675)) (fun _ h9 => h9) (Or.inl rfl) rfl (by decide) (by decide) dX4_init_287 (fun H locs hR hL => ?_)
  rw [← wT_sI _ a0 42 (0 : Int32)] at ht0
  obtain ⟨w131, hw132, h⟩ := bnd h
  have hw132 := Option.some.inj hw132
  rw [hw132] at hR ht0
  refine lv_aload_n hx hb dX4_init_290 rfl (lv_at hl 0 rfl) ?_
  refine lv_iconst (v := 0) hx hb dX4_init_291 (by decide) ?_
  refine x_putI (k := 43) (o := "BarredBooksModel") (n := "value") (d := "I") (fin := false) (ty := .int) (host := "BarredBooks") hx hb hts hown hK hR hL rfl (Fam.one (r := (RX4, TX4, 80)) ht0 rfl ok4 (by decide)) (Or.inl (hts _ q1676)) (fun _ h9 => h9) (Or.inl rfl) rfl rfl rfl dX4_init_292 (fun H locs hR hL => ?_)
  rw [← wT_sI _ a0 43 (0 : Int32)] at ht0
  obtain ⟨w133, hw134, h⟩ := bnd h
  have hw134 := Option.some.inj hw134
  rw [hw134] at hR ht0
  refine lv_aload_n hx hb dX4_init_295 rfl (lv_at hl 0 rfl) ?_
  refine lv_bipush (v := 121) hx hb dX4_init_296 (by decide) ?_
  have hs135 : wT (sN w133 200 121) a0 = wT w133 a0 := tag_sN hR (by rw [ht0]; decide)
  refine x_newa (atype := .int) (t := 0) (N := 121) hx hb (hts _ q183) hK hR rfl (by decide) (by decide) (by decide) (by decide) (by decide) (by decide) (by decide) dX4_init_298 (fun H hR => ?_)
  rw [← hs135] at ht0
  have hg136 : (wT (sN w133 200 121) (wZ w133)).1 = 200 := by rw [wT_sN, if_pos rfl]
  refine x_putR (k := 44) (o := "BarredBooksModel") (n := "waits") (d := "[I") (fin := true) (ty := (.array .int)) (v := some (wZ w133)) (host := "BarredBooks") hx hb hts hown hK hR hL rfl (Fam.one (r := (RX4, TX4, 80)) ht0 rfl ok4 (by decide)) (Or.inl (hts _ q1677)) (fun _ h9 => h9) (Or.inr ⟨rfl, hnm, rfl⟩) rfl rfl dX4_init_300 (fun H locs hR hL => ?_)
  rw [← wT_sR _ a0 44 (some (wZ w133))] at ht0
  rw [← wT_sR _ a0 44 (some (wZ w133))] at hg136
  obtain ⟨w137, hw138, h⟩ := bnd h
  have hw138 := Option.some.inj hw138
  rw [hw138] at hR ht0
  refine lv_aload_n hx hb dX4_init_303 rfl (lv_at hl 0 rfl) ?_
  refine lv_bipush (v := 121) hx hb dX4_init_304 (by decide) ?_
  have hs139 : wT (sN w137 203 121) a0 = wT w137 a0 := tag_sN hR (by rw [ht0]; decide)
  refine x_newa (atype := .boolean) (t := 3) (N := 121) hx hb (hts _ q1559) hK hR rfl (by decide) (by decide) (by decide) (by decide) (by decide) (by decide) (by decide) dX4_init_306 (fun H hR => ?_)
  rw [← hs139] at ht0
  have hg140 : (wT (sN w137 203 121) (wZ w137)).1 = 203 := by rw [wT_sN, if_pos rfl]
  refine x_putR (k := 45) (o := "BarredBooksModel") (n := "pile") (d := "[Z") (fin := true) (ty := (.array .boolean)) (v := some (wZ w137)) (host := "BarredBooks") hx hb hts hown hK hR hL rfl (Fam.one (r := (RX4, TX4, 80)) ht0 rfl ok4 (by decide)) (Or.inl (hts _ q1678)) (fun _ h9 => h9) (Or.inr ⟨rfl, hnm, rfl⟩) rfl rfl dX4_init_308 (fun H locs hR hL => ?_)
  rw [← wT_sR _ a0 45 (some (wZ w137))] at ht0
  rw [← wT_sR _ a0 45 (some (wZ w137))] at hg140
  obtain ⟨w141, hw142, h⟩ := bnd h
  have hw142 := Option.some.inj hw142
  rw [hw142] at hR ht0
  refine lv_aload_n hx hb dX4_init_311 rfl (lv_at hl 0 rfl) ?_
  refine lv_iconst (v := 0) hx hb dX4_init_312 (by decide) ?_
  refine x_putI (k := 46) (o := "BarredBooksModel") (n := "waiting") (d := "I") (fin := false) (ty := .int) (host := "BarredBooks") hx hb hts hown hK hR hL rfl (Fam.one (r := (RX4, TX4, 80)) ht0 rfl ok4 (by decide)) (Or.inl (hts _ q1679)) (fun _ h9 => h9) (Or.inl rfl) rfl rfl rfl dX4_init_313 (fun H locs hR hL => ?_)
  rw [← wT_sI _ a0 46 (0 : Int32)] at ht0
  obtain ⟨w143, hw144, h⟩ := bnd h
  have hw144 := Option.some.inj hw144
  rw [hw144] at hR ht0
  refine lv_aload_n hx hb dX4_init_316 rfl (lv_at hl 0 rfl) ?_
  refine lv_iconst (v := 0) hx hb dX4_init_317 (by decide) ?_
  refine x_putI (k := 47) (o := "BarredBooksModel") (n := "piled") (d := "I") (fin := false) (ty := .int) (host := "BarredBooks") hx hb hts hown hK hR hL rfl (Fam.one (r := (RX4, TX4, 80)) ht0 rfl ok4 (by decide)) (Or.inl (hts _ q1680)) (fun _ h9 => h9) (Or.inl rfl) rfl rfl rfl dX4_init_318 (fun H locs hR hL => ?_)
  rw [← wT_sI _ a0 47 (0 : Int32)] at ht0
  obtain ⟨w145, hw146, h⟩ := bnd h
  have hw146 := Option.some.inj hw146
  rw [hw146] at hR ht0
  refine lv_aload_n hx hb dX4_init_321 rfl (lv_at hl 0 rfl) ?_
  refine lv_iconst (v := 0) hx hb dX4_init_322 (by decide) ?_
  refine x_putI (k := 48) (o := "BarredBooksModel") (n := "open") (d := "I") (fin := false) (ty := .int) (host := "BarredBooks") hx hb hts hown hK hR hL rfl (Fam.one (r := (RX4, TX4, 80)) ht0 rfl ok4 (by decide)) (Or.inl (hts _ q1681)) (fun _ h9 => h9) (Or.inl rfl) rfl rfl rfl dX4_init_323 (fun H locs hR hL => ?_)
  rw [← wT_sI _ a0 48 (0 : Int32)] at ht0
  obtain ⟨w147, hw148, h⟩ := bnd h
  have hw148 := Option.some.inj hw148
  rw [hw148] at hR ht0
  refine lv_aload_n hx hb dX4_init_326 rfl (lv_at hl 0 rfl) ?_
  refine lv_iconst (v := 0) hx hb dX4_init_327 (by decide) ?_
  refine x_putI (k := 49) (o := "BarredBooksModel") (n := "isBarring") (d := "Z") (fin := false) (ty := .boolean) (host := "BarredBooks") hx hb hts hown hK hR hL rfl (Fam.one (r := (RX4, TX4, 80)) ht0 rfl ok4 (by decide)) (Or.inl (hts _ q1682)) (fun _ h9 => h9) (Or.inl rfl) rfl (by decide) (by decide) dX4_init_328 (fun H locs hR hL => ?_)
  rw [← wT_sI _ a0 49 (0 : Int32)] at ht0
  obtain ⟨w149, hw150, h⟩ := bnd h
  have hw150 := Option.some.inj hw150
  rw [hw150] at hR ht0
  refine lv_aload_n hx hb dX4_init_331 rfl (lv_at hl 0 rfl) ?_
  refine lv_iconst (v := 0) hx hb dX4_init_332 (by decide) ?_
  refine x_putI (k := 50) (o := "BarredBooksModel") (n := "leaves") (d := "I") (fin := false) (ty := .int) (host := "BarredBooks") hx hb hts hown hK hR hL rfl (Fam.one (r := (RX4, TX4, 80)) ht0 rfl ok4 (by decide)) (Or.inl (hts _ q1683)) (fun _ h9 => h9) (Or.inl rfl) rfl rfl rfl dX4_init_333 (fun H locs hR hL => ?_)
  rw [← wT_sI _ a0 50 (0 : Int32)] at ht0
  obtain ⟨w151, hw152, h⟩ := bnd h
  have hw152 := Option.some.inj hw152
  rw [hw152] at hR ht0
  refine lv_aload_n hx hb dX4_init_336 rfl (lv_at hl 0 rfl) ?_
  refine lv_bipush (v := 30) hx hb dX4_init_337 (by decide) ?_
  have hs153 : wT (sN w151 200 30) a0 = wT w151 a0 := tag_sN hR (by rw [ht0]; decide)
  refine x_newa (atype := .int) (t := 0) (N := 30) hx hb (hts _ q183) hK hR rfl (by decide) (by decide) (by decide) (by decide) (by decide) (by decide) (by decide) dX4_init_339 (fun H hR => ?_)
  rw [← hs153] at ht0
  have hg154 : (wT (sN w151 200 30) (wZ w151)).1 = 200 := by rw [wT_sN, if_pos rfl]
  refine x_putR (k := 51) (o := "BarredBooksModel") (n := "leaveOf") (d := "[I") (fin := true) (ty := (.array .int)) (v := some (wZ w151)) (host := "BarredBooks") hx hb hts hown hK hR hL rfl (Fam.one (r := (RX4, TX4, 80)) ht0 rfl ok4 (by decide)) (Or.inl (hts _ q1684)) (fun _ h9 => h9) (Or.inr ⟨rfl, hnm, rfl⟩) rfl rfl dX4_init_341 (fun H locs hR hL => ?_)
  rw [← wT_sR _ a0 51 (some (wZ w151))] at ht0
  rw [← wT_sR _ a0 51 (some (wZ w151))] at hg154
  obtain ⟨w155, hw156, h⟩ := bnd h
  have hw156 := Option.some.inj hw156
  rw [hw156] at hR ht0
  refine lv_aload_n hx hb dX4_init_344 rfl (lv_at hl 0 rfl) ?_
  refine lv_bipush (v := 30) hx hb dX4_init_345 (by decide) ?_
  have hs157 : wT (sN w155 200 30) a0 = wT w155 a0 := tag_sN hR (by rw [ht0]; decide)
  refine x_newa (atype := .int) (t := 0) (N := 30) hx hb (hts _ q183) hK hR rfl (by decide) (by decide) (by decide) (by decide) (by decide) (by decide) (by decide) dX4_init_347 (fun H hR => ?_)
  rw [← hs157] at ht0
  have hg158 : (wT (sN w155 200 30) (wZ w155)).1 = 200 := by rw [wT_sN, if_pos rfl]
  refine x_putR (k := 52) (o := "BarredBooksModel") (n := "leaveBook") (d := "[I") (fin := true) (ty := (.array .int)) (v := some (wZ w155)) (host := "BarredBooks") hx hb hts hown hK hR hL rfl (Fam.one (r := (RX4, TX4, 80)) ht0 rfl ok4 (by decide)) (Or.inl (hts _ q1685)) (fun _ h9 => h9) (Or.inr ⟨rfl, hnm, rfl⟩) rfl rfl dX4_init_349 (fun H locs hR hL => ?_)
  rw [← wT_sR _ a0 52 (some (wZ w155))] at ht0
  rw [← wT_sR _ a0 52 (some (wZ w155))] at hg158
  obtain ⟨w159, hw160, h⟩ := bnd h
  have hw160 := Option.some.inj hw160
  rw [hw160] at hR ht0
  refine lv_aload_n hx hb dX4_init_352 rfl (lv_at hl 0 rfl) ?_
  refine lv_bipush (v := 30) hx hb dX4_init_353 (by decide) ?_
  have hs161 : wT (sN w159 200 30) a0 = wT w159 a0 := tag_sN hR (by rw [ht0]; decide)
  refine x_newa (atype := .int) (t := 0) (N := 30) hx hb (hts _ q183) hK hR rfl (by decide) (by decide) (by decide) (by decide) (by decide) (by decide) (by decide) dX4_init_355 (fun H hR => ?_)
  rw [← hs161] at ht0
  have hg162 : (wT (sN w159 200 30) (wZ w159)).1 = 200 := by rw [wT_sN, if_pos rfl]
  refine x_putR (k := 53) (o := "BarredBooksModel") (n := "leaveFrom") (d := "[I") (fin := true) (ty := (.array .int)) (v := some (wZ w159)) (host := "BarredBooks") hx hb hts hown hK hR hL rfl (Fam.one (r := (RX4, TX4, 80)) ht0 rfl ok4 (by decide)) (Or.inl (hts _ q1686)) (fun _ h9 => h9) (Or.inr ⟨rfl, hnm, rfl⟩) rfl rfl dX4_init_357 (fun H locs hR hL => ?_)
  rw [← wT_sR _ a0 53 (some (wZ w159))] at ht0
  rw [← wT_sR _ a0 53 (some (wZ w159))] at hg162
  obtain ⟨w163, hw164, h⟩ := bnd h
  have hw164 := Option.some.inj hw164
  rw [hw164] at hR ht0
  refine lv_aload_n hx hb dX4_init_360 rfl (lv_at hl 0 rfl) ?_
  refine lv_bipush (v := 30) hx hb dX4_init_361 (by decide) ?_
  have hs165 : wT (sN w163 200 30) a0 = wT w163 a0 := tag_sN hR (by rw [ht0]; decide)
  refine x_newa (atype := .int) (t := 0) (N := 30) hx hb (hts _ q183) hK hR rfl (by decide) (by decide) (by decide) (by decide) (by decide) (by decide) (by decide) dX4_init_363 (fun H hR => ?_)
  rw [← hs165] at ht0
  have hg166 : (wT (sN w163 200 30) (wZ w163)).1 = 200 := by rw [wT_sN, if_pos rfl]
  refine x_putR (k := 54) (o := "BarredBooksModel") (n := "leaveTo") (d := "[I") (fin := true) (ty := (.array .int)) (v := some (wZ w163)) (host := "BarredBooks") hx hb hts hown hK hR hL rfl (Fam.one (r := (RX4, TX4, 80)) ht0 rfl ok4 (by decide)) (Or.inl (hts _ q1687)) (fun _ h9 => h9) (Or.inr ⟨rfl, hnm, rfl⟩) rfl rfl dX4_init_365 (fun H locs hR hL => ?_)
  rw [← wT_sR _ a0 54 (some (wZ w163))] at ht0
  rw [← wT_sR _ a0 54 (some (wZ w163))] at hg166
  obtain ⟨w167, hw168, h⟩ := bnd h
  have hw168 := Option.some.inj hw168
  rw [hw168] at hR ht0
  refine lv_aload_n hx hb dX4_init_368 rfl (lv_at hl 0 rfl) ?_
  refine lv_iconst (v := 0) hx hb dX4_init_369 (by decide) ?_
  refine x_putI (k := 55) (o := "BarredBooksModel") (n := "slips") (d := "I") (fin := false) (ty := .int) (host := "BarredBooks") hx hb hts hown hK hR hL rfl (Fam.one (r := (RX4, TX4, 80)) ht0 rfl ok4 (by decide)) (Or.inl (hts _ q1688)) (fun _ h9 => h9) (Or.inl rfl) rfl rfl rfl dX4_init_370 (fun H locs hR hL => ?_)
  rw [← wT_sI _ a0 55 (0 : Int32)] at ht0
  obtain ⟨w169, hw170, h⟩ := bnd h
  have hw170 := Option.some.inj hw170
  rw [hw170] at hR ht0
  refine lv_aload_n hx hb dX4_init_373 rfl (lv_at hl 0 rfl) ?_
  refine lv_bipush (v := 40) hx hb dX4_init_374 (by decide) ?_
  have hs171 : wT (sN w169 200 40) a0 = wT w169 a0 := tag_sN hR (by rw [ht0]; decide)
  refine x_newa (atype := .int) (t := 0) (N := 40) hx hb (hts _ q183) hK hR rfl (by decide) (by decide) (by decide) (by decide) (by decide) (by decide) (by decide) dX4_init_376 (fun H hR => ?_)
  rw [← hs171] at ht0
  have hg172 : (wT (sN w169 200 40) (wZ w169)).1 = 200 := by rw [wT_sN, if_pos rfl]
  refine x_putR (k := 56) (o := "BarredBooksModel") (n := "slipTitle") (d := "[I") (fin := true) (ty := (.array .int)) (v := some (wZ w169)) (host := "BarredBooks") hx hb hts hown hK hR hL rfl (Fam.one (r := (RX4, TX4, 80)) ht0 rfl ok4 (by decide)) (Or.inl (hts _ q1689)) (fun _ h9 => h9) (Or.inr ⟨rfl, hnm, rfl⟩) rfl rfl dX4_init_378 (fun H locs hR hL => ?_)
  rw [← wT_sR _ a0 56 (some (wZ w169))] at ht0
  rw [← wT_sR _ a0 56 (some (wZ w169))] at hg172
  obtain ⟨w173, hw174, h⟩ := bnd h
  have hw174 := Option.some.inj hw174
  rw [hw174] at hR ht0
  refine lv_aload_n hx hb dX4_init_381 rfl (lv_at hl 0 rfl) ?_
  refine lv_bipush (v := 40) hx hb dX4_init_382 (by decide) ?_
  have hs175 : wT (sN w173 200 40) a0 = wT w173 a0 := tag_sN hR (by rw [ht0]; decide)
  refine x_newa (atype := .int) (t := 0) (N := 40) hx hb (hts _ q183) hK hR rfl (by decide) (by decide) (by decide) (by decide) (by decide) (by decide) (by decide) dX4_init_384 (fun H hR => ?_)
  rw [← hs175] at ht0
  have hg176 : (wT (sN w173 200 40) (wZ w173)).1 = 200 := by rw [wT_sN, if_pos rfl]
  refine x_putR (k := 57) (o := "BarredBooksModel") (n := "slipAuthor") (d := "[I") (fin := true) (ty := (.array .int)) (v := some (wZ w173)) (host := "BarredBooks") hx hb hts hown hK hR hL rfl (Fam.one (r := (RX4, TX4, 80)) ht0 rfl ok4 (by decide)) (Or.inl (hts _ q1690)) (fun _ h9 => h9) (Or.inr ⟨rfl, hnm, rfl⟩) rfl rfl dX4_init_386 (fun H locs hR hL => ?_)
  rw [← wT_sR _ a0 57 (some (wZ w173))] at ht0
  rw [← wT_sR _ a0 57 (some (wZ w173))] at hg176
  obtain ⟨w177, hw178, h⟩ := bnd h
  have hw178 := Option.some.inj hw178
  rw [hw178] at hR ht0
  refine lv_aload_n hx hb dX4_init_389 rfl (lv_at hl 0 rfl) ?_
  refine lv_bipush (v := 40) hx hb dX4_init_390 (by decide) ?_
  have hs179 : wT (sN w177 200 40) a0 = wT w177 a0 := tag_sN hR (by rw [ht0]; decide)
  refine x_newa (atype := .int) (t := 0) (N := 40) hx hb (hts _ q183) hK hR rfl (by decide) (by decide) (by decide) (by decide) (by decide) (by decide) (by decide) dX4_init_392 (fun H hR => ?_)
  rw [← hs179] at ht0
  have hg180 : (wT (sN w177 200 40) (wZ w177)).1 = 200 := by rw [wT_sN, if_pos rfl]
  refine x_putR (k := 58) (o := "BarredBooksModel") (n := "slipYear") (d := "[I") (fin := true) (ty := (.array .int)) (v := some (wZ w177)) (host := "BarredBooks") hx hb hts hown hK hR hL rfl (Fam.one (r := (RX4, TX4, 80)) ht0 rfl ok4 (by decide)) (Or.inl (hts _ q1691)) (fun _ h9 => h9) (Or.inr ⟨rfl, hnm, rfl⟩) rfl rfl dX4_init_394 (fun H locs hR hL => ?_)
  rw [← wT_sR _ a0 58 (some (wZ w177))] at ht0
  rw [← wT_sR _ a0 58 (some (wZ w177))] at hg180
  obtain ⟨w181, hw182, h⟩ := bnd h
  have hw182 := Option.some.inj hw182
  rw [hw182] at hR ht0
  refine lv_aload_n hx hb dX4_init_397 rfl (lv_at hl 0 rfl) ?_
  refine lv_bipush (v := 40) hx hb dX4_init_398 (by decide) ?_
  have hs183 : wT (sN w181 200 40) a0 = wT w181 a0 := tag_sN hR (by rw [ht0]; decide)
  refine x_newa (atype := .int) (t := 0) (N := 40) hx hb (hts _ q183) hK hR rfl (by decide) (by decide) (by decide) (by decide) (by decide) (by decide) (by decide) dX4_init_400 (fun H hR => ?_)
  rw [← hs183] at ht0
  have hg184 : (wT (sN w181 200 40) (wZ w181)).1 = 200 := by rw [wT_sN, if_pos rfl]
  refine x_putR (k := 59) (o := "BarredBooksModel") (n := "slipFrom") (d := "[I") (fin := true) (ty := (.array .int)) (v := some (wZ w181)) (host := "BarredBooks") hx hb hts hown hK hR hL rfl (Fam.one (r := (RX4, TX4, 80)) ht0 rfl ok4 (by decide)) (Or.inl (hts _ q1692)) (fun _ h9 => h9) (Or.inr ⟨rfl, hnm, rfl⟩) rfl rfl dX4_init_402 (fun H locs hR hL => ?_)
  rw [← wT_sR _ a0 59 (some (wZ w181))] at ht0
  rw [← wT_sR _ a0 59 (some (wZ w181))] at hg184
  obtain ⟨w185, hw186, h⟩ := bnd h
  have hw186 := Option.some.inj hw186
  rw [hw186] at hR ht0
  refine lv_aload_n hx hb dX4_init_405 rfl (lv_at hl 0 rfl) ?_
  refine lv_bipush (v := 16) hx hb dX4_init_406 (by decide) ?_
  have hs187 : wT (sN w185 200 16) a0 = wT w185 a0 := tag_sN hR (by rw [ht0]; decide)
  refine x_newa (atype := .int) (t := 0) (N := 16) hx hb (hts _ q183) hK hR rfl (by decide) (by decide) (by decide) (by decide) (by decide) (by decide) (by decide) dX4_init_408 (fun H hR => ?_)
  rw [← hs187] at ht0
  have hg188 : (wT (sN w185 200 16) (wZ w185)).1 = 200 := by rw [wT_sN, if_pos rfl]
  refine x_putR (k := 60) (o := "BarredBooksModel") (n := "pairs") (d := "[I") (fin := true) (ty := (.array .int)) (v := some (wZ w185)) (host := "BarredBooks") hx hb hts hown hK hR hL rfl (Fam.one (r := (RX4, TX4, 80)) ht0 rfl ok4 (by decide)) (Or.inl (hts _ q1693)) (fun _ h9 => h9) (Or.inr ⟨rfl, hnm, rfl⟩) rfl rfl dX4_init_410 (fun H locs hR hL => ?_)
  rw [← wT_sR _ a0 60 (some (wZ w185))] at ht0
  rw [← wT_sR _ a0 60 (some (wZ w185))] at hg188
  obtain ⟨w189, hw190, h⟩ := bnd h
  have hw190 := Option.some.inj hw190
  rw [hw190] at hR ht0
  refine lv_aload_n hx hb dX4_init_413 rfl (lv_at hl 0 rfl) ?_
  refine lv_sipush (v := 256) hx hb dX4_init_414 (by decide) ?_
  have hs191 : wT (sN w189 200 256) a0 = wT w189 a0 := tag_sN hR (by rw [ht0]; decide)
  refine x_newa (atype := .int) (t := 0) (N := 256) hx hb (hts _ q183) hK hR rfl (by decide) (by decide) (by decide) (by decide) (by decide) (by decide) (by decide) dX4_init_417 (fun H hR => ?_)
  rw [← hs191] at ht0
  have hg192 : (wT (sN w189 200 256) (wZ w189)).1 = 200 := by rw [wT_sN, if_pos rfl]
  refine x_putR (k := 61) (o := "BarredBooksModel") (n := "apart") (d := "[I") (fin := true) (ty := (.array .int)) (v := some (wZ w189)) (host := "BarredBooks") hx hb hts hown hK hR hL rfl (Fam.one (r := (RX4, TX4, 80)) ht0 rfl ok4 (by decide)) (Or.inl (hts _ q1694)) (fun _ h9 => h9) (Or.inr ⟨rfl, hnm, rfl⟩) rfl rfl dX4_init_419 (fun H locs hR hL => ?_)
  rw [← wT_sR _ a0 61 (some (wZ w189))] at ht0
  rw [← wT_sR _ a0 61 (some (wZ w189))] at hg192
  obtain ⟨w193, hw194, h⟩ := bnd h
  have hw194 := Option.some.inj hw194
  rw [hw194] at hR ht0
  refine lv_aload_n hx hb dX4_init_422 rfl (lv_at hl 0 rfl) ?_
  refine lv_bipush (v := 9) hx hb dX4_init_423 (by decide) ?_
  have hs195 : wT (sN w193 200 9) a0 = wT w193 a0 := tag_sN hR (by rw [ht0]; decide)
  refine x_newa (atype := .int) (t := 0) (N := 9) hx hb (hts _ q183) hK hR rfl (by decide) (by decide) (by decide) (by decide) (by decide) (by decide) (by decide) dX4_init_425 (fun H hR => ?_)
  rw [← hs195] at ht0
  have hg196 : (wT (sN w193 200 9) (wZ w193)).1 = 200 := by rw [wT_sN, if_pos rfl]
  refine x_putR (k := 62) (o := "BarredBooksModel") (n := "lineAt") (d := "[I") (fin := true) (ty := (.array .int)) (v := some (wZ w193)) (host := "BarredBooks") hx hb hts hown hK hR hL rfl (Fam.one (r := (RX4, TX4, 80)) ht0 rfl ok4 (by decide)) (Or.inl (hts _ q1695)) (fun _ h9 => h9) (Or.inr ⟨rfl, hnm, rfl⟩) rfl rfl dX4_init_427 (fun H locs hR hL => ?_)
  rw [← wT_sR _ a0 62 (some (wZ w193))] at ht0
  rw [← wT_sR _ a0 62 (some (wZ w193))] at hg196
  obtain ⟨w197, hw198, h⟩ := bnd h
  have hw198 := Option.some.inj hw198
  rw [hw198] at hR ht0
  refine lv_aload_n hx hb dX4_init_430 rfl (lv_at hl 0 rfl) ?_
  refine lv_bipush (v := 9) hx hb dX4_init_431 (by decide) ?_
  have hs199 : wT (sN w197 200 9) a0 = wT w197 a0 := tag_sN hR (by rw [ht0]; decide)
  refine x_newa (atype := .int) (t := 0) (N := 9) hx hb (hts _ q183) hK hR rfl (by decide) (by decide) (by decide) (by decide) (by decide) (by decide) (by decide) dX4_init_433 (fun H hR => ?_)
  rw [← hs199] at ht0
  have hg200 : (wT (sN w197 200 9) (wZ w197)).1 = 200 := by rw [wT_sN, if_pos rfl]
  refine x_putR (k := 63) (o := "BarredBooksModel") (n := "reader") (d := "[I") (fin := true) (ty := (.array .int)) (v := some (wZ w197)) (host := "BarredBooks") hx hb hts hown hK hR hL rfl (Fam.one (r := (RX4, TX4, 80)) ht0 rfl ok4 (by decide)) (Or.inl (hts _ q1696)) (fun _ h9 => h9) (Or.inr ⟨rfl, hnm, rfl⟩) rfl rfl dX4_init_435 (fun H locs hR hL => ?_)
  rw [← wT_sR _ a0 63 (some (wZ w197))] at ht0
  rw [← wT_sR _ a0 63 (some (wZ w197))] at hg200
  obtain ⟨w201, hw202, h⟩ := bnd h
  have hw202 := Option.some.inj hw202
  rw [hw202] at hR ht0
  refine lv_aload_n hx hb dX4_init_438 rfl (lv_at hl 0 rfl) ?_
  refine lv_iconst (v := 0) hx hb dX4_init_439 (by decide) ?_
  refine x_putI (k := 64) (o := "BarredBooksModel") (n := "lineMany") (d := "I") (fin := false) (ty := .int) (host := "BarredBooks") hx hb hts hown hK hR hL rfl (Fam.one (r := (RX4, TX4, 80)) ht0 rfl ok4 (by decide)) (Or.inl (hts _ q1697)) (fun _ h9 => h9) (Or.inl rfl) rfl rfl rfl dX4_init_440 (fun H locs hR hL => ?_)
  rw [← wT_sI _ a0 64 (0 : Int32)] at ht0
  obtain ⟨w203, hw204, h⟩ := bnd h
  have hw204 := Option.some.inj hw204
  rw [hw204] at hR ht0
  refine lv_aload_n hx hb dX4_init_443 rfl (lv_at hl 0 rfl) ?_
  refine lv_bipush (v := 56) hx hb dX4_init_444 (by decide) ?_
  have hs205 : wT (sN w203 200 56) a0 = wT w203 a0 := tag_sN hR (by rw [ht0]; decide)
  refine x_newa (atype := .int) (t := 0) (N := 56) hx hb (hts _ q183) hK hR rfl (by decide) (by decide) (by decide) (by decide) (by decide) (by decide) (by decide) dX4_init_446 (fun H hR => ?_)
  rw [← hs205] at ht0
  have hg206 : (wT (sN w203 200 56) (wZ w203)).1 = 200 := by rw [wT_sN, if_pos rfl]
  refine x_putR (k := 65) (o := "BarredBooksModel") (n := "found") (d := "[I") (fin := true) (ty := (.array .int)) (v := some (wZ w203)) (host := "BarredBooks") hx hb hts hown hK hR hL rfl (Fam.one (r := (RX4, TX4, 80)) ht0 rfl ok4 (by decide)) (Or.inl (hts _ q1698)) (fun _ h9 => h9) (Or.inr ⟨rfl, hnm, rfl⟩) rfl rfl dX4_init_448 (fun H locs hR hL => ?_)
  rw [← wT_sR _ a0 65 (some (wZ w203))] at ht0
  rw [← wT_sR _ a0 65 (some (wZ w203))] at hg206
  obtain ⟨w207, hw208, h⟩ := bnd h
  have hw208 := Option.some.inj hw208
  rw [hw208] at hR ht0
  refine lv_aload_n hx hb dX4_init_451 rfl (lv_at hl 0 rfl) ?_
  refine lv_sipush (v := 279) hx hb dX4_init_452 (by decide) ?_
  have hs209 : wT (sN w207 200 279) a0 = wT w207 a0 := tag_sN hR (by rw [ht0]; decide)
  refine x_newa (atype := .int) (t := 0) (N := 279) hx hb (hts _ q183) hK hR rfl (by decide) (by decide) (by decide) (by decide) (by decide) (by decide) (by decide) dX4_init_455 (fun H hR => ?_)
  rw [← hs209] at ht0
  have hg210 : (wT (sN w207 200 279) (wZ w207)).1 = 200 := by rw [wT_sN, if_pos rfl]
  refine x_putR (k := 66) (o := "BarredBooksModel") (n := "most") (d := "[I") (fin := true) (ty := (.array .int)) (v := some (wZ w207)) (host := "BarredBooks") hx hb hts hown hK hR hL rfl (Fam.one (r := (RX4, TX4, 80)) ht0 rfl ok4 (by decide)) (Or.inl (hts _ q1699)) (fun _ h9 => h9) (Or.inr ⟨rfl, hnm, rfl⟩) rfl rfl dX4_init_457 (fun H locs hR hL => ?_)
  rw [← wT_sR _ a0 66 (some (wZ w207))] at ht0
  rw [← wT_sR _ a0 66 (some (wZ w207))] at hg210
  obtain ⟨w211, hw212, h⟩ := bnd h
  have hw212 := Option.some.inj hw212
  rw [hw212] at hR ht0
  refine lv_aload_n hx hb dX4_init_460 rfl (lv_at hl 0 rfl) ?_
  refine lv_iconst (v := 0) hx hb dX4_init_461 (by decide) ?_
  refine x_putI (k := 67) (o := "BarredBooksModel") (n := "aims") (d := "I") (fin := false) (ty := .int) (host := "BarredBooks") hx hb hts hown hK hR hL rfl (Fam.one (r := (RX4, TX4, 80)) ht0 rfl ok4 (by decide)) (Or.inl (hts _ q1700)) (fun _ h9 => h9) (Or.inl rfl) rfl rfl rfl dX4_init_462 (fun H locs hR hL => ?_)
  rw [← wT_sI _ a0 67 (0 : Int32)] at ht0
  obtain ⟨w213, hw214, h⟩ := bnd h
  have hw214 := Option.some.inj hw214
  rw [hw214] at hR ht0
  refine lv_aload_n hx hb dX4_init_465 rfl (lv_at hl 0 rfl) ?_
  refine lv_bipush (v := 24) hx hb dX4_init_466 (by decide) ?_
  have hs215 : wT (sN w213 200 24) a0 = wT w213 a0 := tag_sN hR (by rw [ht0]; decide)
  refine x_newa (atype := .int) (t := 0) (N := 24) hx hb (hts _ q183) hK hR rfl (by decide) (by decide) (by decide) (by decide) (by decide) (by decide) (by decide) dX4_init_468 (fun H hR => ?_)
  rw [← hs215] at ht0
  have hg216 : (wT (sN w213 200 24) (wZ w213)).1 = 200 := by rw [wT_sN, if_pos rfl]
  refine x_putR (k := 68) (o := "BarredBooksModel") (n := "aimSet") (d := "[I") (fin := true) (ty := (.array .int)) (v := some (wZ w213)) (host := "BarredBooks") hx hb hts hown hK hR hL rfl (Fam.one (r := (RX4, TX4, 80)) ht0 rfl ok4 (by decide)) (Or.inl (hts _ q1701)) (fun _ h9 => h9) (Or.inr ⟨rfl, hnm, rfl⟩) rfl rfl dX4_init_470 (fun H locs hR hL => ?_)
  rw [← wT_sR _ a0 68 (some (wZ w213))] at ht0
  rw [← wT_sR _ a0 68 (some (wZ w213))] at hg216
  obtain ⟨w217, hw218, h⟩ := bnd h
  have hw218 := Option.some.inj hw218
  rw [hw218] at hR ht0
  refine lv_aload_n hx hb dX4_init_473 rfl (lv_at hl 0 rfl) ?_
  refine lv_sipush (v := 192) hx hb dX4_init_474 (by decide) ?_
  have hs219 : wT (sN w217 200 192) a0 = wT w217 a0 := tag_sN hR (by rw [ht0]; decide)
  refine x_newa (atype := .int) (t := 0) (N := 192) hx hb (hts _ q183) hK hR rfl (by decide) (by decide) (by decide) (by decide) (by decide) (by decide) (by decide) dX4_init_477 (fun H hR => ?_)
  rw [← hs219] at ht0
  have hg220 : (wT (sN w217 200 192) (wZ w217)).1 = 200 := by rw [wT_sN, if_pos rfl]
  refine x_putR (k := 69) (o := "BarredBooksModel") (n := "hits") (d := "[I") (fin := true) (ty := (.array .int)) (v := some (wZ w217)) (host := "BarredBooks") hx hb hts hown hK hR hL rfl (Fam.one (r := (RX4, TX4, 80)) ht0 rfl ok4 (by decide)) (Or.inl (hts _ q1702)) (fun _ h9 => h9) (Or.inr ⟨rfl, hnm, rfl⟩) rfl rfl dX4_init_479 (fun H locs hR hL => ?_)
  rw [← wT_sR _ a0 69 (some (wZ w217))] at ht0
  rw [← wT_sR _ a0 69 (some (wZ w217))] at hg220
  obtain ⟨w221, hw222, h⟩ := bnd h
  have hw222 := Option.some.inj hw222
  rw [hw222] at hR ht0
  refine lv_aload_n hx hb dX4_init_482 rfl (lv_at hl 0 rfl) ?_
  refine lv_iconst (v := 0) hx hb dX4_init_483 (by decide) ?_
  refine x_putI (k := 70) (o := "BarredBooksModel") (n := "copies") (d := "I") (fin := false) (ty := .int) (host := "BarredBooks") hx hb hts hown hK hR hL rfl (Fam.one (r := (RX4, TX4, 80)) ht0 rfl ok4 (by decide)) (Or.inl (hts _ q1703)) (fun _ h9 => h9) (Or.inl rfl) rfl rfl rfl dX4_init_484 (fun H locs hR hL => ?_)
  rw [← wT_sI _ a0 70 (0 : Int32)] at ht0
  obtain ⟨w223, hw224, h⟩ := bnd h
  have hw224 := Option.some.inj hw224
  rw [hw224] at hR ht0
  refine lv_aload_n hx hb dX4_init_487 rfl (lv_at hl 0 rfl) ?_
  refine lv_iconst (v := 0) hx hb dX4_init_488 (by decide) ?_
  refine x_putI (k := 71) (o := "BarredBooksModel") (n := "entries") (d := "I") (fin := false) (ty := .int) (host := "BarredBooks") hx hb hts hown hK hR hL rfl (Fam.one (r := (RX4, TX4, 80)) ht0 rfl ok4 (by decide)) (Or.inl (hts _ q1704)) (fun _ h9 => h9) (Or.inl rfl) rfl rfl rfl dX4_init_489 (fun H locs hR hL => ?_)
  rw [← wT_sI _ a0 71 (0 : Int32)] at ht0
  obtain ⟨w225, hw226, h⟩ := bnd h
  have hw226 := Option.some.inj hw226
  rw [hw226] at hR ht0
  refine lv_aload_n hx hb dX4_init_492 rfl (lv_at hl 0 rfl) ?_
  refine lv_bipush (v := 60) hx hb dX4_init_493 (by decide) ?_
  have hs227 : wT (sN w225 200 60) a0 = wT w225 a0 := tag_sN hR (by rw [ht0]; decide)
  refine x_newa (atype := .int) (t := 0) (N := 60) hx hb (hts _ q183) hK hR rfl (by decide) (by decide) (by decide) (by decide) (by decide) (by decide) (by decide) dX4_init_495 (fun H hR => ?_)
  rw [← hs227] at ht0
  have hg228 : (wT (sN w225 200 60) (wZ w225)).1 = 200 := by rw [wT_sN, if_pos rfl]
  refine x_putR (k := 72) (o := "BarredBooksModel") (n := "copyOf") (d := "[I") (fin := true) (ty := (.array .int)) (v := some (wZ w225)) (host := "BarredBooks") hx hb hts hown hK hR hL rfl (Fam.one (r := (RX4, TX4, 80)) ht0 rfl ok4 (by decide)) (Or.inl (hts _ q1705)) (fun _ h9 => h9) (Or.inr ⟨rfl, hnm, rfl⟩) rfl rfl dX4_init_497 (fun H locs hR hL => ?_)
  rw [← wT_sR _ a0 72 (some (wZ w225))] at ht0
  rw [← wT_sR _ a0 72 (some (wZ w225))] at hg228
  obtain ⟨w229, hw230, h⟩ := bnd h
  have hw230 := Option.some.inj hw230
  rw [hw230] at hR ht0
  refine lv_aload_n hx hb dX4_init_500 rfl (lv_at hl 0 rfl) ?_
  refine lv_sipush (v := 200) hx hb dX4_init_501 (by decide) ?_
  have hs231 : wT (sN w229 200 200) a0 = wT w229 a0 := tag_sN hR (by rw [ht0]; decide)
  refine x_newa (atype := .int) (t := 0) (N := 200) hx hb (hts _ q183) hK hR rfl (by decide) (by decide) (by decide) (by decide) (by decide) (by decide) (by decide) dX4_init_504 (fun H hR => ?_)
  rw [← hs231] at ht0
  have hg232 : (wT (sN w229 200 200) (wZ w229)).1 = 200 := by rw [wT_sN, if_pos rfl]
  refine x_putR (k := 73) (o := "BarredBooksModel") (n := "entryCopy") (d := "[I") (fin := true) (ty := (.array .int)) (v := some (wZ w229)) (host := "BarredBooks") hx hb hts hown hK hR hL rfl (Fam.one (r := (RX4, TX4, 80)) ht0 rfl ok4 (by decide)) (Or.inl (hts _ q1706)) (fun _ h9 => h9) (Or.inr ⟨rfl, hnm, rfl⟩) rfl rfl dX4_init_506 (fun H locs hR hL => ?_)
  rw [← wT_sR _ a0 73 (some (wZ w229))] at ht0
  rw [← wT_sR _ a0 73 (some (wZ w229))] at hg232
  obtain ⟨w233, hw234, h⟩ := bnd h
  have hw234 := Option.some.inj hw234
  rw [hw234] at hR ht0
  refine lv_aload_n hx hb dX4_init_509 rfl (lv_at hl 0 rfl) ?_
  refine lv_sipush (v := 200) hx hb dX4_init_510 (by decide) ?_
  have hs235 : wT (sN w233 200 200) a0 = wT w233 a0 := tag_sN hR (by rw [ht0]; decide)
  refine x_newa (atype := .int) (t := 0) (N := 200) hx hb (hts _ q183) hK hR rfl (by decide) (by decide) (by decide) (by decide) (by decide) (by decide) (by decide) dX4_init_513 (fun H hR => ?_)
  rw [← hs235] at ht0
  have hg236 : (wT (sN w233 200 200) (wZ w233)).1 = 200 := by rw [wT_sN, if_pos rfl]
  refine x_putR (k := 74) (o := "BarredBooksModel") (n := "entrySpot") (d := "[I") (fin := true) (ty := (.array .int)) (v := some (wZ w233)) (host := "BarredBooks") hx hb hts hown hK hR hL rfl (Fam.one (r := (RX4, TX4, 80)) ht0 rfl ok4 (by decide)) (Or.inl (hts _ q1707)) (fun _ h9 => h9) (Or.inr ⟨rfl, hnm, rfl⟩) rfl rfl dX4_init_515 (fun H locs hR hL => ?_)
  rw [← wT_sR _ a0 74 (some (wZ w233))] at ht0
  rw [← wT_sR _ a0 74 (some (wZ w233))] at hg236
  obtain ⟨w237, hw238, h⟩ := bnd h
  have hw238 := Option.some.inj hw238
  rw [hw238] at hR ht0
  refine lv_aload_n hx hb dX4_init_518 rfl (lv_at hl 0 rfl) ?_
  refine lv_sipush (v := 200) hx hb dX4_init_519 (by decide) ?_
  have hs239 : wT (sN w237 200 200) a0 = wT w237 a0 := tag_sN hR (by rw [ht0]; decide)
  refine x_newa (atype := .int) (t := 0) (N := 200) hx hb (hts _ q183) hK hR rfl (by decide) (by decide) (by decide) (by decide) (by decide) (by decide) (by decide) dX4_init_522 (fun H hR => ?_)
  rw [← hs239] at ht0
  have hg240 : (wT (sN w237 200 200) (wZ w237)).1 = 200 := by rw [wT_sN, if_pos rfl]
  refine x_putR (k := 75) (o := "BarredBooksModel") (n := "entryDay") (d := "[I") (fin := true) (ty := (.array .int)) (v := some (wZ w237)) (host := "BarredBooks") hx hb hts hown hK hR hL rfl (Fam.one (r := (RX4, TX4, 80)) ht0 rfl ok4 (by decide)) (Or.inl (hts _ q1708)) (fun _ h9 => h9) (Or.inr ⟨rfl, hnm, rfl⟩) rfl rfl dX4_init_524 (fun H locs hR hL => ?_)
  rw [← wT_sR _ a0 75 (some (wZ w237))] at ht0
  rw [← wT_sR _ a0 75 (some (wZ w237))] at hg240
  obtain ⟨w241, hw242, h⟩ := bnd h
  have hw242 := Option.some.inj hw242
  rw [hw242] at hR ht0
  refine lv_aload_n hx hb dX4_init_527 rfl (lv_at hl 0 rfl) ?_
  refine lv_bipush (v := 6) hx hb dX4_init_528 (by decide) ?_
  have hs243 : wT (sN w241 200 6) a0 = wT w241 a0 := tag_sN hR (by rw [ht0]; decide)
  refine x_newa (atype := .int) (t := 0) (N := 6) hx hb (hts _ q183) hK hR rfl (by decide) (by decide) (by decide) (by decide) (by decide) (by decide) (by decide) dX4_init_530 (fun H hR => ?_)
  rw [← hs243] at ht0
  have hg244 : (wT (sN w241 200 6) (wZ w241)).1 = 200 := by rw [wT_sN, if_pos rfl]
  refine lv_dup hx hb dX4_init_532 rfl ?_
  refine lv_iconst (v := 0) hx hb dX4_init_533 (by decide) ?_
  refine lv_iconst (v := -1) hx hb dX4_init_534 (by decide) ?_
  obtain ⟨hb245, h⟩ := grd h
  refine x_iast hx hb hK hR hL rfl (wT_pair hg244) hb245 dX4_init_535 (fun H locs hR hL => ?_)
  rw [← wT_sI _ (wZ w241) ((0 : Int32).toNatClampNeg) (-1 : Int32)] at ht0
  rw [← wT_sI _ (wZ w241) ((0 : Int32).toNatClampNeg) (-1 : Int32)] at hg244
  refine lv_dup hx hb dX4_init_536 rfl ?_
  refine lv_iconst (v := 1) hx hb dX4_init_537 (by decide) ?_
  refine lv_iconst (v := -1) hx hb dX4_init_538 (by decide) ?_
  obtain ⟨hb246, h⟩ := grd h
  refine x_iast hx hb hK hR hL rfl (wT_pair hg244) hb246 dX4_init_539 (fun H locs hR hL => ?_)
  rw [← wT_sI _ (wZ w241) ((1 : Int32).toNatClampNeg) (-1 : Int32)] at ht0
  rw [← wT_sI _ (wZ w241) ((1 : Int32).toNatClampNeg) (-1 : Int32)] at hg244
  refine lv_dup hx hb dX4_init_540 rfl ?_
  refine lv_iconst (v := 2) hx hb dX4_init_541 (by decide) ?_
  refine lv_iconst (v := -1) hx hb dX4_init_542 (by decide) ?_
  obtain ⟨hb247, h⟩ := grd h
  refine x_iast hx hb hK hR hL rfl (wT_pair hg244) hb247 dX4_init_543 (fun H locs hR hL => ?_)
  rw [← wT_sI _ (wZ w241) ((2 : Int32).toNatClampNeg) (-1 : Int32)] at ht0
  rw [← wT_sI _ (wZ w241) ((2 : Int32).toNatClampNeg) (-1 : Int32)] at hg244
  refine lv_dup hx hb dX4_init_544 rfl ?_
  refine lv_iconst (v := 3) hx hb dX4_init_545 (by decide) ?_
  refine lv_iconst (v := -1) hx hb dX4_init_546 (by decide) ?_
  obtain ⟨hb248, h⟩ := grd h
  refine x_iast hx hb hK hR hL rfl (wT_pair hg244) hb248 dX4_init_547 (fun H locs hR hL => ?_)
  rw [← wT_sI _ (wZ w241) ((3 : Int32).toNatClampNeg) (-1 : Int32)] at ht0
  rw [← wT_sI _ (wZ w241) ((3 : Int32).toNatClampNeg) (-1 : Int32)] at hg244
  refine lv_dup hx hb dX4_init_548 rfl ?_
  refine lv_iconst (v := 4) hx hb dX4_init_549 (by decide) ?_
  refine lv_iconst (v := -1) hx hb dX4_init_550 (by decide) ?_
  obtain ⟨hb249, h⟩ := grd h
  refine x_iast hx hb hK hR hL rfl (wT_pair hg244) hb249 dX4_init_551 (fun H locs hR hL => ?_)
  rw [← wT_sI _ (wZ w241) ((4 : Int32).toNatClampNeg) (-1 : Int32)] at ht0
  rw [← wT_sI _ (wZ w241) ((4 : Int32).toNatClampNeg) (-1 : Int32)] at hg244
  refine lv_dup hx hb dX4_init_552 rfl ?_
  refine lv_iconst (v := 5) hx hb dX4_init_553 (by decide) ?_
  refine lv_iconst (v := -1) hx hb dX4_init_554 (by decide) ?_
  obtain ⟨hb250, h⟩ := grd h
  refine x_iast hx hb hK hR hL rfl (wT_pair hg244) hb250 dX4_init_555 (fun H locs hR hL => ?_)
  rw [← wT_sI _ (wZ w241) ((5 : Int32).toNatClampNeg) (-1 : Int32)] at ht0
  rw [← wT_sI _ (wZ w241) ((5 : Int32).toNatClampNeg) (-1 : Int32)] at hg244
  refine x_putR (k := 76) (o := "BarredBooksModel") (n := "sort") (d := "[I") (fin := true) (ty := (.array .int)) (v := some (wZ w241)) (host := "BarredBooks") hx hb hts hown hK hR hL rfl (Fam.one (r := (RX4, TX4, 80)) ht0 rfl ok4 (by decide)) (Or.inl (hts _ q1709)) (fun _ h9 => h9) (Or.inr ⟨rfl, hnm, rfl⟩) rfl rfl dX4_init_556 (fun H locs hR hL => ?_)
  rw [← wT_sR _ a0 76 (some (wZ w241))] at ht0
  rw [← wT_sR _ a0 76 (some (wZ w241))] at hg244
  obtain ⟨w251, hw252, h⟩ := bnd h
  have hw252 := Option.some.inj hw252
  rw [hw252] at hR ht0
  refine lv_aload_n hx hb dX4_init_559 rfl (lv_at hl 0 rfl) ?_
  refine lv_bipush (v := 6) hx hb dX4_init_560 (by decide) ?_
  have hs253 : wT (sN w251 200 6) a0 = wT w251 a0 := tag_sN hR (by rw [ht0]; decide)
  refine x_newa (atype := .int) (t := 0) (N := 6) hx hb (hts _ q183) hK hR rfl (by decide) (by decide) (by decide) (by decide) (by decide) (by decide) (by decide) dX4_init_562 (fun H hR => ?_)
  rw [← hs253] at ht0
  have hg254 : (wT (sN w251 200 6) (wZ w251)).1 = 200 := by rw [wT_sN, if_pos rfl]
  refine x_putR (k := 77) (o := "BarredBooksModel") (n := "length") (d := "[I") (fin := true) (ty := (.array .int)) (v := some (wZ w251)) (host := "BarredBooks") hx hb hts hown hK hR hL rfl (Fam.one (r := (RX4, TX4, 80)) ht0 rfl ok4 (by decide)) (Or.inl (hts _ q1710)) (fun _ h9 => h9) (Or.inr ⟨rfl, hnm, rfl⟩) rfl rfl dX4_init_564 (fun H locs hR hL => ?_)
  rw [← wT_sR _ a0 77 (some (wZ w251))] at ht0
  rw [← wT_sR _ a0 77 (some (wZ w251))] at hg254
  obtain ⟨w255, hw256, h⟩ := bnd h
  have hw256 := Option.some.inj hw256
  rw [hw256] at hR ht0
  refine lv_aload_n hx hb dX4_init_567 rfl (lv_at hl 0 rfl) ?_
  refine lv_sipush (v := 360) hx hb dX4_init_568 (by decide) ?_
  have hs257 : wT (sN w255 204 360) a0 = wT w255 a0 := tag_sN hR (by rw [ht0]; decide)
  refine x_newa (atype := .long) (t := 4) (N := 360) hx hb (hts _ q1558) hK hR rfl (by decide) (by decide) (by decide) (by decide) (by decide) (by decide) (by decide) dX4_init_571 (fun H hR => ?_)
  rw [← hs257] at ht0
  have hg258 : (wT (sN w255 204 360) (wZ w255)).1 = 204 := by rw [wT_sN, if_pos rfl]
  refine x_putR (k := 78) (o := "BarredBooksModel") (n := "item") (d := "[J") (fin := true) (ty := (.array .long)) (v := some (wZ w255)) (host := "BarredBooks") hx hb hts hown hK hR hL rfl (Fam.one (r := (RX4, TX4, 80)) ht0 rfl ok4 (by decide)) (Or.inl (hts _ q1711)) (fun _ h9 => h9) (Or.inr ⟨rfl, hnm, rfl⟩) rfl rfl dX4_init_573 (fun H locs hR hL => ?_)
  rw [← wT_sR _ a0 78 (some (wZ w255))] at ht0
  rw [← wT_sR _ a0 78 (some (wZ w255))] at hg258
  obtain ⟨w259, hw260, h⟩ := bnd h
  have hw260 := Option.some.inj hw260
  rw [hw260] at hR ht0
  refine lv_aload_n hx hb dX4_init_576 rfl (lv_at hl 0 rfl) ?_
  refine lv_bipush (v := 60) hx hb dX4_init_577 (by decide) ?_
  have hs261 : wT (sN w259 204 60) a0 = wT w259 a0 := tag_sN hR (by rw [ht0]; decide)
  refine x_newa (atype := .long) (t := 4) (N := 60) hx hb (hts _ q1558) hK hR rfl (by decide) (by decide) (by decide) (by decide) (by decide) (by decide) (by decide) dX4_init_579 (fun H hR => ?_)
  rw [← hs261] at ht0
  have hg262 : (wT (sN w259 204 60) (wZ w259)).1 = 204 := by rw [wT_sN, if_pos rfl]
  refine x_putR (k := 79) (o := "BarredBooksModel") (n := "aside") (d := "[J") (fin := true) (ty := (.array .long)) (v := some (wZ w259)) (host := "BarredBooks") hx hb hts hown hK hR hL rfl (Fam.one (r := (RX4, TX4, 80)) ht0 rfl ok4 (by decide)) (Or.inl (hts _ q1712)) (fun _ h9 => h9) (Or.inr ⟨rfl, hnm, rfl⟩) rfl rfl dX4_init_581 (fun H locs hR hL => ?_)
  rw [← wT_sR _ a0 79 (some (wZ w259))] at ht0
  rw [← wT_sR _ a0 79 (some (wZ w259))] at hg262
  refine lv_iconst (v := 0) hx hb dX4_init_584 (by decide) ?_
  refine lv_istore_n (lv' := [(1, .int (0 : Int32)), (0, .ref (z + a0))]) hx hb dX4_init_585 rfl hl (by decide) rfl (fun ls hl => ?_)
  have hX586_622 : ∀ (q586_622 : Int32 × Wd), (some q586_622.2) = some q → ∀ (H : Heap) (locs : List Loc) (ls : Array Slot), Rp G z H0 q586_622.2 H → lok z locs → lv_has ls 2 [] → W p l e ({ frames := 1, cells := 49, slots := 6302, locals := 20 } : Room) s m ([.ref (z + a0)] : List Value).toArray below meth c H locs 49 6302 (MQ below (qIn G z H0 q none) ([.ref (z + a0)] : List Value).toArray s 49 6302 (fun q => z ≤ q)) (F0 m 622 ls []) := by
    intro q586_622 h H locs ls hR hL hl
    have h := Option.some.inj h
    subst h
    exact W.vret hx hb hr (fun t ht _ => ⟨rfl, by rw [ht]; exact hR⟩) hL dX4_init_622
  obtain ⟨t274, hq275, h⟩ := bnd h
  refine it_W (b := f_X4_initN_L586 n a0) (P := fun (s1 : Int32 × Wd) => ∀ (H : Heap) (locs : List Loc) (ls : Array Slot), Rp G z H0 s1.2 H → lok z locs → lv_has ls 2 [(1, .int s1.1), (0, .ref (z + a0))] → W p l e ({ frames := 1, cells := 49, slots := 6302, locals := 20 } : Room) s m ([.ref (z + a0)] : List Value).toArray below meth c H locs 49 6302 (MQ below (qIn G z H0 q none) ([.ref (z + a0)] : List Value).toArray s 49 6302 (fun q => z ≤ q)) (F0 m 586 ls [])) (K := fun q586_622 => (some q586_622.2) = some q) (fun s1 x1 h hc1 ht1 => ?_) n ((0 : Int32), sR (sN w259 204 60) a0 79 (some (wZ w259))) t274 hq275 h H locs ls hR hL (lv_sub hl [0, 1] rfl)
  intro H locs ls hR hL hl
  unfold f_X4_initN_L586 at h
  refine lv_iload_n hx hb dX4_init_586 rfl (lv_at hl 0 rfl) ?_
  refine lv_bipush (v := 64) hx hb dX4_init_587 (by decide) ?_
  refine lv_icmp_ge (tgt := 622) hx hb dX4_init_589 (by decide) (fun c263 => ?_) (fun c263 => ?_)
  · rw [if_pos c263] at h
    exact hX586_622 (s1.1, s1.2) (ht1 _ (Option.some.inj h).symm) H locs ls hR hL (lv_sub hl [] rfl)
  · rw [if_neg c263] at h
    refine lv_aload_n hx hb dX4_init_592 rfl (lv_at hl 1 rfl) ?_
    obtain ⟨hg264, h⟩ := grd h
    refine x_get (k := 4) (o := "BarredBooksModel") (n := "road") (d := "[I") (fin := true) (ty := (.array .int)) (host := "BarredBooks") hx hb hts hown hK hR rfl (Fam.one (r := (RX4, TX4, 80)) hg264 rfl ok4 (by decide)) (Or.inl (hts _ q1637)) (fun _ h9 => h9) (v := rfv z (wR s1.2 a0 4)) rfl dX4_init_593 ?_
    refine lv_iload_n hx hb dX4_init_596 rfl (lv_at hl 0 rfl) ?_
    refine lv_iload_n hx hb dX4_init_597 rfl (lv_at hl 0 rfl) ?_
    refine lv_bipush (v := 8) hx hb dX4_init_598 (by decide) ?_
    refine lv_idiv hx hb dX4_init_600 (by decide) ?_
    refine lv_iload_n hx hb dX4_init_601 rfl (lv_at hl 0 rfl) ?_
    refine lv_bipush (v := 8) hx hb dX4_init_602 (by decide) ?_
    refine lv_irem hx hb dX4_init_604 (by decide) ?_
    refine lv_icmp_ne (tgt := 612) hx hb dX4_init_605 (by decide) (fun c265 => ?_) (fun c265 => ?_)
    · rw [if_neg c265] at h
      refine lv_sipush (v := 9999) hx hb dX4_init_612 (by decide) ?_
      obtain ⟨r266, hr267, h⟩ := bnd h
      obtain ⟨hg268, h⟩ := grd h
      obtain ⟨hb269, h⟩ := grd h
      refine x_iast hx hb hK hR hL (rfv_some hr267) (wT_pair hg268) hb269 dX4_init_615 (fun H locs hR hL => ?_)
      rw [← wT_sI _ r266 s1.1.toNatClampNeg (9999 : Int32)] at hg264
      rw [← wT_sI _ r266 s1.1.toNatClampNeg (9999 : Int32)] at hg268
      refine lv_iinc (v := s1.1 + (1 : Int32)) (lv' := [(1, .int (s1.1 + (1 : Int32))), (0, .ref (z + a0))]) hx hb dX4_init_616 hl (k := 0) rfl rfl (by decide) rfl (fun ls hl => ?_)
      refine lv_goto (tgt := 586) hx hb dX4_init_619 (by decide) ?_
      exact hc1 _ (Option.some.inj h).symm H locs ls hR hL (lv_sub hl [0, 1] rfl)
    · rw [if_pos c265] at h
      refine lv_iconst (v := 0) hx hb dX4_init_608 (by decide) ?_
      refine lv_goto (tgt := 615) hx hb dX4_init_609 (by decide) ?_
      obtain ⟨r270, hr271, h⟩ := bnd h
      obtain ⟨hg272, h⟩ := grd h
      obtain ⟨hb273, h⟩ := grd h
      refine x_iast hx hb hK hR hL (rfv_some hr271) (wT_pair hg272) hb273 dX4_init_615 (fun H locs hR hL => ?_)
      rw [← wT_sI _ r270 s1.1.toNatClampNeg (0 : Int32)] at hg264
      rw [← wT_sI _ r270 s1.1.toNatClampNeg (0 : Int32)] at hg272
      refine lv_iinc (v := s1.1 + (1 : Int32)) (lv' := [(1, .int (s1.1 + (1 : Int32))), (0, .ref (z + a0))]) hx hb dX4_init_616 hl (k := 0) rfl rfl (by decide) rfl (fun ls hl => ?_)
      refine lv_goto (tgt := 586) hx hb dX4_init_619 (by decide) ?_
      exact hc1 _ (Option.some.inj h).symm H locs ls hR hL (lv_sub hl [0, 1] rfl)
