/-! CASTS THAT FAIL: the message, up to what modules are there -/
def hmw (b : Bool) : String := (if b then "module " ++ "java.base" else "unnamed module") ++ " of loader " ++ "'bootstrap'"
def ctx (C T : String) (same h1 h2 : Bool) : String := "class " ++ dotted C ++ " cannot be cast to class " ++ dotted T ++ " (" ++ (if same = true then dotted C ++ " and " ++ dotted T ++ " are in " ++ hmw h1 else dotted C ++ " is in " ++ hmw h1 ++ "; " ++ dotted T ++ " is in " ++ hmw h2) ++ ")"
/-- plain letters: as many bytes as signs -/
def asc (l : List Char) : Bool := l.all fun c => decide (c.toNat < 128)
theorem asc_app (a b : List Char) : asc (a ++ b) = (asc a && asc b) := List.all_append
theorem utf_asc : ∀ (l : List Char) (acc : Array UInt16), asc l = true → (l.foldl (init := acc) fun acc c =>
    if c.toNat < 0x10000 then acc.push c.toNat.toUInt16
    else if 0x100000 ≤ c.toNat && c.toNat ≤ 0x1007FF then acc.push (0xD800 + (c.toNat - 0x100000)).toUInt16
    else (acc.push (0xD800 + (c.toNat - 0x10000) / 0x400).toUInt16).push (0xDC00 + (c.toNat - 0x10000) % 0x400).toUInt16) = acc ++ (l.map fun c => c.toNat.toUInt16).toArray
  | [], acc, _ => by simp
  | c :: r, acc, h => by
    have h1 : decide (c.toNat < 128) = true ∧ asc r = true := by
      unfold asc at h ⊢
      simpa [List.all_cons] using h
    have h2 : c.toNat < 128 := of_decide_eq_true h1.1
    rw [List.foldl_cons, if_pos (by omega), utf_asc r _ h1.2]
    simp
theorem bytes_asc {s : String} (h : asc s.toList = true) : (stringBytes (stringToUtf16 s)).size = s.toList.length := by
  have e : stringToUtf16 s = (s.toList.map fun c => c.toNat.toUInt16).toArray := by
    unfold stringToUtf16
    rw [utf_asc _ _ h]
    simp
  have ha : (stringToUtf16 s).all (· < 256) = true := by
    rw [e]
    simp only [List.all_toArray', List.size_toArray, List.all_map]
    refine List.all_eq_true.mpr fun c hc => ?_
    have h1 := of_decide_eq_true (List.all_eq_true.mp h c hc)
    simp only [Function.comp, decide_eq_true_eq]
    show c.toNat.toUInt16.toNat < 256
    rw [Nat.toUInt16_eq, UInt16.toNat_ofNat']
    omega
  unfold stringBytes
  rw [if_pos ha, e]
  simp
theorem hmw_asc (b : Bool) : asc (hmw b).toList = true ∧ (hmw b).toList.length ≤ 38 := by cases b <;> exact ⟨by decide +kernel, by decide +kernel⟩
theorem ctx_ok {C T : String} (h1 : asc (dotted C).toList = true) (h2 : asc (dotted T).toList = true) (l1 : (dotted C).toList.length ≤ 19) (l2 : (dotted T).toList.length ≤ 19) (s a b : Bool) : (ctx C T s a b == notModelled) = false ∧ (stringBytes (stringToUtf16 (ctx C T s a b))).size ≤ 230 := by
  obtain ⟨a1, a2⟩ := hmw_asc a
  obtain ⟨b1, b2⟩ := hmw_asc b
  have k1 : asc ("class ").toList = true ∧ asc (" cannot be cast to class ").toList = true ∧ asc (" (").toList = true ∧ asc (" and ").toList = true ∧ asc (" are in ").toList = true ∧ asc (" is in ").toList = true ∧ asc ("; ").toList = true ∧ asc (")").toList = true := by decide +kernel
  have k2 : ("class ").toList.length = 6 ∧ (" cannot be cast to class ").toList.length = 25 ∧ (" (").toList.length = 2 ∧ (" and ").toList.length = 5 ∧ (" are in ").toList.length = 8 ∧ (" is in ").toList.length = 7 ∧ ("; ").toList.length = 2 ∧ (")").toList.length = 1 := by decide +kernel
  obtain ⟨p1, p2, p3, p4, p5, p6, p7, p8⟩ := k1
  obtain ⟨q1, q2, q3, q4, q5, q6, q7, q8⟩ := k2
  constructor
  · rw [beq_eq_false_iff_ne]
    intro e
    have e1 := congrArg (fun x : String => x.toList.head?) e
    have e2 : (ctx C T s a b).toList.head? = some 'c' := by
      unfold ctx
      simp only [String.toList_append]
      rfl
    have e3 : notModelled.toList.head? = some (Char.ofNat 0) := by decide +kernel
    rw [e2, e3] at e1
    exact absurd (Option.some.inj e1) (by decide)
  · rw [bytes_asc]
    · unfold ctx
      cases s
      · simp only [Bool.false_eq_true, if_false, String.toList_append, List.length_append, q1, q2, q3, q6, q7, q8]
        omega
      · simp only [if_true, String.toList_append, List.length_append, q1, q2, q3, q4, q5, q8]
        omega
    · unfold ctx
      cases s
      · simp only [Bool.false_eq_true, if_false, String.toList_append, asc_app, p1, p2, p3, p6, p7, p8, h1, h2, a1, b1, Bool.and_self]
      · simp only [if_true, String.toList_append, asc_app, p1, p2, p3, p4, p5, p8, h1, h2, a1, Bool.and_self]
/-- a name that the messages may bear -/
def nmOk (C : String) : Bool := asc (dotted C).toList && decide ((dotted C).toList.length ≤ 19) && castPackages_1.contains (packageOf C)
theorem nm_all : ["BarredBooks$Card", "BarredBooks$Printed", "BarredBooks$Barred", "BarredBooks$Struck", "BarredBooks$Mended", "BarredBooks$Leave", "BarredBooks$Found", "[B", "[S", "[I", "[J", "[Z"].all nmOk = true := by decide +kernel
theorem nm_at {C : String} (i : Nat) (h : ["BarredBooks$Card", "BarredBooks$Printed", "BarredBooks$Barred", "BarredBooks$Struck", "BarredBooks$Mended", "BarredBooks$Leave", "BarredBooks$Found", "[B", "[S", "[I", "[J", "[Z"][i]? = some C) : nmOk C = true := List.all_eq_true.mp nm_all C (List.mem_of_getElem? h)
theorem home_is {vm : Vm} {k : Class} (hM : (vm.modules.all fun m => m.loader.isSome || m.name == "java.base" || !(castPackages_1.any fun p => m.packages.contains p)) = true) (hl : k.loader = none) (hp : packageOf k.name ∈ castPackages_1) : ∃ b, vm.home k = hmw b := by
  have hfind : ∀ x : ModuleInfo, vm.moduleOf k = some x → x.name = "java.base" := by
    intro x hx
    unfold Vm.moduleOf at hx
    split at hx
    · have := List.find?_some hx
      simpa using this
    · have h1 := List.find?_some hx
      have h2 := List.mem_of_find?_eq_some hx
      have h3 := List.all_eq_true.mp hM x h2
      simp only [Bool.and_eq_true, beq_iff_eq] at h1
      have h4 : x.loader.isSome = false := by rw [h1.1, hl]; rfl
      have h5 : (castPackages_1.any fun p => x.packages.contains p) = true := List.any_eq_true.mpr ⟨_, hp, h1.2⟩
      rw [h4, h5] at h3
      simpa using h3
  unfold Vm.home
  rw [hl]
  cases hm : vm.moduleOf k with
  | none => exact ⟨false, rfl⟩
  | some x => exact ⟨true, by show ("module " ++ x.name) ++ _ ++ _ = _; rw [hfind x hm]; rfl⟩
theorem msg_is {vm : Vm} {ks kt : Class} (hM : (vm.modules.all fun m => m.loader.isSome || m.name == "java.base" || !(castPackages_1.any fun p => m.packages.contains p)) = true) (h1 : ks.loader = none) (h2 : kt.loader = none) (g1 : ks.hidden = none) (g2 : kt.hidden = none) (p1 : packageOf ks.name ∈ castPackages_1) (p2 : packageOf kt.name ∈ castPackages_1) : ∃ s a b, Op.checkcast.message vm ks kt = ctx ks.name kt.name s a b := by
  obtain ⟨a, ha⟩ := home_is hM h1 p1
  obtain ⟨b, hb⟩ := home_is hM h2 p2
  have e1 : ks.shown = dotted ks.name := by unfold Class.shown; rw [g1]
  have e2 : kt.shown = dotted kt.name := by unfold Class.shown; rw [g2]
  refine ⟨vm.sameModule ks kt, a, b, ?_⟩
  unfold Op.checkcast.message Vm.homes
  rw [e1, e2, ha, hb]
  unfold ctx
  by_cases q : vm.sameModule ks kt = true
  · rw [if_pos q, if_pos q]
    simp [toString, String.append_assoc]
  · rw [if_neg q, if_neg q]
    simp [toString, String.append_assoc]
