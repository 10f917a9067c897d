/-! BarredBooks$Trace -/
set_option maxRecDepth 100000
def RX1 : String := "BarredBooks$Trace"
def TX1 : u_T := fun k => match k with
  | 0 => ("BarredBooks$Trace", "bodies", "[I", true)
  | _ => ("BarredBooks$Trace", "count", "I", false)
def tyX1 : Nat → FieldType := fun k => match k with
  | 0 => .array .int
  | _ => .int
abbrev wsX10 : List Cond := u_ws RX1 TX1 2
theorem nmX1 : ∀ a, a < 2 → ∀ b, b < 2 → a ≠ b → (TX1 a).2.1 ≠ (TX1 b).2.1 := by decide +kernel
theorem tyX1_ok : ∀ k, k < 2 → parseFieldDescriptor (TX1 k).2.2.1 = some (tyX1 k) := by decide +kernel
abbrev cX1_init : ByteArray := prog_28_method_1_code
def yX1_init : MethodName := ⟨RX1, "<init>", "()V"⟩
def dkwX1_init_0 : List UInt8 := [42, 183, 0, 3, 42, 16, 20, 188, 10, 181, 0, 9, 177]
abbrev dktX1_init_0 : List UInt8 := dkwX1_init_0 ++ []
theorem dksX1_init_0 : cX1_init.data.toList.drop 0 = dktX1_init_0 := by decide +kernel
theorem dX1_init_0 : decode cX1_init 0 = .ok (.aload_n 0, 1) := dk_42 (dk_at dksX1_init_0 0 rfl rfl)
theorem dX1_init_1 : decode cX1_init 1 = .ok (.invokespecial 3, 3) := dk_183 0 3 (dk_at dksX1_init_0 1 rfl rfl)
theorem dX1_init_4 : decode cX1_init 4 = .ok (.aload_n 0, 1) := dk_42 (dk_at dksX1_init_0 4 rfl rfl)
theorem dX1_init_5 : decode cX1_init 5 = .ok (.bipush 20, 2) := dk_16 20 (dk_at dksX1_init_0 5 rfl rfl)
theorem dX1_init_7 : decode cX1_init 7 = .ok (.newarray .int, 2) := dk_188_10 (dk_at dksX1_init_0 7 rfl rfl)
theorem dX1_init_9 : decode cX1_init 9 = .ok (.putfield 9, 3) := dk_181 0 9 (dk_at dksX1_init_0 9 rfl rfl)
theorem dX1_init_12 : decode cX1_init 12 = .ok (.return_, 1) := dk_177 (dk_at dksX1_init_0 12 rfl rfl)
abbrev cX1_ran : ByteArray := prog_28_method_2_code
def yX1_ran : MethodName := ⟨RX1, "ran", "(I)V"⟩
def dkwX1_ran_1 : List UInt8 := [4, 96, 181, 0, 15, 177]
abbrev dktX1_ran_1 : List UInt8 := dkwX1_ran_1 ++ []
def dkwX1_ran_0 : List UInt8 := [42, 180, 0, 15, 16, 20, 162, 0, 13, 42, 180, 0, 9, 42, 180, 0, 15, 27, 79, 42, 89, 180, 0, 15]
abbrev dktX1_ran_0 : List UInt8 := dkwX1_ran_0 ++ dktX1_ran_1
theorem dksX1_ran_0 : cX1_ran.data.toList.drop 0 = dktX1_ran_0 := by decide +kernel
theorem dksX1_ran_1 : cX1_ran.data.toList.drop 24 = dktX1_ran_1 := dk_seg dksX1_ran_0 24 rfl rfl
theorem dX1_ran_0 : decode cX1_ran 0 = .ok (.aload_n 0, 1) := dk_42 (dk_at dksX1_ran_0 0 rfl rfl)
theorem dX1_ran_1 : decode cX1_ran 1 = .ok (.getfield 15, 3) := dk_180 0 15 (dk_at dksX1_ran_0 1 rfl rfl)
theorem dX1_ran_4 : decode cX1_ran 4 = .ok (.bipush 20, 2) := dk_16 20 (dk_at dksX1_ran_0 4 rfl rfl)
theorem dX1_ran_6 : decode cX1_ran 6 = .ok (.if_icmp .ge 13, 3) := dk_162 0 13 (dk_at dksX1_ran_0 6 rfl rfl)
theorem dX1_ran_9 : decode cX1_ran 9 = .ok (.aload_n 0, 1) := dk_42 (dk_at dksX1_ran_0 9 rfl rfl)
theorem dX1_ran_10 : decode cX1_ran 10 = .ok (.getfield 9, 3) := dk_180 0 9 (dk_at dksX1_ran_0 10 rfl rfl)
theorem dX1_ran_13 : decode cX1_ran 13 = .ok (.aload_n 0, 1) := dk_42 (dk_at dksX1_ran_0 13 rfl rfl)
theorem dX1_ran_14 : decode cX1_ran 14 = .ok (.getfield 15, 3) := dk_180 0 15 (dk_at dksX1_ran_0 14 rfl rfl)
theorem dX1_ran_17 : decode cX1_ran 17 = .ok (.iload_n 1, 1) := dk_27 (dk_at dksX1_ran_0 17 rfl rfl)
theorem dX1_ran_18 : decode cX1_ran 18 = .ok (.iastore, 1) := dk_79 (dk_at dksX1_ran_0 18 rfl rfl)
theorem dX1_ran_19 : decode cX1_ran 19 = .ok (.aload_n 0, 1) := dk_42 (dk_at dksX1_ran_0 19 rfl rfl)
theorem dX1_ran_20 : decode cX1_ran 20 = .ok (.dup, 1) := dk_89 (dk_at dksX1_ran_0 20 rfl rfl)
theorem dX1_ran_21 : decode cX1_ran 21 = .ok (.getfield 15, 3) := dk_180 0 15 (dk_at dksX1_ran_0 21 rfl rfl)
theorem dX1_ran_24 : decode cX1_ran 24 = .ok (.iconst 1, 1) := dk_4 (dk_at dksX1_ran_1 0 rfl rfl)
theorem dX1_ran_25 : decode cX1_ran 25 = .ok (.iadd, 1) := dk_96 (dk_at dksX1_ran_1 1 rfl rfl)
theorem dX1_ran_26 : decode cX1_ran 26 = .ok (.putfield 15, 3) := dk_181 0 15 (dk_at dksX1_ran_1 2 rfl rfl)
theorem dX1_ran_29 : decode cX1_ran 29 = .ok (.return_, 1) := dk_177 (dk_at dksX1_ran_1 5 rfl rfl)
theorem q101 : (Jvm.Cond.initialized "BarredBooks$Trace") ∈ lw_all := lw_g (lw_at lw_m1 2 rfl) rfl
theorem q169 : (Jvm.Cond.instantiable "BarredBooks$Trace" (2 : Nat)) ∈ lw_all := lw_g (lw_at lw_m1 70 rfl) rfl
theorem q171 : (Jvm.Cond.instanceMethod ({ cls := "BarredBooks$Trace", name := "<init>", desc := "()V" } : Jvm.MethodName)) ∈ lw_all := lw_g (lw_at lw_m1 72 rfl) rfl
theorem q172 : (Jvm.Cond.code ({ cls := "BarredBooks$Trace", name := "<init>", desc := "()V" } : Jvm.MethodName) prog_28_method_1_code (1 : Nat) (Option.none : Option Jvm.ClassFile.FieldType)) ∈ lw_all := lw_g (lw_at lw_m1 73 rfl) rfl
theorem q173 : (Jvm.Cond.methodLink "BarredBooks$Trace" (3 : Nat) ({ cls := "java/lang/Object", name := "<init>", desc := "()V" } : Jvm.MethodName)) ∈ lw_all := lw_g (lw_at lw_m1 74 rfl) rfl
theorem q174 : (Jvm.Cond.fieldLink "BarredBooks$Trace" (9 : Nat) "BarredBooks$Trace" "bodies" "[I") ∈ lw_all := lw_g (lw_at lw_m1 75 rfl) rfl
theorem q176 : (Jvm.Cond.fieldLink "BarredBooks$Trace" (15 : Nat) "BarredBooks$Trace" "count" "I") ∈ lw_all := lw_g (lw_at lw_m1 77 rfl) rfl
theorem q178 : (Jvm.Cond.laysFinal "BarredBooks$Trace" "BarredBooks$Trace" "bodies" "[I") ∈ lw_all := lw_g (lw_at lw_m1 79 rfl) rfl
theorem q179 : (Jvm.Cond.soleField "BarredBooks$Trace" "bodies") ∈ lw_all := lw_g (lw_at lw_m1 80 rfl) rfl
theorem q180 : (Jvm.Cond.lays "BarredBooks$Trace" "BarredBooks$Trace" "count" "I") ∈ lw_all := lw_g (lw_at lw_m1 81 rfl) rfl
theorem q181 : (Jvm.Cond.soleField "BarredBooks$Trace" "count") ∈ lw_all := lw_g (lw_at lw_m1 82 rfl) rfl
theorem q182 : (Jvm.Cond.superclass "BarredBooks$Trace" "java/lang/Object") ∈ lw_all := lw_g (lw_at lw_m1 83 rfl) rfl
theorem q727 : (Jvm.Cond.instanceMethod ({ cls := "BarredBooks$Trace", name := "ran", desc := "(I)V" } : Jvm.MethodName)) ∈ lw_all := lw_g (lw_at lw_m3 148 rfl) rfl
theorem q728 : (Jvm.Cond.selects "BarredBooks$Trace" ({ cls := "BarredBooks$Trace", name := "ran", desc := "(I)V" } : Jvm.MethodName) ({ cls := "BarredBooks$Trace", name := "ran", desc := "(I)V" } : Jvm.MethodName)) ∈ lw_all := lw_g (lw_at lw_m3 149 rfl) rfl
theorem q729 : (Jvm.Cond.code ({ cls := "BarredBooks$Trace", name := "ran", desc := "(I)V" } : Jvm.MethodName) prog_28_method_2_code (2 : Nat) (Option.none : Option Jvm.ClassFile.FieldType)) ∈ lw_all := lw_g (lw_at lw_m3 150 rfl) rfl
theorem q1157 : (Jvm.Cond.selects "BarredBooks$Trace" ({ cls := "java/lang/Object", name := "getClass", desc := "()Ljava/lang/Class;" } : Jvm.MethodName) ({ cls := "java/lang/Object", name := "getClass", desc := "()Ljava/lang/Class;" } : Jvm.MethodName)) ∈ lw_all := lw_g (lw_at lw_m5 98 rfl) rfl
theorem q2331 : (Jvm.Cond.castable "BarredBooks$Trace" "java/lang/Object") ∈ lw_tbl := lw_at lw_m10 72 rfl
theorem in_X1 : ∀ w ∈ wsX10, w ∈ lw_all := lw_in wsX10 [178, 180] (by decide +kernel) (by decide +kernel)

/-! BarredBooks$Look -/
set_option maxRecDepth 100000
def RX2 : String := "BarredBooks$Look"
def TX2 : u_T := fun k => match k with
  | 0 => ("BarredBooks$Look", "edition", "LBarredBooks$Edition;", false)
  | _ => ("BarredBooks$Look", "line", "I", false)
def tyX2 : Nat → FieldType := fun k => match k with
  | 0 => .object "BarredBooks$Edition"
  | _ => .int
abbrev wsX20 : List Cond := u_ws RX2 TX2 2
theorem nmX2 : ∀ a, a < 2 → ∀ b, b < 2 → a ≠ b → (TX2 a).2.1 ≠ (TX2 b).2.1 := by decide +kernel
theorem tyX2_ok : ∀ k, k < 2 → parseFieldDescriptor (TX2 k).2.2.1 = some (tyX2 k) := by decide +kernel
abbrev cX2_init : ByteArray := prog_11_method_1_code
def yX2_init : MethodName := ⟨RX2, "<init>", "()V"⟩
theorem dX2_init_0 : decode cX2_init 0 = .ok (.aload_n 0, 1) := by decide +kernel
theorem dX2_init_1 : decode cX2_init 1 = .ok (.invokespecial 1, 3) := by decide +kernel
theorem dX2_init_4 : decode cX2_init 4 = .ok (.return_, 1) := by decide +kernel
abbrev cX2_words : ByteArray := prog_11_method_2_code
def yX2_words : MethodName := ⟨RX2, "words", "(I)I"⟩
def dkwX2_words_1 : List UInt8 := [167, 0, 4, 3, 172]
abbrev dktX2_words_1 : List UInt8 := dkwX2_words_1 ++ []
def dkwX2_words_0 : List UInt8 := [42, 180, 0, 7, 27, 182, 0, 13, 153, 0, 18, 42, 180, 0, 7, 180, 0, 19, 180, 0, 23, 27, 46]
abbrev dktX2_words_0 : List UInt8 := dkwX2_words_0 ++ dktX2_words_1
theorem dksX2_words_0 : cX2_words.data.toList.drop 0 = dktX2_words_0 := by decide +kernel
theorem dksX2_words_1 : cX2_words.data.toList.drop 23 = dktX2_words_1 := dk_seg dksX2_words_0 23 rfl rfl
theorem dX2_words_0 : decode cX2_words 0 = .ok (.aload_n 0, 1) := dk_42 (dk_at dksX2_words_0 0 rfl rfl)
theorem dX2_words_1 : decode cX2_words 1 = .ok (.getfield 7, 3) := dk_180 0 7 (dk_at dksX2_words_0 1 rfl rfl)
theorem dX2_words_4 : decode cX2_words 4 = .ok (.iload_n 1, 1) := dk_27 (dk_at dksX2_words_0 4 rfl rfl)
theorem dX2_words_5 : decode cX2_words 5 = .ok (.invokevirtual 13, 3) := dk_182 0 13 (dk_at dksX2_words_0 5 rfl rfl)
theorem dX2_words_8 : decode cX2_words 8 = .ok (.ifCond .eq 18, 3) := dk_153 0 18 (dk_at dksX2_words_0 8 rfl rfl)
theorem dX2_words_11 : decode cX2_words 11 = .ok (.aload_n 0, 1) := dk_42 (dk_at dksX2_words_0 11 rfl rfl)
theorem dX2_words_12 : decode cX2_words 12 = .ok (.getfield 7, 3) := dk_180 0 7 (dk_at dksX2_words_0 12 rfl rfl)
theorem dX2_words_15 : decode cX2_words 15 = .ok (.getfield 19, 3) := dk_180 0 19 (dk_at dksX2_words_0 15 rfl rfl)
theorem dX2_words_18 : decode cX2_words 18 = .ok (.getfield 23, 3) := dk_180 0 23 (dk_at dksX2_words_0 18 rfl rfl)
theorem dX2_words_21 : decode cX2_words 21 = .ok (.iload_n 1, 1) := dk_27 (dk_at dksX2_words_0 21 rfl rfl)
theorem dX2_words_22 : decode cX2_words 22 = .ok (.iaload, 1) := dk_46 (dk_at dksX2_words_0 22 rfl rfl)
theorem dX2_words_23 : decode cX2_words 23 = .ok (.goto 4, 3) := dk_167 0 4 (dk_at dksX2_words_1 0 rfl rfl)
theorem dX2_words_26 : decode cX2_words 26 = .ok (.iconst 0, 1) := dk_3 (dk_at dksX2_words_1 3 rfl rfl)
theorem dX2_words_27 : decode cX2_words 27 = .ok (.ireturn, 1) := dk_172 (dk_at dksX2_words_1 4 rfl rfl)
theorem q102 : (Jvm.Cond.initialized "BarredBooks$Look") ∈ lw_all := lw_g (lw_at lw_m1 3 rfl) rfl
theorem q187 : (Jvm.Cond.instantiable "BarredBooks$Look" (2 : Nat)) ∈ lw_all := lw_g (lw_at lw_m1 88 rfl) rfl
theorem q189 : (Jvm.Cond.instanceMethod ({ cls := "BarredBooks$Look", name := "<init>", desc := "()V" } : Jvm.MethodName)) ∈ lw_all := lw_g (lw_at lw_m1 90 rfl) rfl
theorem q190 : (Jvm.Cond.code ({ cls := "BarredBooks$Look", name := "<init>", desc := "()V" } : Jvm.MethodName) prog_11_method_1_code (1 : Nat) (Option.none : Option Jvm.ClassFile.FieldType)) ∈ lw_all := lw_g (lw_at lw_m1 91 rfl) rfl
theorem q191 : (Jvm.Cond.methodLink "BarredBooks$Look" (1 : Nat) ({ cls := "java/lang/Object", name := "<init>", desc := "()V" } : Jvm.MethodName)) ∈ lw_all := lw_g (lw_at lw_m1 92 rfl) rfl
theorem q192 : (Jvm.Cond.fieldLink "BarredBooks$Look" (7 : Nat) "BarredBooks$Look" "edition" "LBarredBooks$Edition;") ∈ lw_all := lw_g (lw_at lw_m1 93 rfl) rfl
theorem q197 : (Jvm.Cond.lays "BarredBooks$Look" "BarredBooks$Look" "edition" "LBarredBooks$Edition;") ∈ lw_all := lw_g (lw_at lw_m1 98 rfl) rfl
theorem q198 : (Jvm.Cond.soleField "BarredBooks$Look" "edition") ∈ lw_all := lw_g (lw_at lw_m1 99 rfl) rfl
theorem q199 : (Jvm.Cond.lays "BarredBooks$Look" "BarredBooks$Look" "line" "I") ∈ lw_all := lw_g (lw_at lw_m1 100 rfl) rfl
theorem q200 : (Jvm.Cond.soleField "BarredBooks$Look" "line") ∈ lw_all := lw_g (lw_at lw_m1 101 rfl) rfl
theorem q201 : (Jvm.Cond.superclass "BarredBooks$Look" "java/lang/Object") ∈ lw_all := lw_g (lw_at lw_m1 102 rfl) rfl
theorem q404 : (Jvm.Cond.fieldLinkNest "BarredBooks$Look" (23 : Nat) "BarredBooks$Book" "words" "[I" "BarredBooks") ∈ lw_tbl := lw_at lw_m2 65 rfl
theorem q455 : (Jvm.Cond.fieldLinkNest "BarredBooks$Look" (19 : Nat) "BarredBooks$Edition" "book" "LBarredBooks$Book;" "BarredBooks") ∈ lw_tbl := lw_at lw_m2 116 rfl
theorem q1141 : (Jvm.Cond.selects "BarredBooks$Look" ({ cls := "java/lang/Object", name := "getClass", desc := "()Ljava/lang/Class;" } : Jvm.MethodName) ({ cls := "java/lang/Object", name := "getClass", desc := "()Ljava/lang/Class;" } : Jvm.MethodName)) ∈ lw_all := lw_g (lw_at lw_m5 82 rfl) rfl
theorem q1306 : (Jvm.Cond.privateMethod ({ cls := "BarredBooks$Look", name := "words", desc := "(I)I" } : Jvm.MethodName)) ∈ lw_tbl := lw_at lw_m6 7 rfl
theorem q1307 : (Jvm.Cond.instanceMethod ({ cls := "BarredBooks$Look", name := "words", desc := "(I)I" } : Jvm.MethodName)) ∈ lw_all := lw_g (lw_at lw_m6 8 rfl) rfl
theorem q1308 : (Jvm.Cond.code ({ cls := "BarredBooks$Look", name := "words", desc := "(I)I" } : Jvm.MethodName) prog_11_method_2_code (2 : Nat) (Option.some Jvm.ClassFile.FieldType.int)) ∈ lw_all := lw_g (lw_at lw_m6 9 rfl) rfl
theorem q1309 : (Jvm.Cond.methodLink "BarredBooks$Look" (13 : Nat) ({ cls := "BarredBooks$Edition", name := "has", desc := "(I)Z" } : Jvm.MethodName)) ∈ lw_all := lw_g (lw_at lw_m6 10 rfl) rfl
theorem q2332 : (Jvm.Cond.castable "BarredBooks$Look" "java/lang/Object") ∈ lw_tbl := lw_at lw_m10 73 rfl
theorem in_X2 : ∀ w ∈ wsX20, w ∈ lw_all := lw_in wsX20 [197, 199] (by decide +kernel) (by decide +kernel)

/-! BarredBooks$Tape -/
set_option maxRecDepth 100000
def RX3 : String := "BarredBooks$Tape"
def TX3 : u_T := fun k => match k with
  | _ => ("BarredBooks$Tape", "row", "Ljava/lang/Object;", false)
def tyX3 : Nat → FieldType := fun k => match k with
  | _ => .object "java/lang/Object"
abbrev wsX30 : List Cond := u_ws RX3 TX3 1
theorem nmX3 : ∀ a, a < 1 → ∀ b, b < 1 → a ≠ b → (TX3 a).2.1 ≠ (TX3 b).2.1 := by decide +kernel
theorem tyX3_ok : ∀ k, k < 1 → parseFieldDescriptor (TX3 k).2.2.1 = some (tyX3 k) := by decide +kernel
abbrev cX3_init : ByteArray := prog_26_method_1_code
def yX3_init : MethodName := ⟨RX3, "<init>", "()V"⟩
theorem dX3_init_0 : decode cX3_init 0 = .ok (.aload_n 0, 1) := by decide +kernel
theorem dX3_init_1 : decode cX3_init 1 = .ok (.invokespecial 3, 3) := by decide +kernel
theorem dX3_init_4 : decode cX3_init 4 = .ok (.return_, 1) := by decide +kernel
abbrev cX3_has : ByteArray := prog_26_method_3_code
def yX3_has : MethodName := ⟨RX3, "has", "(I)V"⟩
def dkwX3_has_1 : List UInt8 := [100, 184, 0, 34, 154, 0, 13, 187, 0, 25, 89, 16, 243, 183, 0, 27, 191, 177]
abbrev dktX3_has_1 : List UInt8 := dkwX3_has_1 ++ []
def dkwX3_has_0 : List UInt8 := [42, 180, 0, 9, 199, 0, 13, 187, 0, 25, 89, 16, 245, 183, 0, 27, 191, 27, 3, 42, 182, 0, 30, 4]
abbrev dktX3_has_0 : List UInt8 := dkwX3_has_0 ++ dktX3_has_1
theorem dksX3_has_0 : cX3_has.data.toList.drop 0 = dktX3_has_0 := by decide +kernel
theorem dksX3_has_1 : cX3_has.data.toList.drop 24 = dktX3_has_1 := dk_seg dksX3_has_0 24 rfl rfl
theorem dX3_has_0 : decode cX3_has 0 = .ok (.aload_n 0, 1) := dk_42 (dk_at dksX3_has_0 0 rfl rfl)
theorem dX3_has_1 : decode cX3_has 1 = .ok (.getfield 9, 3) := dk_180 0 9 (dk_at dksX3_has_0 1 rfl rfl)
theorem dX3_has_4 : decode cX3_has 4 = .ok (.ifnonnull 13, 3) := dk_199 0 13 (dk_at dksX3_has_0 4 rfl rfl)
theorem dX3_has_7 : decode cX3_has 7 = .ok (.new 25, 3) := dk_187 0 25 (dk_at dksX3_has_0 7 rfl rfl)
theorem dX3_has_10 : decode cX3_has 10 = .ok (.dup, 1) := dk_89 (dk_at dksX3_has_0 10 rfl rfl)
theorem dX3_has_11 : decode cX3_has 11 = .ok (.bipush (-11), 2) := dk_16 245 (dk_at dksX3_has_0 11 rfl rfl)
theorem dX3_has_13 : decode cX3_has 13 = .ok (.invokespecial 27, 3) := dk_183 0 27 (dk_at dksX3_has_0 13 rfl rfl)
theorem dX3_has_16 : decode cX3_has 16 = .ok (.athrow, 1) := dk_191 (dk_at dksX3_has_0 16 rfl rfl)
theorem dX3_has_17 : decode cX3_has 17 = .ok (.iload_n 1, 1) := dk_27 (dk_at dksX3_has_0 17 rfl rfl)
theorem dX3_has_18 : decode cX3_has 18 = .ok (.iconst 0, 1) := dk_3 (dk_at dksX3_has_0 18 rfl rfl)
theorem dX3_has_19 : decode cX3_has 19 = .ok (.aload_n 0, 1) := dk_42 (dk_at dksX3_has_0 19 rfl rfl)
theorem dX3_has_20 : decode cX3_has 20 = .ok (.invokevirtual 30, 3) := dk_182 0 30 (dk_at dksX3_has_0 20 rfl rfl)
theorem dX3_has_23 : decode cX3_has 23 = .ok (.iconst 1, 1) := dk_4 (dk_at dksX3_has_0 23 rfl rfl)
theorem dX3_has_24 : decode cX3_has 24 = .ok (.isub, 1) := dk_100 (dk_at dksX3_has_1 0 rfl rfl)
theorem dX3_has_25 : decode cX3_has 25 = .ok (.invokestatic 34, 3) := dk_184 0 34 (dk_at dksX3_has_1 1 rfl rfl)
theorem dX3_has_28 : decode cX3_has 28 = .ok (.ifCond .ne 13, 3) := dk_154 0 13 (dk_at dksX3_has_1 4 rfl rfl)
theorem dX3_has_31 : decode cX3_has 31 = .ok (.new 25, 3) := dk_187 0 25 (dk_at dksX3_has_1 7 rfl rfl)
theorem dX3_has_34 : decode cX3_has 34 = .ok (.dup, 1) := dk_89 (dk_at dksX3_has_1 10 rfl rfl)
theorem dX3_has_35 : decode cX3_has 35 = .ok (.bipush (-13), 2) := dk_16 243 (dk_at dksX3_has_1 11 rfl rfl)
theorem dX3_has_37 : decode cX3_has 37 = .ok (.invokespecial 27, 3) := dk_183 0 27 (dk_at dksX3_has_1 13 rfl rfl)
theorem dX3_has_40 : decode cX3_has 40 = .ok (.athrow, 1) := dk_191 (dk_at dksX3_has_1 16 rfl rfl)
theorem dX3_has_41 : decode cX3_has 41 = .ok (.return_, 1) := dk_177 (dk_at dksX3_has_1 17 rfl rfl)
abbrev cX3_size : ByteArray := prog_26_method_2_code
def yX3_size : MethodName := ⟨RX3, "size", "()I"⟩
def dkwX3_size_3 : List UInt8 := [153, 0, 13, 44, 192, 0, 21, 76, 43, 190, 167, 0, 11, 42, 180, 0, 9, 192, 0, 23, 190, 172]
abbrev dktX3_size_3 : List UInt8 := dkwX3_size_3 ++ []
def dkwX3_size_2 : List UInt8 := [193, 0, 19, 153, 0, 11, 44, 192, 0, 19, 76, 43, 190, 172, 42, 180, 0, 9, 77, 44, 193, 0, 21]
abbrev dktX3_size_2 : List UInt8 := dkwX3_size_2 ++ dktX3_size_3
def dkwX3_size_1 : List UInt8 := [77, 44, 193, 0, 17, 153, 0, 11, 44, 192, 0, 17, 76, 43, 190, 172, 42, 180, 0, 9, 77, 44]
abbrev dktX3_size_1 : List UInt8 := dkwX3_size_1 ++ dktX3_size_2
def dkwX3_size_0 : List UInt8 := [42, 180, 0, 9, 77, 44, 193, 0, 15, 153, 0, 11, 44, 192, 0, 15, 76, 43, 190, 172, 42, 180, 0, 9]
abbrev dktX3_size_0 : List UInt8 := dkwX3_size_0 ++ dktX3_size_1
theorem dksX3_size_0 : cX3_size.data.toList.drop 0 = dktX3_size_0 := by decide +kernel
theorem dksX3_size_1 : cX3_size.data.toList.drop 24 = dktX3_size_1 := dk_seg dksX3_size_0 24 rfl rfl
theorem dksX3_size_2 : cX3_size.data.toList.drop 46 = dktX3_size_2 := dk_seg dksX3_size_1 22 rfl rfl
theorem dksX3_size_3 : cX3_size.data.toList.drop 69 = dktX3_size_3 := dk_seg dksX3_size_2 23 rfl rfl
theorem dX3_size_0 : decode cX3_size 0 = .ok (.aload_n 0, 1) := dk_42 (dk_at dksX3_size_0 0 rfl rfl)
theorem dX3_size_1 : decode cX3_size 1 = .ok (.getfield 9, 3) := dk_180 0 9 (dk_at dksX3_size_0 1 rfl rfl)
theorem dX3_size_4 : decode cX3_size 4 = .ok (.astore_n 2, 1) := dk_77 (dk_at dksX3_size_0 4 rfl rfl)
theorem dX3_size_5 : decode cX3_size 5 = .ok (.aload_n 2, 1) := dk_44 (dk_at dksX3_size_0 5 rfl rfl)
theorem dX3_size_6 : decode cX3_size 6 = .ok (.instanceof 15, 3) := dk_193 0 15 (dk_at dksX3_size_0 6 rfl rfl)
theorem dX3_size_9 : decode cX3_size 9 = .ok (.ifCond .eq 11, 3) := dk_153 0 11 (dk_at dksX3_size_0 9 rfl rfl)
theorem dX3_size_12 : decode cX3_size 12 = .ok (.aload_n 2, 1) := dk_44 (dk_at dksX3_size_0 12 rfl rfl)
theorem dX3_size_13 : decode cX3_size 13 = .ok (.checkcast 15, 3) := dk_192 0 15 (dk_at dksX3_size_0 13 rfl rfl)
theorem dX3_size_16 : decode cX3_size 16 = .ok (.astore_n 1, 1) := dk_76 (dk_at dksX3_size_0 16 rfl rfl)
theorem dX3_size_17 : decode cX3_size 17 = .ok (.aload_n 1, 1) := dk_43 (dk_at dksX3_size_0 17 rfl rfl)
theorem dX3_size_18 : decode cX3_size 18 = .ok (.arraylength, 1) := dk_190 (dk_at dksX3_size_0 18 rfl rfl)
theorem dX3_size_19 : decode cX3_size 19 = .ok (.ireturn, 1) := dk_172 (dk_at dksX3_size_0 19 rfl rfl)
theorem dX3_size_20 : decode cX3_size 20 = .ok (.aload_n 0, 1) := dk_42 (dk_at dksX3_size_0 20 rfl rfl)
theorem dX3_size_21 : decode cX3_size 21 = .ok (.getfield 9, 3) := dk_180 0 9 (dk_at dksX3_size_0 21 rfl rfl)
theorem dX3_size_24 : decode cX3_size 24 = .ok (.astore_n 2, 1) := dk_77 (dk_at dksX3_size_1 0 rfl rfl)
theorem dX3_size_25 : decode cX3_size 25 = .ok (.aload_n 2, 1) := dk_44 (dk_at dksX3_size_1 1 rfl rfl)
theorem dX3_size_26 : decode cX3_size 26 = .ok (.instanceof 17, 3) := dk_193 0 17 (dk_at dksX3_size_1 2 rfl rfl)
theorem dX3_size_29 : decode cX3_size 29 = .ok (.ifCond .eq 11, 3) := dk_153 0 11 (dk_at dksX3_size_1 5 rfl rfl)
theorem dX3_size_32 : decode cX3_size 32 = .ok (.aload_n 2, 1) := dk_44 (dk_at dksX3_size_1 8 rfl rfl)
theorem dX3_size_33 : decode cX3_size 33 = .ok (.checkcast 17, 3) := dk_192 0 17 (dk_at dksX3_size_1 9 rfl rfl)
theorem dX3_size_36 : decode cX3_size 36 = .ok (.astore_n 1, 1) := dk_76 (dk_at dksX3_size_1 12 rfl rfl)
theorem dX3_size_37 : decode cX3_size 37 = .ok (.aload_n 1, 1) := dk_43 (dk_at dksX3_size_1 13 rfl rfl)
theorem dX3_size_38 : decode cX3_size 38 = .ok (.arraylength, 1) := dk_190 (dk_at dksX3_size_1 14 rfl rfl)
theorem dX3_size_39 : decode cX3_size 39 = .ok (.ireturn, 1) := dk_172 (dk_at dksX3_size_1 15 rfl rfl)
theorem dX3_size_40 : decode cX3_size 40 = .ok (.aload_n 0, 1) := dk_42 (dk_at dksX3_size_1 16 rfl rfl)
theorem dX3_size_41 : decode cX3_size 41 = .ok (.getfield 9, 3) := dk_180 0 9 (dk_at dksX3_size_1 17 rfl rfl)
theorem dX3_size_44 : decode cX3_size 44 = .ok (.astore_n 2, 1) := dk_77 (dk_at dksX3_size_1 20 rfl rfl)
theorem dX3_size_45 : decode cX3_size 45 = .ok (.aload_n 2, 1) := dk_44 (dk_at dksX3_size_1 21 rfl rfl)
theorem dX3_size_46 : decode cX3_size 46 = .ok (.instanceof 19, 3) := dk_193 0 19 (dk_at dksX3_size_2 0 rfl rfl)
theorem dX3_size_49 : decode cX3_size 49 = .ok (.ifCond .eq 11, 3) := dk_153 0 11 (dk_at dksX3_size_2 3 rfl rfl)
theorem dX3_size_52 : decode cX3_size 52 = .ok (.aload_n 2, 1) := dk_44 (dk_at dksX3_size_2 6 rfl rfl)
theorem dX3_size_53 : decode cX3_size 53 = .ok (.checkcast 19, 3) := dk_192 0 19 (dk_at dksX3_size_2 7 rfl rfl)
theorem dX3_size_56 : decode cX3_size 56 = .ok (.astore_n 1, 1) := dk_76 (dk_at dksX3_size_2 10 rfl rfl)
theorem dX3_size_57 : decode cX3_size 57 = .ok (.aload_n 1, 1) := dk_43 (dk_at dksX3_size_2 11 rfl rfl)
theorem dX3_size_58 : decode cX3_size 58 = .ok (.arraylength, 1) := dk_190 (dk_at dksX3_size_2 12 rfl rfl)
theorem dX3_size_59 : decode cX3_size 59 = .ok (.ireturn, 1) := dk_172 (dk_at dksX3_size_2 13 rfl rfl)
theorem dX3_size_60 : decode cX3_size 60 = .ok (.aload_n 0, 1) := dk_42 (dk_at dksX3_size_2 14 rfl rfl)
theorem dX3_size_61 : decode cX3_size 61 = .ok (.getfield 9, 3) := dk_180 0 9 (dk_at dksX3_size_2 15 rfl rfl)
theorem dX3_size_64 : decode cX3_size 64 = .ok (.astore_n 2, 1) := dk_77 (dk_at dksX3_size_2 18 rfl rfl)
theorem dX3_size_65 : decode cX3_size 65 = .ok (.aload_n 2, 1) := dk_44 (dk_at dksX3_size_2 19 rfl rfl)
theorem dX3_size_66 : decode cX3_size 66 = .ok (.instanceof 21, 3) := dk_193 0 21 (dk_at dksX3_size_2 20 rfl rfl)
theorem dX3_size_69 : decode cX3_size 69 = .ok (.ifCond .eq 13, 3) := dk_153 0 13 (dk_at dksX3_size_3 0 rfl rfl)
theorem dX3_size_72 : decode cX3_size 72 = .ok (.aload_n 2, 1) := dk_44 (dk_at dksX3_size_3 3 rfl rfl)
theorem dX3_size_73 : decode cX3_size 73 = .ok (.checkcast 21, 3) := dk_192 0 21 (dk_at dksX3_size_3 4 rfl rfl)
theorem dX3_size_76 : decode cX3_size 76 = .ok (.astore_n 1, 1) := dk_76 (dk_at dksX3_size_3 7 rfl rfl)
theorem dX3_size_77 : decode cX3_size 77 = .ok (.aload_n 1, 1) := dk_43 (dk_at dksX3_size_3 8 rfl rfl)
theorem dX3_size_78 : decode cX3_size 78 = .ok (.arraylength, 1) := dk_190 (dk_at dksX3_size_3 9 rfl rfl)
theorem dX3_size_79 : decode cX3_size 79 = .ok (.goto 11, 3) := dk_167 0 11 (dk_at dksX3_size_3 10 rfl rfl)
theorem dX3_size_82 : decode cX3_size 82 = .ok (.aload_n 0, 1) := dk_42 (dk_at dksX3_size_3 13 rfl rfl)
theorem dX3_size_83 : decode cX3_size 83 = .ok (.getfield 9, 3) := dk_180 0 9 (dk_at dksX3_size_3 14 rfl rfl)
theorem dX3_size_86 : decode cX3_size 86 = .ok (.checkcast 23, 3) := dk_192 0 23 (dk_at dksX3_size_3 17 rfl rfl)
theorem dX3_size_89 : decode cX3_size 89 = .ok (.arraylength, 1) := dk_190 (dk_at dksX3_size_3 20 rfl rfl)
theorem dX3_size_90 : decode cX3_size 90 = .ok (.ireturn, 1) := dk_172 (dk_at dksX3_size_3 21 rfl rfl)
theorem q103 : (Jvm.Cond.initialized "BarredBooks$Tape") ∈ lw_all := lw_g (lw_at lw_m1 4 rfl) rfl
theorem q209 : (Jvm.Cond.instantiable "BarredBooks$Tape" (1 : Nat)) ∈ lw_all := lw_g (lw_at lw_m1 110 rfl) rfl
theorem q211 : (Jvm.Cond.instanceMethod ({ cls := "BarredBooks$Tape", name := "<init>", desc := "()V" } : Jvm.MethodName)) ∈ lw_all := lw_g (lw_at lw_m1 112 rfl) rfl
theorem q212 : (Jvm.Cond.code ({ cls := "BarredBooks$Tape", name := "<init>", desc := "()V" } : Jvm.MethodName) prog_26_method_1_code (1 : Nat) (Option.none : Option Jvm.ClassFile.FieldType)) ∈ lw_all := lw_g (lw_at lw_m1 113 rfl) rfl
theorem q213 : (Jvm.Cond.methodLink "BarredBooks$Tape" (3 : Nat) ({ cls := "java/lang/Object", name := "<init>", desc := "()V" } : Jvm.MethodName)) ∈ lw_all := lw_g (lw_at lw_m1 114 rfl) rfl
theorem q214 : (Jvm.Cond.fieldLink "BarredBooks$Tape" (9 : Nat) "BarredBooks$Tape" "row" "Ljava/lang/Object;") ∈ lw_all := lw_g (lw_at lw_m1 115 rfl) rfl
theorem q216 : (Jvm.Cond.lays "BarredBooks$Tape" "BarredBooks$Tape" "row" "Ljava/lang/Object;") ∈ lw_all := lw_g (lw_at lw_m1 117 rfl) rfl
theorem q217 : (Jvm.Cond.soleField "BarredBooks$Tape" "row") ∈ lw_all := lw_g (lw_at lw_m1 118 rfl) rfl
theorem q218 : (Jvm.Cond.superclass "BarredBooks$Tape" "java/lang/Object") ∈ lw_all := lw_g (lw_at lw_m1 119 rfl) rfl
theorem q1156 : (Jvm.Cond.selects "BarredBooks$Tape" ({ cls := "java/lang/Object", name := "getClass", desc := "()Ljava/lang/Class;" } : Jvm.MethodName) ({ cls := "java/lang/Object", name := "getClass", desc := "()Ljava/lang/Class;" } : Jvm.MethodName)) ∈ lw_all := lw_g (lw_at lw_m5 97 rfl) rfl
theorem q1565 : (Jvm.Cond.privateMethod ({ cls := "BarredBooks$Tape", name := "has", desc := "(I)V" } : Jvm.MethodName)) ∈ lw_tbl := lw_at lw_m7 26 rfl
theorem q1566 : (Jvm.Cond.instanceMethod ({ cls := "BarredBooks$Tape", name := "has", desc := "(I)V" } : Jvm.MethodName)) ∈ lw_all := lw_g (lw_at lw_m7 27 rfl) rfl
theorem q1567 : (Jvm.Cond.code ({ cls := "BarredBooks$Tape", name := "has", desc := "(I)V" } : Jvm.MethodName) prog_26_method_3_code (2 : Nat) (Option.none : Option Jvm.ClassFile.FieldType)) ∈ lw_all := lw_g (lw_at lw_m7 28 rfl) rfl
theorem q1568 : (Jvm.Cond.classLink "BarredBooks$Tape" (25 : Nat) "BarredBooks$Off") ∈ lw_all := lw_g (lw_at lw_m7 29 rfl) rfl
theorem q1569 : (Jvm.Cond.methodLink "BarredBooks$Tape" (27 : Nat) ({ cls := "BarredBooks$Off", name := "<init>", desc := "(I)V" } : Jvm.MethodName)) ∈ lw_all := lw_g (lw_at lw_m7 30 rfl) rfl
theorem q1570 : (Jvm.Cond.methodLink "BarredBooks$Tape" (30 : Nat) ({ cls := "BarredBooks$Tape", name := "size", desc := "()I" } : Jvm.MethodName)) ∈ lw_all := lw_g (lw_at lw_m7 31 rfl) rfl
theorem q1571 : (Jvm.Cond.privateMethod ({ cls := "BarredBooks$Tape", name := "size", desc := "()I" } : Jvm.MethodName)) ∈ lw_tbl := lw_at lw_m7 32 rfl
theorem q1572 : (Jvm.Cond.instanceMethod ({ cls := "BarredBooks$Tape", name := "size", desc := "()I" } : Jvm.MethodName)) ∈ lw_all := lw_g (lw_at lw_m7 33 rfl) rfl
theorem q1573 : (Jvm.Cond.code ({ cls := "BarredBooks$Tape", name := "size", desc := "()I" } : Jvm.MethodName) prog_26_method_2_code (3 : Nat) (Option.some Jvm.ClassFile.FieldType.int)) ∈ lw_all := lw_g (lw_at lw_m7 34 rfl) rfl
theorem q1574 : (Jvm.Cond.classLink "BarredBooks$Tape" (15 : Nat) "[B") ∈ lw_all := lw_g (lw_at lw_m7 35 rfl) rfl
theorem q1575 : (Jvm.Cond.classLink "BarredBooks$Tape" (17 : Nat) "[S") ∈ lw_all := lw_g (lw_at lw_m7 36 rfl) rfl
theorem q1576 : (Jvm.Cond.classLink "BarredBooks$Tape" (19 : Nat) "[I") ∈ lw_all := lw_g (lw_at lw_m7 37 rfl) rfl
theorem q1577 : (Jvm.Cond.classLink "BarredBooks$Tape" (21 : Nat) "[J") ∈ lw_all := lw_g (lw_at lw_m7 38 rfl) rfl
theorem q1578 : (Jvm.Cond.classLink "BarredBooks$Tape" (23 : Nat) "[Z") ∈ lw_all := lw_g (lw_at lw_m7 39 rfl) rfl
theorem q1579 : (Jvm.Cond.methodLinkNest "BarredBooks$Tape" (34 : Nat) ({ cls := "BarredBooks", name := "in", desc := "(III)Z" } : Jvm.MethodName) "BarredBooks") ∈ lw_tbl := lw_at lw_m7 40 rfl
theorem q2327 : (Jvm.Cond.castable "BarredBooks$Tape" "java/lang/Object") ∈ lw_tbl := lw_at lw_m10 68 rfl
theorem in_X3 : ∀ w ∈ wsX30, w ∈ lw_all := lw_in wsX30 [216] (by decide +kernel) (by decide +kernel)

/-! BarredBooks$Person -/
set_option maxRecDepth 100000
def RX5 : String := "BarredBooks$Person"
def TX5 : u_T := fun k => match k with
  | 0 => ("BarredBooks$Person", "town", "I", true)
  | _ => ("BarredBooks$Person", "rank", "I", true)
def tyX5 : Nat → FieldType := fun k => match k with
  | 0 => .int
  | _ => .int
abbrev wsX50 : List Cond := u_ws RX5 TX5 2
theorem nmX5 : ∀ a, a < 2 → ∀ b, b < 2 → a ≠ b → (TX5 a).2.1 ≠ (TX5 b).2.1 := by decide +kernel
theorem tyX5_ok : ∀ k, k < 2 → parseFieldDescriptor (TX5 k).2.2.1 = some (tyX5 k) := by decide +kernel
abbrev cX5_init : ByteArray := prog_19_method_1_code
def yX5_init : MethodName := ⟨RX5, "<init>", "(II)V"⟩
def dkwX5_init_0 : List UInt8 := [42, 183, 0, 1, 42, 27, 181, 0, 7, 42, 28, 181, 0, 13, 177]
abbrev dktX5_init_0 : List UInt8 := dkwX5_init_0 ++ []
theorem dksX5_init_0 : cX5_init.data.toList.drop 0 = dktX5_init_0 := by decide +kernel
theorem dX5_init_0 : decode cX5_init 0 = .ok (.aload_n 0, 1) := dk_42 (dk_at dksX5_init_0 0 rfl rfl)
theorem dX5_init_1 : decode cX5_init 1 = .ok (.invokespecial 1, 3) := dk_183 0 1 (dk_at dksX5_init_0 1 rfl rfl)
theorem dX5_init_4 : decode cX5_init 4 = .ok (.aload_n 0, 1) := dk_42 (dk_at dksX5_init_0 4 rfl rfl)
theorem dX5_init_5 : decode cX5_init 5 = .ok (.iload_n 1, 1) := dk_27 (dk_at dksX5_init_0 5 rfl rfl)
theorem dX5_init_6 : decode cX5_init 6 = .ok (.putfield 7, 3) := dk_181 0 7 (dk_at dksX5_init_0 6 rfl rfl)
theorem dX5_init_9 : decode cX5_init 9 = .ok (.aload_n 0, 1) := dk_42 (dk_at dksX5_init_0 9 rfl rfl)
theorem dX5_init_10 : decode cX5_init 10 = .ok (.iload_n 2, 1) := dk_28 (dk_at dksX5_init_0 10 rfl rfl)
theorem dX5_init_11 : decode cX5_init 11 = .ok (.putfield 13, 3) := dk_181 0 13 (dk_at dksX5_init_0 11 rfl rfl)
theorem dX5_init_14 : decode cX5_init 14 = .ok (.return_, 1) := dk_177 (dk_at dksX5_init_0 14 rfl rfl)
theorem q106 : (Jvm.Cond.initialized "BarredBooks$Person") ∈ lw_all := lw_g (lw_at lw_m1 7 rfl) rfl
theorem q365 : (Jvm.Cond.instantiable "BarredBooks$Person" (2 : Nat)) ∈ lw_all := lw_g (lw_at lw_m2 26 rfl) rfl
theorem q367 : (Jvm.Cond.instanceMethod ({ cls := "BarredBooks$Person", name := "<init>", desc := "(II)V" } : Jvm.MethodName)) ∈ lw_all := lw_g (lw_at lw_m2 28 rfl) rfl
theorem q368 : (Jvm.Cond.code ({ cls := "BarredBooks$Person", name := "<init>", desc := "(II)V" } : Jvm.MethodName) prog_19_method_1_code (3 : Nat) (Option.none : Option Jvm.ClassFile.FieldType)) ∈ lw_all := lw_g (lw_at lw_m2 29 rfl) rfl
theorem q369 : (Jvm.Cond.methodLink "BarredBooks$Person" (1 : Nat) ({ cls := "java/lang/Object", name := "<init>", desc := "()V" } : Jvm.MethodName)) ∈ lw_all := lw_g (lw_at lw_m2 30 rfl) rfl
theorem q370 : (Jvm.Cond.fieldLink "BarredBooks$Person" (7 : Nat) "BarredBooks$Person" "town" "I") ∈ lw_all := lw_g (lw_at lw_m2 31 rfl) rfl
theorem q372 : (Jvm.Cond.fieldLink "BarredBooks$Person" (13 : Nat) "BarredBooks$Person" "rank" "I") ∈ lw_all := lw_g (lw_at lw_m2 33 rfl) rfl
theorem q374 : (Jvm.Cond.laysFinal "BarredBooks$Person" "BarredBooks$Person" "town" "I") ∈ lw_all := lw_g (lw_at lw_m2 35 rfl) rfl
theorem q375 : (Jvm.Cond.soleField "BarredBooks$Person" "town") ∈ lw_all := lw_g (lw_at lw_m2 36 rfl) rfl
theorem q376 : (Jvm.Cond.laysFinal "BarredBooks$Person" "BarredBooks$Person" "rank" "I") ∈ lw_all := lw_g (lw_at lw_m2 37 rfl) rfl
theorem q377 : (Jvm.Cond.soleField "BarredBooks$Person" "rank") ∈ lw_all := lw_g (lw_at lw_m2 38 rfl) rfl
theorem q378 : (Jvm.Cond.superclass "BarredBooks$Person" "java/lang/Object") ∈ lw_all := lw_g (lw_at lw_m2 39 rfl) rfl
theorem q1149 : (Jvm.Cond.selects "BarredBooks$Person" ({ cls := "java/lang/Object", name := "getClass", desc := "()Ljava/lang/Class;" } : Jvm.MethodName) ({ cls := "java/lang/Object", name := "getClass", desc := "()Ljava/lang/Class;" } : Jvm.MethodName)) ∈ lw_all := lw_g (lw_at lw_m5 90 rfl) rfl
theorem q2322 : (Jvm.Cond.castable "BarredBooks$Person" "java/lang/Object") ∈ lw_tbl := lw_at lw_m10 63 rfl
theorem in_X5 : ∀ w ∈ wsX50, w ∈ lw_all := lw_in wsX50 [374, 376] (by decide +kernel) (by decide +kernel)

/-! BarredBooks$Book -/
set_option maxRecDepth 100000
def RX6 : String := "BarredBooks$Book"
def TX6 : u_T := fun k => match k with
  | 0 => ("BarredBooks$Book", "number", "I", true)
  | 1 => ("BarredBooks$Book", "title", "I", true)
  | 2 => ("BarredBooks$Book", "author", "I", true)
  | 3 => ("BarredBooks$Book", "year", "I", true)
  | 4 => ("BarredBooks$Book", "words", "[I", true)
  | 5 => ("BarredBooks$Book", "lines", "I", false)
  | 6 => ("BarredBooks$Book", "parted", "[I", true)
  | _ => ("BarredBooks$Book", "pairs", "I", false)
def tyX6 : Nat → FieldType := fun k => match k with
  | 0 => .int
  | 1 => .int
  | 2 => .int
  | 3 => .int
  | 4 => .array .int
  | 5 => .int
  | 6 => .array .int
  | _ => .int
abbrev wsX60 : List Cond := u_ws RX6 TX6 8
theorem nmX6 : ∀ a, a < 8 → ∀ b, b < 8 → a ≠ b → (TX6 a).2.1 ≠ (TX6 b).2.1 := by decide +kernel
theorem tyX6_ok : ∀ k, k < 8 → parseFieldDescriptor (TX6 k).2.2.1 = some (tyX6 k) := by decide +kernel
abbrev cX6_init : ByteArray := prog_3_method_1_code
def yX6_init : MethodName := ⟨RX6, "<init>", "(IIII)V"⟩
def dkwX6_init_1 : List UInt8 := [181, 0, 18, 42, 28, 181, 0, 22, 42, 29, 181, 0, 25, 42, 21, 4, 181, 0, 28, 177]
abbrev dktX6_init_1 : List UInt8 := dkwX6_init_1 ++ []
def dkwX6_init_0 : List UInt8 := [42, 183, 0, 3, 42, 16, 16, 188, 10, 181, 0, 9, 42, 16, 16, 188, 10, 181, 0, 15, 42, 27]
abbrev dktX6_init_0 : List UInt8 := dkwX6_init_0 ++ dktX6_init_1
theorem dksX6_init_0 : cX6_init.data.toList.drop 0 = dktX6_init_0 := by decide +kernel
theorem dksX6_init_1 : cX6_init.data.toList.drop 22 = dktX6_init_1 := dk_seg dksX6_init_0 22 rfl rfl
theorem dX6_init_0 : decode cX6_init 0 = .ok (.aload_n 0, 1) := dk_42 (dk_at dksX6_init_0 0 rfl rfl)
theorem dX6_init_1 : decode cX6_init 1 = .ok (.invokespecial 3, 3) := dk_183 0 3 (dk_at dksX6_init_0 1 rfl rfl)
theorem dX6_init_4 : decode cX6_init 4 = .ok (.aload_n 0, 1) := dk_42 (dk_at dksX6_init_0 4 rfl rfl)
theorem dX6_init_5 : decode cX6_init 5 = .ok (.bipush 16, 2) := dk_16 16 (dk_at dksX6_init_0 5 rfl rfl)
theorem dX6_init_7 : decode cX6_init 7 = .ok (.newarray .int, 2) := dk_188_10 (dk_at dksX6_init_0 7 rfl rfl)
theorem dX6_init_9 : decode cX6_init 9 = .ok (.putfield 9, 3) := dk_181 0 9 (dk_at dksX6_init_0 9 rfl rfl)
theorem dX6_init_12 : decode cX6_init 12 = .ok (.aload_n 0, 1) := dk_42 (dk_at dksX6_init_0 12 rfl rfl)
theorem dX6_init_13 : decode cX6_init 13 = .ok (.bipush 16, 2) := dk_16 16 (dk_at dksX6_init_0 13 rfl rfl)
theorem dX6_init_15 : decode cX6_init 15 = .ok (.newarray .int, 2) := dk_188_10 (dk_at dksX6_init_0 15 rfl rfl)
theorem dX6_init_17 : decode cX6_init 17 = .ok (.putfield 15, 3) := dk_181 0 15 (dk_at dksX6_init_0 17 rfl rfl)
theorem dX6_init_20 : decode cX6_init 20 = .ok (.aload_n 0, 1) := dk_42 (dk_at dksX6_init_0 20 rfl rfl)
theorem dX6_init_21 : decode cX6_init 21 = .ok (.iload_n 1, 1) := dk_27 (dk_at dksX6_init_0 21 rfl rfl)
theorem dX6_init_22 : decode cX6_init 22 = .ok (.putfield 18, 3) := dk_181 0 18 (dk_at dksX6_init_1 0 rfl rfl)
theorem dX6_init_25 : decode cX6_init 25 = .ok (.aload_n 0, 1) := dk_42 (dk_at dksX6_init_1 3 rfl rfl)
theorem dX6_init_26 : decode cX6_init 26 = .ok (.iload_n 2, 1) := dk_28 (dk_at dksX6_init_1 4 rfl rfl)
theorem dX6_init_27 : decode cX6_init 27 = .ok (.putfield 22, 3) := dk_181 0 22 (dk_at dksX6_init_1 5 rfl rfl)
theorem dX6_init_30 : decode cX6_init 30 = .ok (.aload_n 0, 1) := dk_42 (dk_at dksX6_init_1 8 rfl rfl)
theorem dX6_init_31 : decode cX6_init 31 = .ok (.iload_n 3, 1) := dk_29 (dk_at dksX6_init_1 9 rfl rfl)
theorem dX6_init_32 : decode cX6_init 32 = .ok (.putfield 25, 3) := dk_181 0 25 (dk_at dksX6_init_1 10 rfl rfl)
theorem dX6_init_35 : decode cX6_init 35 = .ok (.aload_n 0, 1) := dk_42 (dk_at dksX6_init_1 13 rfl rfl)
theorem dX6_init_36 : decode cX6_init 36 = .ok (.iload 4, 2) := dk_21 4 (dk_at dksX6_init_1 14 rfl rfl)
theorem dX6_init_38 : decode cX6_init 38 = .ok (.putfield 28, 3) := dk_181 0 28 (dk_at dksX6_init_1 16 rfl rfl)
theorem dX6_init_41 : decode cX6_init 41 = .ok (.return_, 1) := dk_177 (dk_at dksX6_init_1 19 rfl rfl)
theorem q107 : (Jvm.Cond.initialized "BarredBooks$Book") ∈ lw_all := lw_g (lw_at lw_m1 8 rfl) rfl
theorem q383 : (Jvm.Cond.instantiable "BarredBooks$Book" (8 : Nat)) ∈ lw_all := lw_g (lw_at lw_m2 44 rfl) rfl
theorem q385 : (Jvm.Cond.instanceMethod ({ cls := "BarredBooks$Book", name := "<init>", desc := "(IIII)V" } : Jvm.MethodName)) ∈ lw_all := lw_g (lw_at lw_m2 46 rfl) rfl
theorem q386 : (Jvm.Cond.code ({ cls := "BarredBooks$Book", name := "<init>", desc := "(IIII)V" } : Jvm.MethodName) prog_3_method_1_code (5 : Nat) (Option.none : Option Jvm.ClassFile.FieldType)) ∈ lw_all := lw_g (lw_at lw_m2 47 rfl) rfl
theorem q387 : (Jvm.Cond.methodLink "BarredBooks$Book" (3 : Nat) ({ cls := "java/lang/Object", name := "<init>", desc := "()V" } : Jvm.MethodName)) ∈ lw_all := lw_g (lw_at lw_m2 48 rfl) rfl
theorem q388 : (Jvm.Cond.fieldLink "BarredBooks$Book" (18 : Nat) "BarredBooks$Book" "number" "I") ∈ lw_all := lw_g (lw_at lw_m2 49 rfl) rfl
theorem q390 : (Jvm.Cond.fieldLink "BarredBooks$Book" (22 : Nat) "BarredBooks$Book" "title" "I") ∈ lw_all := lw_g (lw_at lw_m2 51 rfl) rfl
theorem q394 : (Jvm.Cond.fieldLink "BarredBooks$Book" (25 : Nat) "BarredBooks$Book" "author" "I") ∈ lw_all := lw_g (lw_at lw_m2 55 rfl) rfl
theorem q399 : (Jvm.Cond.fieldLink "BarredBooks$Book" (28 : Nat) "BarredBooks$Book" "year" "I") ∈ lw_all := lw_g (lw_at lw_m2 60 rfl) rfl
theorem q403 : (Jvm.Cond.fieldLink "BarredBooks$Book" (9 : Nat) "BarredBooks$Book" "words" "[I") ∈ lw_all := lw_g (lw_at lw_m2 64 rfl) rfl
theorem q407 : (Jvm.Cond.fieldLink "BarredBooks$Book" (15 : Nat) "BarredBooks$Book" "parted" "[I") ∈ lw_all := lw_g (lw_at lw_m2 68 rfl) rfl
theorem q410 : (Jvm.Cond.laysFinal "BarredBooks$Book" "BarredBooks$Book" "number" "I") ∈ lw_all := lw_g (lw_at lw_m2 71 rfl) rfl
theorem q411 : (Jvm.Cond.soleField "BarredBooks$Book" "number") ∈ lw_all := lw_g (lw_at lw_m2 72 rfl) rfl
theorem q412 : (Jvm.Cond.laysFinal "BarredBooks$Book" "BarredBooks$Book" "title" "I") ∈ lw_all := lw_g (lw_at lw_m2 73 rfl) rfl
theorem q413 : (Jvm.Cond.soleField "BarredBooks$Book" "title") ∈ lw_all := lw_g (lw_at lw_m2 74 rfl) rfl
theorem q414 : (Jvm.Cond.laysFinal "BarredBooks$Book" "BarredBooks$Book" "author" "I") ∈ lw_all := lw_g (lw_at lw_m2 75 rfl) rfl
theorem q415 : (Jvm.Cond.soleField "BarredBooks$Book" "author") ∈ lw_all := lw_g (lw_at lw_m2 76 rfl) rfl
theorem q416 : (Jvm.Cond.laysFinal "BarredBooks$Book" "BarredBooks$Book" "year" "I") ∈ lw_all := lw_g (lw_at lw_m2 77 rfl) rfl
theorem q417 : (Jvm.Cond.soleField "BarredBooks$Book" "year") ∈ lw_all := lw_g (lw_at lw_m2 78 rfl) rfl
theorem q418 : (Jvm.Cond.laysFinal "BarredBooks$Book" "BarredBooks$Book" "words" "[I") ∈ lw_all := lw_g (lw_at lw_m2 79 rfl) rfl
theorem q419 : (Jvm.Cond.soleField "BarredBooks$Book" "words") ∈ lw_all := lw_g (lw_at lw_m2 80 rfl) rfl
theorem q420 : (Jvm.Cond.lays "BarredBooks$Book" "BarredBooks$Book" "lines" "I") ∈ lw_all := lw_g (lw_at lw_m2 81 rfl) rfl
theorem q421 : (Jvm.Cond.soleField "BarredBooks$Book" "lines") ∈ lw_all := lw_g (lw_at lw_m2 82 rfl) rfl
theorem q422 : (Jvm.Cond.laysFinal "BarredBooks$Book" "BarredBooks$Book" "parted" "[I") ∈ lw_all := lw_g (lw_at lw_m2 83 rfl) rfl
theorem q423 : (Jvm.Cond.soleField "BarredBooks$Book" "parted") ∈ lw_all := lw_g (lw_at lw_m2 84 rfl) rfl
theorem q424 : (Jvm.Cond.lays "BarredBooks$Book" "BarredBooks$Book" "pairs" "I") ∈ lw_all := lw_g (lw_at lw_m2 85 rfl) rfl
theorem q425 : (Jvm.Cond.soleField "BarredBooks$Book" "pairs") ∈ lw_all := lw_g (lw_at lw_m2 86 rfl) rfl
theorem q426 : (Jvm.Cond.superclass "BarredBooks$Book" "java/lang/Object") ∈ lw_all := lw_g (lw_at lw_m2 87 rfl) rfl
theorem q1135 : (Jvm.Cond.selects "BarredBooks$Book" ({ cls := "java/lang/Object", name := "getClass", desc := "()Ljava/lang/Class;" } : Jvm.MethodName) ({ cls := "java/lang/Object", name := "getClass", desc := "()Ljava/lang/Class;" } : Jvm.MethodName)) ∈ lw_all := lw_g (lw_at lw_m5 76 rfl) rfl
theorem q2323 : (Jvm.Cond.castable "BarredBooks$Book" "java/lang/Object") ∈ lw_tbl := lw_at lw_m10 64 rfl
theorem in_X6 : ∀ w ∈ wsX60, w ∈ lw_all := lw_in wsX60 [410, 412, 414, 416, 418, 420, 422, 424] (by decide +kernel) (by decide +kernel)

/-! BarredBooks$Edition -/
set_option maxRecDepth 100000
def RX7 : String := "BarredBooks$Edition"
def TX7 : u_T := fun k => match k with
  | 0 => ("BarredBooks$Edition", "number", "I", true)
  | 1 => ("BarredBooks$Edition", "lines", "I", true)
  | 2 => ("BarredBooks$Edition", "town", "I", true)
  | 3 => ("BarredBooks$Edition", "book", "LBarredBooks$Book;", true)
  | _ => ("BarredBooks$Edition", "from", "I", true)
def tyX7 : Nat → FieldType := fun k => match k with
  | 0 => .int
  | 1 => .int
  | 2 => .int
  | 3 => .object "BarredBooks$Book"
  | _ => .int
abbrev wsX70 : List Cond := u_ws RX7 TX7 5
theorem nmX7 : ∀ a, a < 5 → ∀ b, b < 5 → a ≠ b → (TX7 a).2.1 ≠ (TX7 b).2.1 := by decide +kernel
theorem tyX7_ok : ∀ k, k < 5 → parseFieldDescriptor (TX7 k).2.2.1 = some (tyX7 k) := by decide +kernel
abbrev cX7_init : ByteArray := prog_7_method_1_code
def yX7_init : MethodName := ⟨RX7, "<init>", "(ILBarredBooks$Book;III)V"⟩
def dkwX7_init_1 : List UInt8 := [181, 0, 22, 42, 21, 5, 181, 0, 25, 177]
abbrev dktX7_init_1 : List UInt8 := dkwX7_init_1 ++ []
def dkwX7_init_0 : List UInt8 := [42, 183, 0, 3, 42, 27, 181, 0, 9, 42, 44, 181, 0, 15, 42, 29, 181, 0, 19, 42, 21, 4]
abbrev dktX7_init_0 : List UInt8 := dkwX7_init_0 ++ dktX7_init_1
theorem dksX7_init_0 : cX7_init.data.toList.drop 0 = dktX7_init_0 := by decide +kernel
theorem dksX7_init_1 : cX7_init.data.toList.drop 22 = dktX7_init_1 := dk_seg dksX7_init_0 22 rfl rfl
theorem dX7_init_0 : decode cX7_init 0 = .ok (.aload_n 0, 1) := dk_42 (dk_at dksX7_init_0 0 rfl rfl)
theorem dX7_init_1 : decode cX7_init 1 = .ok (.invokespecial 3, 3) := dk_183 0 3 (dk_at dksX7_init_0 1 rfl rfl)
theorem dX7_init_4 : decode cX7_init 4 = .ok (.aload_n 0, 1) := dk_42 (dk_at dksX7_init_0 4 rfl rfl)
theorem dX7_init_5 : decode cX7_init 5 = .ok (.iload_n 1, 1) := dk_27 (dk_at dksX7_init_0 5 rfl rfl)
theorem dX7_init_6 : decode cX7_init 6 = .ok (.putfield 9, 3) := dk_181 0 9 (dk_at dksX7_init_0 6 rfl rfl)
theorem dX7_init_9 : decode cX7_init 9 = .ok (.aload_n 0, 1) := dk_42 (dk_at dksX7_init_0 9 rfl rfl)
theorem dX7_init_10 : decode cX7_init 10 = .ok (.aload_n 2, 1) := dk_44 (dk_at dksX7_init_0 10 rfl rfl)
theorem dX7_init_11 : decode cX7_init 11 = .ok (.putfield 15, 3) := dk_181 0 15 (dk_at dksX7_init_0 11 rfl rfl)
theorem dX7_init_14 : decode cX7_init 14 = .ok (.aload_n 0, 1) := dk_42 (dk_at dksX7_init_0 14 rfl rfl)
theorem dX7_init_15 : decode cX7_init 15 = .ok (.iload_n 3, 1) := dk_29 (dk_at dksX7_init_0 15 rfl rfl)
theorem dX7_init_16 : decode cX7_init 16 = .ok (.putfield 19, 3) := dk_181 0 19 (dk_at dksX7_init_0 16 rfl rfl)
theorem dX7_init_19 : decode cX7_init 19 = .ok (.aload_n 0, 1) := dk_42 (dk_at dksX7_init_0 19 rfl rfl)
theorem dX7_init_20 : decode cX7_init 20 = .ok (.iload 4, 2) := dk_21 4 (dk_at dksX7_init_0 20 rfl rfl)
theorem dX7_init_22 : decode cX7_init 22 = .ok (.putfield 22, 3) := dk_181 0 22 (dk_at dksX7_init_1 0 rfl rfl)
theorem dX7_init_25 : decode cX7_init 25 = .ok (.aload_n 0, 1) := dk_42 (dk_at dksX7_init_1 3 rfl rfl)
theorem dX7_init_26 : decode cX7_init 26 = .ok (.iload 5, 2) := dk_21 5 (dk_at dksX7_init_1 4 rfl rfl)
theorem dX7_init_28 : decode cX7_init 28 = .ok (.putfield 25, 3) := dk_181 0 25 (dk_at dksX7_init_1 6 rfl rfl)
theorem dX7_init_31 : decode cX7_init 31 = .ok (.return_, 1) := dk_177 (dk_at dksX7_init_1 9 rfl rfl)
abbrev cX7_has : ByteArray := prog_7_method_2_code
def yX7_has : MethodName := ⟨RX7, "has", "(I)Z"⟩
def dkwX7_has_1 : List UInt8 := [167, 0, 4, 3, 172]
abbrev dktX7_has_1 : List UInt8 := dkwX7_has_1 ++ []
def dkwX7_has_0 : List UInt8 := [27, 3, 16, 15, 184, 0, 28, 153, 0, 19, 42, 180, 0, 19, 27, 122, 4, 126, 4, 160, 0, 7, 4]
abbrev dktX7_has_0 : List UInt8 := dkwX7_has_0 ++ dktX7_has_1
theorem dksX7_has_0 : cX7_has.data.toList.drop 0 = dktX7_has_0 := by decide +kernel
theorem dksX7_has_1 : cX7_has.data.toList.drop 23 = dktX7_has_1 := dk_seg dksX7_has_0 23 rfl rfl
theorem dX7_has_0 : decode cX7_has 0 = .ok (.iload_n 1, 1) := dk_27 (dk_at dksX7_has_0 0 rfl rfl)
theorem dX7_has_1 : decode cX7_has 1 = .ok (.iconst 0, 1) := dk_3 (dk_at dksX7_has_0 1 rfl rfl)
theorem dX7_has_2 : decode cX7_has 2 = .ok (.bipush 15, 2) := dk_16 15 (dk_at dksX7_has_0 2 rfl rfl)
theorem dX7_has_4 : decode cX7_has 4 = .ok (.invokestatic 28, 3) := dk_184 0 28 (dk_at dksX7_has_0 4 rfl rfl)
theorem dX7_has_7 : decode cX7_has 7 = .ok (.ifCond .eq 19, 3) := dk_153 0 19 (dk_at dksX7_has_0 7 rfl rfl)
theorem dX7_has_10 : decode cX7_has 10 = .ok (.aload_n 0, 1) := dk_42 (dk_at dksX7_has_0 10 rfl rfl)
theorem dX7_has_11 : decode cX7_has 11 = .ok (.getfield 19, 3) := dk_180 0 19 (dk_at dksX7_has_0 11 rfl rfl)
theorem dX7_has_14 : decode cX7_has 14 = .ok (.iload_n 1, 1) := dk_27 (dk_at dksX7_has_0 14 rfl rfl)
theorem dX7_has_15 : decode cX7_has 15 = .ok (.ishr, 1) := dk_122 (dk_at dksX7_has_0 15 rfl rfl)
theorem dX7_has_16 : decode cX7_has 16 = .ok (.iconst 1, 1) := dk_4 (dk_at dksX7_has_0 16 rfl rfl)
theorem dX7_has_17 : decode cX7_has 17 = .ok (.iand, 1) := dk_126 (dk_at dksX7_has_0 17 rfl rfl)
theorem dX7_has_18 : decode cX7_has 18 = .ok (.iconst 1, 1) := dk_4 (dk_at dksX7_has_0 18 rfl rfl)
theorem dX7_has_19 : decode cX7_has 19 = .ok (.if_icmp .ne 7, 3) := dk_160 0 7 (dk_at dksX7_has_0 19 rfl rfl)
theorem dX7_has_22 : decode cX7_has 22 = .ok (.iconst 1, 1) := dk_4 (dk_at dksX7_has_0 22 rfl rfl)
theorem dX7_has_23 : decode cX7_has 23 = .ok (.goto 4, 3) := dk_167 0 4 (dk_at dksX7_has_1 0 rfl rfl)
theorem dX7_has_26 : decode cX7_has 26 = .ok (.iconst 0, 1) := dk_3 (dk_at dksX7_has_1 3 rfl rfl)
theorem dX7_has_27 : decode cX7_has 27 = .ok (.ireturn, 1) := dk_172 (dk_at dksX7_has_1 4 rfl rfl)
theorem q108 : (Jvm.Cond.initialized "BarredBooks$Edition") ∈ lw_all := lw_g (lw_at lw_m1 9 rfl) rfl
theorem q444 : (Jvm.Cond.instantiable "BarredBooks$Edition" (5 : Nat)) ∈ lw_all := lw_g (lw_at lw_m2 105 rfl) rfl
theorem q446 : (Jvm.Cond.instanceMethod ({ cls := "BarredBooks$Edition", name := "<init>", desc := "(ILBarredBooks$Book;III)V" } : Jvm.MethodName)) ∈ lw_all := lw_g (lw_at lw_m2 107 rfl) rfl
theorem q447 : (Jvm.Cond.code ({ cls := "BarredBooks$Edition", name := "<init>", desc := "(ILBarredBooks$Book;III)V" } : Jvm.MethodName) prog_7_method_1_code (6 : Nat) (Option.none : Option Jvm.ClassFile.FieldType)) ∈ lw_all := lw_g (lw_at lw_m2 108 rfl) rfl
theorem q448 : (Jvm.Cond.methodLink "BarredBooks$Edition" (3 : Nat) ({ cls := "java/lang/Object", name := "<init>", desc := "()V" } : Jvm.MethodName)) ∈ lw_all := lw_g (lw_at lw_m2 109 rfl) rfl
theorem q449 : (Jvm.Cond.fieldLink "BarredBooks$Edition" (9 : Nat) "BarredBooks$Edition" "number" "I") ∈ lw_all := lw_g (lw_at lw_m2 110 rfl) rfl
theorem q450 : (Jvm.Cond.fieldLink "BarredBooks$Edition" (19 : Nat) "BarredBooks$Edition" "lines" "I") ∈ lw_all := lw_g (lw_at lw_m2 111 rfl) rfl
theorem q452 : (Jvm.Cond.fieldLink "BarredBooks$Edition" (22 : Nat) "BarredBooks$Edition" "town" "I") ∈ lw_all := lw_g (lw_at lw_m2 113 rfl) rfl
theorem q454 : (Jvm.Cond.fieldLink "BarredBooks$Edition" (15 : Nat) "BarredBooks$Edition" "book" "LBarredBooks$Book;") ∈ lw_all := lw_g (lw_at lw_m2 115 rfl) rfl
theorem q459 : (Jvm.Cond.fieldLink "BarredBooks$Edition" (25 : Nat) "BarredBooks$Edition" "from" "I") ∈ lw_all := lw_g (lw_at lw_m2 120 rfl) rfl
theorem q461 : (Jvm.Cond.laysFinal "BarredBooks$Edition" "BarredBooks$Edition" "number" "I") ∈ lw_all := lw_g (lw_at lw_m2 122 rfl) rfl
theorem q462 : (Jvm.Cond.soleField "BarredBooks$Edition" "number") ∈ lw_all := lw_g (lw_at lw_m2 123 rfl) rfl
theorem q463 : (Jvm.Cond.laysFinal "BarredBooks$Edition" "BarredBooks$Edition" "lines" "I") ∈ lw_all := lw_g (lw_at lw_m2 124 rfl) rfl
theorem q464 : (Jvm.Cond.soleField "BarredBooks$Edition" "lines") ∈ lw_all := lw_g (lw_at lw_m2 125 rfl) rfl
theorem q465 : (Jvm.Cond.laysFinal "BarredBooks$Edition" "BarredBooks$Edition" "town" "I") ∈ lw_all := lw_g (lw_at lw_m2 126 rfl) rfl
theorem q466 : (Jvm.Cond.soleField "BarredBooks$Edition" "town") ∈ lw_all := lw_g (lw_at lw_m2 127 rfl) rfl
theorem q467 : (Jvm.Cond.laysFinal "BarredBooks$Edition" "BarredBooks$Edition" "book" "LBarredBooks$Book;") ∈ lw_all := lw_g (lw_at lw_m2 128 rfl) rfl
theorem q468 : (Jvm.Cond.soleField "BarredBooks$Edition" "book") ∈ lw_all := lw_g (lw_at lw_m2 129 rfl) rfl
theorem q469 : (Jvm.Cond.laysFinal "BarredBooks$Edition" "BarredBooks$Edition" "from" "I") ∈ lw_all := lw_g (lw_at lw_m2 130 rfl) rfl
theorem q470 : (Jvm.Cond.soleField "BarredBooks$Edition" "from") ∈ lw_all := lw_g (lw_at lw_m2 131 rfl) rfl
theorem q471 : (Jvm.Cond.superclass "BarredBooks$Edition" "java/lang/Object") ∈ lw_all := lw_g (lw_at lw_m2 132 rfl) rfl
theorem q1138 : (Jvm.Cond.selects "BarredBooks$Edition" ({ cls := "java/lang/Object", name := "getClass", desc := "()Ljava/lang/Class;" } : Jvm.MethodName) ({ cls := "java/lang/Object", name := "getClass", desc := "()Ljava/lang/Class;" } : Jvm.MethodName)) ∈ lw_all := lw_g (lw_at lw_m5 79 rfl) rfl
theorem q1277 : (Jvm.Cond.instanceMethod ({ cls := "BarredBooks$Edition", name := "has", desc := "(I)Z" } : Jvm.MethodName)) ∈ lw_all := lw_g (lw_at lw_m5 218 rfl) rfl
theorem q1278 : (Jvm.Cond.selects "BarredBooks$Edition" ({ cls := "BarredBooks$Edition", name := "has", desc := "(I)Z" } : Jvm.MethodName) ({ cls := "BarredBooks$Edition", name := "has", desc := "(I)Z" } : Jvm.MethodName)) ∈ lw_all := lw_g (lw_at lw_m5 219 rfl) rfl
theorem q1279 : (Jvm.Cond.code ({ cls := "BarredBooks$Edition", name := "has", desc := "(I)Z" } : Jvm.MethodName) prog_7_method_2_code (2 : Nat) (Option.some Jvm.ClassFile.FieldType.boolean)) ∈ lw_all := lw_g (lw_at lw_m5 220 rfl) rfl
theorem q1280 : (Jvm.Cond.methodLinkNest "BarredBooks$Edition" (28 : Nat) ({ cls := "BarredBooks", name := "in", desc := "(III)Z" } : Jvm.MethodName) "BarredBooks") ∈ lw_tbl := lw_at lw_m5 221 rfl
theorem q2324 : (Jvm.Cond.castable "BarredBooks$Edition" "java/lang/Object") ∈ lw_tbl := lw_at lw_m10 65 rfl
theorem in_X7 : ∀ w ∈ wsX70, w ∈ lw_all := lw_in wsX70 [461, 463, 465, 467, 469] (by decide +kernel) (by decide +kernel)

/-! BarredBooks$Card -/
set_option maxRecDepth 100000
def RX8 : String := "BarredBooks$Card"
def TX8 : u_T := fun k => match k with
  | 0 => ("BarredBooks$Card", "trace", "LBarredBooks$Trace;", true)
  | 1 => ("BarredBooks$Card", "number", "I", true)
  | 2 => ("BarredBooks$Card", "edition", "I", true)
  | _ => ("BarredBooks$Card", "v", "I", true)
def tyX8 : Nat → FieldType := fun k => match k with
  | 0 => .object "BarredBooks$Trace"
  | 1 => .int
  | 2 => .int
  | _ => .int
abbrev wsX80 : List Cond := u_ws RX8 TX8 4
theorem nmX8 : ∀ a, a < 4 → ∀ b, b < 4 → a ≠ b → (TX8 a).2.1 ≠ (TX8 b).2.1 := by decide +kernel
theorem tyX8_ok : ∀ k, k < 4 → parseFieldDescriptor (TX8 k).2.2.1 = some (tyX8 k) := by decide +kernel
abbrev cX8_init : ByteArray := prog_4_method_1_code
def yX8_init : MethodName := ⟨RX8, "<init>", "(LBarredBooks$Trace;III)V"⟩
def dkwX8_init_1 : List UInt8 := [181, 0, 20, 177]
abbrev dktX8_init_1 : List UInt8 := dkwX8_init_1 ++ []
def dkwX8_init_0 : List UInt8 := [42, 183, 0, 1, 42, 43, 181, 0, 7, 42, 28, 181, 0, 13, 42, 29, 181, 0, 17, 42, 21, 4]
abbrev dktX8_init_0 : List UInt8 := dkwX8_init_0 ++ dktX8_init_1
theorem dksX8_init_0 : cX8_init.data.toList.drop 0 = dktX8_init_0 := by decide +kernel
theorem dksX8_init_1 : cX8_init.data.toList.drop 22 = dktX8_init_1 := dk_seg dksX8_init_0 22 rfl rfl
theorem dX8_init_0 : decode cX8_init 0 = .ok (.aload_n 0, 1) := dk_42 (dk_at dksX8_init_0 0 rfl rfl)
theorem dX8_init_1 : decode cX8_init 1 = .ok (.invokespecial 1, 3) := dk_183 0 1 (dk_at dksX8_init_0 1 rfl rfl)
theorem dX8_init_4 : decode cX8_init 4 = .ok (.aload_n 0, 1) := dk_42 (dk_at dksX8_init_0 4 rfl rfl)
theorem dX8_init_5 : decode cX8_init 5 = .ok (.aload_n 1, 1) := dk_43 (dk_at dksX8_init_0 5 rfl rfl)
theorem dX8_init_6 : decode cX8_init 6 = .ok (.putfield 7, 3) := dk_181 0 7 (dk_at dksX8_init_0 6 rfl rfl)
theorem dX8_init_9 : decode cX8_init 9 = .ok (.aload_n 0, 1) := dk_42 (dk_at dksX8_init_0 9 rfl rfl)
theorem dX8_init_10 : decode cX8_init 10 = .ok (.iload_n 2, 1) := dk_28 (dk_at dksX8_init_0 10 rfl rfl)
theorem dX8_init_11 : decode cX8_init 11 = .ok (.putfield 13, 3) := dk_181 0 13 (dk_at dksX8_init_0 11 rfl rfl)
theorem dX8_init_14 : decode cX8_init 14 = .ok (.aload_n 0, 1) := dk_42 (dk_at dksX8_init_0 14 rfl rfl)
theorem dX8_init_15 : decode cX8_init 15 = .ok (.iload_n 3, 1) := dk_29 (dk_at dksX8_init_0 15 rfl rfl)
theorem dX8_init_16 : decode cX8_init 16 = .ok (.putfield 17, 3) := dk_181 0 17 (dk_at dksX8_init_0 16 rfl rfl)
theorem dX8_init_19 : decode cX8_init 19 = .ok (.aload_n 0, 1) := dk_42 (dk_at dksX8_init_0 19 rfl rfl)
theorem dX8_init_20 : decode cX8_init 20 = .ok (.iload 4, 2) := dk_21 4 (dk_at dksX8_init_0 20 rfl rfl)
theorem dX8_init_22 : decode cX8_init 22 = .ok (.putfield 20, 3) := dk_181 0 20 (dk_at dksX8_init_1 0 rfl rfl)
theorem dX8_init_25 : decode cX8_init 25 = .ok (.return_, 1) := dk_177 (dk_at dksX8_init_1 3 rfl rfl)
abbrev cX8_kind : ByteArray := prog_4_method_2_code
def yX8_kind : MethodName := ⟨RX8, "kind", "()I"⟩
theorem dX8_kind_0 : decode cX8_kind 0 = .ok (.iconst 0, 1) := by decide +kernel
theorem dX8_kind_1 : decode cX8_kind 1 = .ok (.ireturn, 1) := by decide +kernel
abbrev cX8_bars : ByteArray := prog_4_method_3_code
def yX8_bars : MethodName := ⟨RX8, "bars", "(I)I"⟩
def dkwX8_bars_0 : List UInt8 := [42, 180, 0, 7, 16, 10, 182, 0, 23, 27, 42, 180, 0, 20, 96, 172]
abbrev dktX8_bars_0 : List UInt8 := dkwX8_bars_0 ++ []
theorem dksX8_bars_0 : cX8_bars.data.toList.drop 0 = dktX8_bars_0 := by decide +kernel
theorem dX8_bars_0 : decode cX8_bars 0 = .ok (.aload_n 0, 1) := dk_42 (dk_at dksX8_bars_0 0 rfl rfl)
theorem dX8_bars_1 : decode cX8_bars 1 = .ok (.getfield 7, 3) := dk_180 0 7 (dk_at dksX8_bars_0 1 rfl rfl)
theorem dX8_bars_4 : decode cX8_bars 4 = .ok (.bipush 10, 2) := dk_16 10 (dk_at dksX8_bars_0 4 rfl rfl)
theorem dX8_bars_6 : decode cX8_bars 6 = .ok (.invokevirtual 23, 3) := dk_182 0 23 (dk_at dksX8_bars_0 6 rfl rfl)
theorem dX8_bars_9 : decode cX8_bars 9 = .ok (.iload_n 1, 1) := dk_27 (dk_at dksX8_bars_0 9 rfl rfl)
theorem dX8_bars_10 : decode cX8_bars 10 = .ok (.aload_n 0, 1) := dk_42 (dk_at dksX8_bars_0 10 rfl rfl)
theorem dX8_bars_11 : decode cX8_bars 11 = .ok (.getfield 20, 3) := dk_180 0 20 (dk_at dksX8_bars_0 11 rfl rfl)
theorem dX8_bars_14 : decode cX8_bars 14 = .ok (.iadd, 1) := dk_96 (dk_at dksX8_bars_0 14 rfl rfl)
theorem dX8_bars_15 : decode cX8_bars 15 = .ok (.ireturn, 1) := dk_172 (dk_at dksX8_bars_0 15 rfl rfl)
abbrev cX8_hangs : ByteArray := prog_4_method_4_code
def yX8_hangs : MethodName := ⟨RX8, "hangs", "(I)I"⟩
def dkwX8_hangs_0 : List UInt8 := [42, 180, 0, 7, 16, 11, 182, 0, 23, 42, 27, 182, 0, 29, 42, 180, 0, 17, 100, 172]
abbrev dktX8_hangs_0 : List UInt8 := dkwX8_hangs_0 ++ []
theorem dksX8_hangs_0 : cX8_hangs.data.toList.drop 0 = dktX8_hangs_0 := by decide +kernel
theorem dX8_hangs_0 : decode cX8_hangs 0 = .ok (.aload_n 0, 1) := dk_42 (dk_at dksX8_hangs_0 0 rfl rfl)
theorem dX8_hangs_1 : decode cX8_hangs 1 = .ok (.getfield 7, 3) := dk_180 0 7 (dk_at dksX8_hangs_0 1 rfl rfl)
theorem dX8_hangs_4 : decode cX8_hangs 4 = .ok (.bipush 11, 2) := dk_16 11 (dk_at dksX8_hangs_0 4 rfl rfl)
theorem dX8_hangs_6 : decode cX8_hangs 6 = .ok (.invokevirtual 23, 3) := dk_182 0 23 (dk_at dksX8_hangs_0 6 rfl rfl)
theorem dX8_hangs_9 : decode cX8_hangs 9 = .ok (.aload_n 0, 1) := dk_42 (dk_at dksX8_hangs_0 9 rfl rfl)
theorem dX8_hangs_10 : decode cX8_hangs 10 = .ok (.iload_n 1, 1) := dk_27 (dk_at dksX8_hangs_0 10 rfl rfl)
theorem dX8_hangs_11 : decode cX8_hangs 11 = .ok (.invokevirtual 29, 3) := dk_182 0 29 (dk_at dksX8_hangs_0 11 rfl rfl)
theorem dX8_hangs_14 : decode cX8_hangs 14 = .ok (.aload_n 0, 1) := dk_42 (dk_at dksX8_hangs_0 14 rfl rfl)
theorem dX8_hangs_15 : decode cX8_hangs 15 = .ok (.getfield 17, 3) := dk_180 0 17 (dk_at dksX8_hangs_0 15 rfl rfl)
theorem dX8_hangs_18 : decode cX8_hangs 18 = .ok (.isub, 1) := dk_100 (dk_at dksX8_hangs_0 18 rfl rfl)
theorem dX8_hangs_19 : decode cX8_hangs 19 = .ok (.ireturn, 1) := dk_172 (dk_at dksX8_hangs_0 19 rfl rfl)
abbrev cX8_passes : ByteArray := prog_4_method_5_code
def yX8_passes : MethodName := ⟨RX8, "passes", "(I)I"⟩
def dkwX8_passes_0 : List UInt8 := [42, 180, 0, 7, 16, 12, 182, 0, 23, 42, 27, 182, 0, 33, 5, 104, 172]
abbrev dktX8_passes_0 : List UInt8 := dkwX8_passes_0 ++ []
theorem dksX8_passes_0 : cX8_passes.data.toList.drop 0 = dktX8_passes_0 := by decide +kernel
theorem dX8_passes_0 : decode cX8_passes 0 = .ok (.aload_n 0, 1) := dk_42 (dk_at dksX8_passes_0 0 rfl rfl)
theorem dX8_passes_1 : decode cX8_passes 1 = .ok (.getfield 7, 3) := dk_180 0 7 (dk_at dksX8_passes_0 1 rfl rfl)
theorem dX8_passes_4 : decode cX8_passes 4 = .ok (.bipush 12, 2) := dk_16 12 (dk_at dksX8_passes_0 4 rfl rfl)
theorem dX8_passes_6 : decode cX8_passes 6 = .ok (.invokevirtual 23, 3) := dk_182 0 23 (dk_at dksX8_passes_0 6 rfl rfl)
theorem dX8_passes_9 : decode cX8_passes 9 = .ok (.aload_n 0, 1) := dk_42 (dk_at dksX8_passes_0 9 rfl rfl)
theorem dX8_passes_10 : decode cX8_passes 10 = .ok (.iload_n 1, 1) := dk_27 (dk_at dksX8_passes_0 10 rfl rfl)
theorem dX8_passes_11 : decode cX8_passes 11 = .ok (.invokevirtual 33, 3) := dk_182 0 33 (dk_at dksX8_passes_0 11 rfl rfl)
theorem dX8_passes_14 : decode cX8_passes 14 = .ok (.iconst 2, 1) := dk_5 (dk_at dksX8_passes_0 14 rfl rfl)
theorem dX8_passes_15 : decode cX8_passes 15 = .ok (.imul, 1) := dk_104 (dk_at dksX8_passes_0 15 rfl rfl)
theorem dX8_passes_16 : decode cX8_passes 16 = .ok (.ireturn, 1) := dk_172 (dk_at dksX8_passes_0 16 rfl rfl)
theorem q109 : (Jvm.Cond.initialized "BarredBooks$Card") ∈ lw_all := lw_g (lw_at lw_m1 10 rfl) rfl
theorem q484 : (Jvm.Cond.instantiable "BarredBooks$Card" (4 : Nat)) ∈ lw_all := lw_g (lw_at lw_m2 145 rfl) rfl
theorem q486 : (Jvm.Cond.instanceMethod ({ cls := "BarredBooks$Card", name := "<init>", desc := "(LBarredBooks$Trace;III)V" } : Jvm.MethodName)) ∈ lw_all := lw_g (lw_at lw_m2 147 rfl) rfl
theorem q487 : (Jvm.Cond.code ({ cls := "BarredBooks$Card", name := "<init>", desc := "(LBarredBooks$Trace;III)V" } : Jvm.MethodName) prog_4_method_1_code (5 : Nat) (Option.none : Option Jvm.ClassFile.FieldType)) ∈ lw_all := lw_g (lw_at lw_m2 148 rfl) rfl
theorem q488 : (Jvm.Cond.methodLink "BarredBooks$Card" (1 : Nat) ({ cls := "java/lang/Object", name := "<init>", desc := "()V" } : Jvm.MethodName)) ∈ lw_all := lw_g (lw_at lw_m2 149 rfl) rfl
theorem q491 : (Jvm.Cond.fieldLink "BarredBooks$Card" (7 : Nat) "BarredBooks$Card" "trace" "LBarredBooks$Trace;") ∈ lw_all := lw_g (lw_at lw_m2 152 rfl) rfl
theorem q505 : (Jvm.Cond.fieldLink "BarredBooks$Card" (13 : Nat) "BarredBooks$Card" "number" "I") ∈ lw_all := lw_g (lw_at lw_m2 166 rfl) rfl
theorem q510 : (Jvm.Cond.fieldLink "BarredBooks$Card" (17 : Nat) "BarredBooks$Card" "edition" "I") ∈ lw_all := lw_g (lw_at lw_m2 171 rfl) rfl
theorem q513 : (Jvm.Cond.fieldLink "BarredBooks$Card" (20 : Nat) "BarredBooks$Card" "v" "I") ∈ lw_all := lw_g (lw_at lw_m2 174 rfl) rfl
theorem q515 : (Jvm.Cond.laysFinal "BarredBooks$Card" "BarredBooks$Card" "trace" "LBarredBooks$Trace;") ∈ lw_all := lw_g (lw_at lw_m2 176 rfl) rfl
theorem q516 : (Jvm.Cond.soleField "BarredBooks$Card" "trace") ∈ lw_all := lw_g (lw_at lw_m2 177 rfl) rfl
theorem q517 : (Jvm.Cond.laysFinal "BarredBooks$Card" "BarredBooks$Card" "number" "I") ∈ lw_all := lw_g (lw_at lw_m2 178 rfl) rfl
theorem q518 : (Jvm.Cond.soleField "BarredBooks$Card" "number") ∈ lw_all := lw_g (lw_at lw_m2 179 rfl) rfl
theorem q519 : (Jvm.Cond.laysFinal "BarredBooks$Card" "BarredBooks$Card" "edition" "I") ∈ lw_all := lw_g (lw_at lw_m2 180 rfl) rfl
theorem q520 : (Jvm.Cond.soleField "BarredBooks$Card" "edition") ∈ lw_all := lw_g (lw_at lw_m2 181 rfl) rfl
theorem q521 : (Jvm.Cond.laysFinal "BarredBooks$Card" "BarredBooks$Card" "v" "I") ∈ lw_all := lw_g (lw_at lw_m2 182 rfl) rfl
theorem q522 : (Jvm.Cond.soleField "BarredBooks$Card" "v") ∈ lw_all := lw_g (lw_at lw_m2 183 rfl) rfl
theorem q523 : (Jvm.Cond.superclass "BarredBooks$Card" "java/lang/Object") ∈ lw_all := lw_g (lw_at lw_m2 184 rfl) rfl
theorem q693 : (Jvm.Cond.instanceMethod ({ cls := "BarredBooks$Card", name := "kind", desc := "()I" } : Jvm.MethodName)) ∈ lw_all := lw_g (lw_at lw_m3 114 rfl) rfl
theorem q694 : (Jvm.Cond.selects "BarredBooks$Card" ({ cls := "BarredBooks$Card", name := "kind", desc := "()I" } : Jvm.MethodName) ({ cls := "BarredBooks$Card", name := "kind", desc := "()I" } : Jvm.MethodName)) ∈ lw_all := lw_g (lw_at lw_m3 115 rfl) rfl
theorem q695 : (Jvm.Cond.sameMethod "BarredBooks$Card" "BarredBooks$Card" "kind" "()I") ∈ lw_all := lw_g (lw_at lw_m3 116 rfl) rfl
theorem q714 : (Jvm.Cond.code ({ cls := "BarredBooks$Card", name := "kind", desc := "()I" } : Jvm.MethodName) prog_4_method_2_code (1 : Nat) (Option.some Jvm.ClassFile.FieldType.int)) ∈ lw_all := lw_g (lw_at lw_m3 135 rfl) rfl
theorem q720 : (Jvm.Cond.instanceMethod ({ cls := "BarredBooks$Card", name := "bars", desc := "(I)I" } : Jvm.MethodName)) ∈ lw_all := lw_g (lw_at lw_m3 141 rfl) rfl
theorem q721 : (Jvm.Cond.selects "BarredBooks$Card" ({ cls := "BarredBooks$Card", name := "bars", desc := "(I)I" } : Jvm.MethodName) ({ cls := "BarredBooks$Card", name := "bars", desc := "(I)I" } : Jvm.MethodName)) ∈ lw_all := lw_g (lw_at lw_m3 142 rfl) rfl
theorem q722 : (Jvm.Cond.sameMethod "BarredBooks$Card" "BarredBooks$Card" "bars" "(I)I") ∈ lw_all := lw_g (lw_at lw_m3 143 rfl) rfl
theorem q732 : (Jvm.Cond.declares ({ cls := "BarredBooks$Card", name := "bars", desc := "(I)I" } : Jvm.MethodName)) ∈ lw_tbl := lw_at lw_m3 153 rfl
theorem q742 : (Jvm.Cond.code ({ cls := "BarredBooks$Card", name := "bars", desc := "(I)I" } : Jvm.MethodName) prog_4_method_3_code (2 : Nat) (Option.some Jvm.ClassFile.FieldType.int)) ∈ lw_all := lw_g (lw_at lw_m3 163 rfl) rfl
theorem q743 : (Jvm.Cond.methodLink "BarredBooks$Card" (23 : Nat) ({ cls := "BarredBooks$Trace", name := "ran", desc := "(I)V" } : Jvm.MethodName)) ∈ lw_all := lw_g (lw_at lw_m3 164 rfl) rfl
theorem q745 : (Jvm.Cond.instanceMethod ({ cls := "BarredBooks$Card", name := "hangs", desc := "(I)I" } : Jvm.MethodName)) ∈ lw_all := lw_g (lw_at lw_m3 166 rfl) rfl
theorem q746 : (Jvm.Cond.selects "BarredBooks$Card" ({ cls := "BarredBooks$Card", name := "hangs", desc := "(I)I" } : Jvm.MethodName) ({ cls := "BarredBooks$Card", name := "hangs", desc := "(I)I" } : Jvm.MethodName)) ∈ lw_all := lw_g (lw_at lw_m3 167 rfl) rfl
theorem q747 : (Jvm.Cond.sameMethod "BarredBooks$Card" "BarredBooks$Card" "hangs" "(I)I") ∈ lw_all := lw_g (lw_at lw_m3 168 rfl) rfl
theorem q762 : (Jvm.Cond.code ({ cls := "BarredBooks$Card", name := "hangs", desc := "(I)I" } : Jvm.MethodName) prog_4_method_4_code (2 : Nat) (Option.some Jvm.ClassFile.FieldType.int)) ∈ lw_all := lw_g (lw_at lw_m3 183 rfl) rfl
theorem q763 : (Jvm.Cond.methodLink "BarredBooks$Card" (29 : Nat) ({ cls := "BarredBooks$Card", name := "bars", desc := "(I)I" } : Jvm.MethodName)) ∈ lw_all := lw_g (lw_at lw_m3 184 rfl) rfl
theorem q765 : (Jvm.Cond.instanceMethod ({ cls := "BarredBooks$Card", name := "passes", desc := "(I)I" } : Jvm.MethodName)) ∈ lw_all := lw_g (lw_at lw_m3 186 rfl) rfl
theorem q766 : (Jvm.Cond.selects "BarredBooks$Card" ({ cls := "BarredBooks$Card", name := "passes", desc := "(I)I" } : Jvm.MethodName) ({ cls := "BarredBooks$Card", name := "passes", desc := "(I)I" } : Jvm.MethodName)) ∈ lw_all := lw_g (lw_at lw_m3 187 rfl) rfl
theorem q767 : (Jvm.Cond.sameMethod "BarredBooks$Card" "BarredBooks$Card" "passes" "(I)I") ∈ lw_all := lw_g (lw_at lw_m3 188 rfl) rfl
theorem q787 : (Jvm.Cond.declares ({ cls := "BarredBooks$Card", name := "passes", desc := "(I)I" } : Jvm.MethodName)) ∈ lw_tbl := lw_at lw_m3 208 rfl
theorem q795 : (Jvm.Cond.code ({ cls := "BarredBooks$Card", name := "passes", desc := "(I)I" } : Jvm.MethodName) prog_4_method_5_code (2 : Nat) (Option.some Jvm.ClassFile.FieldType.int)) ∈ lw_all := lw_g (lw_at lw_m3 216 rfl) rfl
theorem q796 : (Jvm.Cond.methodLink "BarredBooks$Card" (33 : Nat) ({ cls := "BarredBooks$Card", name := "hangs", desc := "(I)I" } : Jvm.MethodName)) ∈ lw_all := lw_g (lw_at lw_m3 217 rfl) rfl
theorem q1136 : (Jvm.Cond.selects "BarredBooks$Card" ({ cls := "java/lang/Object", name := "getClass", desc := "()Ljava/lang/Class;" } : Jvm.MethodName) ({ cls := "java/lang/Object", name := "getClass", desc := "()Ljava/lang/Class;" } : Jvm.MethodName)) ∈ lw_all := lw_g (lw_at lw_m5 77 rfl) rfl
theorem q2325 : (Jvm.Cond.castable "BarredBooks$Card" "java/lang/Object") ∈ lw_tbl := lw_at lw_m10 66 rfl
theorem in_X8 : ∀ w ∈ wsX80, w ∈ lw_all := lw_in wsX80 [515, 517, 519, 521] (by decide +kernel) (by decide +kernel)

/-! BarredBooks$Printed -/
set_option maxRecDepth 100000
def RX9 : String := "BarredBooks$Printed"
def TX9 : u_T := fun k => match k with
  | 0 => ("BarredBooks$Card", "trace", "LBarredBooks$Trace;", true)
  | 1 => ("BarredBooks$Card", "number", "I", true)
  | 2 => ("BarredBooks$Card", "edition", "I", true)
  | _ => ("BarredBooks$Card", "v", "I", true)
def tyX9 : Nat → FieldType := fun k => match k with
  | 0 => .object "BarredBooks$Trace"
  | 1 => .int
  | 2 => .int
  | _ => .int
abbrev wsX90 : List Cond := u_ws RX9 TX9 4
theorem nmX9 : ∀ a, a < 4 → ∀ b, b < 4 → a ≠ b → (TX9 a).2.1 ≠ (TX9 b).2.1 := by decide +kernel
theorem tyX9_ok : ∀ k, k < 4 → parseFieldDescriptor (TX9 k).2.2.1 = some (tyX9 k) := by decide +kernel
abbrev cX9_init : ByteArray := prog_20_method_1_code
def yX9_init : MethodName := ⟨RX9, "<init>", "(LBarredBooks$Trace;III)V"⟩
def dkwX9_init_0 : List UInt8 := [42, 43, 28, 29, 21, 4, 183, 0, 1, 177]
abbrev dktX9_init_0 : List UInt8 := dkwX9_init_0 ++ []
theorem dksX9_init_0 : cX9_init.data.toList.drop 0 = dktX9_init_0 := by decide +kernel
theorem dX9_init_0 : decode cX9_init 0 = .ok (.aload_n 0, 1) := dk_42 (dk_at dksX9_init_0 0 rfl rfl)
theorem dX9_init_1 : decode cX9_init 1 = .ok (.aload_n 1, 1) := dk_43 (dk_at dksX9_init_0 1 rfl rfl)
theorem dX9_init_2 : decode cX9_init 2 = .ok (.iload_n 2, 1) := dk_28 (dk_at dksX9_init_0 2 rfl rfl)
theorem dX9_init_3 : decode cX9_init 3 = .ok (.iload_n 3, 1) := dk_29 (dk_at dksX9_init_0 3 rfl rfl)
theorem dX9_init_4 : decode cX9_init 4 = .ok (.iload 4, 2) := dk_21 4 (dk_at dksX9_init_0 4 rfl rfl)
theorem dX9_init_6 : decode cX9_init 6 = .ok (.invokespecial 1, 3) := dk_183 0 1 (dk_at dksX9_init_0 6 rfl rfl)
theorem dX9_init_9 : decode cX9_init 9 = .ok (.return_, 1) := dk_177 (dk_at dksX9_init_0 9 rfl rfl)
abbrev cX9_kind : ByteArray := prog_20_method_2_code
def yX9_kind : MethodName := ⟨RX9, "kind", "()I"⟩
theorem dX9_kind_0 : decode cX9_kind 0 = .ok (.iconst 1, 1) := by decide +kernel
theorem dX9_kind_1 : decode cX9_kind 1 = .ok (.ireturn, 1) := by decide +kernel
abbrev cX9_hangs : ByteArray := prog_20_method_3_code
def yX9_hangs : MethodName := ⟨RX9, "hangs", "(I)I"⟩
def dkwX9_hangs_0 : List UInt8 := [42, 180, 0, 7, 16, 20, 182, 0, 13, 42, 27, 183, 0, 19, 42, 180, 0, 23, 130, 172]
abbrev dktX9_hangs_0 : List UInt8 := dkwX9_hangs_0 ++ []
theorem dksX9_hangs_0 : cX9_hangs.data.toList.drop 0 = dktX9_hangs_0 := by decide +kernel
theorem dX9_hangs_0 : decode cX9_hangs 0 = .ok (.aload_n 0, 1) := dk_42 (dk_at dksX9_hangs_0 0 rfl rfl)
theorem dX9_hangs_1 : decode cX9_hangs 1 = .ok (.getfield 7, 3) := dk_180 0 7 (dk_at dksX9_hangs_0 1 rfl rfl)
theorem dX9_hangs_4 : decode cX9_hangs 4 = .ok (.bipush 20, 2) := dk_16 20 (dk_at dksX9_hangs_0 4 rfl rfl)
theorem dX9_hangs_6 : decode cX9_hangs 6 = .ok (.invokevirtual 13, 3) := dk_182 0 13 (dk_at dksX9_hangs_0 6 rfl rfl)
theorem dX9_hangs_9 : decode cX9_hangs 9 = .ok (.aload_n 0, 1) := dk_42 (dk_at dksX9_hangs_0 9 rfl rfl)
theorem dX9_hangs_10 : decode cX9_hangs 10 = .ok (.iload_n 1, 1) := dk_27 (dk_at dksX9_hangs_0 10 rfl rfl)
theorem dX9_hangs_11 : decode cX9_hangs 11 = .ok (.invokespecial 19, 3) := dk_183 0 19 (dk_at dksX9_hangs_0 11 rfl rfl)
theorem dX9_hangs_14 : decode cX9_hangs 14 = .ok (.aload_n 0, 1) := dk_42 (dk_at dksX9_hangs_0 14 rfl rfl)
theorem dX9_hangs_15 : decode cX9_hangs 15 = .ok (.getfield 23, 3) := dk_180 0 23 (dk_at dksX9_hangs_0 15 rfl rfl)
theorem dX9_hangs_18 : decode cX9_hangs 18 = .ok (.ixor, 1) := dk_130 (dk_at dksX9_hangs_0 18 rfl rfl)
theorem dX9_hangs_19 : decode cX9_hangs 19 = .ok (.ireturn, 1) := dk_172 (dk_at dksX9_hangs_0 19 rfl rfl)
theorem q110 : (Jvm.Cond.initialized "BarredBooks$Printed") ∈ lw_all := lw_g (lw_at lw_m1 11 rfl) rfl
theorem q494 : (Jvm.Cond.fieldLink "BarredBooks$Printed" (7 : Nat) "BarredBooks$Printed" "trace" "LBarredBooks$Trace;") ∈ lw_all := lw_g (lw_at lw_m2 155 rfl) rfl
theorem q495 : (Jvm.Cond.sameField "BarredBooks$Printed" "BarredBooks$Card" "trace" "LBarredBooks$Trace;") ∈ lw_all := lw_g (lw_at lw_m2 156 rfl) rfl
theorem q506 : (Jvm.Cond.fieldLink "BarredBooks$Printed" (23 : Nat) "BarredBooks$Printed" "number" "I") ∈ lw_all := lw_g (lw_at lw_m2 167 rfl) rfl
theorem q507 : (Jvm.Cond.sameField "BarredBooks$Printed" "BarredBooks$Card" "number" "I") ∈ lw_all := lw_g (lw_at lw_m2 168 rfl) rfl
theorem q525 : (Jvm.Cond.instantiable "BarredBooks$Printed" (4 : Nat)) ∈ lw_all := lw_g (lw_at lw_m2 186 rfl) rfl
theorem q527 : (Jvm.Cond.instanceMethod ({ cls := "BarredBooks$Printed", name := "<init>", desc := "(LBarredBooks$Trace;III)V" } : Jvm.MethodName)) ∈ lw_all := lw_g (lw_at lw_m2 188 rfl) rfl
theorem q528 : (Jvm.Cond.code ({ cls := "BarredBooks$Printed", name := "<init>", desc := "(LBarredBooks$Trace;III)V" } : Jvm.MethodName) prog_20_method_1_code (5 : Nat) (Option.none : Option Jvm.ClassFile.FieldType)) ∈ lw_all := lw_g (lw_at lw_m2 189 rfl) rfl
theorem q529 : (Jvm.Cond.methodLink "BarredBooks$Printed" (1 : Nat) ({ cls := "BarredBooks$Card", name := "<init>", desc := "(LBarredBooks$Trace;III)V" } : Jvm.MethodName)) ∈ lw_all := lw_g (lw_at lw_m2 190 rfl) rfl
theorem q530 : (Jvm.Cond.laysFinal "BarredBooks$Printed" "BarredBooks$Card" "trace" "LBarredBooks$Trace;") ∈ lw_all := lw_g (lw_at lw_m2 191 rfl) rfl
theorem q531 : (Jvm.Cond.laysFinal "BarredBooks$Printed" "BarredBooks$Card" "number" "I") ∈ lw_all := lw_g (lw_at lw_m2 192 rfl) rfl
theorem q532 : (Jvm.Cond.laysFinal "BarredBooks$Printed" "BarredBooks$Card" "edition" "I") ∈ lw_all := lw_g (lw_at lw_m2 193 rfl) rfl
theorem q533 : (Jvm.Cond.laysFinal "BarredBooks$Printed" "BarredBooks$Card" "v" "I") ∈ lw_all := lw_g (lw_at lw_m2 194 rfl) rfl
theorem q534 : (Jvm.Cond.superclass "BarredBooks$Printed" "BarredBooks$Card") ∈ lw_all := lw_g (lw_at lw_m2 195 rfl) rfl
theorem q708 : (Jvm.Cond.selects "BarredBooks$Printed" ({ cls := "BarredBooks$Card", name := "kind", desc := "()I" } : Jvm.MethodName) ({ cls := "BarredBooks$Printed", name := "kind", desc := "()I" } : Jvm.MethodName)) ∈ lw_all := lw_g (lw_at lw_m3 129 rfl) rfl
theorem q709 : (Jvm.Cond.instanceMethod ({ cls := "BarredBooks$Printed", name := "kind", desc := "()I" } : Jvm.MethodName)) ∈ lw_all := lw_g (lw_at lw_m3 130 rfl) rfl
theorem q710 : (Jvm.Cond.code ({ cls := "BarredBooks$Printed", name := "kind", desc := "()I" } : Jvm.MethodName) prog_20_method_2_code (1 : Nat) (Option.some Jvm.ClassFile.FieldType.int)) ∈ lw_all := lw_g (lw_at lw_m3 131 rfl) rfl
theorem q731 : (Jvm.Cond.sameMethod "BarredBooks$Printed" "BarredBooks$Card" "bars" "(I)I") ∈ lw_all := lw_g (lw_at lw_m3 152 rfl) rfl
theorem q740 : (Jvm.Cond.selects "BarredBooks$Printed" ({ cls := "BarredBooks$Card", name := "bars", desc := "(I)I" } : Jvm.MethodName) ({ cls := "BarredBooks$Card", name := "bars", desc := "(I)I" } : Jvm.MethodName)) ∈ lw_all := lw_g (lw_at lw_m3 161 rfl) rfl
theorem q749 : (Jvm.Cond.instanceMethod ({ cls := "BarredBooks$Printed", name := "hangs", desc := "(I)I" } : Jvm.MethodName)) ∈ lw_all := lw_g (lw_at lw_m3 170 rfl) rfl
theorem q750 : (Jvm.Cond.code ({ cls := "BarredBooks$Printed", name := "hangs", desc := "(I)I" } : Jvm.MethodName) prog_20_method_3_code (2 : Nat) (Option.some Jvm.ClassFile.FieldType.int)) ∈ lw_all := lw_g (lw_at lw_m3 171 rfl) rfl
theorem q751 : (Jvm.Cond.methodLink "BarredBooks$Printed" (13 : Nat) ({ cls := "BarredBooks$Trace", name := "ran", desc := "(I)V" } : Jvm.MethodName)) ∈ lw_all := lw_g (lw_at lw_m3 172 rfl) rfl
theorem q752 : (Jvm.Cond.methodLink "BarredBooks$Printed" (19 : Nat) ({ cls := "BarredBooks$Card", name := "hangs", desc := "(I)I" } : Jvm.MethodName)) ∈ lw_all := lw_g (lw_at lw_m3 173 rfl) rfl
theorem q760 : (Jvm.Cond.selects "BarredBooks$Printed" ({ cls := "BarredBooks$Card", name := "hangs", desc := "(I)I" } : Jvm.MethodName) ({ cls := "BarredBooks$Printed", name := "hangs", desc := "(I)I" } : Jvm.MethodName)) ∈ lw_all := lw_g (lw_at lw_m3 181 rfl) rfl
theorem q786 : (Jvm.Cond.sameMethod "BarredBooks$Printed" "BarredBooks$Card" "passes" "(I)I") ∈ lw_all := lw_g (lw_at lw_m3 207 rfl) rfl
theorem q791 : (Jvm.Cond.declares ({ cls := "BarredBooks$Printed", name := "hangs", desc := "(I)I" } : Jvm.MethodName)) ∈ lw_tbl := lw_at lw_m3 212 rfl
theorem q793 : (Jvm.Cond.selects "BarredBooks$Printed" ({ cls := "BarredBooks$Card", name := "passes", desc := "(I)I" } : Jvm.MethodName) ({ cls := "BarredBooks$Card", name := "passes", desc := "(I)I" } : Jvm.MethodName)) ∈ lw_all := lw_g (lw_at lw_m3 214 rfl) rfl
theorem q1150 : (Jvm.Cond.selects "BarredBooks$Printed" ({ cls := "java/lang/Object", name := "getClass", desc := "()Ljava/lang/Class;" } : Jvm.MethodName) ({ cls := "java/lang/Object", name := "getClass", desc := "()Ljava/lang/Class;" } : Jvm.MethodName)) ∈ lw_all := lw_g (lw_at lw_m5 91 rfl) rfl
theorem q2309 : (Jvm.Cond.castable "BarredBooks$Printed" "BarredBooks$Card") ∈ lw_tbl := lw_at lw_m10 50 rfl
theorem q2334 : (Jvm.Cond.castable "BarredBooks$Printed" "java/lang/Object") ∈ lw_tbl := lw_at lw_m10 75 rfl
theorem in_X9 : ∀ w ∈ wsX90, w ∈ lw_all := lw_in wsX90 [530, 531, 532, 533] (by decide +kernel) (by decide +kernel)

/-! BarredBooks$Barred -/
set_option maxRecDepth 100000
def RX10 : String := "BarredBooks$Barred"
def TX10 : u_T := fun k => match k with
  | 0 => ("BarredBooks$Card", "trace", "LBarredBooks$Trace;", true)
  | 1 => ("BarredBooks$Card", "number", "I", true)
  | 2 => ("BarredBooks$Card", "edition", "I", true)
  | _ => ("BarredBooks$Card", "v", "I", true)
def tyX10 : Nat → FieldType := fun k => match k with
  | 0 => .object "BarredBooks$Trace"
  | 1 => .int
  | 2 => .int
  | _ => .int
abbrev wsX100 : List Cond := u_ws RX10 TX10 4
theorem nmX10 : ∀ a, a < 4 → ∀ b, b < 4 → a ≠ b → (TX10 a).2.1 ≠ (TX10 b).2.1 := by decide +kernel
theorem tyX10_ok : ∀ k, k < 4 → parseFieldDescriptor (TX10 k).2.2.1 = some (tyX10 k) := by decide +kernel
abbrev cX10_init : ByteArray := prog_2_method_1_code
def yX10_init : MethodName := ⟨RX10, "<init>", "(LBarredBooks$Trace;III)V"⟩
def dkwX10_init_0 : List UInt8 := [42, 43, 28, 29, 21, 4, 183, 0, 1, 177]
abbrev dktX10_init_0 : List UInt8 := dkwX10_init_0 ++ []
theorem dksX10_init_0 : cX10_init.data.toList.drop 0 = dktX10_init_0 := by decide +kernel
theorem dX10_init_0 : decode cX10_init 0 = .ok (.aload_n 0, 1) := dk_42 (dk_at dksX10_init_0 0 rfl rfl)
theorem dX10_init_1 : decode cX10_init 1 = .ok (.aload_n 1, 1) := dk_43 (dk_at dksX10_init_0 1 rfl rfl)
theorem dX10_init_2 : decode cX10_init 2 = .ok (.iload_n 2, 1) := dk_28 (dk_at dksX10_init_0 2 rfl rfl)
theorem dX10_init_3 : decode cX10_init 3 = .ok (.iload_n 3, 1) := dk_29 (dk_at dksX10_init_0 3 rfl rfl)
theorem dX10_init_4 : decode cX10_init 4 = .ok (.iload 4, 2) := dk_21 4 (dk_at dksX10_init_0 4 rfl rfl)
theorem dX10_init_6 : decode cX10_init 6 = .ok (.invokespecial 1, 3) := dk_183 0 1 (dk_at dksX10_init_0 6 rfl rfl)
theorem dX10_init_9 : decode cX10_init 9 = .ok (.return_, 1) := dk_177 (dk_at dksX10_init_0 9 rfl rfl)
abbrev cX10_kind : ByteArray := prog_2_method_2_code
def yX10_kind : MethodName := ⟨RX10, "kind", "()I"⟩
theorem dX10_kind_0 : decode cX10_kind 0 = .ok (.iconst 2, 1) := by decide +kernel
theorem dX10_kind_1 : decode cX10_kind 1 = .ok (.ireturn, 1) := by decide +kernel
abbrev cX10_bars : ByteArray := prog_2_method_3_code
def yX10_bars : MethodName := ⟨RX10, "bars", "(I)I"⟩
def dkwX10_bars_0 : List UInt8 := [42, 180, 0, 7, 16, 30, 182, 0, 13, 42, 27, 183, 0, 19, 116, 172]
abbrev dktX10_bars_0 : List UInt8 := dkwX10_bars_0 ++ []
theorem dksX10_bars_0 : cX10_bars.data.toList.drop 0 = dktX10_bars_0 := by decide +kernel
theorem dX10_bars_0 : decode cX10_bars 0 = .ok (.aload_n 0, 1) := dk_42 (dk_at dksX10_bars_0 0 rfl rfl)
theorem dX10_bars_1 : decode cX10_bars 1 = .ok (.getfield 7, 3) := dk_180 0 7 (dk_at dksX10_bars_0 1 rfl rfl)
theorem dX10_bars_4 : decode cX10_bars 4 = .ok (.bipush 30, 2) := dk_16 30 (dk_at dksX10_bars_0 4 rfl rfl)
theorem dX10_bars_6 : decode cX10_bars 6 = .ok (.invokevirtual 13, 3) := dk_182 0 13 (dk_at dksX10_bars_0 6 rfl rfl)
theorem dX10_bars_9 : decode cX10_bars 9 = .ok (.aload_n 0, 1) := dk_42 (dk_at dksX10_bars_0 9 rfl rfl)
theorem dX10_bars_10 : decode cX10_bars 10 = .ok (.iload_n 1, 1) := dk_27 (dk_at dksX10_bars_0 10 rfl rfl)
theorem dX10_bars_11 : decode cX10_bars 11 = .ok (.invokespecial 19, 3) := dk_183 0 19 (dk_at dksX10_bars_0 11 rfl rfl)
theorem dX10_bars_14 : decode cX10_bars 14 = .ok (.ineg, 1) := dk_116 (dk_at dksX10_bars_0 14 rfl rfl)
theorem dX10_bars_15 : decode cX10_bars 15 = .ok (.ireturn, 1) := dk_172 (dk_at dksX10_bars_0 15 rfl rfl)
theorem q111 : (Jvm.Cond.initialized "BarredBooks$Barred") ∈ lw_all := lw_g (lw_at lw_m1 12 rfl) rfl
theorem q492 : (Jvm.Cond.fieldLink "BarredBooks$Barred" (7 : Nat) "BarredBooks$Barred" "trace" "LBarredBooks$Trace;") ∈ lw_all := lw_g (lw_at lw_m2 153 rfl) rfl
theorem q493 : (Jvm.Cond.sameField "BarredBooks$Barred" "BarredBooks$Card" "trace" "LBarredBooks$Trace;") ∈ lw_all := lw_g (lw_at lw_m2 154 rfl) rfl
theorem q536 : (Jvm.Cond.instantiable "BarredBooks$Barred" (4 : Nat)) ∈ lw_all := lw_g (lw_at lw_m2 197 rfl) rfl
theorem q538 : (Jvm.Cond.instanceMethod ({ cls := "BarredBooks$Barred", name := "<init>", desc := "(LBarredBooks$Trace;III)V" } : Jvm.MethodName)) ∈ lw_all := lw_g (lw_at lw_m2 199 rfl) rfl
theorem q539 : (Jvm.Cond.code ({ cls := "BarredBooks$Barred", name := "<init>", desc := "(LBarredBooks$Trace;III)V" } : Jvm.MethodName) prog_2_method_1_code (5 : Nat) (Option.none : Option Jvm.ClassFile.FieldType)) ∈ lw_all := lw_g (lw_at lw_m2 200 rfl) rfl
theorem q540 : (Jvm.Cond.methodLink "BarredBooks$Barred" (1 : Nat) ({ cls := "BarredBooks$Printed", name := "<init>", desc := "(LBarredBooks$Trace;III)V" } : Jvm.MethodName)) ∈ lw_all := lw_g (lw_at lw_m2 201 rfl) rfl
theorem q541 : (Jvm.Cond.laysFinal "BarredBooks$Barred" "BarredBooks$Card" "trace" "LBarredBooks$Trace;") ∈ lw_all := lw_g (lw_at lw_m2 202 rfl) rfl
theorem q542 : (Jvm.Cond.laysFinal "BarredBooks$Barred" "BarredBooks$Card" "number" "I") ∈ lw_all := lw_g (lw_at lw_m2 203 rfl) rfl
theorem q543 : (Jvm.Cond.laysFinal "BarredBooks$Barred" "BarredBooks$Card" "edition" "I") ∈ lw_all := lw_g (lw_at lw_m2 204 rfl) rfl
theorem q544 : (Jvm.Cond.laysFinal "BarredBooks$Barred" "BarredBooks$Card" "v" "I") ∈ lw_all := lw_g (lw_at lw_m2 205 rfl) rfl
theorem q545 : (Jvm.Cond.superclass "BarredBooks$Barred" "BarredBooks$Printed") ∈ lw_all := lw_g (lw_at lw_m2 206 rfl) rfl
theorem q696 : (Jvm.Cond.selects "BarredBooks$Barred" ({ cls := "BarredBooks$Card", name := "kind", desc := "()I" } : Jvm.MethodName) ({ cls := "BarredBooks$Barred", name := "kind", desc := "()I" } : Jvm.MethodName)) ∈ lw_all := lw_g (lw_at lw_m3 117 rfl) rfl
theorem q697 : (Jvm.Cond.instanceMethod ({ cls := "BarredBooks$Barred", name := "kind", desc := "()I" } : Jvm.MethodName)) ∈ lw_all := lw_g (lw_at lw_m3 118 rfl) rfl
theorem q698 : (Jvm.Cond.code ({ cls := "BarredBooks$Barred", name := "kind", desc := "()I" } : Jvm.MethodName) prog_2_method_2_code (1 : Nat) (Option.some Jvm.ClassFile.FieldType.int)) ∈ lw_all := lw_g (lw_at lw_m3 119 rfl) rfl
theorem q723 : (Jvm.Cond.selects "BarredBooks$Barred" ({ cls := "BarredBooks$Card", name := "bars", desc := "(I)I" } : Jvm.MethodName) ({ cls := "BarredBooks$Barred", name := "bars", desc := "(I)I" } : Jvm.MethodName)) ∈ lw_all := lw_g (lw_at lw_m3 144 rfl) rfl
theorem q724 : (Jvm.Cond.instanceMethod ({ cls := "BarredBooks$Barred", name := "bars", desc := "(I)I" } : Jvm.MethodName)) ∈ lw_all := lw_g (lw_at lw_m3 145 rfl) rfl
theorem q725 : (Jvm.Cond.code ({ cls := "BarredBooks$Barred", name := "bars", desc := "(I)I" } : Jvm.MethodName) prog_2_method_3_code (2 : Nat) (Option.some Jvm.ClassFile.FieldType.int)) ∈ lw_all := lw_g (lw_at lw_m3 146 rfl) rfl
theorem q726 : (Jvm.Cond.methodLink "BarredBooks$Barred" (13 : Nat) ({ cls := "BarredBooks$Trace", name := "ran", desc := "(I)V" } : Jvm.MethodName)) ∈ lw_all := lw_g (lw_at lw_m3 147 rfl) rfl
theorem q730 : (Jvm.Cond.methodLink "BarredBooks$Barred" (19 : Nat) ({ cls := "BarredBooks$Printed", name := "bars", desc := "(I)I" } : Jvm.MethodName)) ∈ lw_all := lw_g (lw_at lw_m3 151 rfl) rfl
theorem q748 : (Jvm.Cond.selects "BarredBooks$Barred" ({ cls := "BarredBooks$Card", name := "hangs", desc := "(I)I" } : Jvm.MethodName) ({ cls := "BarredBooks$Printed", name := "hangs", desc := "(I)I" } : Jvm.MethodName)) ∈ lw_all := lw_g (lw_at lw_m3 169 rfl) rfl
theorem q768 : (Jvm.Cond.selects "BarredBooks$Barred" ({ cls := "BarredBooks$Card", name := "passes", desc := "(I)I" } : Jvm.MethodName) ({ cls := "BarredBooks$Card", name := "passes", desc := "(I)I" } : Jvm.MethodName)) ∈ lw_all := lw_g (lw_at lw_m3 189 rfl) rfl
theorem q1134 : (Jvm.Cond.selects "BarredBooks$Barred" ({ cls := "java/lang/Object", name := "getClass", desc := "()Ljava/lang/Class;" } : Jvm.MethodName) ({ cls := "java/lang/Object", name := "getClass", desc := "()Ljava/lang/Class;" } : Jvm.MethodName)) ∈ lw_all := lw_g (lw_at lw_m5 75 rfl) rfl
theorem q2305 : (Jvm.Cond.castable "BarredBooks$Barred" "BarredBooks$Card") ∈ lw_tbl := lw_at lw_m10 46 rfl
theorem q2311 : (Jvm.Cond.castable "BarredBooks$Barred" "BarredBooks$Printed") ∈ lw_tbl := lw_at lw_m10 52 rfl
theorem q2335 : (Jvm.Cond.castable "BarredBooks$Barred" "java/lang/Object") ∈ lw_tbl := lw_at lw_m10 76 rfl
theorem in_X10 : ∀ w ∈ wsX100, w ∈ lw_all := lw_in wsX100 [541, 542, 543, 544] (by decide +kernel) (by decide +kernel)

/-! BarredBooks$Struck -/
set_option maxRecDepth 100000
def RX11 : String := "BarredBooks$Struck"
def TX11 : u_T := fun k => match k with
  | 0 => ("BarredBooks$Card", "trace", "LBarredBooks$Trace;", true)
  | 1 => ("BarredBooks$Card", "number", "I", true)
  | 2 => ("BarredBooks$Card", "edition", "I", true)
  | 3 => ("BarredBooks$Card", "v", "I", true)
  | _ => ("BarredBooks$Struck", "mended", "I", false)
def tyX11 : Nat → FieldType := fun k => match k with
  | 0 => .object "BarredBooks$Trace"
  | 1 => .int
  | 2 => .int
  | 3 => .int
  | _ => .int
abbrev wsX110 : List Cond := u_ws RX11 TX11 5
theorem nmX11 : ∀ a, a < 5 → ∀ b, b < 5 → a ≠ b → (TX11 a).2.1 ≠ (TX11 b).2.1 := by decide +kernel
theorem tyX11_ok : ∀ k, k < 5 → parseFieldDescriptor (TX11 k).2.2.1 = some (tyX11 k) := by decide +kernel
abbrev cX11_init : ByteArray := prog_25_method_1_code
def yX11_init : MethodName := ⟨RX11, "<init>", "(LBarredBooks$Trace;III)V"⟩
def dkwX11_init_0 : List UInt8 := [42, 43, 28, 29, 21, 4, 183, 0, 3, 177]
abbrev dktX11_init_0 : List UInt8 := dkwX11_init_0 ++ []
theorem dksX11_init_0 : cX11_init.data.toList.drop 0 = dktX11_init_0 := by decide +kernel
theorem dX11_init_0 : decode cX11_init 0 = .ok (.aload_n 0, 1) := dk_42 (dk_at dksX11_init_0 0 rfl rfl)
theorem dX11_init_1 : decode cX11_init 1 = .ok (.aload_n 1, 1) := dk_43 (dk_at dksX11_init_0 1 rfl rfl)
theorem dX11_init_2 : decode cX11_init 2 = .ok (.iload_n 2, 1) := dk_28 (dk_at dksX11_init_0 2 rfl rfl)
theorem dX11_init_3 : decode cX11_init 3 = .ok (.iload_n 3, 1) := dk_29 (dk_at dksX11_init_0 3 rfl rfl)
theorem dX11_init_4 : decode cX11_init 4 = .ok (.iload 4, 2) := dk_21 4 (dk_at dksX11_init_0 4 rfl rfl)
theorem dX11_init_6 : decode cX11_init 6 = .ok (.invokespecial 3, 3) := dk_183 0 3 (dk_at dksX11_init_0 6 rfl rfl)
theorem dX11_init_9 : decode cX11_init 9 = .ok (.return_, 1) := dk_177 (dk_at dksX11_init_0 9 rfl rfl)
abbrev cX11_kind : ByteArray := prog_25_method_2_code
def yX11_kind : MethodName := ⟨RX11, "kind", "()I"⟩
theorem dX11_kind_0 : decode cX11_kind 0 = .ok (.iconst 3, 1) := by decide +kernel
theorem dX11_kind_1 : decode cX11_kind 1 = .ok (.ireturn, 1) := by decide +kernel
abbrev cX11_bars : ByteArray := prog_25_method_4_code
def yX11_bars : MethodName := ⟨RX11, "bars", "(I)I"⟩
def dkwX11_bars_0 : List UInt8 := [42, 180, 0, 9, 16, 41, 182, 0, 15, 42, 27, 4, 96, 183, 0, 28, 172]
abbrev dktX11_bars_0 : List UInt8 := dkwX11_bars_0 ++ []
theorem dksX11_bars_0 : cX11_bars.data.toList.drop 0 = dktX11_bars_0 := by decide +kernel
theorem dX11_bars_0 : decode cX11_bars 0 = .ok (.aload_n 0, 1) := dk_42 (dk_at dksX11_bars_0 0 rfl rfl)
theorem dX11_bars_1 : decode cX11_bars 1 = .ok (.getfield 9, 3) := dk_180 0 9 (dk_at dksX11_bars_0 1 rfl rfl)
theorem dX11_bars_4 : decode cX11_bars 4 = .ok (.bipush 41, 2) := dk_16 41 (dk_at dksX11_bars_0 4 rfl rfl)
theorem dX11_bars_6 : decode cX11_bars 6 = .ok (.invokevirtual 15, 3) := dk_182 0 15 (dk_at dksX11_bars_0 6 rfl rfl)
theorem dX11_bars_9 : decode cX11_bars 9 = .ok (.aload_n 0, 1) := dk_42 (dk_at dksX11_bars_0 9 rfl rfl)
theorem dX11_bars_10 : decode cX11_bars 10 = .ok (.iload_n 1, 1) := dk_27 (dk_at dksX11_bars_0 10 rfl rfl)
theorem dX11_bars_11 : decode cX11_bars 11 = .ok (.iconst 1, 1) := dk_4 (dk_at dksX11_bars_0 11 rfl rfl)
theorem dX11_bars_12 : decode cX11_bars 12 = .ok (.iadd, 1) := dk_96 (dk_at dksX11_bars_0 12 rfl rfl)
theorem dX11_bars_13 : decode cX11_bars 13 = .ok (.invokespecial 28, 3) := dk_183 0 28 (dk_at dksX11_bars_0 13 rfl rfl)
theorem dX11_bars_16 : decode cX11_bars 16 = .ok (.ireturn, 1) := dk_172 (dk_at dksX11_bars_0 16 rfl rfl)
abbrev cX11_passes : ByteArray := prog_25_method_3_code
def yX11_passes : MethodName := ⟨RX11, "passes", "(I)I"⟩
def dkwX11_passes_0 : List UInt8 := [42, 180, 0, 9, 16, 40, 182, 0, 15, 42, 27, 183, 0, 21, 61, 28, 42, 27, 182, 0, 25, 96, 172]
abbrev dktX11_passes_0 : List UInt8 := dkwX11_passes_0 ++ []
theorem dksX11_passes_0 : cX11_passes.data.toList.drop 0 = dktX11_passes_0 := by decide +kernel
theorem dX11_passes_0 : decode cX11_passes 0 = .ok (.aload_n 0, 1) := dk_42 (dk_at dksX11_passes_0 0 rfl rfl)
theorem dX11_passes_1 : decode cX11_passes 1 = .ok (.getfield 9, 3) := dk_180 0 9 (dk_at dksX11_passes_0 1 rfl rfl)
theorem dX11_passes_4 : decode cX11_passes 4 = .ok (.bipush 40, 2) := dk_16 40 (dk_at dksX11_passes_0 4 rfl rfl)
theorem dX11_passes_6 : decode cX11_passes 6 = .ok (.invokevirtual 15, 3) := dk_182 0 15 (dk_at dksX11_passes_0 6 rfl rfl)
theorem dX11_passes_9 : decode cX11_passes 9 = .ok (.aload_n 0, 1) := dk_42 (dk_at dksX11_passes_0 9 rfl rfl)
theorem dX11_passes_10 : decode cX11_passes 10 = .ok (.iload_n 1, 1) := dk_27 (dk_at dksX11_passes_0 10 rfl rfl)
theorem dX11_passes_11 : decode cX11_passes 11 = .ok (.invokespecial 21, 3) := dk_183 0 21 (dk_at dksX11_passes_0 11 rfl rfl)
theorem dX11_passes_14 : decode cX11_passes 14 = .ok (.istore_n 2, 1) := dk_61 (dk_at dksX11_passes_0 14 rfl rfl)
theorem dX11_passes_15 : decode cX11_passes 15 = .ok (.iload_n 2, 1) := dk_28 (dk_at dksX11_passes_0 15 rfl rfl)
theorem dX11_passes_16 : decode cX11_passes 16 = .ok (.aload_n 0, 1) := dk_42 (dk_at dksX11_passes_0 16 rfl rfl)
theorem dX11_passes_17 : decode cX11_passes 17 = .ok (.iload_n 1, 1) := dk_27 (dk_at dksX11_passes_0 17 rfl rfl)
theorem dX11_passes_18 : decode cX11_passes 18 = .ok (.invokevirtual 25, 3) := dk_182 0 25 (dk_at dksX11_passes_0 18 rfl rfl)
theorem dX11_passes_21 : decode cX11_passes 21 = .ok (.iadd, 1) := dk_96 (dk_at dksX11_passes_0 21 rfl rfl)
theorem dX11_passes_22 : decode cX11_passes 22 = .ok (.ireturn, 1) := dk_172 (dk_at dksX11_passes_0 22 rfl rfl)
theorem q112 : (Jvm.Cond.initialized "BarredBooks$Struck") ∈ lw_all := lw_g (lw_at lw_m1 13 rfl) rfl
theorem q490 : (Jvm.Cond.sameField "BarredBooks$Struck" "BarredBooks$Card" "trace" "LBarredBooks$Trace;") ∈ lw_all := lw_g (lw_at lw_m2 151 rfl) rfl
theorem q502 : (Jvm.Cond.fieldLink "BarredBooks$Struck" (9 : Nat) "BarredBooks$Struck" "trace" "LBarredBooks$Trace;") ∈ lw_all := lw_g (lw_at lw_m2 163 rfl) rfl
theorem q504 : (Jvm.Cond.sameField "BarredBooks$Struck" "BarredBooks$Card" "number" "I") ∈ lw_all := lw_g (lw_at lw_m2 165 rfl) rfl
theorem q509 : (Jvm.Cond.sameField "BarredBooks$Struck" "BarredBooks$Card" "edition" "I") ∈ lw_all := lw_g (lw_at lw_m2 170 rfl) rfl
theorem q512 : (Jvm.Cond.sameField "BarredBooks$Struck" "BarredBooks$Card" "v" "I") ∈ lw_all := lw_g (lw_at lw_m2 173 rfl) rfl
theorem q547 : (Jvm.Cond.instantiable "BarredBooks$Struck" (5 : Nat)) ∈ lw_all := lw_g (lw_at lw_m2 208 rfl) rfl
theorem q549 : (Jvm.Cond.instanceMethod ({ cls := "BarredBooks$Struck", name := "<init>", desc := "(LBarredBooks$Trace;III)V" } : Jvm.MethodName)) ∈ lw_all := lw_g (lw_at lw_m2 210 rfl) rfl
theorem q550 : (Jvm.Cond.code ({ cls := "BarredBooks$Struck", name := "<init>", desc := "(LBarredBooks$Trace;III)V" } : Jvm.MethodName) prog_25_method_1_code (5 : Nat) (Option.none : Option Jvm.ClassFile.FieldType)) ∈ lw_all := lw_g (lw_at lw_m2 211 rfl) rfl
theorem q551 : (Jvm.Cond.methodLink "BarredBooks$Struck" (3 : Nat) ({ cls := "BarredBooks$Printed", name := "<init>", desc := "(LBarredBooks$Trace;III)V" } : Jvm.MethodName)) ∈ lw_all := lw_g (lw_at lw_m2 212 rfl) rfl
theorem q553 : (Jvm.Cond.lays "BarredBooks$Struck" "BarredBooks$Struck" "mended" "I") ∈ lw_all := lw_g (lw_at lw_m2 214 rfl) rfl
theorem q554 : (Jvm.Cond.soleField "BarredBooks$Struck" "mended") ∈ lw_all := lw_g (lw_at lw_m2 215 rfl) rfl
theorem q555 : (Jvm.Cond.laysFinal "BarredBooks$Struck" "BarredBooks$Card" "trace" "LBarredBooks$Trace;") ∈ lw_all := lw_g (lw_at lw_m2 216 rfl) rfl
theorem q556 : (Jvm.Cond.laysFinal "BarredBooks$Struck" "BarredBooks$Card" "number" "I") ∈ lw_all := lw_g (lw_at lw_m2 217 rfl) rfl
theorem q557 : (Jvm.Cond.laysFinal "BarredBooks$Struck" "BarredBooks$Card" "edition" "I") ∈ lw_all := lw_g (lw_at lw_m2 218 rfl) rfl
theorem q558 : (Jvm.Cond.laysFinal "BarredBooks$Struck" "BarredBooks$Card" "v" "I") ∈ lw_all := lw_g (lw_at lw_m2 219 rfl) rfl
theorem q559 : (Jvm.Cond.superclass "BarredBooks$Struck" "BarredBooks$Printed") ∈ lw_all := lw_g (lw_at lw_m2 220 rfl) rfl
theorem q711 : (Jvm.Cond.selects "BarredBooks$Struck" ({ cls := "BarredBooks$Card", name := "kind", desc := "()I" } : Jvm.MethodName) ({ cls := "BarredBooks$Struck", name := "kind", desc := "()I" } : Jvm.MethodName)) ∈ lw_all := lw_g (lw_at lw_m3 132 rfl) rfl
theorem q712 : (Jvm.Cond.instanceMethod ({ cls := "BarredBooks$Struck", name := "kind", desc := "()I" } : Jvm.MethodName)) ∈ lw_all := lw_g (lw_at lw_m3 133 rfl) rfl
theorem q713 : (Jvm.Cond.code ({ cls := "BarredBooks$Struck", name := "kind", desc := "()I" } : Jvm.MethodName) prog_25_method_2_code (1 : Nat) (Option.some Jvm.ClassFile.FieldType.int)) ∈ lw_all := lw_g (lw_at lw_m3 134 rfl) rfl
theorem q736 : (Jvm.Cond.instanceMethod ({ cls := "BarredBooks$Struck", name := "bars", desc := "(I)I" } : Jvm.MethodName)) ∈ lw_all := lw_g (lw_at lw_m3 157 rfl) rfl
theorem q737 : (Jvm.Cond.code ({ cls := "BarredBooks$Struck", name := "bars", desc := "(I)I" } : Jvm.MethodName) prog_25_method_4_code (2 : Nat) (Option.some Jvm.ClassFile.FieldType.int)) ∈ lw_all := lw_g (lw_at lw_m3 158 rfl) rfl
theorem q738 : (Jvm.Cond.methodLink "BarredBooks$Struck" (15 : Nat) ({ cls := "BarredBooks$Trace", name := "ran", desc := "(I)V" } : Jvm.MethodName)) ∈ lw_all := lw_g (lw_at lw_m3 159 rfl) rfl
theorem q739 : (Jvm.Cond.methodLink "BarredBooks$Struck" (28 : Nat) ({ cls := "BarredBooks$Printed", name := "bars", desc := "(I)I" } : Jvm.MethodName)) ∈ lw_all := lw_g (lw_at lw_m3 160 rfl) rfl
theorem q741 : (Jvm.Cond.selects "BarredBooks$Struck" ({ cls := "BarredBooks$Card", name := "bars", desc := "(I)I" } : Jvm.MethodName) ({ cls := "BarredBooks$Struck", name := "bars", desc := "(I)I" } : Jvm.MethodName)) ∈ lw_all := lw_g (lw_at lw_m3 162 rfl) rfl
theorem q761 : (Jvm.Cond.selects "BarredBooks$Struck" ({ cls := "BarredBooks$Card", name := "hangs", desc := "(I)I" } : Jvm.MethodName) ({ cls := "BarredBooks$Printed", name := "hangs", desc := "(I)I" } : Jvm.MethodName)) ∈ lw_all := lw_g (lw_at lw_m3 182 rfl) rfl
theorem q783 : (Jvm.Cond.instanceMethod ({ cls := "BarredBooks$Struck", name := "passes", desc := "(I)I" } : Jvm.MethodName)) ∈ lw_all := lw_g (lw_at lw_m3 204 rfl) rfl
theorem q784 : (Jvm.Cond.code ({ cls := "BarredBooks$Struck", name := "passes", desc := "(I)I" } : Jvm.MethodName) prog_25_method_3_code (3 : Nat) (Option.some Jvm.ClassFile.FieldType.int)) ∈ lw_all := lw_g (lw_at lw_m3 205 rfl) rfl
theorem q785 : (Jvm.Cond.methodLink "BarredBooks$Struck" (21 : Nat) ({ cls := "BarredBooks$Printed", name := "passes", desc := "(I)I" } : Jvm.MethodName)) ∈ lw_all := lw_g (lw_at lw_m3 206 rfl) rfl
theorem q788 : (Jvm.Cond.methodLink "BarredBooks$Struck" (25 : Nat) ({ cls := "BarredBooks$Struck", name := "bars", desc := "(I)I" } : Jvm.MethodName)) ∈ lw_all := lw_g (lw_at lw_m3 209 rfl) rfl
theorem q794 : (Jvm.Cond.selects "BarredBooks$Struck" ({ cls := "BarredBooks$Card", name := "passes", desc := "(I)I" } : Jvm.MethodName) ({ cls := "BarredBooks$Struck", name := "passes", desc := "(I)I" } : Jvm.MethodName)) ∈ lw_all := lw_g (lw_at lw_m3 215 rfl) rfl
theorem q1155 : (Jvm.Cond.selects "BarredBooks$Struck" ({ cls := "java/lang/Object", name := "getClass", desc := "()Ljava/lang/Class;" } : Jvm.MethodName) ({ cls := "java/lang/Object", name := "getClass", desc := "()Ljava/lang/Class;" } : Jvm.MethodName)) ∈ lw_all := lw_g (lw_at lw_m5 96 rfl) rfl
theorem q2299 : (Jvm.Cond.sameMethod "BarredBooks$Struck" "BarredBooks$Struck" "passes" "(I)I") ∈ lw_all := lw_g (lw_at lw_m10 40 rfl) rfl
theorem q2300 : (Jvm.Cond.sameMethod "BarredBooks$Struck" "BarredBooks$Struck" "bars" "(I)I") ∈ lw_all := lw_g (lw_at lw_m10 41 rfl) rfl
theorem q2302 : (Jvm.Cond.selects "BarredBooks$Struck" ({ cls := "BarredBooks$Struck", name := "bars", desc := "(I)I" } : Jvm.MethodName) ({ cls := "BarredBooks$Struck", name := "bars", desc := "(I)I" } : Jvm.MethodName)) ∈ lw_all := lw_g (lw_at lw_m10 43 rfl) rfl
theorem q2310 : (Jvm.Cond.castable "BarredBooks$Struck" "BarredBooks$Card") ∈ lw_tbl := lw_at lw_m10 51 rfl
theorem q2313 : (Jvm.Cond.castable "BarredBooks$Struck" "BarredBooks$Printed") ∈ lw_tbl := lw_at lw_m10 54 rfl
theorem q2336 : (Jvm.Cond.castable "BarredBooks$Struck" "java/lang/Object") ∈ lw_tbl := lw_at lw_m10 77 rfl
theorem in_X11 : ∀ w ∈ wsX110, w ∈ lw_all := lw_in wsX110 [555, 556, 557, 558, 553] (by decide +kernel) (by decide +kernel)

/-! BarredBooks$Leave -/
set_option maxRecDepth 100000
def RX12 : String := "BarredBooks$Leave"
def TX12 : u_T := fun k => match k with
  | 0 => ("BarredBooks$Card", "trace", "LBarredBooks$Trace;", true)
  | 1 => ("BarredBooks$Card", "number", "I", true)
  | 2 => ("BarredBooks$Card", "edition", "I", true)
  | _ => ("BarredBooks$Card", "v", "I", true)
def tyX12 : Nat → FieldType := fun k => match k with
  | 0 => .object "BarredBooks$Trace"
  | 1 => .int
  | 2 => .int
  | _ => .int
abbrev wsX120 : List Cond := u_ws RX12 TX12 4
theorem nmX12 : ∀ a, a < 4 → ∀ b, b < 4 → a ≠ b → (TX12 a).2.1 ≠ (TX12 b).2.1 := by decide +kernel
theorem tyX12_ok : ∀ k, k < 4 → parseFieldDescriptor (TX12 k).2.2.1 = some (tyX12 k) := by decide +kernel
abbrev cX12_init : ByteArray := prog_10_method_1_code
def yX12_init : MethodName := ⟨RX12, "<init>", "(LBarredBooks$Trace;III)V"⟩
def dkwX12_init_0 : List UInt8 := [42, 43, 28, 29, 21, 4, 183, 0, 1, 177]
abbrev dktX12_init_0 : List UInt8 := dkwX12_init_0 ++ []
theorem dksX12_init_0 : cX12_init.data.toList.drop 0 = dktX12_init_0 := by decide +kernel
theorem dX12_init_0 : decode cX12_init 0 = .ok (.aload_n 0, 1) := dk_42 (dk_at dksX12_init_0 0 rfl rfl)
theorem dX12_init_1 : decode cX12_init 1 = .ok (.aload_n 1, 1) := dk_43 (dk_at dksX12_init_0 1 rfl rfl)
theorem dX12_init_2 : decode cX12_init 2 = .ok (.iload_n 2, 1) := dk_28 (dk_at dksX12_init_0 2 rfl rfl)
theorem dX12_init_3 : decode cX12_init 3 = .ok (.iload_n 3, 1) := dk_29 (dk_at dksX12_init_0 3 rfl rfl)
theorem dX12_init_4 : decode cX12_init 4 = .ok (.iload 4, 2) := dk_21 4 (dk_at dksX12_init_0 4 rfl rfl)
theorem dX12_init_6 : decode cX12_init 6 = .ok (.invokespecial 1, 3) := dk_183 0 1 (dk_at dksX12_init_0 6 rfl rfl)
theorem dX12_init_9 : decode cX12_init 9 = .ok (.return_, 1) := dk_177 (dk_at dksX12_init_0 9 rfl rfl)
abbrev cX12_kind : ByteArray := prog_10_method_2_code
def yX12_kind : MethodName := ⟨RX12, "kind", "()I"⟩
theorem dX12_kind_0 : decode cX12_kind 0 = .ok (.iconst 5, 1) := by decide +kernel
theorem dX12_kind_1 : decode cX12_kind 1 = .ok (.ireturn, 1) := by decide +kernel
abbrev cX12_hangs : ByteArray := prog_10_method_3_code
def yX12_hangs : MethodName := ⟨RX12, "hangs", "(I)I"⟩
def dkwX12_hangs_0 : List UInt8 := [42, 180, 0, 7, 16, 60, 182, 0, 13, 42, 27, 6, 104, 183, 0, 19, 172]
abbrev dktX12_hangs_0 : List UInt8 := dkwX12_hangs_0 ++ []
theorem dksX12_hangs_0 : cX12_hangs.data.toList.drop 0 = dktX12_hangs_0 := by decide +kernel
theorem dX12_hangs_0 : decode cX12_hangs 0 = .ok (.aload_n 0, 1) := dk_42 (dk_at dksX12_hangs_0 0 rfl rfl)
theorem dX12_hangs_1 : decode cX12_hangs 1 = .ok (.getfield 7, 3) := dk_180 0 7 (dk_at dksX12_hangs_0 1 rfl rfl)
theorem dX12_hangs_4 : decode cX12_hangs 4 = .ok (.bipush 60, 2) := dk_16 60 (dk_at dksX12_hangs_0 4 rfl rfl)
theorem dX12_hangs_6 : decode cX12_hangs 6 = .ok (.invokevirtual 13, 3) := dk_182 0 13 (dk_at dksX12_hangs_0 6 rfl rfl)
theorem dX12_hangs_9 : decode cX12_hangs 9 = .ok (.aload_n 0, 1) := dk_42 (dk_at dksX12_hangs_0 9 rfl rfl)
theorem dX12_hangs_10 : decode cX12_hangs 10 = .ok (.iload_n 1, 1) := dk_27 (dk_at dksX12_hangs_0 10 rfl rfl)
theorem dX12_hangs_11 : decode cX12_hangs 11 = .ok (.iconst 3, 1) := dk_6 (dk_at dksX12_hangs_0 11 rfl rfl)
theorem dX12_hangs_12 : decode cX12_hangs 12 = .ok (.imul, 1) := dk_104 (dk_at dksX12_hangs_0 12 rfl rfl)
theorem dX12_hangs_13 : decode cX12_hangs 13 = .ok (.invokespecial 19, 3) := dk_183 0 19 (dk_at dksX12_hangs_0 13 rfl rfl)
theorem dX12_hangs_16 : decode cX12_hangs 16 = .ok (.ireturn, 1) := dk_172 (dk_at dksX12_hangs_0 16 rfl rfl)
theorem q113 : (Jvm.Cond.initialized "BarredBooks$Leave") ∈ lw_all := lw_g (lw_at lw_m1 14 rfl) rfl
theorem q496 : (Jvm.Cond.fieldLink "BarredBooks$Leave" (7 : Nat) "BarredBooks$Leave" "trace" "LBarredBooks$Trace;") ∈ lw_all := lw_g (lw_at lw_m2 157 rfl) rfl
theorem q497 : (Jvm.Cond.sameField "BarredBooks$Leave" "BarredBooks$Card" "trace" "LBarredBooks$Trace;") ∈ lw_all := lw_g (lw_at lw_m2 158 rfl) rfl
theorem q561 : (Jvm.Cond.instantiable "BarredBooks$Leave" (4 : Nat)) ∈ lw_all := lw_g (lw_at lw_m2 222 rfl) rfl
theorem q563 : (Jvm.Cond.instanceMethod ({ cls := "BarredBooks$Leave", name := "<init>", desc := "(LBarredBooks$Trace;III)V" } : Jvm.MethodName)) ∈ lw_all := lw_g (lw_at lw_m2 224 rfl) rfl
theorem q564 : (Jvm.Cond.code ({ cls := "BarredBooks$Leave", name := "<init>", desc := "(LBarredBooks$Trace;III)V" } : Jvm.MethodName) prog_10_method_1_code (5 : Nat) (Option.none : Option Jvm.ClassFile.FieldType)) ∈ lw_all := lw_g (lw_at lw_m2 225 rfl) rfl
theorem q565 : (Jvm.Cond.methodLink "BarredBooks$Leave" (1 : Nat) ({ cls := "BarredBooks$Card", name := "<init>", desc := "(LBarredBooks$Trace;III)V" } : Jvm.MethodName)) ∈ lw_all := lw_g (lw_at lw_m2 226 rfl) rfl
theorem q566 : (Jvm.Cond.laysFinal "BarredBooks$Leave" "BarredBooks$Card" "trace" "LBarredBooks$Trace;") ∈ lw_all := lw_g (lw_at lw_m2 227 rfl) rfl
theorem q567 : (Jvm.Cond.laysFinal "BarredBooks$Leave" "BarredBooks$Card" "number" "I") ∈ lw_all := lw_g (lw_at lw_m2 228 rfl) rfl
theorem q568 : (Jvm.Cond.laysFinal "BarredBooks$Leave" "BarredBooks$Card" "edition" "I") ∈ lw_all := lw_g (lw_at lw_m2 229 rfl) rfl
theorem q569 : (Jvm.Cond.laysFinal "BarredBooks$Leave" "BarredBooks$Card" "v" "I") ∈ lw_all := lw_g (lw_at lw_m2 230 rfl) rfl
theorem q570 : (Jvm.Cond.superclass "BarredBooks$Leave" "BarredBooks$Card") ∈ lw_all := lw_g (lw_at lw_m2 231 rfl) rfl
theorem q702 : (Jvm.Cond.selects "BarredBooks$Leave" ({ cls := "BarredBooks$Card", name := "kind", desc := "()I" } : Jvm.MethodName) ({ cls := "BarredBooks$Leave", name := "kind", desc := "()I" } : Jvm.MethodName)) ∈ lw_all := lw_g (lw_at lw_m3 123 rfl) rfl
theorem q703 : (Jvm.Cond.instanceMethod ({ cls := "BarredBooks$Leave", name := "kind", desc := "()I" } : Jvm.MethodName)) ∈ lw_all := lw_g (lw_at lw_m3 124 rfl) rfl
theorem q704 : (Jvm.Cond.code ({ cls := "BarredBooks$Leave", name := "kind", desc := "()I" } : Jvm.MethodName) prog_10_method_2_code (1 : Nat) (Option.some Jvm.ClassFile.FieldType.int)) ∈ lw_all := lw_g (lw_at lw_m3 125 rfl) rfl
theorem q734 : (Jvm.Cond.selects "BarredBooks$Leave" ({ cls := "BarredBooks$Card", name := "bars", desc := "(I)I" } : Jvm.MethodName) ({ cls := "BarredBooks$Card", name := "bars", desc := "(I)I" } : Jvm.MethodName)) ∈ lw_all := lw_g (lw_at lw_m3 155 rfl) rfl
theorem q754 : (Jvm.Cond.selects "BarredBooks$Leave" ({ cls := "BarredBooks$Card", name := "hangs", desc := "(I)I" } : Jvm.MethodName) ({ cls := "BarredBooks$Leave", name := "hangs", desc := "(I)I" } : Jvm.MethodName)) ∈ lw_all := lw_g (lw_at lw_m3 175 rfl) rfl
theorem q755 : (Jvm.Cond.instanceMethod ({ cls := "BarredBooks$Leave", name := "hangs", desc := "(I)I" } : Jvm.MethodName)) ∈ lw_all := lw_g (lw_at lw_m3 176 rfl) rfl
theorem q756 : (Jvm.Cond.code ({ cls := "BarredBooks$Leave", name := "hangs", desc := "(I)I" } : Jvm.MethodName) prog_10_method_3_code (2 : Nat) (Option.some Jvm.ClassFile.FieldType.int)) ∈ lw_all := lw_g (lw_at lw_m3 177 rfl) rfl
theorem q757 : (Jvm.Cond.methodLink "BarredBooks$Leave" (13 : Nat) ({ cls := "BarredBooks$Trace", name := "ran", desc := "(I)V" } : Jvm.MethodName)) ∈ lw_all := lw_g (lw_at lw_m3 178 rfl) rfl
theorem q758 : (Jvm.Cond.methodLink "BarredBooks$Leave" (19 : Nat) ({ cls := "BarredBooks$Card", name := "hangs", desc := "(I)I" } : Jvm.MethodName)) ∈ lw_all := lw_g (lw_at lw_m3 179 rfl) rfl
theorem q777 : (Jvm.Cond.selects "BarredBooks$Leave" ({ cls := "BarredBooks$Card", name := "passes", desc := "(I)I" } : Jvm.MethodName) ({ cls := "BarredBooks$Card", name := "passes", desc := "(I)I" } : Jvm.MethodName)) ∈ lw_all := lw_g (lw_at lw_m3 198 rfl) rfl
theorem q1140 : (Jvm.Cond.selects "BarredBooks$Leave" ({ cls := "java/lang/Object", name := "getClass", desc := "()Ljava/lang/Class;" } : Jvm.MethodName) ({ cls := "java/lang/Object", name := "getClass", desc := "()Ljava/lang/Class;" } : Jvm.MethodName)) ∈ lw_all := lw_g (lw_at lw_m5 81 rfl) rfl
theorem q2307 : (Jvm.Cond.castable "BarredBooks$Leave" "BarredBooks$Card") ∈ lw_tbl := lw_at lw_m10 48 rfl
theorem q2337 : (Jvm.Cond.castable "BarredBooks$Leave" "java/lang/Object") ∈ lw_tbl := lw_at lw_m10 78 rfl
theorem in_X12 : ∀ w ∈ wsX120, w ∈ lw_all := lw_in wsX120 [566, 567, 568, 569] (by decide +kernel) (by decide +kernel)

/-! BarredBooks$Found -/
set_option maxRecDepth 100000
def RX13 : String := "BarredBooks$Found"
def TX13 : u_T := fun k => match k with
  | 0 => ("BarredBooks$Card", "trace", "LBarredBooks$Trace;", true)
  | 1 => ("BarredBooks$Card", "number", "I", true)
  | 2 => ("BarredBooks$Card", "edition", "I", true)
  | _ => ("BarredBooks$Card", "v", "I", true)
def tyX13 : Nat → FieldType := fun k => match k with
  | 0 => .object "BarredBooks$Trace"
  | 1 => .int
  | 2 => .int
  | _ => .int
abbrev wsX130 : List Cond := u_ws RX13 TX13 4
theorem nmX13 : ∀ a, a < 4 → ∀ b, b < 4 → a ≠ b → (TX13 a).2.1 ≠ (TX13 b).2.1 := by decide +kernel
theorem tyX13_ok : ∀ k, k < 4 → parseFieldDescriptor (TX13 k).2.2.1 = some (tyX13 k) := by decide +kernel
abbrev cX13_init : ByteArray := prog_8_method_1_code
def yX13_init : MethodName := ⟨RX13, "<init>", "(LBarredBooks$Trace;III)V"⟩
def dkwX13_init_0 : List UInt8 := [42, 43, 28, 29, 21, 4, 183, 0, 1, 177]
abbrev dktX13_init_0 : List UInt8 := dkwX13_init_0 ++ []
theorem dksX13_init_0 : cX13_init.data.toList.drop 0 = dktX13_init_0 := by decide +kernel
theorem dX13_init_0 : decode cX13_init 0 = .ok (.aload_n 0, 1) := dk_42 (dk_at dksX13_init_0 0 rfl rfl)
theorem dX13_init_1 : decode cX13_init 1 = .ok (.aload_n 1, 1) := dk_43 (dk_at dksX13_init_0 1 rfl rfl)
theorem dX13_init_2 : decode cX13_init 2 = .ok (.iload_n 2, 1) := dk_28 (dk_at dksX13_init_0 2 rfl rfl)
theorem dX13_init_3 : decode cX13_init 3 = .ok (.iload_n 3, 1) := dk_29 (dk_at dksX13_init_0 3 rfl rfl)
theorem dX13_init_4 : decode cX13_init 4 = .ok (.iload 4, 2) := dk_21 4 (dk_at dksX13_init_0 4 rfl rfl)
theorem dX13_init_6 : decode cX13_init 6 = .ok (.invokespecial 1, 3) := dk_183 0 1 (dk_at dksX13_init_0 6 rfl rfl)
theorem dX13_init_9 : decode cX13_init 9 = .ok (.return_, 1) := dk_177 (dk_at dksX13_init_0 9 rfl rfl)
abbrev cX13_kind : ByteArray := prog_8_method_2_code
def yX13_kind : MethodName := ⟨RX13, "kind", "()I"⟩
theorem dX13_kind_0 : decode cX13_kind 0 = .ok (.bipush 6, 2) := by decide +kernel
theorem dX13_kind_2 : decode cX13_kind 2 = .ok (.ireturn, 1) := by decide +kernel
abbrev cX13_passes : ByteArray := prog_8_method_3_code
def yX13_passes : MethodName := ⟨RX13, "passes", "(I)I"⟩
def dkwX13_passes_0 : List UInt8 := [42, 180, 0, 7, 16, 70, 182, 0, 13, 42, 27, 182, 0, 19, 61, 28, 42, 27, 183, 0, 23, 130, 172]
abbrev dktX13_passes_0 : List UInt8 := dkwX13_passes_0 ++ []
theorem dksX13_passes_0 : cX13_passes.data.toList.drop 0 = dktX13_passes_0 := by decide +kernel
theorem dX13_passes_0 : decode cX13_passes 0 = .ok (.aload_n 0, 1) := dk_42 (dk_at dksX13_passes_0 0 rfl rfl)
theorem dX13_passes_1 : decode cX13_passes 1 = .ok (.getfield 7, 3) := dk_180 0 7 (dk_at dksX13_passes_0 1 rfl rfl)
theorem dX13_passes_4 : decode cX13_passes 4 = .ok (.bipush 70, 2) := dk_16 70 (dk_at dksX13_passes_0 4 rfl rfl)
theorem dX13_passes_6 : decode cX13_passes 6 = .ok (.invokevirtual 13, 3) := dk_182 0 13 (dk_at dksX13_passes_0 6 rfl rfl)
theorem dX13_passes_9 : decode cX13_passes 9 = .ok (.aload_n 0, 1) := dk_42 (dk_at dksX13_passes_0 9 rfl rfl)
theorem dX13_passes_10 : decode cX13_passes 10 = .ok (.iload_n 1, 1) := dk_27 (dk_at dksX13_passes_0 10 rfl rfl)
theorem dX13_passes_11 : decode cX13_passes 11 = .ok (.invokevirtual 19, 3) := dk_182 0 19 (dk_at dksX13_passes_0 11 rfl rfl)
theorem dX13_passes_14 : decode cX13_passes 14 = .ok (.istore_n 2, 1) := dk_61 (dk_at dksX13_passes_0 14 rfl rfl)
theorem dX13_passes_15 : decode cX13_passes 15 = .ok (.iload_n 2, 1) := dk_28 (dk_at dksX13_passes_0 15 rfl rfl)
theorem dX13_passes_16 : decode cX13_passes 16 = .ok (.aload_n 0, 1) := dk_42 (dk_at dksX13_passes_0 16 rfl rfl)
theorem dX13_passes_17 : decode cX13_passes 17 = .ok (.iload_n 1, 1) := dk_27 (dk_at dksX13_passes_0 17 rfl rfl)
theorem dX13_passes_18 : decode cX13_passes 18 = .ok (.invokespecial 23, 3) := dk_183 0 23 (dk_at dksX13_passes_0 18 rfl rfl)
theorem dX13_passes_21 : decode cX13_passes 21 = .ok (.ixor, 1) := dk_130 (dk_at dksX13_passes_0 21 rfl rfl)
theorem dX13_passes_22 : decode cX13_passes 22 = .ok (.ireturn, 1) := dk_172 (dk_at dksX13_passes_0 22 rfl rfl)
theorem q114 : (Jvm.Cond.initialized "BarredBooks$Found") ∈ lw_all := lw_g (lw_at lw_m1 15 rfl) rfl
theorem q498 : (Jvm.Cond.fieldLink "BarredBooks$Found" (7 : Nat) "BarredBooks$Found" "trace" "LBarredBooks$Trace;") ∈ lw_all := lw_g (lw_at lw_m2 159 rfl) rfl
theorem q499 : (Jvm.Cond.sameField "BarredBooks$Found" "BarredBooks$Card" "trace" "LBarredBooks$Trace;") ∈ lw_all := lw_g (lw_at lw_m2 160 rfl) rfl
theorem q572 : (Jvm.Cond.instantiable "BarredBooks$Found" (4 : Nat)) ∈ lw_all := lw_g (lw_at lw_m2 233 rfl) rfl
theorem q574 : (Jvm.Cond.instanceMethod ({ cls := "BarredBooks$Found", name := "<init>", desc := "(LBarredBooks$Trace;III)V" } : Jvm.MethodName)) ∈ lw_all := lw_g (lw_at lw_m2 235 rfl) rfl
theorem q575 : (Jvm.Cond.code ({ cls := "BarredBooks$Found", name := "<init>", desc := "(LBarredBooks$Trace;III)V" } : Jvm.MethodName) prog_8_method_1_code (5 : Nat) (Option.none : Option Jvm.ClassFile.FieldType)) ∈ lw_all := lw_g (lw_at lw_m2 236 rfl) rfl
theorem q576 : (Jvm.Cond.methodLink "BarredBooks$Found" (1 : Nat) ({ cls := "BarredBooks$Card", name := "<init>", desc := "(LBarredBooks$Trace;III)V" } : Jvm.MethodName)) ∈ lw_all := lw_g (lw_at lw_m2 237 rfl) rfl
theorem q577 : (Jvm.Cond.laysFinal "BarredBooks$Found" "BarredBooks$Card" "trace" "LBarredBooks$Trace;") ∈ lw_all := lw_g (lw_at lw_m2 238 rfl) rfl
theorem q578 : (Jvm.Cond.laysFinal "BarredBooks$Found" "BarredBooks$Card" "number" "I") ∈ lw_all := lw_g (lw_at lw_m2 239 rfl) rfl
theorem q579 : (Jvm.Cond.laysFinal "BarredBooks$Found" "BarredBooks$Card" "edition" "I") ∈ lw_all := lw_g (lw_at lw_m3 0 rfl) rfl
theorem q580 : (Jvm.Cond.laysFinal "BarredBooks$Found" "BarredBooks$Card" "v" "I") ∈ lw_all := lw_g (lw_at lw_m3 1 rfl) rfl
theorem q581 : (Jvm.Cond.superclass "BarredBooks$Found" "BarredBooks$Card") ∈ lw_all := lw_g (lw_at lw_m3 2 rfl) rfl
theorem q699 : (Jvm.Cond.selects "BarredBooks$Found" ({ cls := "BarredBooks$Card", name := "kind", desc := "()I" } : Jvm.MethodName) ({ cls := "BarredBooks$Found", name := "kind", desc := "()I" } : Jvm.MethodName)) ∈ lw_all := lw_g (lw_at lw_m3 120 rfl) rfl
theorem q700 : (Jvm.Cond.instanceMethod ({ cls := "BarredBooks$Found", name := "kind", desc := "()I" } : Jvm.MethodName)) ∈ lw_all := lw_g (lw_at lw_m3 121 rfl) rfl
theorem q701 : (Jvm.Cond.code ({ cls := "BarredBooks$Found", name := "kind", desc := "()I" } : Jvm.MethodName) prog_8_method_2_code (1 : Nat) (Option.some Jvm.ClassFile.FieldType.int)) ∈ lw_all := lw_g (lw_at lw_m3 122 rfl) rfl
theorem q733 : (Jvm.Cond.selects "BarredBooks$Found" ({ cls := "BarredBooks$Card", name := "bars", desc := "(I)I" } : Jvm.MethodName) ({ cls := "BarredBooks$Card", name := "bars", desc := "(I)I" } : Jvm.MethodName)) ∈ lw_all := lw_g (lw_at lw_m3 154 rfl) rfl
theorem q753 : (Jvm.Cond.selects "BarredBooks$Found" ({ cls := "BarredBooks$Card", name := "hangs", desc := "(I)I" } : Jvm.MethodName) ({ cls := "BarredBooks$Card", name := "hangs", desc := "(I)I" } : Jvm.MethodName)) ∈ lw_all := lw_g (lw_at lw_m3 174 rfl) rfl
theorem q769 : (Jvm.Cond.selects "BarredBooks$Found" ({ cls := "BarredBooks$Card", name := "passes", desc := "(I)I" } : Jvm.MethodName) ({ cls := "BarredBooks$Found", name := "passes", desc := "(I)I" } : Jvm.MethodName)) ∈ lw_all := lw_g (lw_at lw_m3 190 rfl) rfl
theorem q770 : (Jvm.Cond.instanceMethod ({ cls := "BarredBooks$Found", name := "passes", desc := "(I)I" } : Jvm.MethodName)) ∈ lw_all := lw_g (lw_at lw_m3 191 rfl) rfl
theorem q771 : (Jvm.Cond.code ({ cls := "BarredBooks$Found", name := "passes", desc := "(I)I" } : Jvm.MethodName) prog_8_method_3_code (3 : Nat) (Option.some Jvm.ClassFile.FieldType.int)) ∈ lw_all := lw_g (lw_at lw_m3 192 rfl) rfl
theorem q772 : (Jvm.Cond.methodLink "BarredBooks$Found" (13 : Nat) ({ cls := "BarredBooks$Trace", name := "ran", desc := "(I)V" } : Jvm.MethodName)) ∈ lw_all := lw_g (lw_at lw_m3 193 rfl) rfl
theorem q773 : (Jvm.Cond.methodLink "BarredBooks$Found" (19 : Nat) ({ cls := "BarredBooks$Found", name := "bars", desc := "(I)I" } : Jvm.MethodName)) ∈ lw_all := lw_g (lw_at lw_m3 194 rfl) rfl
theorem q774 : (Jvm.Cond.sameMethod "BarredBooks$Found" "BarredBooks$Card" "bars" "(I)I") ∈ lw_all := lw_g (lw_at lw_m3 195 rfl) rfl
theorem q775 : (Jvm.Cond.selects "BarredBooks$Found" ({ cls := "BarredBooks$Found", name := "bars", desc := "(I)I" } : Jvm.MethodName) ({ cls := "BarredBooks$Card", name := "bars", desc := "(I)I" } : Jvm.MethodName)) ∈ lw_all := lw_g (lw_at lw_m3 196 rfl) rfl
theorem q776 : (Jvm.Cond.methodLink "BarredBooks$Found" (23 : Nat) ({ cls := "BarredBooks$Card", name := "passes", desc := "(I)I" } : Jvm.MethodName)) ∈ lw_all := lw_g (lw_at lw_m3 197 rfl) rfl
theorem q1139 : (Jvm.Cond.selects "BarredBooks$Found" ({ cls := "java/lang/Object", name := "getClass", desc := "()Ljava/lang/Class;" } : Jvm.MethodName) ({ cls := "java/lang/Object", name := "getClass", desc := "()Ljava/lang/Class;" } : Jvm.MethodName)) ∈ lw_all := lw_g (lw_at lw_m5 80 rfl) rfl
theorem q2306 : (Jvm.Cond.castable "BarredBooks$Found" "BarredBooks$Card") ∈ lw_tbl := lw_at lw_m10 47 rfl
theorem q2338 : (Jvm.Cond.castable "BarredBooks$Found" "java/lang/Object") ∈ lw_tbl := lw_at lw_m10 79 rfl
theorem in_X13 : ∀ w ∈ wsX130, w ∈ lw_all := lw_in wsX130 [577, 578, 579, 580] (by decide +kernel) (by decide +kernel)

/-! BarredBooks$Mended -/
set_option maxRecDepth 100000
def RX14 : String := "BarredBooks$Mended"
def TX14 : u_T := fun k => match k with
  | 0 => ("BarredBooks$Card", "trace", "LBarredBooks$Trace;", true)
  | 1 => ("BarredBooks$Card", "number", "I", true)
  | 2 => ("BarredBooks$Card", "edition", "I", true)
  | 3 => ("BarredBooks$Card", "v", "I", true)
  | _ => ("BarredBooks$Struck", "mended", "I", false)
def tyX14 : Nat → FieldType := fun k => match k with
  | 0 => .object "BarredBooks$Trace"
  | 1 => .int
  | 2 => .int
  | 3 => .int
  | _ => .int
abbrev wsX140 : List Cond := u_ws RX14 TX14 5
theorem nmX14 : ∀ a, a < 5 → ∀ b, b < 5 → a ≠ b → (TX14 a).2.1 ≠ (TX14 b).2.1 := by decide +kernel
theorem tyX14_ok : ∀ k, k < 5 → parseFieldDescriptor (TX14 k).2.2.1 = some (tyX14 k) := by decide +kernel
abbrev cX14_init : ByteArray := prog_12_method_1_code
def yX14_init : MethodName := ⟨RX14, "<init>", "(LBarredBooks$Struck;)V"⟩
def dkwX14_init_0 : List UInt8 := [42, 43, 180, 0, 3, 43, 180, 0, 9, 43, 180, 0, 13, 43, 180, 0, 16, 183, 0, 19, 177]
abbrev dktX14_init_0 : List UInt8 := dkwX14_init_0 ++ []
theorem dksX14_init_0 : cX14_init.data.toList.drop 0 = dktX14_init_0 := by decide +kernel
theorem dX14_init_0 : decode cX14_init 0 = .ok (.aload_n 0, 1) := dk_42 (dk_at dksX14_init_0 0 rfl rfl)
theorem dX14_init_1 : decode cX14_init 1 = .ok (.aload_n 1, 1) := dk_43 (dk_at dksX14_init_0 1 rfl rfl)
theorem dX14_init_2 : decode cX14_init 2 = .ok (.getfield 3, 3) := dk_180 0 3 (dk_at dksX14_init_0 2 rfl rfl)
theorem dX14_init_5 : decode cX14_init 5 = .ok (.aload_n 1, 1) := dk_43 (dk_at dksX14_init_0 5 rfl rfl)
theorem dX14_init_6 : decode cX14_init 6 = .ok (.getfield 9, 3) := dk_180 0 9 (dk_at dksX14_init_0 6 rfl rfl)
theorem dX14_init_9 : decode cX14_init 9 = .ok (.aload_n 1, 1) := dk_43 (dk_at dksX14_init_0 9 rfl rfl)
theorem dX14_init_10 : decode cX14_init 10 = .ok (.getfield 13, 3) := dk_180 0 13 (dk_at dksX14_init_0 10 rfl rfl)
theorem dX14_init_13 : decode cX14_init 13 = .ok (.aload_n 1, 1) := dk_43 (dk_at dksX14_init_0 13 rfl rfl)
theorem dX14_init_14 : decode cX14_init 14 = .ok (.getfield 16, 3) := dk_180 0 16 (dk_at dksX14_init_0 14 rfl rfl)
theorem dX14_init_17 : decode cX14_init 17 = .ok (.invokespecial 19, 3) := dk_183 0 19 (dk_at dksX14_init_0 17 rfl rfl)
theorem dX14_init_20 : decode cX14_init 20 = .ok (.return_, 1) := dk_177 (dk_at dksX14_init_0 20 rfl rfl)
abbrev cX14_kind : ByteArray := prog_12_method_2_code
def yX14_kind : MethodName := ⟨RX14, "kind", "()I"⟩
theorem dX14_kind_0 : decode cX14_kind 0 = .ok (.iconst 4, 1) := by decide +kernel
theorem dX14_kind_1 : decode cX14_kind 1 = .ok (.ireturn, 1) := by decide +kernel
abbrev cX14_passes : ByteArray := prog_12_method_3_code
def yX14_passes : MethodName := ⟨RX14, "passes", "(I)I"⟩
def dkwX14_passes_0 : List UInt8 := [42, 180, 0, 23, 16, 50, 182, 0, 26, 42, 27, 183, 0, 32, 61, 28, 42, 4, 182, 0, 36, 100, 172]
abbrev dktX14_passes_0 : List UInt8 := dkwX14_passes_0 ++ []
theorem dksX14_passes_0 : cX14_passes.data.toList.drop 0 = dktX14_passes_0 := by decide +kernel
theorem dX14_passes_0 : decode cX14_passes 0 = .ok (.aload_n 0, 1) := dk_42 (dk_at dksX14_passes_0 0 rfl rfl)
theorem dX14_passes_1 : decode cX14_passes 1 = .ok (.getfield 23, 3) := dk_180 0 23 (dk_at dksX14_passes_0 1 rfl rfl)
theorem dX14_passes_4 : decode cX14_passes 4 = .ok (.bipush 50, 2) := dk_16 50 (dk_at dksX14_passes_0 4 rfl rfl)
theorem dX14_passes_6 : decode cX14_passes 6 = .ok (.invokevirtual 26, 3) := dk_182 0 26 (dk_at dksX14_passes_0 6 rfl rfl)
theorem dX14_passes_9 : decode cX14_passes 9 = .ok (.aload_n 0, 1) := dk_42 (dk_at dksX14_passes_0 9 rfl rfl)
theorem dX14_passes_10 : decode cX14_passes 10 = .ok (.iload_n 1, 1) := dk_27 (dk_at dksX14_passes_0 10 rfl rfl)
theorem dX14_passes_11 : decode cX14_passes 11 = .ok (.invokespecial 32, 3) := dk_183 0 32 (dk_at dksX14_passes_0 11 rfl rfl)
theorem dX14_passes_14 : decode cX14_passes 14 = .ok (.istore_n 2, 1) := dk_61 (dk_at dksX14_passes_0 14 rfl rfl)
theorem dX14_passes_15 : decode cX14_passes 15 = .ok (.iload_n 2, 1) := dk_28 (dk_at dksX14_passes_0 15 rfl rfl)
theorem dX14_passes_16 : decode cX14_passes 16 = .ok (.aload_n 0, 1) := dk_42 (dk_at dksX14_passes_0 16 rfl rfl)
theorem dX14_passes_17 : decode cX14_passes 17 = .ok (.iconst 1, 1) := dk_4 (dk_at dksX14_passes_0 17 rfl rfl)
theorem dX14_passes_18 : decode cX14_passes 18 = .ok (.invokevirtual 36, 3) := dk_182 0 36 (dk_at dksX14_passes_0 18 rfl rfl)
theorem dX14_passes_21 : decode cX14_passes 21 = .ok (.isub, 1) := dk_100 (dk_at dksX14_passes_0 21 rfl rfl)
theorem dX14_passes_22 : decode cX14_passes 22 = .ok (.ireturn, 1) := dk_172 (dk_at dksX14_passes_0 22 rfl rfl)
theorem q120 : (Jvm.Cond.initialized "BarredBooks$Mended") ∈ lw_all := lw_g (lw_at lw_m1 21 rfl) rfl
theorem q489 : (Jvm.Cond.fieldLink "BarredBooks$Mended" (3 : Nat) "BarredBooks$Struck" "trace" "LBarredBooks$Trace;") ∈ lw_all := lw_g (lw_at lw_m2 150 rfl) rfl
theorem q500 : (Jvm.Cond.fieldLink "BarredBooks$Mended" (23 : Nat) "BarredBooks$Mended" "trace" "LBarredBooks$Trace;") ∈ lw_all := lw_g (lw_at lw_m2 161 rfl) rfl
theorem q501 : (Jvm.Cond.sameField "BarredBooks$Mended" "BarredBooks$Card" "trace" "LBarredBooks$Trace;") ∈ lw_all := lw_g (lw_at lw_m2 162 rfl) rfl
theorem q503 : (Jvm.Cond.fieldLink "BarredBooks$Mended" (9 : Nat) "BarredBooks$Struck" "number" "I") ∈ lw_all := lw_g (lw_at lw_m2 164 rfl) rfl
theorem q508 : (Jvm.Cond.fieldLink "BarredBooks$Mended" (13 : Nat) "BarredBooks$Struck" "edition" "I") ∈ lw_all := lw_g (lw_at lw_m2 169 rfl) rfl
theorem q511 : (Jvm.Cond.fieldLink "BarredBooks$Mended" (16 : Nat) "BarredBooks$Struck" "v" "I") ∈ lw_all := lw_g (lw_at lw_m2 172 rfl) rfl
theorem q677 : (Jvm.Cond.instantiable "BarredBooks$Mended" (5 : Nat)) ∈ lw_all := lw_g (lw_at lw_m3 98 rfl) rfl
theorem q679 : (Jvm.Cond.instanceMethod ({ cls := "BarredBooks$Mended", name := "<init>", desc := "(LBarredBooks$Struck;)V" } : Jvm.MethodName)) ∈ lw_all := lw_g (lw_at lw_m3 100 rfl) rfl
theorem q680 : (Jvm.Cond.code ({ cls := "BarredBooks$Mended", name := "<init>", desc := "(LBarredBooks$Struck;)V" } : Jvm.MethodName) prog_12_method_1_code (2 : Nat) (Option.none : Option Jvm.ClassFile.FieldType)) ∈ lw_all := lw_g (lw_at lw_m3 101 rfl) rfl
theorem q681 : (Jvm.Cond.methodLink "BarredBooks$Mended" (19 : Nat) ({ cls := "BarredBooks$Struck", name := "<init>", desc := "(LBarredBooks$Trace;III)V" } : Jvm.MethodName)) ∈ lw_all := lw_g (lw_at lw_m3 102 rfl) rfl
theorem q682 : (Jvm.Cond.lays "BarredBooks$Mended" "BarredBooks$Struck" "mended" "I") ∈ lw_all := lw_g (lw_at lw_m3 103 rfl) rfl
theorem q683 : (Jvm.Cond.laysFinal "BarredBooks$Mended" "BarredBooks$Card" "trace" "LBarredBooks$Trace;") ∈ lw_all := lw_g (lw_at lw_m3 104 rfl) rfl
theorem q684 : (Jvm.Cond.laysFinal "BarredBooks$Mended" "BarredBooks$Card" "number" "I") ∈ lw_all := lw_g (lw_at lw_m3 105 rfl) rfl
theorem q685 : (Jvm.Cond.laysFinal "BarredBooks$Mended" "BarredBooks$Card" "edition" "I") ∈ lw_all := lw_g (lw_at lw_m3 106 rfl) rfl
theorem q686 : (Jvm.Cond.laysFinal "BarredBooks$Mended" "BarredBooks$Card" "v" "I") ∈ lw_all := lw_g (lw_at lw_m3 107 rfl) rfl
theorem q687 : (Jvm.Cond.superclass "BarredBooks$Mended" "BarredBooks$Struck") ∈ lw_all := lw_g (lw_at lw_m3 108 rfl) rfl
theorem q705 : (Jvm.Cond.selects "BarredBooks$Mended" ({ cls := "BarredBooks$Card", name := "kind", desc := "()I" } : Jvm.MethodName) ({ cls := "BarredBooks$Mended", name := "kind", desc := "()I" } : Jvm.MethodName)) ∈ lw_all := lw_g (lw_at lw_m3 126 rfl) rfl
theorem q706 : (Jvm.Cond.instanceMethod ({ cls := "BarredBooks$Mended", name := "kind", desc := "()I" } : Jvm.MethodName)) ∈ lw_all := lw_g (lw_at lw_m3 127 rfl) rfl
theorem q707 : (Jvm.Cond.code ({ cls := "BarredBooks$Mended", name := "kind", desc := "()I" } : Jvm.MethodName) prog_12_method_2_code (1 : Nat) (Option.some Jvm.ClassFile.FieldType.int)) ∈ lw_all := lw_g (lw_at lw_m3 128 rfl) rfl
theorem q735 : (Jvm.Cond.selects "BarredBooks$Mended" ({ cls := "BarredBooks$Card", name := "bars", desc := "(I)I" } : Jvm.MethodName) ({ cls := "BarredBooks$Struck", name := "bars", desc := "(I)I" } : Jvm.MethodName)) ∈ lw_all := lw_g (lw_at lw_m3 156 rfl) rfl
theorem q759 : (Jvm.Cond.selects "BarredBooks$Mended" ({ cls := "BarredBooks$Card", name := "hangs", desc := "(I)I" } : Jvm.MethodName) ({ cls := "BarredBooks$Printed", name := "hangs", desc := "(I)I" } : Jvm.MethodName)) ∈ lw_all := lw_g (lw_at lw_m3 180 rfl) rfl
theorem q778 : (Jvm.Cond.selects "BarredBooks$Mended" ({ cls := "BarredBooks$Card", name := "passes", desc := "(I)I" } : Jvm.MethodName) ({ cls := "BarredBooks$Mended", name := "passes", desc := "(I)I" } : Jvm.MethodName)) ∈ lw_all := lw_g (lw_at lw_m3 199 rfl) rfl
theorem q779 : (Jvm.Cond.instanceMethod ({ cls := "BarredBooks$Mended", name := "passes", desc := "(I)I" } : Jvm.MethodName)) ∈ lw_all := lw_g (lw_at lw_m3 200 rfl) rfl
theorem q780 : (Jvm.Cond.code ({ cls := "BarredBooks$Mended", name := "passes", desc := "(I)I" } : Jvm.MethodName) prog_12_method_3_code (3 : Nat) (Option.some Jvm.ClassFile.FieldType.int)) ∈ lw_all := lw_g (lw_at lw_m3 201 rfl) rfl
theorem q781 : (Jvm.Cond.methodLink "BarredBooks$Mended" (26 : Nat) ({ cls := "BarredBooks$Trace", name := "ran", desc := "(I)V" } : Jvm.MethodName)) ∈ lw_all := lw_g (lw_at lw_m3 202 rfl) rfl
theorem q782 : (Jvm.Cond.methodLink "BarredBooks$Mended" (32 : Nat) ({ cls := "BarredBooks$Struck", name := "passes", desc := "(I)I" } : Jvm.MethodName)) ∈ lw_all := lw_g (lw_at lw_m3 203 rfl) rfl
theorem q789 : (Jvm.Cond.methodLink "BarredBooks$Mended" (36 : Nat) ({ cls := "BarredBooks$Mended", name := "hangs", desc := "(I)I" } : Jvm.MethodName)) ∈ lw_all := lw_g (lw_at lw_m3 210 rfl) rfl
theorem q790 : (Jvm.Cond.sameMethod "BarredBooks$Mended" "BarredBooks$Printed" "hangs" "(I)I") ∈ lw_all := lw_g (lw_at lw_m3 211 rfl) rfl
theorem q792 : (Jvm.Cond.selects "BarredBooks$Mended" ({ cls := "BarredBooks$Mended", name := "hangs", desc := "(I)I" } : Jvm.MethodName) ({ cls := "BarredBooks$Printed", name := "hangs", desc := "(I)I" } : Jvm.MethodName)) ∈ lw_all := lw_g (lw_at lw_m3 213 rfl) rfl
theorem q1142 : (Jvm.Cond.selects "BarredBooks$Mended" ({ cls := "java/lang/Object", name := "getClass", desc := "()Ljava/lang/Class;" } : Jvm.MethodName) ({ cls := "java/lang/Object", name := "getClass", desc := "()Ljava/lang/Class;" } : Jvm.MethodName)) ∈ lw_all := lw_g (lw_at lw_m5 83 rfl) rfl
theorem q2301 : (Jvm.Cond.selects "BarredBooks$Mended" ({ cls := "BarredBooks$Struck", name := "bars", desc := "(I)I" } : Jvm.MethodName) ({ cls := "BarredBooks$Struck", name := "bars", desc := "(I)I" } : Jvm.MethodName)) ∈ lw_all := lw_g (lw_at lw_m10 42 rfl) rfl
theorem q2304 : (Jvm.Cond.castable "BarredBooks$Mended" "BarredBooks$Struck") ∈ lw_tbl := lw_at lw_m10 45 rfl
theorem q2308 : (Jvm.Cond.castable "BarredBooks$Mended" "BarredBooks$Card") ∈ lw_tbl := lw_at lw_m10 49 rfl
theorem q2312 : (Jvm.Cond.castable "BarredBooks$Mended" "BarredBooks$Printed") ∈ lw_tbl := lw_at lw_m10 53 rfl
theorem q2340 : (Jvm.Cond.castable "BarredBooks$Mended" "java/lang/Object") ∈ lw_tbl := lw_at lw_m10 81 rfl
theorem in_X14 : ∀ w ∈ wsX140, w ∈ lw_all := lw_in wsX140 [683, 684, 685, 686, 682] (by decide +kernel) (by decide +kernel)

/-! BarredBooks$Reader -/
set_option maxRecDepth 100000
def RX15 : String := "BarredBooks$Reader"
def TX15 : u_T := fun k => match k with
  | 0 => ("BarredBooks$Reader", "text", "[B", true)
  | 1 => ("BarredBooks$Reader", "size", "I", true)
  | 2 => ("BarredBooks$Reader", "at", "I", false)
  | _ => ("BarredBooks$Reader", "deep", "I", false)
def tyX15 : Nat → FieldType := fun k => match k with
  | 0 => .array .byte
  | 1 => .int
  | 2 => .int
  | _ => .int
abbrev wsX150 : List Cond := u_ws RX15 TX15 4
theorem nmX15 : ∀ a, a < 4 → ∀ b, b < 4 → a ≠ b → (TX15 a).2.1 ≠ (TX15 b).2.1 := by decide +kernel
theorem tyX15_ok : ∀ k, k < 4 → parseFieldDescriptor (TX15 k).2.2.1 = some (tyX15 k) := by decide +kernel
abbrev cX15_init : ByteArray := prog_21_method_1_code
def yX15_init : MethodName := ⟨RX15, "<init>", "([BI)V"⟩
def dkwX15_init_0 : List UInt8 := [42, 183, 0, 3, 42, 43, 181, 0, 9, 42, 28, 181, 0, 15, 177]
abbrev dktX15_init_0 : List UInt8 := dkwX15_init_0 ++ []
theorem dksX15_init_0 : cX15_init.data.toList.drop 0 = dktX15_init_0 := by decide +kernel
theorem dX15_init_0 : decode cX15_init 0 = .ok (.aload_n 0, 1) := dk_42 (dk_at dksX15_init_0 0 rfl rfl)
theorem dX15_init_1 : decode cX15_init 1 = .ok (.invokespecial 3, 3) := dk_183 0 3 (dk_at dksX15_init_0 1 rfl rfl)
theorem dX15_init_4 : decode cX15_init 4 = .ok (.aload_n 0, 1) := dk_42 (dk_at dksX15_init_0 4 rfl rfl)
theorem dX15_init_5 : decode cX15_init 5 = .ok (.aload_n 1, 1) := dk_43 (dk_at dksX15_init_0 5 rfl rfl)
theorem dX15_init_6 : decode cX15_init 6 = .ok (.putfield 9, 3) := dk_181 0 9 (dk_at dksX15_init_0 6 rfl rfl)
theorem dX15_init_9 : decode cX15_init 9 = .ok (.aload_n 0, 1) := dk_42 (dk_at dksX15_init_0 9 rfl rfl)
theorem dX15_init_10 : decode cX15_init 10 = .ok (.iload_n 2, 1) := dk_28 (dk_at dksX15_init_0 10 rfl rfl)
theorem dX15_init_11 : decode cX15_init 11 = .ok (.putfield 15, 3) := dk_181 0 15 (dk_at dksX15_init_0 11 rfl rfl)
theorem dX15_init_14 : decode cX15_init 14 = .ok (.return_, 1) := dk_177 (dk_at dksX15_init_0 14 rfl rfl)
abbrev cX15_decree : ByteArray := prog_21_method_13_code
def yX15_decree : MethodName := ⟨RX15, "decree", "()LBarredBooks$Decree;"⟩
def dkwX15_decree_3 : List UInt8 := [180, 0, 15, 162, 0, 8, 42, 182, 0, 31, 191, 43, 176]
abbrev dktX15_decree_3 : List UInt8 := dkwX15_decree_3 ++ []
def dkwX15_decree_2 : List UInt8 := [181, 0, 19, 43, 180, 0, 130, 42, 182, 0, 133, 182, 0, 86, 87, 167, 255, 213, 42, 180, 0, 19, 42]
abbrev dktX15_decree_2 : List UInt8 := dkwX15_decree_2 ++ dktX15_decree_3
def dkwX15_decree_1 : List UInt8 := [182, 0, 137, 16, 8, 162, 0, 37, 42, 182, 0, 27, 16, 59, 160, 0, 28, 42, 89, 180, 0, 19, 4, 96]
abbrev dktX15_decree_1 : List UInt8 := dkwX15_decree_1 ++ dktX15_decree_2
def dkwX15_decree_0 : List UInt8 := [187, 0, 127, 89, 183, 0, 129, 76, 43, 180, 0, 130, 42, 182, 0, 133, 182, 0, 86, 87, 43, 180, 0, 130]
abbrev dktX15_decree_0 : List UInt8 := dkwX15_decree_0 ++ dktX15_decree_1
theorem dksX15_decree_0 : cX15_decree.data.toList.drop 0 = dktX15_decree_0 := by decide +kernel
theorem dksX15_decree_1 : cX15_decree.data.toList.drop 24 = dktX15_decree_1 := dk_seg dksX15_decree_0 24 rfl rfl
theorem dksX15_decree_2 : cX15_decree.data.toList.drop 48 = dktX15_decree_2 := dk_seg dksX15_decree_1 24 rfl rfl
theorem dksX15_decree_3 : cX15_decree.data.toList.drop 71 = dktX15_decree_3 := dk_seg dksX15_decree_2 23 rfl rfl
theorem dX15_decree_0 : decode cX15_decree 0 = .ok (.new 127, 3) := dk_187 0 127 (dk_at dksX15_decree_0 0 rfl rfl)
theorem dX15_decree_3 : decode cX15_decree 3 = .ok (.dup, 1) := dk_89 (dk_at dksX15_decree_0 3 rfl rfl)
theorem dX15_decree_4 : decode cX15_decree 4 = .ok (.invokespecial 129, 3) := dk_183 0 129 (dk_at dksX15_decree_0 4 rfl rfl)
theorem dX15_decree_7 : decode cX15_decree 7 = .ok (.astore_n 1, 1) := dk_76 (dk_at dksX15_decree_0 7 rfl rfl)
theorem dX15_decree_8 : decode cX15_decree 8 = .ok (.aload_n 1, 1) := dk_43 (dk_at dksX15_decree_0 8 rfl rfl)
theorem dX15_decree_9 : decode cX15_decree 9 = .ok (.getfield 130, 3) := dk_180 0 130 (dk_at dksX15_decree_0 9 rfl rfl)
theorem dX15_decree_12 : decode cX15_decree 12 = .ok (.aload_n 0, 1) := dk_42 (dk_at dksX15_decree_0 12 rfl rfl)
theorem dX15_decree_13 : decode cX15_decree 13 = .ok (.invokevirtual 133, 3) := dk_182 0 133 (dk_at dksX15_decree_0 13 rfl rfl)
theorem dX15_decree_16 : decode cX15_decree 16 = .ok (.invokevirtual 86, 3) := dk_182 0 86 (dk_at dksX15_decree_0 16 rfl rfl)
theorem dX15_decree_19 : decode cX15_decree 19 = .ok (.pop, 1) := dk_87 (dk_at dksX15_decree_0 19 rfl rfl)
theorem dX15_decree_20 : decode cX15_decree 20 = .ok (.aload_n 1, 1) := dk_43 (dk_at dksX15_decree_0 20 rfl rfl)
theorem dX15_decree_21 : decode cX15_decree 21 = .ok (.getfield 130, 3) := dk_180 0 130 (dk_at dksX15_decree_0 21 rfl rfl)
theorem dX15_decree_24 : decode cX15_decree 24 = .ok (.invokevirtual 137, 3) := dk_182 0 137 (dk_at dksX15_decree_1 0 rfl rfl)
theorem dX15_decree_27 : decode cX15_decree 27 = .ok (.bipush 8, 2) := dk_16 8 (dk_at dksX15_decree_1 3 rfl rfl)
theorem dX15_decree_29 : decode cX15_decree 29 = .ok (.if_icmp .ge 37, 3) := dk_162 0 37 (dk_at dksX15_decree_1 5 rfl rfl)
theorem dX15_decree_32 : decode cX15_decree 32 = .ok (.aload_n 0, 1) := dk_42 (dk_at dksX15_decree_1 8 rfl rfl)
theorem dX15_decree_33 : decode cX15_decree 33 = .ok (.invokevirtual 27, 3) := dk_182 0 27 (dk_at dksX15_decree_1 9 rfl rfl)
theorem dX15_decree_36 : decode cX15_decree 36 = .ok (.bipush 59, 2) := dk_16 59 (dk_at dksX15_decree_1 12 rfl rfl)
theorem dX15_decree_38 : decode cX15_decree 38 = .ok (.if_icmp .ne 28, 3) := dk_160 0 28 (dk_at dksX15_decree_1 14 rfl rfl)
theorem dX15_decree_41 : decode cX15_decree 41 = .ok (.aload_n 0, 1) := dk_42 (dk_at dksX15_decree_1 17 rfl rfl)
theorem dX15_decree_42 : decode cX15_decree 42 = .ok (.dup, 1) := dk_89 (dk_at dksX15_decree_1 18 rfl rfl)
theorem dX15_decree_43 : decode cX15_decree 43 = .ok (.getfield 19, 3) := dk_180 0 19 (dk_at dksX15_decree_1 19 rfl rfl)
theorem dX15_decree_46 : decode cX15_decree 46 = .ok (.iconst 1, 1) := dk_4 (dk_at dksX15_decree_1 22 rfl rfl)
theorem dX15_decree_47 : decode cX15_decree 47 = .ok (.iadd, 1) := dk_96 (dk_at dksX15_decree_1 23 rfl rfl)
theorem dX15_decree_48 : decode cX15_decree 48 = .ok (.putfield 19, 3) := dk_181 0 19 (dk_at dksX15_decree_2 0 rfl rfl)
theorem dX15_decree_51 : decode cX15_decree 51 = .ok (.aload_n 1, 1) := dk_43 (dk_at dksX15_decree_2 3 rfl rfl)
theorem dX15_decree_52 : decode cX15_decree 52 = .ok (.getfield 130, 3) := dk_180 0 130 (dk_at dksX15_decree_2 4 rfl rfl)
theorem dX15_decree_55 : decode cX15_decree 55 = .ok (.aload_n 0, 1) := dk_42 (dk_at dksX15_decree_2 7 rfl rfl)
theorem dX15_decree_56 : decode cX15_decree 56 = .ok (.invokevirtual 133, 3) := dk_182 0 133 (dk_at dksX15_decree_2 8 rfl rfl)
theorem dX15_decree_59 : decode cX15_decree 59 = .ok (.invokevirtual 86, 3) := dk_182 0 86 (dk_at dksX15_decree_2 11 rfl rfl)
theorem dX15_decree_62 : decode cX15_decree 62 = .ok (.pop, 1) := dk_87 (dk_at dksX15_decree_2 14 rfl rfl)
theorem dX15_decree_63 : decode cX15_decree 63 = .ok (.goto (-43), 3) := dk_167 255 213 (dk_at dksX15_decree_2 15 rfl rfl)
theorem dX15_decree_66 : decode cX15_decree 66 = .ok (.aload_n 0, 1) := dk_42 (dk_at dksX15_decree_2 18 rfl rfl)
theorem dX15_decree_67 : decode cX15_decree 67 = .ok (.getfield 19, 3) := dk_180 0 19 (dk_at dksX15_decree_2 19 rfl rfl)
theorem dX15_decree_70 : decode cX15_decree 70 = .ok (.aload_n 0, 1) := dk_42 (dk_at dksX15_decree_2 22 rfl rfl)
theorem dX15_decree_71 : decode cX15_decree 71 = .ok (.getfield 15, 3) := dk_180 0 15 (dk_at dksX15_decree_3 0 rfl rfl)
theorem dX15_decree_74 : decode cX15_decree 74 = .ok (.if_icmp .ge 8, 3) := dk_162 0 8 (dk_at dksX15_decree_3 3 rfl rfl)
theorem dX15_decree_77 : decode cX15_decree 77 = .ok (.aload_n 0, 1) := dk_42 (dk_at dksX15_decree_3 6 rfl rfl)
theorem dX15_decree_78 : decode cX15_decree 78 = .ok (.invokevirtual 31, 3) := dk_182 0 31 (dk_at dksX15_decree_3 7 rfl rfl)
theorem dX15_decree_81 : decode cX15_decree 81 = .ok (.athrow, 1) := dk_191 (dk_at dksX15_decree_3 10 rfl rfl)
theorem dX15_decree_82 : decode cX15_decree 82 = .ok (.aload_n 1, 1) := dk_43 (dk_at dksX15_decree_3 11 rfl rfl)
theorem dX15_decree_83 : decode cX15_decree 83 = .ok (.areturn, 1) := dk_176 (dk_at dksX15_decree_3 12 rfl rfl)
abbrev cX15_clause : ByteArray := prog_21_method_12_code
def yX15_clause : MethodName := ⟨RX15, "clause", "()LBarredBooks$Clause;"⟩
def dkwX15_clause_4 : List UInt8 := [182, 0, 31, 191]
abbrev dktX15_clause_4 : List UInt8 := dkwX15_clause_4 ++ []
def dkwX15_clause_3 : List UInt8 := [182, 0, 97, 187, 0, 118, 89, 42, 182, 0, 71, 3, 183, 0, 120, 176, 42, 27, 182, 0, 123, 176, 42]
abbrev dktX15_clause_3 : List UInt8 := dkwX15_clause_3 ++ dktX15_clause_4
def dkwX15_clause_2 : List UInt8 := [42, 18, 111, 182, 0, 97, 187, 0, 113, 89, 42, 182, 0, 71, 3, 183, 0, 115, 176, 42, 18, 121]
abbrev dktX15_clause_2 : List UInt8 := dkwX15_clause_2 ++ dktX15_clause_3
def dkwX15_clause_1 : List UInt8 := [171, 0, 0, 0, 0, 86, 0, 0, 0, 4, 0, 0, 0, 97, 0, 0, 0, 42, 0, 0, 0, 102, 0, 0, 0, 80, 0, 0, 0, 108, 0, 0, 0, 80, 0, 0, 0, 116, 0, 0, 0, 61]
abbrev dktX15_clause_1 : List UInt8 := dkwX15_clause_1 ++ dktX15_clause_2
def dkwX15_clause_0 : List UInt8 := [42, 182, 0, 27, 60, 27]
abbrev dktX15_clause_0 : List UInt8 := dkwX15_clause_0 ++ dktX15_clause_1
theorem dksX15_clause_0 : cX15_clause.data.toList.drop 0 = dktX15_clause_0 := by decide +kernel
theorem dksX15_clause_1 : cX15_clause.data.toList.drop 6 = dktX15_clause_1 := dk_seg dksX15_clause_0 6 rfl rfl
theorem dksX15_clause_2 : cX15_clause.data.toList.drop 48 = dktX15_clause_2 := dk_seg dksX15_clause_1 42 rfl rfl
theorem dksX15_clause_3 : cX15_clause.data.toList.drop 70 = dktX15_clause_3 := dk_seg dksX15_clause_2 22 rfl rfl
theorem dksX15_clause_4 : cX15_clause.data.toList.drop 93 = dktX15_clause_4 := dk_seg dksX15_clause_3 23 rfl rfl
theorem dX15_clause_0 : decode cX15_clause 0 = .ok (.aload_n 0, 1) := dk_42 (dk_at dksX15_clause_0 0 rfl rfl)
theorem dX15_clause_1 : decode cX15_clause 1 = .ok (.invokevirtual 27, 3) := dk_182 0 27 (dk_at dksX15_clause_0 1 rfl rfl)
theorem dX15_clause_4 : decode cX15_clause 4 = .ok (.istore_n 1, 1) := dk_60 (dk_at dksX15_clause_0 4 rfl rfl)
theorem dX15_clause_5 : decode cX15_clause 5 = .ok (.iload_n 1, 1) := dk_27 (dk_at dksX15_clause_0 5 rfl rfl)
theorem dX15_clause_6 : decode cX15_clause 6 = .ok (.lookupswitch 86 #[(97, 42), (102, 80), (108, 80), (116, 61)], 42) := by decide +kernel
theorem dX15_clause_48 : decode cX15_clause 48 = .ok (.aload_n 0, 1) := dk_42 (dk_at dksX15_clause_2 0 rfl rfl)
theorem dX15_clause_49 : decode cX15_clause 49 = .ok (.ldc 111, 2) := dk_18 111 (dk_at dksX15_clause_2 1 rfl rfl)
theorem dX15_clause_51 : decode cX15_clause 51 = .ok (.invokevirtual 97, 3) := dk_182 0 97 (dk_at dksX15_clause_2 3 rfl rfl)
theorem dX15_clause_54 : decode cX15_clause 54 = .ok (.new 113, 3) := dk_187 0 113 (dk_at dksX15_clause_2 6 rfl rfl)
theorem dX15_clause_57 : decode cX15_clause 57 = .ok (.dup, 1) := dk_89 (dk_at dksX15_clause_2 9 rfl rfl)
theorem dX15_clause_58 : decode cX15_clause 58 = .ok (.aload_n 0, 1) := dk_42 (dk_at dksX15_clause_2 10 rfl rfl)
theorem dX15_clause_59 : decode cX15_clause 59 = .ok (.invokevirtual 71, 3) := dk_182 0 71 (dk_at dksX15_clause_2 11 rfl rfl)
theorem dX15_clause_62 : decode cX15_clause 62 = .ok (.iconst 0, 1) := dk_3 (dk_at dksX15_clause_2 14 rfl rfl)
theorem dX15_clause_63 : decode cX15_clause 63 = .ok (.invokespecial 115, 3) := dk_183 0 115 (dk_at dksX15_clause_2 15 rfl rfl)
theorem dX15_clause_66 : decode cX15_clause 66 = .ok (.areturn, 1) := dk_176 (dk_at dksX15_clause_2 18 rfl rfl)
theorem dX15_clause_67 : decode cX15_clause 67 = .ok (.aload_n 0, 1) := dk_42 (dk_at dksX15_clause_2 19 rfl rfl)
theorem dX15_clause_68 : decode cX15_clause 68 = .ok (.ldc 121, 2) := dk_18 121 (dk_at dksX15_clause_2 20 rfl rfl)
theorem dX15_clause_70 : decode cX15_clause 70 = .ok (.invokevirtual 97, 3) := dk_182 0 97 (dk_at dksX15_clause_3 0 rfl rfl)
theorem dX15_clause_73 : decode cX15_clause 73 = .ok (.new 118, 3) := dk_187 0 118 (dk_at dksX15_clause_3 3 rfl rfl)
theorem dX15_clause_76 : decode cX15_clause 76 = .ok (.dup, 1) := dk_89 (dk_at dksX15_clause_3 6 rfl rfl)
theorem dX15_clause_77 : decode cX15_clause 77 = .ok (.aload_n 0, 1) := dk_42 (dk_at dksX15_clause_3 7 rfl rfl)
theorem dX15_clause_78 : decode cX15_clause 78 = .ok (.invokevirtual 71, 3) := dk_182 0 71 (dk_at dksX15_clause_3 8 rfl rfl)
theorem dX15_clause_81 : decode cX15_clause 81 = .ok (.iconst 0, 1) := dk_3 (dk_at dksX15_clause_3 11 rfl rfl)
theorem dX15_clause_82 : decode cX15_clause 82 = .ok (.invokespecial 120, 3) := dk_183 0 120 (dk_at dksX15_clause_3 12 rfl rfl)
theorem dX15_clause_85 : decode cX15_clause 85 = .ok (.areturn, 1) := dk_176 (dk_at dksX15_clause_3 15 rfl rfl)
theorem dX15_clause_86 : decode cX15_clause 86 = .ok (.aload_n 0, 1) := dk_42 (dk_at dksX15_clause_3 16 rfl rfl)
theorem dX15_clause_87 : decode cX15_clause 87 = .ok (.iload_n 1, 1) := dk_27 (dk_at dksX15_clause_3 17 rfl rfl)
theorem dX15_clause_88 : decode cX15_clause 88 = .ok (.invokevirtual 123, 3) := dk_182 0 123 (dk_at dksX15_clause_3 18 rfl rfl)
theorem dX15_clause_91 : decode cX15_clause 91 = .ok (.areturn, 1) := dk_176 (dk_at dksX15_clause_3 21 rfl rfl)
theorem dX15_clause_92 : decode cX15_clause 92 = .ok (.aload_n 0, 1) := dk_42 (dk_at dksX15_clause_3 22 rfl rfl)
theorem dX15_clause_93 : decode cX15_clause 93 = .ok (.invokevirtual 31, 3) := dk_182 0 31 (dk_at dksX15_clause_4 0 rfl rfl)
theorem dX15_clause_96 : decode cX15_clause 96 = .ok (.athrow, 1) := dk_191 (dk_at dksX15_clause_4 3 rfl rfl)
abbrev cX15_here : ByteArray := prog_21_method_2_code
def yX15_here : MethodName := ⟨RX15, "here", "()I"⟩
def dkwX15_here_1 : List UInt8 := [172]
abbrev dktX15_here_1 : List UInt8 := dkwX15_here_1 ++ []
def dkwX15_here_0 : List UInt8 := [42, 180, 0, 19, 42, 180, 0, 15, 162, 0, 15, 42, 180, 0, 9, 42, 180, 0, 19, 51, 167, 0, 4, 2]
abbrev dktX15_here_0 : List UInt8 := dkwX15_here_0 ++ dktX15_here_1
theorem dksX15_here_0 : cX15_here.data.toList.drop 0 = dktX15_here_0 := by decide +kernel
theorem dksX15_here_1 : cX15_here.data.toList.drop 24 = dktX15_here_1 := dk_seg dksX15_here_0 24 rfl rfl
theorem dX15_here_0 : decode cX15_here 0 = .ok (.aload_n 0, 1) := dk_42 (dk_at dksX15_here_0 0 rfl rfl)
theorem dX15_here_1 : decode cX15_here 1 = .ok (.getfield 19, 3) := dk_180 0 19 (dk_at dksX15_here_0 1 rfl rfl)
theorem dX15_here_4 : decode cX15_here 4 = .ok (.aload_n 0, 1) := dk_42 (dk_at dksX15_here_0 4 rfl rfl)
theorem dX15_here_5 : decode cX15_here 5 = .ok (.getfield 15, 3) := dk_180 0 15 (dk_at dksX15_here_0 5 rfl rfl)
theorem dX15_here_8 : decode cX15_here 8 = .ok (.if_icmp .ge 15, 3) := dk_162 0 15 (dk_at dksX15_here_0 8 rfl rfl)
theorem dX15_here_11 : decode cX15_here 11 = .ok (.aload_n 0, 1) := dk_42 (dk_at dksX15_here_0 11 rfl rfl)
theorem dX15_here_12 : decode cX15_here 12 = .ok (.getfield 9, 3) := dk_180 0 9 (dk_at dksX15_here_0 12 rfl rfl)
theorem dX15_here_15 : decode cX15_here 15 = .ok (.aload_n 0, 1) := dk_42 (dk_at dksX15_here_0 15 rfl rfl)
theorem dX15_here_16 : decode cX15_here 16 = .ok (.getfield 19, 3) := dk_180 0 19 (dk_at dksX15_here_0 16 rfl rfl)
theorem dX15_here_19 : decode cX15_here 19 = .ok (.baload, 1) := dk_51 (dk_at dksX15_here_0 19 rfl rfl)
theorem dX15_here_20 : decode cX15_here 20 = .ok (.goto 4, 3) := dk_167 0 4 (dk_at dksX15_here_0 20 rfl rfl)
theorem dX15_here_23 : decode cX15_here 23 = .ok (.iconst (-1), 1) := dk_2 (dk_at dksX15_here_0 23 rfl rfl)
theorem dX15_here_24 : decode cX15_here 24 = .ok (.ireturn, 1) := dk_172 (dk_at dksX15_here_1 0 rfl rfl)
abbrev cX15_word : ByteArray := prog_21_method_5_code
def yX15_word : MethodName := ⟨RX15, "word", "(Ljava/lang/String;)V"⟩
def dkwX15_word_1 : List UInt8 := [167, 255, 236, 177]
abbrev dktX15_word_1 : List UInt8 := dkwX15_word_1 ++ []
def dkwX15_word_0 : List UInt8 := [3, 61, 28, 43, 182, 0, 35, 162, 0, 18, 42, 43, 28, 182, 0, 40, 182, 0, 44, 132, 2, 1]
abbrev dktX15_word_0 : List UInt8 := dkwX15_word_0 ++ dktX15_word_1
theorem dksX15_word_0 : cX15_word.data.toList.drop 0 = dktX15_word_0 := by decide +kernel
theorem dksX15_word_1 : cX15_word.data.toList.drop 22 = dktX15_word_1 := dk_seg dksX15_word_0 22 rfl rfl
theorem dX15_word_0 : decode cX15_word 0 = .ok (.iconst 0, 1) := dk_3 (dk_at dksX15_word_0 0 rfl rfl)
theorem dX15_word_1 : decode cX15_word 1 = .ok (.istore_n 2, 1) := dk_61 (dk_at dksX15_word_0 1 rfl rfl)
theorem dX15_word_2 : decode cX15_word 2 = .ok (.iload_n 2, 1) := dk_28 (dk_at dksX15_word_0 2 rfl rfl)
theorem dX15_word_3 : decode cX15_word 3 = .ok (.aload_n 1, 1) := dk_43 (dk_at dksX15_word_0 3 rfl rfl)
theorem dX15_word_4 : decode cX15_word 4 = .ok (.invokevirtual 35, 3) := dk_182 0 35 (dk_at dksX15_word_0 4 rfl rfl)
theorem dX15_word_7 : decode cX15_word 7 = .ok (.if_icmp .ge 18, 3) := dk_162 0 18 (dk_at dksX15_word_0 7 rfl rfl)
theorem dX15_word_10 : decode cX15_word 10 = .ok (.aload_n 0, 1) := dk_42 (dk_at dksX15_word_0 10 rfl rfl)
theorem dX15_word_11 : decode cX15_word 11 = .ok (.aload_n 1, 1) := dk_43 (dk_at dksX15_word_0 11 rfl rfl)
theorem dX15_word_12 : decode cX15_word 12 = .ok (.iload_n 2, 1) := dk_28 (dk_at dksX15_word_0 12 rfl rfl)
theorem dX15_word_13 : decode cX15_word 13 = .ok (.invokevirtual 40, 3) := dk_182 0 40 (dk_at dksX15_word_0 13 rfl rfl)
theorem dX15_word_16 : decode cX15_word 16 = .ok (.invokevirtual 44, 3) := dk_182 0 44 (dk_at dksX15_word_0 16 rfl rfl)
theorem dX15_word_19 : decode cX15_word 19 = .ok (.iinc 2 1, 3) := dk_132 2 1 (dk_at dksX15_word_0 19 rfl rfl)
theorem dX15_word_22 : decode cX15_word 22 = .ok (.goto (-20), 3) := dk_167 255 236 (dk_at dksX15_word_1 0 rfl rfl)
theorem dX15_word_25 : decode cX15_word 25 = .ok (.return_, 1) := dk_177 (dk_at dksX15_word_1 3 rfl rfl)
abbrev cX15_must : ByteArray := prog_21_method_4_code
def yX15_must : MethodName := ⟨RX15, "must", "(I)V"⟩
def dkwX15_must_0 : List UInt8 := [42, 182, 0, 27, 27, 159, 0, 8, 42, 182, 0, 31, 191, 42, 89, 180, 0, 19, 4, 96, 181, 0, 19, 177]
abbrev dktX15_must_0 : List UInt8 := dkwX15_must_0 ++ []
theorem dksX15_must_0 : cX15_must.data.toList.drop 0 = dktX15_must_0 := by decide +kernel
theorem dX15_must_0 : decode cX15_must 0 = .ok (.aload_n 0, 1) := dk_42 (dk_at dksX15_must_0 0 rfl rfl)
theorem dX15_must_1 : decode cX15_must 1 = .ok (.invokevirtual 27, 3) := dk_182 0 27 (dk_at dksX15_must_0 1 rfl rfl)
theorem dX15_must_4 : decode cX15_must 4 = .ok (.iload_n 1, 1) := dk_27 (dk_at dksX15_must_0 4 rfl rfl)
theorem dX15_must_5 : decode cX15_must 5 = .ok (.if_icmp .eq 8, 3) := dk_159 0 8 (dk_at dksX15_must_0 5 rfl rfl)
theorem dX15_must_8 : decode cX15_must 8 = .ok (.aload_n 0, 1) := dk_42 (dk_at dksX15_must_0 8 rfl rfl)
theorem dX15_must_9 : decode cX15_must 9 = .ok (.invokevirtual 31, 3) := dk_182 0 31 (dk_at dksX15_must_0 9 rfl rfl)
theorem dX15_must_12 : decode cX15_must 12 = .ok (.athrow, 1) := dk_191 (dk_at dksX15_must_0 12 rfl rfl)
theorem dX15_must_13 : decode cX15_must 13 = .ok (.aload_n 0, 1) := dk_42 (dk_at dksX15_must_0 13 rfl rfl)
theorem dX15_must_14 : decode cX15_must 14 = .ok (.dup, 1) := dk_89 (dk_at dksX15_must_0 14 rfl rfl)
theorem dX15_must_15 : decode cX15_must 15 = .ok (.getfield 19, 3) := dk_180 0 19 (dk_at dksX15_must_0 15 rfl rfl)
theorem dX15_must_18 : decode cX15_must 18 = .ok (.iconst 1, 1) := dk_4 (dk_at dksX15_must_0 18 rfl rfl)
theorem dX15_must_19 : decode cX15_must 19 = .ok (.iadd, 1) := dk_96 (dk_at dksX15_must_0 19 rfl rfl)
theorem dX15_must_20 : decode cX15_must 20 = .ok (.putfield 19, 3) := dk_181 0 19 (dk_at dksX15_must_0 20 rfl rfl)
theorem dX15_must_23 : decode cX15_must 23 = .ok (.return_, 1) := dk_177 (dk_at dksX15_must_0 23 rfl rfl)
abbrev cX15_off : ByteArray := prog_21_method_3_code
def yX15_off : MethodName := ⟨RX15, "off", "()LBarredBooks$Off;"⟩
def dkwX15_off_0 : List UInt8 := [187, 0, 22, 89, 42, 180, 0, 19, 183, 0, 24, 176]
abbrev dktX15_off_0 : List UInt8 := dkwX15_off_0 ++ []
theorem dksX15_off_0 : cX15_off.data.toList.drop 0 = dktX15_off_0 := by decide +kernel
theorem dX15_off_0 : decode cX15_off 0 = .ok (.new 22, 3) := dk_187 0 22 (dk_at dksX15_off_0 0 rfl rfl)
theorem dX15_off_3 : decode cX15_off 3 = .ok (.dup, 1) := dk_89 (dk_at dksX15_off_0 3 rfl rfl)
theorem dX15_off_4 : decode cX15_off 4 = .ok (.aload_n 0, 1) := dk_42 (dk_at dksX15_off_0 4 rfl rfl)
theorem dX15_off_5 : decode cX15_off 5 = .ok (.getfield 19, 3) := dk_180 0 19 (dk_at dksX15_off_0 5 rfl rfl)
theorem dX15_off_8 : decode cX15_off 8 = .ok (.invokespecial 24, 3) := dk_183 0 24 (dk_at dksX15_off_0 8 rfl rfl)
theorem dX15_off_11 : decode cX15_off 11 = .ok (.areturn, 1) := dk_176 (dk_at dksX15_off_0 11 rfl rfl)
abbrev cX15_number : ByteArray := prog_21_method_6_code
def yX15_number : MethodName := ⟨RX15, "number", "()I"⟩
def dkwX15_number_3 : List UInt8 := [167, 255, 209, 27, 172]
abbrev dktX15_number_3 : List UInt8 := dkwX15_number_3 ++ []
def dkwX15_number_2 : List UInt8 := [180, 0, 9, 42, 89, 180, 0, 19, 90, 4, 96, 181, 0, 19, 51, 96, 16, 48, 100, 60, 132, 2, 1]
abbrev dktX15_number_2 : List UInt8 := dkwX15_number_2 ++ dktX15_number_3
def dkwX15_number_1 : List UInt8 := [7, 162, 0, 48, 42, 182, 0, 27, 16, 48, 16, 57, 184, 0, 47, 153, 0, 34, 16, 10, 27, 104, 42]
abbrev dktX15_number_1 : List UInt8 := dkwX15_number_1 ++ dktX15_number_2
def dkwX15_number_0 : List UInt8 := [42, 182, 0, 27, 16, 48, 16, 57, 184, 0, 47, 154, 0, 8, 42, 182, 0, 31, 191, 3, 60, 3, 61, 28]
abbrev dktX15_number_0 : List UInt8 := dkwX15_number_0 ++ dktX15_number_1
theorem dksX15_number_0 : cX15_number.data.toList.drop 0 = dktX15_number_0 := by decide +kernel
theorem dksX15_number_1 : cX15_number.data.toList.drop 24 = dktX15_number_1 := dk_seg dksX15_number_0 24 rfl rfl
theorem dksX15_number_2 : cX15_number.data.toList.drop 47 = dktX15_number_2 := dk_seg dksX15_number_1 23 rfl rfl
theorem dksX15_number_3 : cX15_number.data.toList.drop 70 = dktX15_number_3 := dk_seg dksX15_number_2 23 rfl rfl
theorem dX15_number_0 : decode cX15_number 0 = .ok (.aload_n 0, 1) := dk_42 (dk_at dksX15_number_0 0 rfl rfl)
theorem dX15_number_1 : decode cX15_number 1 = .ok (.invokevirtual 27, 3) := dk_182 0 27 (dk_at dksX15_number_0 1 rfl rfl)
theorem dX15_number_4 : decode cX15_number 4 = .ok (.bipush 48, 2) := dk_16 48 (dk_at dksX15_number_0 4 rfl rfl)
theorem dX15_number_6 : decode cX15_number 6 = .ok (.bipush 57, 2) := dk_16 57 (dk_at dksX15_number_0 6 rfl rfl)
theorem dX15_number_8 : decode cX15_number 8 = .ok (.invokestatic 47, 3) := dk_184 0 47 (dk_at dksX15_number_0 8 rfl rfl)
theorem dX15_number_11 : decode cX15_number 11 = .ok (.ifCond .ne 8, 3) := dk_154 0 8 (dk_at dksX15_number_0 11 rfl rfl)
theorem dX15_number_14 : decode cX15_number 14 = .ok (.aload_n 0, 1) := dk_42 (dk_at dksX15_number_0 14 rfl rfl)
theorem dX15_number_15 : decode cX15_number 15 = .ok (.invokevirtual 31, 3) := dk_182 0 31 (dk_at dksX15_number_0 15 rfl rfl)
theorem dX15_number_18 : decode cX15_number 18 = .ok (.athrow, 1) := dk_191 (dk_at dksX15_number_0 18 rfl rfl)
theorem dX15_number_19 : decode cX15_number 19 = .ok (.iconst 0, 1) := dk_3 (dk_at dksX15_number_0 19 rfl rfl)
theorem dX15_number_20 : decode cX15_number 20 = .ok (.istore_n 1, 1) := dk_60 (dk_at dksX15_number_0 20 rfl rfl)
theorem dX15_number_21 : decode cX15_number 21 = .ok (.iconst 0, 1) := dk_3 (dk_at dksX15_number_0 21 rfl rfl)
theorem dX15_number_22 : decode cX15_number 22 = .ok (.istore_n 2, 1) := dk_61 (dk_at dksX15_number_0 22 rfl rfl)
theorem dX15_number_23 : decode cX15_number 23 = .ok (.iload_n 2, 1) := dk_28 (dk_at dksX15_number_0 23 rfl rfl)
theorem dX15_number_24 : decode cX15_number 24 = .ok (.iconst 4, 1) := dk_7 (dk_at dksX15_number_1 0 rfl rfl)
theorem dX15_number_25 : decode cX15_number 25 = .ok (.if_icmp .ge 48, 3) := dk_162 0 48 (dk_at dksX15_number_1 1 rfl rfl)
theorem dX15_number_28 : decode cX15_number 28 = .ok (.aload_n 0, 1) := dk_42 (dk_at dksX15_number_1 4 rfl rfl)
theorem dX15_number_29 : decode cX15_number 29 = .ok (.invokevirtual 27, 3) := dk_182 0 27 (dk_at dksX15_number_1 5 rfl rfl)
theorem dX15_number_32 : decode cX15_number 32 = .ok (.bipush 48, 2) := dk_16 48 (dk_at dksX15_number_1 8 rfl rfl)
theorem dX15_number_34 : decode cX15_number 34 = .ok (.bipush 57, 2) := dk_16 57 (dk_at dksX15_number_1 10 rfl rfl)
theorem dX15_number_36 : decode cX15_number 36 = .ok (.invokestatic 47, 3) := dk_184 0 47 (dk_at dksX15_number_1 12 rfl rfl)
theorem dX15_number_39 : decode cX15_number 39 = .ok (.ifCond .eq 34, 3) := dk_153 0 34 (dk_at dksX15_number_1 15 rfl rfl)
theorem dX15_number_42 : decode cX15_number 42 = .ok (.bipush 10, 2) := dk_16 10 (dk_at dksX15_number_1 18 rfl rfl)
theorem dX15_number_44 : decode cX15_number 44 = .ok (.iload_n 1, 1) := dk_27 (dk_at dksX15_number_1 20 rfl rfl)
theorem dX15_number_45 : decode cX15_number 45 = .ok (.imul, 1) := dk_104 (dk_at dksX15_number_1 21 rfl rfl)
theorem dX15_number_46 : decode cX15_number 46 = .ok (.aload_n 0, 1) := dk_42 (dk_at dksX15_number_1 22 rfl rfl)
theorem dX15_number_47 : decode cX15_number 47 = .ok (.getfield 9, 3) := dk_180 0 9 (dk_at dksX15_number_2 0 rfl rfl)
theorem dX15_number_50 : decode cX15_number 50 = .ok (.aload_n 0, 1) := dk_42 (dk_at dksX15_number_2 3 rfl rfl)
theorem dX15_number_51 : decode cX15_number 51 = .ok (.dup, 1) := dk_89 (dk_at dksX15_number_2 4 rfl rfl)
theorem dX15_number_52 : decode cX15_number 52 = .ok (.getfield 19, 3) := dk_180 0 19 (dk_at dksX15_number_2 5 rfl rfl)
theorem dX15_number_55 : decode cX15_number 55 = .ok (.dup_x1, 1) := dk_90 (dk_at dksX15_number_2 8 rfl rfl)
theorem dX15_number_56 : decode cX15_number 56 = .ok (.iconst 1, 1) := dk_4 (dk_at dksX15_number_2 9 rfl rfl)
theorem dX15_number_57 : decode cX15_number 57 = .ok (.iadd, 1) := dk_96 (dk_at dksX15_number_2 10 rfl rfl)
theorem dX15_number_58 : decode cX15_number 58 = .ok (.putfield 19, 3) := dk_181 0 19 (dk_at dksX15_number_2 11 rfl rfl)
theorem dX15_number_61 : decode cX15_number 61 = .ok (.baload, 1) := dk_51 (dk_at dksX15_number_2 14 rfl rfl)
theorem dX15_number_62 : decode cX15_number 62 = .ok (.iadd, 1) := dk_96 (dk_at dksX15_number_2 15 rfl rfl)
theorem dX15_number_63 : decode cX15_number 63 = .ok (.bipush 48, 2) := dk_16 48 (dk_at dksX15_number_2 16 rfl rfl)
theorem dX15_number_65 : decode cX15_number 65 = .ok (.isub, 1) := dk_100 (dk_at dksX15_number_2 18 rfl rfl)
theorem dX15_number_66 : decode cX15_number 66 = .ok (.istore_n 1, 1) := dk_60 (dk_at dksX15_number_2 19 rfl rfl)
theorem dX15_number_67 : decode cX15_number 67 = .ok (.iinc 2 1, 3) := dk_132 2 1 (dk_at dksX15_number_2 20 rfl rfl)
theorem dX15_number_70 : decode cX15_number 70 = .ok (.goto (-47), 3) := dk_167 255 209 (dk_at dksX15_number_3 0 rfl rfl)
theorem dX15_number_73 : decode cX15_number 73 = .ok (.iload_n 1, 1) := dk_27 (dk_at dksX15_number_3 3 rfl rfl)
theorem dX15_number_74 : decode cX15_number 74 = .ok (.ireturn, 1) := dk_172 (dk_at dksX15_number_3 4 rfl rfl)
abbrev cX15_shared : ByteArray := prog_21_method_11_code
def yX15_shared : MethodName := ⟨RX15, "shared", "(I)LBarredBooks$Clause;"⟩
def dkwX15_shared_7 : List UInt8 := [183, 0, 120, 176]
abbrev dktX15_shared_7 : List UInt8 := dkwX15_shared_7 ++ []
def dkwX15_shared_6 : List UInt8 := [182, 0, 71, 4, 183, 0, 115, 176, 42, 16, 32, 182, 0, 44, 187, 0, 118, 89, 42, 182, 0, 71, 4]
abbrev dktX15_shared_6 : List UInt8 := dkwX15_shared_6 ++ dktX15_shared_7
def dkwX15_shared_5 : List UInt8 := [182, 0, 97, 42, 182, 0, 27, 16, 97, 160, 0, 22, 42, 18, 111, 182, 0, 97, 187, 0, 113, 89, 42]
abbrev dktX15_shared_5 : List UInt8 := dkwX15_shared_5 ++ dktX15_shared_6
def dkwX15_shared_4 : List UInt8 := [42, 16, 32, 182, 0, 44, 187, 0, 106, 89, 28, 42, 182, 0, 71, 183, 0, 108, 176, 42, 18, 109]
abbrev dktX15_shared_4 : List UInt8 := dkwX15_shared_4 ++ dktX15_shared_5
def dkwX15_shared_3 : List UInt8 := [182, 0, 31, 191, 42, 180, 0, 9, 42, 89, 180, 0, 19, 90, 4, 96, 181, 0, 19, 51, 16, 48, 100, 61]
abbrev dktX15_shared_3 : List UInt8 := dkwX15_shared_3 ++ dktX15_shared_4
def dkwX15_shared_2 : List UInt8 := [160, 0, 67, 42, 18, 104, 182, 0, 97, 42, 182, 0, 27, 16, 48, 16, 53, 184, 0, 47, 154, 0, 8, 42]
abbrev dktX15_shared_2 : List UInt8 := dkwX15_shared_2 ++ dktX15_shared_3
def dkwX15_shared_1 : List UInt8 := [160, 0, 21, 42, 18, 95, 182, 0, 97, 187, 0, 101, 89, 42, 182, 0, 66, 183, 0, 103, 176, 27, 16, 108]
abbrev dktX15_shared_1 : List UInt8 := dkwX15_shared_1 ++ dktX15_shared_2
def dkwX15_shared_0 : List UInt8 := [42, 89, 180, 0, 19, 4, 96, 181, 0, 19, 27, 16, 108, 160, 0, 30, 42, 182, 0, 27, 16, 105]
abbrev dktX15_shared_0 : List UInt8 := dkwX15_shared_0 ++ dktX15_shared_1
theorem dksX15_shared_0 : cX15_shared.data.toList.drop 0 = dktX15_shared_0 := by decide +kernel
theorem dksX15_shared_1 : cX15_shared.data.toList.drop 22 = dktX15_shared_1 := dk_seg dksX15_shared_0 22 rfl rfl
theorem dksX15_shared_2 : cX15_shared.data.toList.drop 46 = dktX15_shared_2 := dk_seg dksX15_shared_1 24 rfl rfl
theorem dksX15_shared_3 : cX15_shared.data.toList.drop 70 = dktX15_shared_3 := dk_seg dksX15_shared_2 24 rfl rfl
theorem dksX15_shared_4 : cX15_shared.data.toList.drop 94 = dktX15_shared_4 := dk_seg dksX15_shared_3 24 rfl rfl
theorem dksX15_shared_5 : cX15_shared.data.toList.drop 116 = dktX15_shared_5 := dk_seg dksX15_shared_4 22 rfl rfl
theorem dksX15_shared_6 : cX15_shared.data.toList.drop 139 = dktX15_shared_6 := dk_seg dksX15_shared_5 23 rfl rfl
theorem dksX15_shared_7 : cX15_shared.data.toList.drop 162 = dktX15_shared_7 := dk_seg dksX15_shared_6 23 rfl rfl
theorem dX15_shared_0 : decode cX15_shared 0 = .ok (.aload_n 0, 1) := dk_42 (dk_at dksX15_shared_0 0 rfl rfl)
theorem dX15_shared_1 : decode cX15_shared 1 = .ok (.dup, 1) := dk_89 (dk_at dksX15_shared_0 1 rfl rfl)
theorem dX15_shared_2 : decode cX15_shared 2 = .ok (.getfield 19, 3) := dk_180 0 19 (dk_at dksX15_shared_0 2 rfl rfl)
theorem dX15_shared_5 : decode cX15_shared 5 = .ok (.iconst 1, 1) := dk_4 (dk_at dksX15_shared_0 5 rfl rfl)
theorem dX15_shared_6 : decode cX15_shared 6 = .ok (.iadd, 1) := dk_96 (dk_at dksX15_shared_0 6 rfl rfl)
theorem dX15_shared_7 : decode cX15_shared 7 = .ok (.putfield 19, 3) := dk_181 0 19 (dk_at dksX15_shared_0 7 rfl rfl)
theorem dX15_shared_10 : decode cX15_shared 10 = .ok (.iload_n 1, 1) := dk_27 (dk_at dksX15_shared_0 10 rfl rfl)
theorem dX15_shared_11 : decode cX15_shared 11 = .ok (.bipush 108, 2) := dk_16 108 (dk_at dksX15_shared_0 11 rfl rfl)
theorem dX15_shared_13 : decode cX15_shared 13 = .ok (.if_icmp .ne 30, 3) := dk_160 0 30 (dk_at dksX15_shared_0 13 rfl rfl)
theorem dX15_shared_16 : decode cX15_shared 16 = .ok (.aload_n 0, 1) := dk_42 (dk_at dksX15_shared_0 16 rfl rfl)
theorem dX15_shared_17 : decode cX15_shared 17 = .ok (.invokevirtual 27, 3) := dk_182 0 27 (dk_at dksX15_shared_0 17 rfl rfl)
theorem dX15_shared_20 : decode cX15_shared 20 = .ok (.bipush 105, 2) := dk_16 105 (dk_at dksX15_shared_0 20 rfl rfl)
theorem dX15_shared_22 : decode cX15_shared 22 = .ok (.if_icmp .ne 21, 3) := dk_160 0 21 (dk_at dksX15_shared_1 0 rfl rfl)
theorem dX15_shared_25 : decode cX15_shared 25 = .ok (.aload_n 0, 1) := dk_42 (dk_at dksX15_shared_1 3 rfl rfl)
theorem dX15_shared_26 : decode cX15_shared 26 = .ok (.ldc 95, 2) := dk_18 95 (dk_at dksX15_shared_1 4 rfl rfl)
theorem dX15_shared_28 : decode cX15_shared 28 = .ok (.invokevirtual 97, 3) := dk_182 0 97 (dk_at dksX15_shared_1 6 rfl rfl)
theorem dX15_shared_31 : decode cX15_shared 31 = .ok (.new 101, 3) := dk_187 0 101 (dk_at dksX15_shared_1 9 rfl rfl)
theorem dX15_shared_34 : decode cX15_shared 34 = .ok (.dup, 1) := dk_89 (dk_at dksX15_shared_1 12 rfl rfl)
theorem dX15_shared_35 : decode cX15_shared 35 = .ok (.aload_n 0, 1) := dk_42 (dk_at dksX15_shared_1 13 rfl rfl)
theorem dX15_shared_36 : decode cX15_shared 36 = .ok (.invokevirtual 66, 3) := dk_182 0 66 (dk_at dksX15_shared_1 14 rfl rfl)
theorem dX15_shared_39 : decode cX15_shared 39 = .ok (.invokespecial 103, 3) := dk_183 0 103 (dk_at dksX15_shared_1 17 rfl rfl)
theorem dX15_shared_42 : decode cX15_shared 42 = .ok (.areturn, 1) := dk_176 (dk_at dksX15_shared_1 20 rfl rfl)
theorem dX15_shared_43 : decode cX15_shared 43 = .ok (.iload_n 1, 1) := dk_27 (dk_at dksX15_shared_1 21 rfl rfl)
theorem dX15_shared_44 : decode cX15_shared 44 = .ok (.bipush 108, 2) := dk_16 108 (dk_at dksX15_shared_1 22 rfl rfl)
theorem dX15_shared_46 : decode cX15_shared 46 = .ok (.if_icmp .ne 67, 3) := dk_160 0 67 (dk_at dksX15_shared_2 0 rfl rfl)
theorem dX15_shared_49 : decode cX15_shared 49 = .ok (.aload_n 0, 1) := dk_42 (dk_at dksX15_shared_2 3 rfl rfl)
theorem dX15_shared_50 : decode cX15_shared 50 = .ok (.ldc 104, 2) := dk_18 104 (dk_at dksX15_shared_2 4 rfl rfl)
theorem dX15_shared_52 : decode cX15_shared 52 = .ok (.invokevirtual 97, 3) := dk_182 0 97 (dk_at dksX15_shared_2 6 rfl rfl)
theorem dX15_shared_55 : decode cX15_shared 55 = .ok (.aload_n 0, 1) := dk_42 (dk_at dksX15_shared_2 9 rfl rfl)
theorem dX15_shared_56 : decode cX15_shared 56 = .ok (.invokevirtual 27, 3) := dk_182 0 27 (dk_at dksX15_shared_2 10 rfl rfl)
theorem dX15_shared_59 : decode cX15_shared 59 = .ok (.bipush 48, 2) := dk_16 48 (dk_at dksX15_shared_2 13 rfl rfl)
theorem dX15_shared_61 : decode cX15_shared 61 = .ok (.bipush 53, 2) := dk_16 53 (dk_at dksX15_shared_2 15 rfl rfl)
theorem dX15_shared_63 : decode cX15_shared 63 = .ok (.invokestatic 47, 3) := dk_184 0 47 (dk_at dksX15_shared_2 17 rfl rfl)
theorem dX15_shared_66 : decode cX15_shared 66 = .ok (.ifCond .ne 8, 3) := dk_154 0 8 (dk_at dksX15_shared_2 20 rfl rfl)
theorem dX15_shared_69 : decode cX15_shared 69 = .ok (.aload_n 0, 1) := dk_42 (dk_at dksX15_shared_2 23 rfl rfl)
theorem dX15_shared_70 : decode cX15_shared 70 = .ok (.invokevirtual 31, 3) := dk_182 0 31 (dk_at dksX15_shared_3 0 rfl rfl)
theorem dX15_shared_73 : decode cX15_shared 73 = .ok (.athrow, 1) := dk_191 (dk_at dksX15_shared_3 3 rfl rfl)
theorem dX15_shared_74 : decode cX15_shared 74 = .ok (.aload_n 0, 1) := dk_42 (dk_at dksX15_shared_3 4 rfl rfl)
theorem dX15_shared_75 : decode cX15_shared 75 = .ok (.getfield 9, 3) := dk_180 0 9 (dk_at dksX15_shared_3 5 rfl rfl)
theorem dX15_shared_78 : decode cX15_shared 78 = .ok (.aload_n 0, 1) := dk_42 (dk_at dksX15_shared_3 8 rfl rfl)
theorem dX15_shared_79 : decode cX15_shared 79 = .ok (.dup, 1) := dk_89 (dk_at dksX15_shared_3 9 rfl rfl)
theorem dX15_shared_80 : decode cX15_shared 80 = .ok (.getfield 19, 3) := dk_180 0 19 (dk_at dksX15_shared_3 10 rfl rfl)
theorem dX15_shared_83 : decode cX15_shared 83 = .ok (.dup_x1, 1) := dk_90 (dk_at dksX15_shared_3 13 rfl rfl)
theorem dX15_shared_84 : decode cX15_shared 84 = .ok (.iconst 1, 1) := dk_4 (dk_at dksX15_shared_3 14 rfl rfl)
theorem dX15_shared_85 : decode cX15_shared 85 = .ok (.iadd, 1) := dk_96 (dk_at dksX15_shared_3 15 rfl rfl)
theorem dX15_shared_86 : decode cX15_shared 86 = .ok (.putfield 19, 3) := dk_181 0 19 (dk_at dksX15_shared_3 16 rfl rfl)
theorem dX15_shared_89 : decode cX15_shared 89 = .ok (.baload, 1) := dk_51 (dk_at dksX15_shared_3 19 rfl rfl)
theorem dX15_shared_90 : decode cX15_shared 90 = .ok (.bipush 48, 2) := dk_16 48 (dk_at dksX15_shared_3 20 rfl rfl)
theorem dX15_shared_92 : decode cX15_shared 92 = .ok (.isub, 1) := dk_100 (dk_at dksX15_shared_3 22 rfl rfl)
theorem dX15_shared_93 : decode cX15_shared 93 = .ok (.istore_n 2, 1) := dk_61 (dk_at dksX15_shared_3 23 rfl rfl)
theorem dX15_shared_94 : decode cX15_shared 94 = .ok (.aload_n 0, 1) := dk_42 (dk_at dksX15_shared_4 0 rfl rfl)
theorem dX15_shared_95 : decode cX15_shared 95 = .ok (.bipush 32, 2) := dk_16 32 (dk_at dksX15_shared_4 1 rfl rfl)
theorem dX15_shared_97 : decode cX15_shared 97 = .ok (.invokevirtual 44, 3) := dk_182 0 44 (dk_at dksX15_shared_4 3 rfl rfl)
theorem dX15_shared_100 : decode cX15_shared 100 = .ok (.new 106, 3) := dk_187 0 106 (dk_at dksX15_shared_4 6 rfl rfl)
theorem dX15_shared_103 : decode cX15_shared 103 = .ok (.dup, 1) := dk_89 (dk_at dksX15_shared_4 9 rfl rfl)
theorem dX15_shared_104 : decode cX15_shared 104 = .ok (.iload_n 2, 1) := dk_28 (dk_at dksX15_shared_4 10 rfl rfl)
theorem dX15_shared_105 : decode cX15_shared 105 = .ok (.aload_n 0, 1) := dk_42 (dk_at dksX15_shared_4 11 rfl rfl)
theorem dX15_shared_106 : decode cX15_shared 106 = .ok (.invokevirtual 71, 3) := dk_182 0 71 (dk_at dksX15_shared_4 12 rfl rfl)
theorem dX15_shared_109 : decode cX15_shared 109 = .ok (.invokespecial 108, 3) := dk_183 0 108 (dk_at dksX15_shared_4 15 rfl rfl)
theorem dX15_shared_112 : decode cX15_shared 112 = .ok (.areturn, 1) := dk_176 (dk_at dksX15_shared_4 18 rfl rfl)
theorem dX15_shared_113 : decode cX15_shared 113 = .ok (.aload_n 0, 1) := dk_42 (dk_at dksX15_shared_4 19 rfl rfl)
theorem dX15_shared_114 : decode cX15_shared 114 = .ok (.ldc 109, 2) := dk_18 109 (dk_at dksX15_shared_4 20 rfl rfl)
theorem dX15_shared_116 : decode cX15_shared 116 = .ok (.invokevirtual 97, 3) := dk_182 0 97 (dk_at dksX15_shared_5 0 rfl rfl)
theorem dX15_shared_119 : decode cX15_shared 119 = .ok (.aload_n 0, 1) := dk_42 (dk_at dksX15_shared_5 3 rfl rfl)
theorem dX15_shared_120 : decode cX15_shared 120 = .ok (.invokevirtual 27, 3) := dk_182 0 27 (dk_at dksX15_shared_5 4 rfl rfl)
theorem dX15_shared_123 : decode cX15_shared 123 = .ok (.bipush 97, 2) := dk_16 97 (dk_at dksX15_shared_5 7 rfl rfl)
theorem dX15_shared_125 : decode cX15_shared 125 = .ok (.if_icmp .ne 22, 3) := dk_160 0 22 (dk_at dksX15_shared_5 9 rfl rfl)
theorem dX15_shared_128 : decode cX15_shared 128 = .ok (.aload_n 0, 1) := dk_42 (dk_at dksX15_shared_5 12 rfl rfl)
theorem dX15_shared_129 : decode cX15_shared 129 = .ok (.ldc 111, 2) := dk_18 111 (dk_at dksX15_shared_5 13 rfl rfl)
theorem dX15_shared_131 : decode cX15_shared 131 = .ok (.invokevirtual 97, 3) := dk_182 0 97 (dk_at dksX15_shared_5 15 rfl rfl)
theorem dX15_shared_134 : decode cX15_shared 134 = .ok (.new 113, 3) := dk_187 0 113 (dk_at dksX15_shared_5 18 rfl rfl)
theorem dX15_shared_137 : decode cX15_shared 137 = .ok (.dup, 1) := dk_89 (dk_at dksX15_shared_5 21 rfl rfl)
theorem dX15_shared_138 : decode cX15_shared 138 = .ok (.aload_n 0, 1) := dk_42 (dk_at dksX15_shared_5 22 rfl rfl)
theorem dX15_shared_139 : decode cX15_shared 139 = .ok (.invokevirtual 71, 3) := dk_182 0 71 (dk_at dksX15_shared_6 0 rfl rfl)
theorem dX15_shared_142 : decode cX15_shared 142 = .ok (.iconst 1, 1) := dk_4 (dk_at dksX15_shared_6 3 rfl rfl)
theorem dX15_shared_143 : decode cX15_shared 143 = .ok (.invokespecial 115, 3) := dk_183 0 115 (dk_at dksX15_shared_6 4 rfl rfl)
theorem dX15_shared_146 : decode cX15_shared 146 = .ok (.areturn, 1) := dk_176 (dk_at dksX15_shared_6 7 rfl rfl)
theorem dX15_shared_147 : decode cX15_shared 147 = .ok (.aload_n 0, 1) := dk_42 (dk_at dksX15_shared_6 8 rfl rfl)
theorem dX15_shared_148 : decode cX15_shared 148 = .ok (.bipush 32, 2) := dk_16 32 (dk_at dksX15_shared_6 9 rfl rfl)
theorem dX15_shared_150 : decode cX15_shared 150 = .ok (.invokevirtual 44, 3) := dk_182 0 44 (dk_at dksX15_shared_6 11 rfl rfl)
theorem dX15_shared_153 : decode cX15_shared 153 = .ok (.new 118, 3) := dk_187 0 118 (dk_at dksX15_shared_6 14 rfl rfl)
theorem dX15_shared_156 : decode cX15_shared 156 = .ok (.dup, 1) := dk_89 (dk_at dksX15_shared_6 17 rfl rfl)
theorem dX15_shared_157 : decode cX15_shared 157 = .ok (.aload_n 0, 1) := dk_42 (dk_at dksX15_shared_6 18 rfl rfl)
theorem dX15_shared_158 : decode cX15_shared 158 = .ok (.invokevirtual 71, 3) := dk_182 0 71 (dk_at dksX15_shared_6 19 rfl rfl)
theorem dX15_shared_161 : decode cX15_shared 161 = .ok (.iconst 1, 1) := dk_4 (dk_at dksX15_shared_6 22 rfl rfl)
theorem dX15_shared_162 : decode cX15_shared 162 = .ok (.invokespecial 120, 3) := dk_183 0 120 (dk_at dksX15_shared_7 0 rfl rfl)
theorem dX15_shared_165 : decode cX15_shared 165 = .ok (.areturn, 1) := dk_176 (dk_at dksX15_shared_7 3 rfl rfl)
abbrev cX15_some : ByteArray := prog_21_method_10_code
def yX15_some : MethodName := ⟨RX15, "some", "()LBarredBooks$Test;"⟩
def dkwX15_some_2 : List UInt8 := [182, 0, 92, 182, 0, 86, 87, 167, 255, 225, 43, 176]
abbrev dktX15_some_2 : List UInt8 := dkwX15_some_2 ++ []
def dkwX15_some_1 : List UInt8 := [182, 0, 27, 16, 124, 160, 0, 28, 42, 89, 180, 0, 19, 4, 96, 181, 0, 19, 43, 180, 0, 82, 42]
abbrev dktX15_some_1 : List UInt8 := dkwX15_some_1 ++ dktX15_some_2
def dkwX15_some_0 : List UInt8 := [187, 0, 77, 89, 3, 183, 0, 79, 76, 43, 180, 0, 82, 42, 182, 0, 92, 182, 0, 86, 87, 42]
abbrev dktX15_some_0 : List UInt8 := dkwX15_some_0 ++ dktX15_some_1
theorem dksX15_some_0 : cX15_some.data.toList.drop 0 = dktX15_some_0 := by decide +kernel
theorem dksX15_some_1 : cX15_some.data.toList.drop 22 = dktX15_some_1 := dk_seg dksX15_some_0 22 rfl rfl
theorem dksX15_some_2 : cX15_some.data.toList.drop 45 = dktX15_some_2 := dk_seg dksX15_some_1 23 rfl rfl
theorem dX15_some_0 : decode cX15_some 0 = .ok (.new 77, 3) := dk_187 0 77 (dk_at dksX15_some_0 0 rfl rfl)
theorem dX15_some_3 : decode cX15_some 3 = .ok (.dup, 1) := dk_89 (dk_at dksX15_some_0 3 rfl rfl)
theorem dX15_some_4 : decode cX15_some 4 = .ok (.iconst 0, 1) := dk_3 (dk_at dksX15_some_0 4 rfl rfl)
theorem dX15_some_5 : decode cX15_some 5 = .ok (.invokespecial 79, 3) := dk_183 0 79 (dk_at dksX15_some_0 5 rfl rfl)
theorem dX15_some_8 : decode cX15_some 8 = .ok (.astore_n 1, 1) := dk_76 (dk_at dksX15_some_0 8 rfl rfl)
theorem dX15_some_9 : decode cX15_some 9 = .ok (.aload_n 1, 1) := dk_43 (dk_at dksX15_some_0 9 rfl rfl)
theorem dX15_some_10 : decode cX15_some 10 = .ok (.getfield 82, 3) := dk_180 0 82 (dk_at dksX15_some_0 10 rfl rfl)
theorem dX15_some_13 : decode cX15_some 13 = .ok (.aload_n 0, 1) := dk_42 (dk_at dksX15_some_0 13 rfl rfl)
theorem dX15_some_14 : decode cX15_some 14 = .ok (.invokevirtual 92, 3) := dk_182 0 92 (dk_at dksX15_some_0 14 rfl rfl)
theorem dX15_some_17 : decode cX15_some 17 = .ok (.invokevirtual 86, 3) := dk_182 0 86 (dk_at dksX15_some_0 17 rfl rfl)
theorem dX15_some_20 : decode cX15_some 20 = .ok (.pop, 1) := dk_87 (dk_at dksX15_some_0 20 rfl rfl)
theorem dX15_some_21 : decode cX15_some 21 = .ok (.aload_n 0, 1) := dk_42 (dk_at dksX15_some_0 21 rfl rfl)
theorem dX15_some_22 : decode cX15_some 22 = .ok (.invokevirtual 27, 3) := dk_182 0 27 (dk_at dksX15_some_1 0 rfl rfl)
theorem dX15_some_25 : decode cX15_some 25 = .ok (.bipush 124, 2) := dk_16 124 (dk_at dksX15_some_1 3 rfl rfl)
theorem dX15_some_27 : decode cX15_some 27 = .ok (.if_icmp .ne 28, 3) := dk_160 0 28 (dk_at dksX15_some_1 5 rfl rfl)
theorem dX15_some_30 : decode cX15_some 30 = .ok (.aload_n 0, 1) := dk_42 (dk_at dksX15_some_1 8 rfl rfl)
theorem dX15_some_31 : decode cX15_some 31 = .ok (.dup, 1) := dk_89 (dk_at dksX15_some_1 9 rfl rfl)
theorem dX15_some_32 : decode cX15_some 32 = .ok (.getfield 19, 3) := dk_180 0 19 (dk_at dksX15_some_1 10 rfl rfl)
theorem dX15_some_35 : decode cX15_some 35 = .ok (.iconst 1, 1) := dk_4 (dk_at dksX15_some_1 13 rfl rfl)
theorem dX15_some_36 : decode cX15_some 36 = .ok (.iadd, 1) := dk_96 (dk_at dksX15_some_1 14 rfl rfl)
theorem dX15_some_37 : decode cX15_some 37 = .ok (.putfield 19, 3) := dk_181 0 19 (dk_at dksX15_some_1 15 rfl rfl)
theorem dX15_some_40 : decode cX15_some 40 = .ok (.aload_n 1, 1) := dk_43 (dk_at dksX15_some_1 18 rfl rfl)
theorem dX15_some_41 : decode cX15_some 41 = .ok (.getfield 82, 3) := dk_180 0 82 (dk_at dksX15_some_1 19 rfl rfl)
theorem dX15_some_44 : decode cX15_some 44 = .ok (.aload_n 0, 1) := dk_42 (dk_at dksX15_some_1 22 rfl rfl)
theorem dX15_some_45 : decode cX15_some 45 = .ok (.invokevirtual 92, 3) := dk_182 0 92 (dk_at dksX15_some_2 0 rfl rfl)
theorem dX15_some_48 : decode cX15_some 48 = .ok (.invokevirtual 86, 3) := dk_182 0 86 (dk_at dksX15_some_2 3 rfl rfl)
theorem dX15_some_51 : decode cX15_some 51 = .ok (.pop, 1) := dk_87 (dk_at dksX15_some_2 6 rfl rfl)
theorem dX15_some_52 : decode cX15_some 52 = .ok (.goto (-31), 3) := dk_167 255 225 (dk_at dksX15_some_2 7 rfl rfl)
theorem dX15_some_55 : decode cX15_some 55 = .ok (.aload_n 1, 1) := dk_43 (dk_at dksX15_some_2 10 rfl rfl)
theorem dX15_some_56 : decode cX15_some 56 = .ok (.areturn, 1) := dk_176 (dk_at dksX15_some_2 11 rfl rfl)
abbrev cX15_all : ByteArray := prog_21_method_9_code
def yX15_all : MethodName := ⟨RX15, "all", "()LBarredBooks$Test;"⟩
def dkwX15_all_2 : List UInt8 := [182, 0, 59, 182, 0, 86, 87, 167, 255, 225, 43, 176]
abbrev dktX15_all_2 : List UInt8 := dkwX15_all_2 ++ []
def dkwX15_all_1 : List UInt8 := [182, 0, 27, 16, 38, 160, 0, 28, 42, 89, 180, 0, 19, 4, 96, 181, 0, 19, 43, 180, 0, 82, 42]
abbrev dktX15_all_1 : List UInt8 := dkwX15_all_1 ++ dktX15_all_2
def dkwX15_all_0 : List UInt8 := [187, 0, 77, 89, 4, 183, 0, 79, 76, 43, 180, 0, 82, 42, 182, 0, 59, 182, 0, 86, 87, 42]
abbrev dktX15_all_0 : List UInt8 := dkwX15_all_0 ++ dktX15_all_1
theorem dksX15_all_0 : cX15_all.data.toList.drop 0 = dktX15_all_0 := by decide +kernel
theorem dksX15_all_1 : cX15_all.data.toList.drop 22 = dktX15_all_1 := dk_seg dksX15_all_0 22 rfl rfl
theorem dksX15_all_2 : cX15_all.data.toList.drop 45 = dktX15_all_2 := dk_seg dksX15_all_1 23 rfl rfl
theorem dX15_all_0 : decode cX15_all 0 = .ok (.new 77, 3) := dk_187 0 77 (dk_at dksX15_all_0 0 rfl rfl)
theorem dX15_all_3 : decode cX15_all 3 = .ok (.dup, 1) := dk_89 (dk_at dksX15_all_0 3 rfl rfl)
theorem dX15_all_4 : decode cX15_all 4 = .ok (.iconst 1, 1) := dk_4 (dk_at dksX15_all_0 4 rfl rfl)
theorem dX15_all_5 : decode cX15_all 5 = .ok (.invokespecial 79, 3) := dk_183 0 79 (dk_at dksX15_all_0 5 rfl rfl)
theorem dX15_all_8 : decode cX15_all 8 = .ok (.astore_n 1, 1) := dk_76 (dk_at dksX15_all_0 8 rfl rfl)
theorem dX15_all_9 : decode cX15_all 9 = .ok (.aload_n 1, 1) := dk_43 (dk_at dksX15_all_0 9 rfl rfl)
theorem dX15_all_10 : decode cX15_all 10 = .ok (.getfield 82, 3) := dk_180 0 82 (dk_at dksX15_all_0 10 rfl rfl)
theorem dX15_all_13 : decode cX15_all 13 = .ok (.aload_n 0, 1) := dk_42 (dk_at dksX15_all_0 13 rfl rfl)
theorem dX15_all_14 : decode cX15_all 14 = .ok (.invokevirtual 59, 3) := dk_182 0 59 (dk_at dksX15_all_0 14 rfl rfl)
theorem dX15_all_17 : decode cX15_all 17 = .ok (.invokevirtual 86, 3) := dk_182 0 86 (dk_at dksX15_all_0 17 rfl rfl)
theorem dX15_all_20 : decode cX15_all 20 = .ok (.pop, 1) := dk_87 (dk_at dksX15_all_0 20 rfl rfl)
theorem dX15_all_21 : decode cX15_all 21 = .ok (.aload_n 0, 1) := dk_42 (dk_at dksX15_all_0 21 rfl rfl)
theorem dX15_all_22 : decode cX15_all 22 = .ok (.invokevirtual 27, 3) := dk_182 0 27 (dk_at dksX15_all_1 0 rfl rfl)
theorem dX15_all_25 : decode cX15_all 25 = .ok (.bipush 38, 2) := dk_16 38 (dk_at dksX15_all_1 3 rfl rfl)
theorem dX15_all_27 : decode cX15_all 27 = .ok (.if_icmp .ne 28, 3) := dk_160 0 28 (dk_at dksX15_all_1 5 rfl rfl)
theorem dX15_all_30 : decode cX15_all 30 = .ok (.aload_n 0, 1) := dk_42 (dk_at dksX15_all_1 8 rfl rfl)
theorem dX15_all_31 : decode cX15_all 31 = .ok (.dup, 1) := dk_89 (dk_at dksX15_all_1 9 rfl rfl)
theorem dX15_all_32 : decode cX15_all 32 = .ok (.getfield 19, 3) := dk_180 0 19 (dk_at dksX15_all_1 10 rfl rfl)
theorem dX15_all_35 : decode cX15_all 35 = .ok (.iconst 1, 1) := dk_4 (dk_at dksX15_all_1 13 rfl rfl)
theorem dX15_all_36 : decode cX15_all 36 = .ok (.iadd, 1) := dk_96 (dk_at dksX15_all_1 14 rfl rfl)
theorem dX15_all_37 : decode cX15_all 37 = .ok (.putfield 19, 3) := dk_181 0 19 (dk_at dksX15_all_1 15 rfl rfl)
theorem dX15_all_40 : decode cX15_all 40 = .ok (.aload_n 1, 1) := dk_43 (dk_at dksX15_all_1 18 rfl rfl)
theorem dX15_all_41 : decode cX15_all 41 = .ok (.getfield 82, 3) := dk_180 0 82 (dk_at dksX15_all_1 19 rfl rfl)
theorem dX15_all_44 : decode cX15_all 44 = .ok (.aload_n 0, 1) := dk_42 (dk_at dksX15_all_1 22 rfl rfl)
theorem dX15_all_45 : decode cX15_all 45 = .ok (.invokevirtual 59, 3) := dk_182 0 59 (dk_at dksX15_all_2 0 rfl rfl)
theorem dX15_all_48 : decode cX15_all 48 = .ok (.invokevirtual 86, 3) := dk_182 0 86 (dk_at dksX15_all_2 3 rfl rfl)
theorem dX15_all_51 : decode cX15_all 51 = .ok (.pop, 1) := dk_87 (dk_at dksX15_all_2 6 rfl rfl)
theorem dX15_all_52 : decode cX15_all 52 = .ok (.goto (-31), 3) := dk_167 255 225 (dk_at dksX15_all_2 7 rfl rfl)
theorem dX15_all_55 : decode cX15_all 55 = .ok (.aload_n 1, 1) := dk_43 (dk_at dksX15_all_2 10 rfl rfl)
theorem dX15_all_56 : decode cX15_all 56 = .ok (.areturn, 1) := dk_176 (dk_at dksX15_all_2 11 rfl rfl)
abbrev cX15_factor : ByteArray := prog_21_method_8_code
def yX15_factor : MethodName := ⟨RX15, "factor", "()LBarredBooks$Test;"⟩
def dkwX15_factor_5 : List UInt8 := [181, 0, 19, 51, 60, 187, 0, 69, 89, 27, 42, 182, 0, 71, 183, 0, 74, 176, 42, 182, 0, 31, 191]
abbrev dktX15_factor_5 : List UInt8 := dkwX15_factor_5 ++ []
def dkwX15_factor_4 : List UInt8 := [180, 0, 51, 4, 100, 181, 0, 51, 43, 176, 42, 180, 0, 9, 42, 89, 180, 0, 19, 90, 4, 96]
abbrev dktX15_factor_4 : List UInt8 := dkwX15_factor_4 ++ dktX15_factor_5
def dkwX15_factor_3 : List UInt8 := [181, 0, 51, 43, 176, 42, 182, 0, 54, 42, 182, 0, 66, 76, 42, 16, 41, 182, 0, 44, 42, 89]
abbrev dktX15_factor_3 : List UInt8 := dkwX15_factor_3 ++ dktX15_factor_4
def dkwX15_factor_2 : List UInt8 := [42, 182, 0, 54, 187, 0, 57, 89, 42, 182, 0, 59, 183, 0, 63, 76, 42, 89, 180, 0, 51, 4, 100]
abbrev dktX15_factor_2 : List UInt8 := dkwX15_factor_2 ++ dktX15_factor_3
def dkwX15_factor_1 : List UInt8 := [171, 0, 0, 0, 0, 0, 0, 153, 0, 0, 0, 7, 0, 0, 0, 33, 0, 0, 0, 68, 0, 0, 0, 40, 0, 0, 0, 96, 0, 0, 0, 97, 0, 0, 0, 123, 0, 0, 0, 98, 0, 0, 0, 123, 0, 0, 0, 99, 0, 0, 0, 123, 0, 0, 0, 119, 0, 0, 0, 123, 0, 0, 0, 121, 0, 0, 0, 123]
abbrev dktX15_factor_1 : List UInt8 := dkwX15_factor_1 ++ dktX15_factor_2
def dkwX15_factor_0 : List UInt8 := [42, 182, 0, 27]
abbrev dktX15_factor_0 : List UInt8 := dkwX15_factor_0 ++ dktX15_factor_1
theorem dksX15_factor_0 : cX15_factor.data.toList.drop 0 = dktX15_factor_0 := by decide +kernel
theorem dksX15_factor_1 : cX15_factor.data.toList.drop 4 = dktX15_factor_1 := dk_seg dksX15_factor_0 4 rfl rfl
theorem dksX15_factor_2 : cX15_factor.data.toList.drop 72 = dktX15_factor_2 := dk_seg dksX15_factor_1 68 rfl rfl
theorem dksX15_factor_3 : cX15_factor.data.toList.drop 95 = dktX15_factor_3 := dk_seg dksX15_factor_2 23 rfl rfl
theorem dksX15_factor_4 : cX15_factor.data.toList.drop 117 = dktX15_factor_4 := dk_seg dksX15_factor_3 22 rfl rfl
theorem dksX15_factor_5 : cX15_factor.data.toList.drop 139 = dktX15_factor_5 := dk_seg dksX15_factor_4 22 rfl rfl
theorem dX15_factor_0 : decode cX15_factor 0 = .ok (.aload_n 0, 1) := dk_42 (dk_at dksX15_factor_0 0 rfl rfl)
theorem dX15_factor_1 : decode cX15_factor 1 = .ok (.invokevirtual 27, 3) := dk_182 0 27 (dk_at dksX15_factor_0 1 rfl rfl)
theorem dX15_factor_4 : decode cX15_factor 4 = .ok (.lookupswitch 153 #[(33, 68), (40, 96), (97, 123), (98, 123), (99, 123), (119, 123), (121, 123)], 68) := by decide +kernel
theorem dX15_factor_72 : decode cX15_factor 72 = .ok (.aload_n 0, 1) := dk_42 (dk_at dksX15_factor_2 0 rfl rfl)
theorem dX15_factor_73 : decode cX15_factor 73 = .ok (.invokevirtual 54, 3) := dk_182 0 54 (dk_at dksX15_factor_2 1 rfl rfl)
theorem dX15_factor_76 : decode cX15_factor 76 = .ok (.new 57, 3) := dk_187 0 57 (dk_at dksX15_factor_2 4 rfl rfl)
theorem dX15_factor_79 : decode cX15_factor 79 = .ok (.dup, 1) := dk_89 (dk_at dksX15_factor_2 7 rfl rfl)
theorem dX15_factor_80 : decode cX15_factor 80 = .ok (.aload_n 0, 1) := dk_42 (dk_at dksX15_factor_2 8 rfl rfl)
theorem dX15_factor_81 : decode cX15_factor 81 = .ok (.invokevirtual 59, 3) := dk_182 0 59 (dk_at dksX15_factor_2 9 rfl rfl)
theorem dX15_factor_84 : decode cX15_factor 84 = .ok (.invokespecial 63, 3) := dk_183 0 63 (dk_at dksX15_factor_2 12 rfl rfl)
theorem dX15_factor_87 : decode cX15_factor 87 = .ok (.astore_n 1, 1) := dk_76 (dk_at dksX15_factor_2 15 rfl rfl)
theorem dX15_factor_88 : decode cX15_factor 88 = .ok (.aload_n 0, 1) := dk_42 (dk_at dksX15_factor_2 16 rfl rfl)
theorem dX15_factor_89 : decode cX15_factor 89 = .ok (.dup, 1) := dk_89 (dk_at dksX15_factor_2 17 rfl rfl)
theorem dX15_factor_90 : decode cX15_factor 90 = .ok (.getfield 51, 3) := dk_180 0 51 (dk_at dksX15_factor_2 18 rfl rfl)
theorem dX15_factor_93 : decode cX15_factor 93 = .ok (.iconst 1, 1) := dk_4 (dk_at dksX15_factor_2 21 rfl rfl)
theorem dX15_factor_94 : decode cX15_factor 94 = .ok (.isub, 1) := dk_100 (dk_at dksX15_factor_2 22 rfl rfl)
theorem dX15_factor_95 : decode cX15_factor 95 = .ok (.putfield 51, 3) := dk_181 0 51 (dk_at dksX15_factor_3 0 rfl rfl)
theorem dX15_factor_98 : decode cX15_factor 98 = .ok (.aload_n 1, 1) := dk_43 (dk_at dksX15_factor_3 3 rfl rfl)
theorem dX15_factor_99 : decode cX15_factor 99 = .ok (.areturn, 1) := dk_176 (dk_at dksX15_factor_3 4 rfl rfl)
theorem dX15_factor_100 : decode cX15_factor 100 = .ok (.aload_n 0, 1) := dk_42 (dk_at dksX15_factor_3 5 rfl rfl)
theorem dX15_factor_101 : decode cX15_factor 101 = .ok (.invokevirtual 54, 3) := dk_182 0 54 (dk_at dksX15_factor_3 6 rfl rfl)
theorem dX15_factor_104 : decode cX15_factor 104 = .ok (.aload_n 0, 1) := dk_42 (dk_at dksX15_factor_3 9 rfl rfl)
theorem dX15_factor_105 : decode cX15_factor 105 = .ok (.invokevirtual 66, 3) := dk_182 0 66 (dk_at dksX15_factor_3 10 rfl rfl)
theorem dX15_factor_108 : decode cX15_factor 108 = .ok (.astore_n 1, 1) := dk_76 (dk_at dksX15_factor_3 13 rfl rfl)
theorem dX15_factor_109 : decode cX15_factor 109 = .ok (.aload_n 0, 1) := dk_42 (dk_at dksX15_factor_3 14 rfl rfl)
theorem dX15_factor_110 : decode cX15_factor 110 = .ok (.bipush 41, 2) := dk_16 41 (dk_at dksX15_factor_3 15 rfl rfl)
theorem dX15_factor_112 : decode cX15_factor 112 = .ok (.invokevirtual 44, 3) := dk_182 0 44 (dk_at dksX15_factor_3 17 rfl rfl)
theorem dX15_factor_115 : decode cX15_factor 115 = .ok (.aload_n 0, 1) := dk_42 (dk_at dksX15_factor_3 20 rfl rfl)
theorem dX15_factor_116 : decode cX15_factor 116 = .ok (.dup, 1) := dk_89 (dk_at dksX15_factor_3 21 rfl rfl)
theorem dX15_factor_117 : decode cX15_factor 117 = .ok (.getfield 51, 3) := dk_180 0 51 (dk_at dksX15_factor_4 0 rfl rfl)
theorem dX15_factor_120 : decode cX15_factor 120 = .ok (.iconst 1, 1) := dk_4 (dk_at dksX15_factor_4 3 rfl rfl)
theorem dX15_factor_121 : decode cX15_factor 121 = .ok (.isub, 1) := dk_100 (dk_at dksX15_factor_4 4 rfl rfl)
theorem dX15_factor_122 : decode cX15_factor 122 = .ok (.putfield 51, 3) := dk_181 0 51 (dk_at dksX15_factor_4 5 rfl rfl)
theorem dX15_factor_125 : decode cX15_factor 125 = .ok (.aload_n 1, 1) := dk_43 (dk_at dksX15_factor_4 8 rfl rfl)
theorem dX15_factor_126 : decode cX15_factor 126 = .ok (.areturn, 1) := dk_176 (dk_at dksX15_factor_4 9 rfl rfl)
theorem dX15_factor_127 : decode cX15_factor 127 = .ok (.aload_n 0, 1) := dk_42 (dk_at dksX15_factor_4 10 rfl rfl)
theorem dX15_factor_128 : decode cX15_factor 128 = .ok (.getfield 9, 3) := dk_180 0 9 (dk_at dksX15_factor_4 11 rfl rfl)
theorem dX15_factor_131 : decode cX15_factor 131 = .ok (.aload_n 0, 1) := dk_42 (dk_at dksX15_factor_4 14 rfl rfl)
theorem dX15_factor_132 : decode cX15_factor 132 = .ok (.dup, 1) := dk_89 (dk_at dksX15_factor_4 15 rfl rfl)
theorem dX15_factor_133 : decode cX15_factor 133 = .ok (.getfield 19, 3) := dk_180 0 19 (dk_at dksX15_factor_4 16 rfl rfl)
theorem dX15_factor_136 : decode cX15_factor 136 = .ok (.dup_x1, 1) := dk_90 (dk_at dksX15_factor_4 19 rfl rfl)
theorem dX15_factor_137 : decode cX15_factor 137 = .ok (.iconst 1, 1) := dk_4 (dk_at dksX15_factor_4 20 rfl rfl)
theorem dX15_factor_138 : decode cX15_factor 138 = .ok (.iadd, 1) := dk_96 (dk_at dksX15_factor_4 21 rfl rfl)
theorem dX15_factor_139 : decode cX15_factor 139 = .ok (.putfield 19, 3) := dk_181 0 19 (dk_at dksX15_factor_5 0 rfl rfl)
theorem dX15_factor_142 : decode cX15_factor 142 = .ok (.baload, 1) := dk_51 (dk_at dksX15_factor_5 3 rfl rfl)
theorem dX15_factor_143 : decode cX15_factor 143 = .ok (.istore_n 1, 1) := dk_60 (dk_at dksX15_factor_5 4 rfl rfl)
theorem dX15_factor_144 : decode cX15_factor 144 = .ok (.new 69, 3) := dk_187 0 69 (dk_at dksX15_factor_5 5 rfl rfl)
theorem dX15_factor_147 : decode cX15_factor 147 = .ok (.dup, 1) := dk_89 (dk_at dksX15_factor_5 8 rfl rfl)
theorem dX15_factor_148 : decode cX15_factor 148 = .ok (.iload_n 1, 1) := dk_27 (dk_at dksX15_factor_5 9 rfl rfl)
theorem dX15_factor_149 : decode cX15_factor 149 = .ok (.aload_n 0, 1) := dk_42 (dk_at dksX15_factor_5 10 rfl rfl)
theorem dX15_factor_150 : decode cX15_factor 150 = .ok (.invokevirtual 71, 3) := dk_182 0 71 (dk_at dksX15_factor_5 11 rfl rfl)
theorem dX15_factor_153 : decode cX15_factor 153 = .ok (.invokespecial 74, 3) := dk_183 0 74 (dk_at dksX15_factor_5 14 rfl rfl)
theorem dX15_factor_156 : decode cX15_factor 156 = .ok (.areturn, 1) := dk_176 (dk_at dksX15_factor_5 17 rfl rfl)
theorem dX15_factor_157 : decode cX15_factor 157 = .ok (.aload_n 0, 1) := dk_42 (dk_at dksX15_factor_5 18 rfl rfl)
theorem dX15_factor_158 : decode cX15_factor 158 = .ok (.invokevirtual 31, 3) := dk_182 0 31 (dk_at dksX15_factor_5 19 rfl rfl)
theorem dX15_factor_161 : decode cX15_factor 161 = .ok (.athrow, 1) := dk_191 (dk_at dksX15_factor_5 22 rfl rfl)
abbrev cX15_deeper : ByteArray := prog_21_method_7_code
def yX15_deeper : MethodName := ⟨RX15, "deeper", "()V"⟩
def dkwX15_deeper_1 : List UInt8 := [89, 180, 0, 19, 4, 96, 181, 0, 19, 177]
abbrev dktX15_deeper_1 : List UInt8 := dkwX15_deeper_1 ++ []
def dkwX15_deeper_0 : List UInt8 := [42, 180, 0, 51, 8, 160, 0, 8, 42, 182, 0, 31, 191, 42, 89, 180, 0, 51, 4, 96, 181, 0, 51, 42]
abbrev dktX15_deeper_0 : List UInt8 := dkwX15_deeper_0 ++ dktX15_deeper_1
theorem dksX15_deeper_0 : cX15_deeper.data.toList.drop 0 = dktX15_deeper_0 := by decide +kernel
theorem dksX15_deeper_1 : cX15_deeper.data.toList.drop 24 = dktX15_deeper_1 := dk_seg dksX15_deeper_0 24 rfl rfl
theorem dX15_deeper_0 : decode cX15_deeper 0 = .ok (.aload_n 0, 1) := dk_42 (dk_at dksX15_deeper_0 0 rfl rfl)
theorem dX15_deeper_1 : decode cX15_deeper 1 = .ok (.getfield 51, 3) := dk_180 0 51 (dk_at dksX15_deeper_0 1 rfl rfl)
theorem dX15_deeper_4 : decode cX15_deeper 4 = .ok (.iconst 5, 1) := dk_8 (dk_at dksX15_deeper_0 4 rfl rfl)
theorem dX15_deeper_5 : decode cX15_deeper 5 = .ok (.if_icmp .ne 8, 3) := dk_160 0 8 (dk_at dksX15_deeper_0 5 rfl rfl)
theorem dX15_deeper_8 : decode cX15_deeper 8 = .ok (.aload_n 0, 1) := dk_42 (dk_at dksX15_deeper_0 8 rfl rfl)
theorem dX15_deeper_9 : decode cX15_deeper 9 = .ok (.invokevirtual 31, 3) := dk_182 0 31 (dk_at dksX15_deeper_0 9 rfl rfl)
theorem dX15_deeper_12 : decode cX15_deeper 12 = .ok (.athrow, 1) := dk_191 (dk_at dksX15_deeper_0 12 rfl rfl)
theorem dX15_deeper_13 : decode cX15_deeper 13 = .ok (.aload_n 0, 1) := dk_42 (dk_at dksX15_deeper_0 13 rfl rfl)
theorem dX15_deeper_14 : decode cX15_deeper 14 = .ok (.dup, 1) := dk_89 (dk_at dksX15_deeper_0 14 rfl rfl)
theorem dX15_deeper_15 : decode cX15_deeper 15 = .ok (.getfield 51, 3) := dk_180 0 51 (dk_at dksX15_deeper_0 15 rfl rfl)
theorem dX15_deeper_18 : decode cX15_deeper 18 = .ok (.iconst 1, 1) := dk_4 (dk_at dksX15_deeper_0 18 rfl rfl)
theorem dX15_deeper_19 : decode cX15_deeper 19 = .ok (.iadd, 1) := dk_96 (dk_at dksX15_deeper_0 19 rfl rfl)
theorem dX15_deeper_20 : decode cX15_deeper 20 = .ok (.putfield 51, 3) := dk_181 0 51 (dk_at dksX15_deeper_0 20 rfl rfl)
theorem dX15_deeper_23 : decode cX15_deeper 23 = .ok (.aload_n 0, 1) := dk_42 (dk_at dksX15_deeper_0 23 rfl rfl)
theorem dX15_deeper_24 : decode cX15_deeper 24 = .ok (.dup, 1) := dk_89 (dk_at dksX15_deeper_1 0 rfl rfl)
theorem dX15_deeper_25 : decode cX15_deeper 25 = .ok (.getfield 19, 3) := dk_180 0 19 (dk_at dksX15_deeper_1 1 rfl rfl)
theorem dX15_deeper_28 : decode cX15_deeper 28 = .ok (.iconst 1, 1) := dk_4 (dk_at dksX15_deeper_1 4 rfl rfl)
theorem dX15_deeper_29 : decode cX15_deeper 29 = .ok (.iadd, 1) := dk_96 (dk_at dksX15_deeper_1 5 rfl rfl)
theorem dX15_deeper_30 : decode cX15_deeper 30 = .ok (.putfield 19, 3) := dk_181 0 19 (dk_at dksX15_deeper_1 6 rfl rfl)
theorem dX15_deeper_33 : decode cX15_deeper 33 = .ok (.return_, 1) := dk_177 (dk_at dksX15_deeper_1 9 rfl rfl)
theorem q122 : (Jvm.Cond.initialized "BarredBooks$Reader") ∈ lw_all := lw_g (lw_at lw_m1 23 rfl) rfl
theorem q847 : (Jvm.Cond.instantiable "BarredBooks$Reader" (4 : Nat)) ∈ lw_all := lw_g (lw_at lw_m4 28 rfl) rfl
theorem q849 : (Jvm.Cond.instanceMethod ({ cls := "BarredBooks$Reader", name := "<init>", desc := "([BI)V" } : Jvm.MethodName)) ∈ lw_all := lw_g (lw_at lw_m4 30 rfl) rfl
theorem q850 : (Jvm.Cond.code ({ cls := "BarredBooks$Reader", name := "<init>", desc := "([BI)V" } : Jvm.MethodName) prog_21_method_1_code (3 : Nat) (Option.none : Option Jvm.ClassFile.FieldType)) ∈ lw_all := lw_g (lw_at lw_m4 31 rfl) rfl
theorem q851 : (Jvm.Cond.methodLink "BarredBooks$Reader" (3 : Nat) ({ cls := "java/lang/Object", name := "<init>", desc := "()V" } : Jvm.MethodName)) ∈ lw_all := lw_g (lw_at lw_m4 32 rfl) rfl
theorem q852 : (Jvm.Cond.fieldLink "BarredBooks$Reader" (9 : Nat) "BarredBooks$Reader" "text" "[B") ∈ lw_all := lw_g (lw_at lw_m4 33 rfl) rfl
theorem q853 : (Jvm.Cond.fieldLink "BarredBooks$Reader" (15 : Nat) "BarredBooks$Reader" "size" "I") ∈ lw_all := lw_g (lw_at lw_m4 34 rfl) rfl
theorem q854 : (Jvm.Cond.fieldLink "BarredBooks$Reader" (19 : Nat) "BarredBooks$Reader" "at" "I") ∈ lw_all := lw_g (lw_at lw_m4 35 rfl) rfl
theorem q855 : (Jvm.Cond.fieldLink "BarredBooks$Reader" (51 : Nat) "BarredBooks$Reader" "deep" "I") ∈ lw_all := lw_g (lw_at lw_m4 36 rfl) rfl
theorem q856 : (Jvm.Cond.laysFinal "BarredBooks$Reader" "BarredBooks$Reader" "text" "[B") ∈ lw_all := lw_g (lw_at lw_m4 37 rfl) rfl
theorem q857 : (Jvm.Cond.soleField "BarredBooks$Reader" "text") ∈ lw_all := lw_g (lw_at lw_m4 38 rfl) rfl
theorem q858 : (Jvm.Cond.laysFinal "BarredBooks$Reader" "BarredBooks$Reader" "size" "I") ∈ lw_all := lw_g (lw_at lw_m4 39 rfl) rfl
theorem q859 : (Jvm.Cond.soleField "BarredBooks$Reader" "size") ∈ lw_all := lw_g (lw_at lw_m4 40 rfl) rfl
theorem q860 : (Jvm.Cond.lays "BarredBooks$Reader" "BarredBooks$Reader" "at" "I") ∈ lw_all := lw_g (lw_at lw_m4 41 rfl) rfl
theorem q861 : (Jvm.Cond.soleField "BarredBooks$Reader" "at") ∈ lw_all := lw_g (lw_at lw_m4 42 rfl) rfl
theorem q862 : (Jvm.Cond.lays "BarredBooks$Reader" "BarredBooks$Reader" "deep" "I") ∈ lw_all := lw_g (lw_at lw_m4 43 rfl) rfl
theorem q863 : (Jvm.Cond.soleField "BarredBooks$Reader" "deep") ∈ lw_all := lw_g (lw_at lw_m4 44 rfl) rfl
theorem q864 : (Jvm.Cond.superclass "BarredBooks$Reader" "java/lang/Object") ∈ lw_all := lw_g (lw_at lw_m4 45 rfl) rfl
theorem q866 : (Jvm.Cond.instanceMethod ({ cls := "BarredBooks$Reader", name := "decree", desc := "()LBarredBooks$Decree;" } : Jvm.MethodName)) ∈ lw_all := lw_g (lw_at lw_m4 47 rfl) rfl
theorem q867 : (Jvm.Cond.selects "BarredBooks$Reader" ({ cls := "BarredBooks$Reader", name := "decree", desc := "()LBarredBooks$Decree;" } : Jvm.MethodName) ({ cls := "BarredBooks$Reader", name := "decree", desc := "()LBarredBooks$Decree;" } : Jvm.MethodName)) ∈ lw_all := lw_g (lw_at lw_m4 48 rfl) rfl
theorem q868 : (Jvm.Cond.code ({ cls := "BarredBooks$Reader", name := "decree", desc := "()LBarredBooks$Decree;" } : Jvm.MethodName) prog_21_method_13_code (2 : Nat) (Option.some (Jvm.ClassFile.FieldType.object "BarredBooks$Decree"))) ∈ lw_all := lw_g (lw_at lw_m4 49 rfl) rfl
theorem q869 : (Jvm.Cond.classLink "BarredBooks$Reader" (127 : Nat) "BarredBooks$Decree") ∈ lw_all := lw_g (lw_at lw_m4 50 rfl) rfl
theorem q871 : (Jvm.Cond.methodLinkNest "BarredBooks$Reader" (129 : Nat) ({ cls := "BarredBooks$Decree", name := "<init>", desc := "()V" } : Jvm.MethodName) "BarredBooks") ∈ lw_tbl := lw_at lw_m4 52 rfl
theorem q905 : (Jvm.Cond.fieldLinkNest "BarredBooks$Reader" (130 : Nat) "BarredBooks$Decree" "clauses" "Ljava/util/ArrayList;" "BarredBooks") ∈ lw_tbl := lw_at lw_m4 86 rfl
theorem q914 : (Jvm.Cond.methodLink "BarredBooks$Reader" (133 : Nat) ({ cls := "BarredBooks$Reader", name := "clause", desc := "()LBarredBooks$Clause;" } : Jvm.MethodName)) ∈ lw_all := lw_g (lw_at lw_m4 95 rfl) rfl
theorem q915 : (Jvm.Cond.privateMethod ({ cls := "BarredBooks$Reader", name := "clause", desc := "()LBarredBooks$Clause;" } : Jvm.MethodName)) ∈ lw_tbl := lw_at lw_m4 96 rfl
theorem q916 : (Jvm.Cond.instanceMethod ({ cls := "BarredBooks$Reader", name := "clause", desc := "()LBarredBooks$Clause;" } : Jvm.MethodName)) ∈ lw_all := lw_g (lw_at lw_m4 97 rfl) rfl
theorem q917 : (Jvm.Cond.code ({ cls := "BarredBooks$Reader", name := "clause", desc := "()LBarredBooks$Clause;" } : Jvm.MethodName) prog_21_method_12_code (2 : Nat) (Option.some (Jvm.ClassFile.FieldType.object "BarredBooks$Clause"))) ∈ lw_all := lw_g (lw_at lw_m4 98 rfl) rfl
theorem q918 : (Jvm.Cond.methodLink "BarredBooks$Reader" (27 : Nat) ({ cls := "BarredBooks$Reader", name := "here", desc := "()I" } : Jvm.MethodName)) ∈ lw_all := lw_g (lw_at lw_m4 99 rfl) rfl
theorem q919 : (Jvm.Cond.privateMethod ({ cls := "BarredBooks$Reader", name := "here", desc := "()I" } : Jvm.MethodName)) ∈ lw_tbl := lw_at lw_m4 100 rfl
theorem q920 : (Jvm.Cond.instanceMethod ({ cls := "BarredBooks$Reader", name := "here", desc := "()I" } : Jvm.MethodName)) ∈ lw_all := lw_g (lw_at lw_m4 101 rfl) rfl
theorem q921 : (Jvm.Cond.code ({ cls := "BarredBooks$Reader", name := "here", desc := "()I" } : Jvm.MethodName) prog_21_method_2_code (1 : Nat) (Option.some Jvm.ClassFile.FieldType.int)) ∈ lw_all := lw_g (lw_at lw_m4 102 rfl) rfl
theorem q922 : (Jvm.Cond.stringRef "BarredBooks$Reader" (111 : Nat) "author ") ∈ lw_tbl := lw_at lw_m4 103 rfl
theorem q923 : (Jvm.Cond.methodLink "BarredBooks$Reader" (97 : Nat) ({ cls := "BarredBooks$Reader", name := "word", desc := "(Ljava/lang/String;)V" } : Jvm.MethodName)) ∈ lw_all := lw_g (lw_at lw_m4 104 rfl) rfl
theorem q924 : (Jvm.Cond.privateMethod ({ cls := "BarredBooks$Reader", name := "word", desc := "(Ljava/lang/String;)V" } : Jvm.MethodName)) ∈ lw_tbl := lw_at lw_m4 105 rfl
theorem q925 : (Jvm.Cond.instanceMethod ({ cls := "BarredBooks$Reader", name := "word", desc := "(Ljava/lang/String;)V" } : Jvm.MethodName)) ∈ lw_all := lw_g (lw_at lw_m4 106 rfl) rfl
theorem q926 : (Jvm.Cond.code ({ cls := "BarredBooks$Reader", name := "word", desc := "(Ljava/lang/String;)V" } : Jvm.MethodName) prog_21_method_5_code (3 : Nat) (Option.none : Option Jvm.ClassFile.FieldType)) ∈ lw_all := lw_g (lw_at lw_m4 107 rfl) rfl
theorem q927 : (Jvm.Cond.methodLink "BarredBooks$Reader" (35 : Nat) ({ cls := "java/lang/String", name := "length", desc := "()I" } : Jvm.MethodName)) ∈ lw_all := lw_g (lw_at lw_m4 108 rfl) rfl
theorem q937 : (Jvm.Cond.methodLink "BarredBooks$Reader" (40 : Nat) ({ cls := "java/lang/String", name := "charAt", desc := "(I)C" } : Jvm.MethodName)) ∈ lw_all := lw_g (lw_at lw_m4 118 rfl) rfl
theorem q975 : (Jvm.Cond.methodLink "BarredBooks$Reader" (44 : Nat) ({ cls := "BarredBooks$Reader", name := "must", desc := "(I)V" } : Jvm.MethodName)) ∈ lw_all := lw_g (lw_at lw_m4 156 rfl) rfl
theorem q976 : (Jvm.Cond.privateMethod ({ cls := "BarredBooks$Reader", name := "must", desc := "(I)V" } : Jvm.MethodName)) ∈ lw_tbl := lw_at lw_m4 157 rfl
theorem q977 : (Jvm.Cond.instanceMethod ({ cls := "BarredBooks$Reader", name := "must", desc := "(I)V" } : Jvm.MethodName)) ∈ lw_all := lw_g (lw_at lw_m4 158 rfl) rfl
theorem q978 : (Jvm.Cond.code ({ cls := "BarredBooks$Reader", name := "must", desc := "(I)V" } : Jvm.MethodName) prog_21_method_4_code (2 : Nat) (Option.none : Option Jvm.ClassFile.FieldType)) ∈ lw_all := lw_g (lw_at lw_m4 159 rfl) rfl
theorem q979 : (Jvm.Cond.methodLink "BarredBooks$Reader" (31 : Nat) ({ cls := "BarredBooks$Reader", name := "off", desc := "()LBarredBooks$Off;" } : Jvm.MethodName)) ∈ lw_all := lw_g (lw_at lw_m4 160 rfl) rfl
theorem q980 : (Jvm.Cond.privateMethod ({ cls := "BarredBooks$Reader", name := "off", desc := "()LBarredBooks$Off;" } : Jvm.MethodName)) ∈ lw_tbl := lw_at lw_m4 161 rfl
theorem q981 : (Jvm.Cond.instanceMethod ({ cls := "BarredBooks$Reader", name := "off", desc := "()LBarredBooks$Off;" } : Jvm.MethodName)) ∈ lw_all := lw_g (lw_at lw_m4 162 rfl) rfl
theorem q982 : (Jvm.Cond.code ({ cls := "BarredBooks$Reader", name := "off", desc := "()LBarredBooks$Off;" } : Jvm.MethodName) prog_21_method_3_code (1 : Nat) (Option.some (Jvm.ClassFile.FieldType.object "BarredBooks$Off"))) ∈ lw_all := lw_g (lw_at lw_m4 163 rfl) rfl
theorem q983 : (Jvm.Cond.classLink "BarredBooks$Reader" (22 : Nat) "BarredBooks$Off") ∈ lw_all := lw_g (lw_at lw_m4 164 rfl) rfl
theorem q992 : (Jvm.Cond.methodLink "BarredBooks$Reader" (24 : Nat) ({ cls := "BarredBooks$Off", name := "<init>", desc := "(I)V" } : Jvm.MethodName)) ∈ lw_all := lw_g (lw_at lw_m4 173 rfl) rfl
theorem q1002 : (Jvm.Cond.classLink "BarredBooks$Reader" (113 : Nat) "BarredBooks$OfAuthor") ∈ lw_all := lw_g (lw_at lw_m4 183 rfl) rfl
theorem q1004 : (Jvm.Cond.methodLink "BarredBooks$Reader" (71 : Nat) ({ cls := "BarredBooks$Reader", name := "number", desc := "()I" } : Jvm.MethodName)) ∈ lw_all := lw_g (lw_at lw_m4 185 rfl) rfl
theorem q1005 : (Jvm.Cond.privateMethod ({ cls := "BarredBooks$Reader", name := "number", desc := "()I" } : Jvm.MethodName)) ∈ lw_tbl := lw_at lw_m4 186 rfl
theorem q1006 : (Jvm.Cond.instanceMethod ({ cls := "BarredBooks$Reader", name := "number", desc := "()I" } : Jvm.MethodName)) ∈ lw_all := lw_g (lw_at lw_m4 187 rfl) rfl
theorem q1007 : (Jvm.Cond.code ({ cls := "BarredBooks$Reader", name := "number", desc := "()I" } : Jvm.MethodName) prog_21_method_6_code (3 : Nat) (Option.some Jvm.ClassFile.FieldType.int)) ∈ lw_all := lw_g (lw_at lw_m4 188 rfl) rfl
theorem q1008 : (Jvm.Cond.methodLinkNest "BarredBooks$Reader" (47 : Nat) ({ cls := "BarredBooks", name := "in", desc := "(III)Z" } : Jvm.MethodName) "BarredBooks") ∈ lw_tbl := lw_at lw_m4 189 rfl
theorem q1009 : (Jvm.Cond.methodLink "BarredBooks$Reader" (115 : Nat) ({ cls := "BarredBooks$OfAuthor", name := "<init>", desc := "(IZ)V" } : Jvm.MethodName)) ∈ lw_all := lw_g (lw_at lw_m4 190 rfl) rfl
theorem q1026 : (Jvm.Cond.stringRef "BarredBooks$Reader" (121 : Nat) "title ") ∈ lw_tbl := lw_at lw_m4 207 rfl
theorem q1027 : (Jvm.Cond.classLink "BarredBooks$Reader" (118 : Nat) "BarredBooks$OfTitle") ∈ lw_all := lw_g (lw_at lw_m4 208 rfl) rfl
theorem q1029 : (Jvm.Cond.methodLink "BarredBooks$Reader" (120 : Nat) ({ cls := "BarredBooks$OfTitle", name := "<init>", desc := "(IZ)V" } : Jvm.MethodName)) ∈ lw_all := lw_g (lw_at lw_m4 210 rfl) rfl
theorem q1036 : (Jvm.Cond.methodLink "BarredBooks$Reader" (123 : Nat) ({ cls := "BarredBooks$Reader", name := "shared", desc := "(I)LBarredBooks$Clause;" } : Jvm.MethodName)) ∈ lw_all := lw_g (lw_at lw_m4 217 rfl) rfl
theorem q1037 : (Jvm.Cond.privateMethod ({ cls := "BarredBooks$Reader", name := "shared", desc := "(I)LBarredBooks$Clause;" } : Jvm.MethodName)) ∈ lw_tbl := lw_at lw_m4 218 rfl
theorem q1038 : (Jvm.Cond.instanceMethod ({ cls := "BarredBooks$Reader", name := "shared", desc := "(I)LBarredBooks$Clause;" } : Jvm.MethodName)) ∈ lw_all := lw_g (lw_at lw_m4 219 rfl) rfl
theorem q1039 : (Jvm.Cond.code ({ cls := "BarredBooks$Reader", name := "shared", desc := "(I)LBarredBooks$Clause;" } : Jvm.MethodName) prog_21_method_11_code (3 : Nat) (Option.some (Jvm.ClassFile.FieldType.object "BarredBooks$Clause"))) ∈ lw_all := lw_g (lw_at lw_m4 220 rfl) rfl
theorem q1040 : (Jvm.Cond.stringRef "BarredBooks$Reader" (95 : Nat) "ine ") ∈ lw_tbl := lw_at lw_m4 221 rfl
theorem q1041 : (Jvm.Cond.classLink "BarredBooks$Reader" (101 : Nat) "BarredBooks$OfLines") ∈ lw_all := lw_g (lw_at lw_m4 222 rfl) rfl
theorem q1043 : (Jvm.Cond.methodLink "BarredBooks$Reader" (66 : Nat) ({ cls := "BarredBooks$Reader", name := "some", desc := "()LBarredBooks$Test;" } : Jvm.MethodName)) ∈ lw_all := lw_g (lw_at lw_m4 224 rfl) rfl
theorem q1044 : (Jvm.Cond.privateMethod ({ cls := "BarredBooks$Reader", name := "some", desc := "()LBarredBooks$Test;" } : Jvm.MethodName)) ∈ lw_tbl := lw_at lw_m4 225 rfl
theorem q1045 : (Jvm.Cond.instanceMethod ({ cls := "BarredBooks$Reader", name := "some", desc := "()LBarredBooks$Test;" } : Jvm.MethodName)) ∈ lw_all := lw_g (lw_at lw_m4 226 rfl) rfl
theorem q1046 : (Jvm.Cond.code ({ cls := "BarredBooks$Reader", name := "some", desc := "()LBarredBooks$Test;" } : Jvm.MethodName) prog_21_method_10_code (2 : Nat) (Option.some (Jvm.ClassFile.FieldType.object "BarredBooks$Test"))) ∈ lw_all := lw_g (lw_at lw_m4 227 rfl) rfl
theorem q1047 : (Jvm.Cond.classLink "BarredBooks$Reader" (77 : Nat) "BarredBooks$Some") ∈ lw_all := lw_g (lw_at lw_m4 228 rfl) rfl
theorem q1049 : (Jvm.Cond.methodLink "BarredBooks$Reader" (79 : Nat) ({ cls := "BarredBooks$Some", name := "<init>", desc := "(Z)V" } : Jvm.MethodName)) ∈ lw_all := lw_g (lw_at lw_m4 230 rfl) rfl
theorem q1060 : (Jvm.Cond.fieldLinkNest "BarredBooks$Reader" (82 : Nat) "BarredBooks$Some" "of" "Ljava/util/ArrayList;" "BarredBooks") ∈ lw_tbl := lw_at lw_m5 1 rfl
theorem q1066 : (Jvm.Cond.methodLink "BarredBooks$Reader" (92 : Nat) ({ cls := "BarredBooks$Reader", name := "all", desc := "()LBarredBooks$Test;" } : Jvm.MethodName)) ∈ lw_all := lw_g (lw_at lw_m5 7 rfl) rfl
theorem q1067 : (Jvm.Cond.privateMethod ({ cls := "BarredBooks$Reader", name := "all", desc := "()LBarredBooks$Test;" } : Jvm.MethodName)) ∈ lw_tbl := lw_at lw_m5 8 rfl
theorem q1068 : (Jvm.Cond.instanceMethod ({ cls := "BarredBooks$Reader", name := "all", desc := "()LBarredBooks$Test;" } : Jvm.MethodName)) ∈ lw_all := lw_g (lw_at lw_m5 9 rfl) rfl
theorem q1069 : (Jvm.Cond.code ({ cls := "BarredBooks$Reader", name := "all", desc := "()LBarredBooks$Test;" } : Jvm.MethodName) prog_21_method_9_code (2 : Nat) (Option.some (Jvm.ClassFile.FieldType.object "BarredBooks$Test"))) ∈ lw_all := lw_g (lw_at lw_m5 10 rfl) rfl
theorem q1070 : (Jvm.Cond.methodLink "BarredBooks$Reader" (59 : Nat) ({ cls := "BarredBooks$Reader", name := "factor", desc := "()LBarredBooks$Test;" } : Jvm.MethodName)) ∈ lw_all := lw_g (lw_at lw_m5 11 rfl) rfl
theorem q1071 : (Jvm.Cond.privateMethod ({ cls := "BarredBooks$Reader", name := "factor", desc := "()LBarredBooks$Test;" } : Jvm.MethodName)) ∈ lw_tbl := lw_at lw_m5 12 rfl
theorem q1072 : (Jvm.Cond.instanceMethod ({ cls := "BarredBooks$Reader", name := "factor", desc := "()LBarredBooks$Test;" } : Jvm.MethodName)) ∈ lw_all := lw_g (lw_at lw_m5 13 rfl) rfl
theorem q1073 : (Jvm.Cond.code ({ cls := "BarredBooks$Reader", name := "factor", desc := "()LBarredBooks$Test;" } : Jvm.MethodName) prog_21_method_8_code (2 : Nat) (Option.some (Jvm.ClassFile.FieldType.object "BarredBooks$Test"))) ∈ lw_all := lw_g (lw_at lw_m5 14 rfl) rfl
theorem q1074 : (Jvm.Cond.methodLink "BarredBooks$Reader" (54 : Nat) ({ cls := "BarredBooks$Reader", name := "deeper", desc := "()V" } : Jvm.MethodName)) ∈ lw_all := lw_g (lw_at lw_m5 15 rfl) rfl
theorem q1075 : (Jvm.Cond.privateMethod ({ cls := "BarredBooks$Reader", name := "deeper", desc := "()V" } : Jvm.MethodName)) ∈ lw_tbl := lw_at lw_m5 16 rfl
theorem q1076 : (Jvm.Cond.instanceMethod ({ cls := "BarredBooks$Reader", name := "deeper", desc := "()V" } : Jvm.MethodName)) ∈ lw_all := lw_g (lw_at lw_m5 17 rfl) rfl
theorem q1077 : (Jvm.Cond.code ({ cls := "BarredBooks$Reader", name := "deeper", desc := "()V" } : Jvm.MethodName) prog_21_method_7_code (1 : Nat) (Option.none : Option Jvm.ClassFile.FieldType)) ∈ lw_all := lw_g (lw_at lw_m5 18 rfl) rfl
theorem q1078 : (Jvm.Cond.classLink "BarredBooks$Reader" (57 : Nat) "BarredBooks$Not") ∈ lw_all := lw_g (lw_at lw_m5 19 rfl) rfl
theorem q1080 : (Jvm.Cond.methodLink "BarredBooks$Reader" (63 : Nat) ({ cls := "BarredBooks$Not", name := "<init>", desc := "(LBarredBooks$Test;)V" } : Jvm.MethodName)) ∈ lw_all := lw_g (lw_at lw_m5 21 rfl) rfl
theorem q1088 : (Jvm.Cond.classLink "BarredBooks$Reader" (69 : Nat) "BarredBooks$Says") ∈ lw_all := lw_g (lw_at lw_m5 29 rfl) rfl
theorem q1090 : (Jvm.Cond.methodLink "BarredBooks$Reader" (74 : Nat) ({ cls := "BarredBooks$Says", name := "<init>", desc := "(II)V" } : Jvm.MethodName)) ∈ lw_all := lw_g (lw_at lw_m5 31 rfl) rfl
theorem q1101 : (Jvm.Cond.methodLink "BarredBooks$Reader" (86 : Nat) ({ cls := "java/util/ArrayList", name := "add", desc := "(Ljava/lang/Object;)Z" } : Jvm.MethodName)) ∈ lw_all := lw_g (lw_at lw_m5 42 rfl) rfl
theorem q1151 : (Jvm.Cond.selects "BarredBooks$Reader" ({ cls := "java/lang/Object", name := "getClass", desc := "()Ljava/lang/Class;" } : Jvm.MethodName) ({ cls := "java/lang/Object", name := "getClass", desc := "()Ljava/lang/Class;" } : Jvm.MethodName)) ∈ lw_all := lw_g (lw_at lw_m5 92 rfl) rfl
theorem q1178 : (Jvm.Cond.methodLink "BarredBooks$Reader" (103 : Nat) ({ cls := "BarredBooks$OfLines", name := "<init>", desc := "(LBarredBooks$Test;)V" } : Jvm.MethodName)) ∈ lw_all := lw_g (lw_at lw_m5 119 rfl) rfl
theorem q1186 : (Jvm.Cond.stringRef "BarredBooks$Reader" (104 : Nat) "eave ") ∈ lw_tbl := lw_at lw_m5 127 rfl
theorem q1187 : (Jvm.Cond.classLink "BarredBooks$Reader" (106 : Nat) "BarredBooks$OfRank") ∈ lw_all := lw_g (lw_at lw_m5 128 rfl) rfl
theorem q1189 : (Jvm.Cond.methodLink "BarredBooks$Reader" (108 : Nat) ({ cls := "BarredBooks$OfRank", name := "<init>", desc := "(II)V" } : Jvm.MethodName)) ∈ lw_all := lw_g (lw_at lw_m5 130 rfl) rfl
theorem q1200 : (Jvm.Cond.stringRef "BarredBooks$Reader" (109 : Nat) "ree") ∈ lw_tbl := lw_at lw_m5 141 rfl
theorem q1201 : (Jvm.Cond.methodLink "BarredBooks$Reader" (137 : Nat) ({ cls := "java/util/ArrayList", name := "size", desc := "()I" } : Jvm.MethodName)) ∈ lw_all := lw_g (lw_at lw_m5 142 rfl) rfl
theorem q2342 : (Jvm.Cond.castable "BarredBooks$Reader" "java/lang/Object") ∈ lw_tbl := lw_at lw_m10 83 rfl
theorem in_X15 : ∀ w ∈ wsX150, w ∈ lw_all := lw_in wsX150 [856, 858, 860, 862] (by decide +kernel) (by decide +kernel)

/-! BarredBooks$Decree -/
set_option maxRecDepth 100000
def RX16 : String := "BarredBooks$Decree"
def TX16 : u_T := fun k => match k with
  | 0 => ("BarredBooks$Decree", "issued", "I", false)
  | 1 => ("BarredBooks$Decree", "revoked", "I", false)
  | _ => ("BarredBooks$Decree", "clauses", "Ljava/util/ArrayList;", true)
def tyX16 : Nat → FieldType := fun k => match k with
  | 0 => .int
  | 1 => .int
  | _ => .object "java/util/ArrayList"
abbrev wsX160 : List Cond := u_ws RX16 TX16 3
theorem nmX16 : ∀ a, a < 3 → ∀ b, b < 3 → a ≠ b → (TX16 a).2.1 ≠ (TX16 b).2.1 := by decide +kernel
theorem tyX16_ok : ∀ k, k < 3 → parseFieldDescriptor (TX16 k).2.2.1 = some (tyX16 k) := by decide +kernel
abbrev cX16_init : ByteArray := prog_6_method_1_code
def yX16_init : MethodName := ⟨RX16, "<init>", "()V"⟩
def dkwX16_init_0 : List UInt8 := [42, 183, 0, 3, 42, 2, 181, 0, 9, 42, 187, 0, 15, 89, 183, 0, 17, 181, 0, 18, 177]
abbrev dktX16_init_0 : List UInt8 := dkwX16_init_0 ++ []
theorem dksX16_init_0 : cX16_init.data.toList.drop 0 = dktX16_init_0 := by decide +kernel
theorem dX16_init_0 : decode cX16_init 0 = .ok (.aload_n 0, 1) := dk_42 (dk_at dksX16_init_0 0 rfl rfl)
theorem dX16_init_1 : decode cX16_init 1 = .ok (.invokespecial 3, 3) := dk_183 0 3 (dk_at dksX16_init_0 1 rfl rfl)
theorem dX16_init_4 : decode cX16_init 4 = .ok (.aload_n 0, 1) := dk_42 (dk_at dksX16_init_0 4 rfl rfl)
theorem dX16_init_5 : decode cX16_init 5 = .ok (.iconst (-1), 1) := dk_2 (dk_at dksX16_init_0 5 rfl rfl)
theorem dX16_init_6 : decode cX16_init 6 = .ok (.putfield 9, 3) := dk_181 0 9 (dk_at dksX16_init_0 6 rfl rfl)
theorem dX16_init_9 : decode cX16_init 9 = .ok (.aload_n 0, 1) := dk_42 (dk_at dksX16_init_0 9 rfl rfl)
theorem dX16_init_10 : decode cX16_init 10 = .ok (.new 15, 3) := dk_187 0 15 (dk_at dksX16_init_0 10 rfl rfl)
theorem dX16_init_13 : decode cX16_init 13 = .ok (.dup, 1) := dk_89 (dk_at dksX16_init_0 13 rfl rfl)
theorem dX16_init_14 : decode cX16_init 14 = .ok (.invokespecial 17, 3) := dk_183 0 17 (dk_at dksX16_init_0 14 rfl rfl)
theorem dX16_init_17 : decode cX16_init 17 = .ok (.putfield 18, 3) := dk_181 0 18 (dk_at dksX16_init_0 17 rfl rfl)
theorem dX16_init_20 : decode cX16_init 20 = .ok (.return_, 1) := dk_177 (dk_at dksX16_init_0 20 rfl rfl)
abbrev cX16_bars : ByteArray := prog_6_method_2_code
def yX16_bars : MethodName := ⟨RX16, "bars", "(LBarredBooks$Edition;)I"⟩
def dkwX16_bars_2 : List UInt8 := [28, 172]
abbrev dktX16_bars_2 : List UInt8 := dkwX16_bars_2 ++ []
def dkwX16_bars_1 : List UInt8 := [192, 0, 30, 43, 182, 0, 32, 54, 4, 21, 4, 2, 159, 0, 6, 21, 4, 61, 132, 3, 1, 167, 255, 216]
abbrev dktX16_bars_1 : List UInt8 := dkwX16_bars_1 ++ dktX16_bars_2
def dkwX16_bars_0 : List UInt8 := [2, 61, 3, 62, 29, 42, 180, 0, 18, 182, 0, 22, 162, 0, 35, 42, 180, 0, 18, 29, 182, 0, 26]
abbrev dktX16_bars_0 : List UInt8 := dkwX16_bars_0 ++ dktX16_bars_1
theorem dksX16_bars_0 : cX16_bars.data.toList.drop 0 = dktX16_bars_0 := by decide +kernel
theorem dksX16_bars_1 : cX16_bars.data.toList.drop 23 = dktX16_bars_1 := dk_seg dksX16_bars_0 23 rfl rfl
theorem dksX16_bars_2 : cX16_bars.data.toList.drop 47 = dktX16_bars_2 := dk_seg dksX16_bars_1 24 rfl rfl
theorem dX16_bars_0 : decode cX16_bars 0 = .ok (.iconst (-1), 1) := dk_2 (dk_at dksX16_bars_0 0 rfl rfl)
theorem dX16_bars_1 : decode cX16_bars 1 = .ok (.istore_n 2, 1) := dk_61 (dk_at dksX16_bars_0 1 rfl rfl)
theorem dX16_bars_2 : decode cX16_bars 2 = .ok (.iconst 0, 1) := dk_3 (dk_at dksX16_bars_0 2 rfl rfl)
theorem dX16_bars_3 : decode cX16_bars 3 = .ok (.istore_n 3, 1) := dk_62 (dk_at dksX16_bars_0 3 rfl rfl)
theorem dX16_bars_4 : decode cX16_bars 4 = .ok (.iload_n 3, 1) := dk_29 (dk_at dksX16_bars_0 4 rfl rfl)
theorem dX16_bars_5 : decode cX16_bars 5 = .ok (.aload_n 0, 1) := dk_42 (dk_at dksX16_bars_0 5 rfl rfl)
theorem dX16_bars_6 : decode cX16_bars 6 = .ok (.getfield 18, 3) := dk_180 0 18 (dk_at dksX16_bars_0 6 rfl rfl)
theorem dX16_bars_9 : decode cX16_bars 9 = .ok (.invokevirtual 22, 3) := dk_182 0 22 (dk_at dksX16_bars_0 9 rfl rfl)
theorem dX16_bars_12 : decode cX16_bars 12 = .ok (.if_icmp .ge 35, 3) := dk_162 0 35 (dk_at dksX16_bars_0 12 rfl rfl)
theorem dX16_bars_15 : decode cX16_bars 15 = .ok (.aload_n 0, 1) := dk_42 (dk_at dksX16_bars_0 15 rfl rfl)
theorem dX16_bars_16 : decode cX16_bars 16 = .ok (.getfield 18, 3) := dk_180 0 18 (dk_at dksX16_bars_0 16 rfl rfl)
theorem dX16_bars_19 : decode cX16_bars 19 = .ok (.iload_n 3, 1) := dk_29 (dk_at dksX16_bars_0 19 rfl rfl)
theorem dX16_bars_20 : decode cX16_bars 20 = .ok (.invokevirtual 26, 3) := dk_182 0 26 (dk_at dksX16_bars_0 20 rfl rfl)
theorem dX16_bars_23 : decode cX16_bars 23 = .ok (.checkcast 30, 3) := dk_192 0 30 (dk_at dksX16_bars_1 0 rfl rfl)
theorem dX16_bars_26 : decode cX16_bars 26 = .ok (.aload_n 1, 1) := dk_43 (dk_at dksX16_bars_1 3 rfl rfl)
theorem dX16_bars_27 : decode cX16_bars 27 = .ok (.invokevirtual 32, 3) := dk_182 0 32 (dk_at dksX16_bars_1 4 rfl rfl)
theorem dX16_bars_30 : decode cX16_bars 30 = .ok (.istore 4, 2) := dk_54 4 (dk_at dksX16_bars_1 7 rfl rfl)
theorem dX16_bars_32 : decode cX16_bars 32 = .ok (.iload 4, 2) := dk_21 4 (dk_at dksX16_bars_1 9 rfl rfl)
theorem dX16_bars_34 : decode cX16_bars 34 = .ok (.iconst (-1), 1) := dk_2 (dk_at dksX16_bars_1 11 rfl rfl)
theorem dX16_bars_35 : decode cX16_bars 35 = .ok (.if_icmp .eq 6, 3) := dk_159 0 6 (dk_at dksX16_bars_1 12 rfl rfl)
theorem dX16_bars_38 : decode cX16_bars 38 = .ok (.iload 4, 2) := dk_21 4 (dk_at dksX16_bars_1 15 rfl rfl)
theorem dX16_bars_40 : decode cX16_bars 40 = .ok (.istore_n 2, 1) := dk_61 (dk_at dksX16_bars_1 17 rfl rfl)
theorem dX16_bars_41 : decode cX16_bars 41 = .ok (.iinc 3 1, 3) := dk_132 3 1 (dk_at dksX16_bars_1 18 rfl rfl)
theorem dX16_bars_44 : decode cX16_bars 44 = .ok (.goto (-40), 3) := dk_167 255 216 (dk_at dksX16_bars_1 21 rfl rfl)
theorem dX16_bars_47 : decode cX16_bars 47 = .ok (.iload_n 2, 1) := dk_28 (dk_at dksX16_bars_2 0 rfl rfl)
theorem dX16_bars_48 : decode cX16_bars 48 = .ok (.ireturn, 1) := dk_172 (dk_at dksX16_bars_2 1 rfl rfl)
abbrev cX16_strikes : ByteArray := prog_6_method_3_code
def yX16_strikes : MethodName := ⟨RX16, "strikes", "(LBarredBooks$Look;)Z"⟩
def dkwX16_strikes_1 : List UInt8 := [43, 182, 0, 36, 153, 0, 5, 4, 172, 132, 2, 1, 167, 255, 222, 3, 172]
abbrev dktX16_strikes_1 : List UInt8 := dkwX16_strikes_1 ++ []
def dkwX16_strikes_0 : List UInt8 := [3, 61, 28, 42, 180, 0, 18, 182, 0, 22, 162, 0, 29, 42, 180, 0, 18, 28, 182, 0, 26, 192, 0, 30]
abbrev dktX16_strikes_0 : List UInt8 := dkwX16_strikes_0 ++ dktX16_strikes_1
theorem dksX16_strikes_0 : cX16_strikes.data.toList.drop 0 = dktX16_strikes_0 := by decide +kernel
theorem dksX16_strikes_1 : cX16_strikes.data.toList.drop 24 = dktX16_strikes_1 := dk_seg dksX16_strikes_0 24 rfl rfl
theorem dX16_strikes_0 : decode cX16_strikes 0 = .ok (.iconst 0, 1) := dk_3 (dk_at dksX16_strikes_0 0 rfl rfl)
theorem dX16_strikes_1 : decode cX16_strikes 1 = .ok (.istore_n 2, 1) := dk_61 (dk_at dksX16_strikes_0 1 rfl rfl)
theorem dX16_strikes_2 : decode cX16_strikes 2 = .ok (.iload_n 2, 1) := dk_28 (dk_at dksX16_strikes_0 2 rfl rfl)
theorem dX16_strikes_3 : decode cX16_strikes 3 = .ok (.aload_n 0, 1) := dk_42 (dk_at dksX16_strikes_0 3 rfl rfl)
theorem dX16_strikes_4 : decode cX16_strikes 4 = .ok (.getfield 18, 3) := dk_180 0 18 (dk_at dksX16_strikes_0 4 rfl rfl)
theorem dX16_strikes_7 : decode cX16_strikes 7 = .ok (.invokevirtual 22, 3) := dk_182 0 22 (dk_at dksX16_strikes_0 7 rfl rfl)
theorem dX16_strikes_10 : decode cX16_strikes 10 = .ok (.if_icmp .ge 29, 3) := dk_162 0 29 (dk_at dksX16_strikes_0 10 rfl rfl)
theorem dX16_strikes_13 : decode cX16_strikes 13 = .ok (.aload_n 0, 1) := dk_42 (dk_at dksX16_strikes_0 13 rfl rfl)
theorem dX16_strikes_14 : decode cX16_strikes 14 = .ok (.getfield 18, 3) := dk_180 0 18 (dk_at dksX16_strikes_0 14 rfl rfl)
theorem dX16_strikes_17 : decode cX16_strikes 17 = .ok (.iload_n 2, 1) := dk_28 (dk_at dksX16_strikes_0 17 rfl rfl)
theorem dX16_strikes_18 : decode cX16_strikes 18 = .ok (.invokevirtual 26, 3) := dk_182 0 26 (dk_at dksX16_strikes_0 18 rfl rfl)
theorem dX16_strikes_21 : decode cX16_strikes 21 = .ok (.checkcast 30, 3) := dk_192 0 30 (dk_at dksX16_strikes_0 21 rfl rfl)
theorem dX16_strikes_24 : decode cX16_strikes 24 = .ok (.aload_n 1, 1) := dk_43 (dk_at dksX16_strikes_1 0 rfl rfl)
theorem dX16_strikes_25 : decode cX16_strikes 25 = .ok (.invokevirtual 36, 3) := dk_182 0 36 (dk_at dksX16_strikes_1 1 rfl rfl)
theorem dX16_strikes_28 : decode cX16_strikes 28 = .ok (.ifCond .eq 5, 3) := dk_153 0 5 (dk_at dksX16_strikes_1 4 rfl rfl)
theorem dX16_strikes_31 : decode cX16_strikes 31 = .ok (.iconst 1, 1) := dk_4 (dk_at dksX16_strikes_1 7 rfl rfl)
theorem dX16_strikes_32 : decode cX16_strikes 32 = .ok (.ireturn, 1) := dk_172 (dk_at dksX16_strikes_1 8 rfl rfl)
theorem dX16_strikes_33 : decode cX16_strikes 33 = .ok (.iinc 2 1, 3) := dk_132 2 1 (dk_at dksX16_strikes_1 9 rfl rfl)
theorem dX16_strikes_36 : decode cX16_strikes 36 = .ok (.goto (-34), 3) := dk_167 255 222 (dk_at dksX16_strikes_1 12 rfl rfl)
theorem dX16_strikes_39 : decode cX16_strikes 39 = .ok (.iconst 0, 1) := dk_3 (dk_at dksX16_strikes_1 15 rfl rfl)
theorem dX16_strikes_40 : decode cX16_strikes 40 = .ok (.ireturn, 1) := dk_172 (dk_at dksX16_strikes_1 16 rfl rfl)
theorem q123 : (Jvm.Cond.initialized "BarredBooks$Decree") ∈ lw_all := lw_g (lw_at lw_m1 24 rfl) rfl
theorem q870 : (Jvm.Cond.instantiable "BarredBooks$Decree" (3 : Nat)) ∈ lw_all := lw_g (lw_at lw_m4 51 rfl) rfl
theorem q872 : (Jvm.Cond.instanceMethod ({ cls := "BarredBooks$Decree", name := "<init>", desc := "()V" } : Jvm.MethodName)) ∈ lw_all := lw_g (lw_at lw_m4 53 rfl) rfl
theorem q873 : (Jvm.Cond.code ({ cls := "BarredBooks$Decree", name := "<init>", desc := "()V" } : Jvm.MethodName) prog_6_method_1_code (1 : Nat) (Option.none : Option Jvm.ClassFile.FieldType)) ∈ lw_all := lw_g (lw_at lw_m4 54 rfl) rfl
theorem q874 : (Jvm.Cond.methodLink "BarredBooks$Decree" (3 : Nat) ({ cls := "java/lang/Object", name := "<init>", desc := "()V" } : Jvm.MethodName)) ∈ lw_all := lw_g (lw_at lw_m4 55 rfl) rfl
theorem q875 : (Jvm.Cond.classLink "BarredBooks$Decree" (15 : Nat) "java/util/ArrayList") ∈ lw_all := lw_g (lw_at lw_m4 56 rfl) rfl
theorem q877 : (Jvm.Cond.methodLink "BarredBooks$Decree" (17 : Nat) ({ cls := "java/util/ArrayList", name := "<init>", desc := "()V" } : Jvm.MethodName)) ∈ lw_all := lw_g (lw_at lw_m4 58 rfl) rfl
theorem q902 : (Jvm.Cond.fieldLink "BarredBooks$Decree" (9 : Nat) "BarredBooks$Decree" "revoked" "I") ∈ lw_all := lw_g (lw_at lw_m4 83 rfl) rfl
theorem q904 : (Jvm.Cond.fieldLink "BarredBooks$Decree" (18 : Nat) "BarredBooks$Decree" "clauses" "Ljava/util/ArrayList;") ∈ lw_all := lw_g (lw_at lw_m4 85 rfl) rfl
theorem q907 : (Jvm.Cond.lays "BarredBooks$Decree" "BarredBooks$Decree" "issued" "I") ∈ lw_all := lw_g (lw_at lw_m4 88 rfl) rfl
theorem q908 : (Jvm.Cond.soleField "BarredBooks$Decree" "issued") ∈ lw_all := lw_g (lw_at lw_m4 89 rfl) rfl
theorem q909 : (Jvm.Cond.lays "BarredBooks$Decree" "BarredBooks$Decree" "revoked" "I") ∈ lw_all := lw_g (lw_at lw_m4 90 rfl) rfl
theorem q910 : (Jvm.Cond.soleField "BarredBooks$Decree" "revoked") ∈ lw_all := lw_g (lw_at lw_m4 91 rfl) rfl
theorem q911 : (Jvm.Cond.laysFinal "BarredBooks$Decree" "BarredBooks$Decree" "clauses" "Ljava/util/ArrayList;") ∈ lw_all := lw_g (lw_at lw_m4 92 rfl) rfl
theorem q912 : (Jvm.Cond.soleField "BarredBooks$Decree" "clauses") ∈ lw_all := lw_g (lw_at lw_m4 93 rfl) rfl
theorem q913 : (Jvm.Cond.superclass "BarredBooks$Decree" "java/lang/Object") ∈ lw_all := lw_g (lw_at lw_m4 94 rfl) rfl
theorem q1137 : (Jvm.Cond.selects "BarredBooks$Decree" ({ cls := "java/lang/Object", name := "getClass", desc := "()Ljava/lang/Class;" } : Jvm.MethodName) ({ cls := "java/lang/Object", name := "getClass", desc := "()Ljava/lang/Class;" } : Jvm.MethodName)) ∈ lw_all := lw_g (lw_at lw_m5 78 rfl) rfl
theorem q1237 : (Jvm.Cond.instanceMethod ({ cls := "BarredBooks$Decree", name := "bars", desc := "(LBarredBooks$Edition;)I" } : Jvm.MethodName)) ∈ lw_all := lw_g (lw_at lw_m5 178 rfl) rfl
theorem q1238 : (Jvm.Cond.selects "BarredBooks$Decree" ({ cls := "BarredBooks$Decree", name := "bars", desc := "(LBarredBooks$Edition;)I" } : Jvm.MethodName) ({ cls := "BarredBooks$Decree", name := "bars", desc := "(LBarredBooks$Edition;)I" } : Jvm.MethodName)) ∈ lw_all := lw_g (lw_at lw_m5 179 rfl) rfl
theorem q1239 : (Jvm.Cond.code ({ cls := "BarredBooks$Decree", name := "bars", desc := "(LBarredBooks$Edition;)I" } : Jvm.MethodName) prog_6_method_2_code (5 : Nat) (Option.some Jvm.ClassFile.FieldType.int)) ∈ lw_all := lw_g (lw_at lw_m5 180 rfl) rfl
theorem q1240 : (Jvm.Cond.methodLink "BarredBooks$Decree" (22 : Nat) ({ cls := "java/util/ArrayList", name := "size", desc := "()I" } : Jvm.MethodName)) ∈ lw_all := lw_g (lw_at lw_m5 181 rfl) rfl
theorem q1241 : (Jvm.Cond.methodLink "BarredBooks$Decree" (26 : Nat) ({ cls := "java/util/ArrayList", name := "get", desc := "(I)Ljava/lang/Object;" } : Jvm.MethodName)) ∈ lw_all := lw_g (lw_at lw_m5 182 rfl) rfl
theorem q1253 : (Jvm.Cond.classLink "BarredBooks$Decree" (30 : Nat) "BarredBooks$Clause") ∈ lw_all := lw_g (lw_at lw_m5 194 rfl) rfl
theorem q1254 : (Jvm.Cond.methodLink "BarredBooks$Decree" (32 : Nat) ({ cls := "BarredBooks$Clause", name := "bars", desc := "(LBarredBooks$Edition;)I" } : Jvm.MethodName)) ∈ lw_all := lw_g (lw_at lw_m5 195 rfl) rfl
theorem q1286 : (Jvm.Cond.instanceMethod ({ cls := "BarredBooks$Decree", name := "strikes", desc := "(LBarredBooks$Look;)Z" } : Jvm.MethodName)) ∈ lw_all := lw_g (lw_at lw_m5 227 rfl) rfl
theorem q1287 : (Jvm.Cond.selects "BarredBooks$Decree" ({ cls := "BarredBooks$Decree", name := "strikes", desc := "(LBarredBooks$Look;)Z" } : Jvm.MethodName) ({ cls := "BarredBooks$Decree", name := "strikes", desc := "(LBarredBooks$Look;)Z" } : Jvm.MethodName)) ∈ lw_all := lw_g (lw_at lw_m5 228 rfl) rfl
theorem q1288 : (Jvm.Cond.code ({ cls := "BarredBooks$Decree", name := "strikes", desc := "(LBarredBooks$Look;)Z" } : Jvm.MethodName) prog_6_method_3_code (3 : Nat) (Option.some Jvm.ClassFile.FieldType.boolean)) ∈ lw_all := lw_g (lw_at lw_m5 229 rfl) rfl
theorem q1289 : (Jvm.Cond.methodLink "BarredBooks$Decree" (36 : Nat) ({ cls := "BarredBooks$Clause", name := "strikes", desc := "(LBarredBooks$Look;)Z" } : Jvm.MethodName)) ∈ lw_all := lw_g (lw_at lw_m5 230 rfl) rfl
theorem q2326 : (Jvm.Cond.castable "BarredBooks$Decree" "java/lang/Object") ∈ lw_tbl := lw_at lw_m10 67 rfl
theorem in_X16 : ∀ w ∈ wsX160, w ∈ lw_all := lw_in wsX160 [907, 909, 911] (by decide +kernel) (by decide +kernel)

/-! BarredBooks$Off -/
set_option maxRecDepth 100000
def RX17 : String := "BarredBooks$Off"
def TX17 : u_T := fun k => match k with
  | 0 => ("java/lang/Throwable", "cause", "Ljava/lang/Throwable;", false)
  | 1 => ("java/lang/Throwable", "stackTrace", "[Ljava/lang/StackTraceElement;", false)
  | 2 => ("java/lang/Throwable", "suppressedExceptions", "Ljava/util/List;", false)
  | 3 => ("java/lang/Throwable", "detailMessage", "Ljava/lang/String;", false)
  | 4 => ("java/lang/Throwable", "backtrace", "Ljava/lang/Object;", false)
  | 5 => ("java/lang/Throwable", "depth", "I", false)
  | _ => ("BarredBooks$Off", "place", "I", true)
def tyX17 : Nat → FieldType := fun k => match k with
  | 0 => .object "java/lang/Throwable"
  | 1 => .array (.object "java/lang/StackTraceElement")
  | 2 => .object "java/util/List"
  | 3 => .object "java/lang/String"
  | 4 => .object "java/lang/Object"
  | 5 => .int
  | _ => .int
abbrev wsX170 : List Cond := u_ws RX17 TX17 7
theorem nmX17 : ∀ a, a < 7 → ∀ b, b < 7 → a ≠ b → (TX17 a).2.1 ≠ (TX17 b).2.1 := by decide +kernel
theorem tyX17_ok : ∀ k, k < 7 → parseFieldDescriptor (TX17 k).2.2.1 = some (tyX17 k) := by decide +kernel
abbrev cX17_init : ByteArray := prog_18_method_1_code
def yX17_init : MethodName := ⟨RX17, "<init>", "(I)V"⟩
def dkwX17_init_0 : List UInt8 := [42, 183, 0, 1, 42, 27, 181, 0, 7, 177]
abbrev dktX17_init_0 : List UInt8 := dkwX17_init_0 ++ []
theorem dksX17_init_0 : cX17_init.data.toList.drop 0 = dktX17_init_0 := by decide +kernel
theorem dX17_init_0 : decode cX17_init 0 = .ok (.aload_n 0, 1) := dk_42 (dk_at dksX17_init_0 0 rfl rfl)
theorem dX17_init_1 : decode cX17_init 1 = .ok (.invokespecial 1, 3) := dk_183 0 1 (dk_at dksX17_init_0 1 rfl rfl)
theorem dX17_init_4 : decode cX17_init 4 = .ok (.aload_n 0, 1) := dk_42 (dk_at dksX17_init_0 4 rfl rfl)
theorem dX17_init_5 : decode cX17_init 5 = .ok (.iload_n 1, 1) := dk_27 (dk_at dksX17_init_0 5 rfl rfl)
theorem dX17_init_6 : decode cX17_init 6 = .ok (.putfield 7, 3) := dk_181 0 7 (dk_at dksX17_init_0 6 rfl rfl)
theorem dX17_init_9 : decode cX17_init 9 = .ok (.return_, 1) := dk_177 (dk_at dksX17_init_0 9 rfl rfl)
theorem q130 : (Jvm.Cond.initialized "BarredBooks$Off") ∈ lw_all := lw_g (lw_at lw_m1 31 rfl) rfl
theorem q607 : (Jvm.Cond.selects "BarredBooks$Off" ({ cls := "java/lang/Throwable", name := "fillInStackTrace", desc := "()Ljava/lang/Throwable;" } : Jvm.MethodName) ({ cls := "java/lang/Throwable", name := "fillInStackTrace", desc := "()Ljava/lang/Throwable;" } : Jvm.MethodName)) ∈ lw_all := lw_g (lw_at lw_m3 28 rfl) rfl
theorem q984 : (Jvm.Cond.instantiable "BarredBooks$Off" (7 : Nat)) ∈ lw_all := lw_g (lw_at lw_m4 165 rfl) rfl
theorem q985 : (Jvm.Cond.castable "BarredBooks$Off" "BarredBooks$Off") ∈ lw_tbl := lw_at lw_m4 166 rfl
theorem q986 : (Jvm.Cond.selects "BarredBooks$Off" ({ cls := "java/lang/Throwable", name := "fillInStackTrace", desc := "(I)Ljava/lang/Throwable;" } : Jvm.MethodName) ({ cls := "java/lang/Throwable", name := "fillInStackTrace", desc := "(I)Ljava/lang/Throwable;" } : Jvm.MethodName)) ∈ lw_all := lw_g (lw_at lw_m4 167 rfl) rfl
theorem q987 : (Jvm.Cond.lays "BarredBooks$Off" "java/lang/Throwable" "cause" "Ljava/lang/Throwable;") ∈ lw_all := lw_g (lw_at lw_m4 168 rfl) rfl
theorem q988 : (Jvm.Cond.lays "BarredBooks$Off" "java/lang/Throwable" "stackTrace" "[Ljava/lang/StackTraceElement;") ∈ lw_all := lw_g (lw_at lw_m4 169 rfl) rfl
theorem q989 : (Jvm.Cond.lays "BarredBooks$Off" "java/lang/Throwable" "suppressedExceptions" "Ljava/util/List;") ∈ lw_all := lw_g (lw_at lw_m4 170 rfl) rfl
theorem q990 : (Jvm.Cond.lays "BarredBooks$Off" "java/lang/Throwable" "detailMessage" "Ljava/lang/String;") ∈ lw_all := lw_g (lw_at lw_m4 171 rfl) rfl
theorem q991 : (Jvm.Cond.lays "BarredBooks$Off" "java/lang/Throwable" "backtrace" "Ljava/lang/Object;") ∈ lw_all := lw_g (lw_at lw_m4 172 rfl) rfl
theorem q993 : (Jvm.Cond.instanceMethod ({ cls := "BarredBooks$Off", name := "<init>", desc := "(I)V" } : Jvm.MethodName)) ∈ lw_all := lw_g (lw_at lw_m4 174 rfl) rfl
theorem q994 : (Jvm.Cond.code ({ cls := "BarredBooks$Off", name := "<init>", desc := "(I)V" } : Jvm.MethodName) prog_18_method_1_code (2 : Nat) (Option.none : Option Jvm.ClassFile.FieldType)) ∈ lw_all := lw_g (lw_at lw_m4 175 rfl) rfl
theorem q995 : (Jvm.Cond.methodLink "BarredBooks$Off" (1 : Nat) ({ cls := "java/lang/RuntimeException", name := "<init>", desc := "()V" } : Jvm.MethodName)) ∈ lw_all := lw_g (lw_at lw_m4 176 rfl) rfl
theorem q996 : (Jvm.Cond.fieldLink "BarredBooks$Off" (7 : Nat) "BarredBooks$Off" "place" "I") ∈ lw_all := lw_g (lw_at lw_m4 177 rfl) rfl
theorem q998 : (Jvm.Cond.laysFinal "BarredBooks$Off" "BarredBooks$Off" "place" "I") ∈ lw_all := lw_g (lw_at lw_m4 179 rfl) rfl
theorem q999 : (Jvm.Cond.soleField "BarredBooks$Off" "place") ∈ lw_all := lw_g (lw_at lw_m4 180 rfl) rfl
theorem q1000 : (Jvm.Cond.lays "BarredBooks$Off" "java/lang/Throwable" "depth" "I") ∈ lw_all := lw_g (lw_at lw_m4 181 rfl) rfl
theorem q1001 : (Jvm.Cond.superclass "BarredBooks$Off" "java/lang/RuntimeException") ∈ lw_all := lw_g (lw_at lw_m4 182 rfl) rfl
theorem q1148 : (Jvm.Cond.selects "BarredBooks$Off" ({ cls := "java/lang/Object", name := "getClass", desc := "()Ljava/lang/Class;" } : Jvm.MethodName) ({ cls := "java/lang/Object", name := "getClass", desc := "()Ljava/lang/Class;" } : Jvm.MethodName)) ∈ lw_all := lw_g (lw_at lw_m5 89 rfl) rfl
theorem q2344 : (Jvm.Cond.castable "BarredBooks$Off" "java/lang/Object") ∈ lw_tbl := lw_at lw_m10 85 rfl
theorem in_X17 : ∀ w ∈ wsX170, w ∈ lw_all := lw_in wsX170 [987, 988, 989, 990, 991, 1000, 998] (by decide +kernel) (by decide +kernel)

/-! BarredBooks$Clause -/
set_option maxRecDepth 100000
def RX18 : String := "BarredBooks$Clause"
abbrev cX18_init : ByteArray := prog_5_method_1_code
def yX18_init : MethodName := ⟨RX18, "<init>", "()V"⟩
theorem dX18_init_0 : decode cX18_init 0 = .ok (.aload_n 0, 1) := by decide +kernel
theorem dX18_init_1 : decode cX18_init 1 = .ok (.invokespecial 3, 3) := by decide +kernel
theorem dX18_init_4 : decode cX18_init 4 = .ok (.return_, 1) := by decide +kernel
abbrev cX18_bars : ByteArray := prog_5_method_2_code
def yX18_bars : MethodName := ⟨RX18, "bars", "(LBarredBooks$Edition;)I"⟩
theorem dX18_bars_0 : decode cX18_bars 0 = .ok (.iconst (-1), 1) := by decide +kernel
theorem dX18_bars_1 : decode cX18_bars 1 = .ok (.ireturn, 1) := by decide +kernel
abbrev cX18_strikes : ByteArray := prog_5_method_3_code
def yX18_strikes : MethodName := ⟨RX18, "strikes", "(LBarredBooks$Look;)Z"⟩
theorem dX18_strikes_0 : decode cX18_strikes 0 = .ok (.iconst 0, 1) := by decide +kernel
theorem dX18_strikes_1 : decode cX18_strikes 1 = .ok (.ireturn, 1) := by decide +kernel
abbrev cX18_lets : ByteArray := prog_5_method_4_code
def yX18_lets : MethodName := ⟨RX18, "lets", "(I)I"⟩
theorem dX18_lets_0 : decode cX18_lets 0 = .ok (.iconst (-1), 1) := by decide +kernel
theorem dX18_lets_1 : decode cX18_lets 1 = .ok (.ireturn, 1) := by decide +kernel
theorem q131 : (Jvm.Cond.initialized "BarredBooks$Clause") ∈ lw_all := lw_g (lw_at lw_m1 32 rfl) rfl
theorem q1013 : (Jvm.Cond.instanceMethod ({ cls := "BarredBooks$Clause", name := "<init>", desc := "()V" } : Jvm.MethodName)) ∈ lw_all := lw_g (lw_at lw_m4 194 rfl) rfl
theorem q1014 : (Jvm.Cond.code ({ cls := "BarredBooks$Clause", name := "<init>", desc := "()V" } : Jvm.MethodName) prog_5_method_1_code (1 : Nat) (Option.none : Option Jvm.ClassFile.FieldType)) ∈ lw_all := lw_g (lw_at lw_m4 195 rfl) rfl
theorem q1015 : (Jvm.Cond.methodLink "BarredBooks$Clause" (3 : Nat) ({ cls := "java/lang/Object", name := "<init>", desc := "()V" } : Jvm.MethodName)) ∈ lw_all := lw_g (lw_at lw_m4 196 rfl) rfl
theorem q1255 : (Jvm.Cond.instanceMethod ({ cls := "BarredBooks$Clause", name := "bars", desc := "(LBarredBooks$Edition;)I" } : Jvm.MethodName)) ∈ lw_all := lw_g (lw_at lw_m5 196 rfl) rfl
theorem q1256 : (Jvm.Cond.sameMethod "BarredBooks$Clause" "BarredBooks$Clause" "bars" "(LBarredBooks$Edition;)I") ∈ lw_all := lw_g (lw_at lw_m5 197 rfl) rfl
theorem q1271 : (Jvm.Cond.code ({ cls := "BarredBooks$Clause", name := "bars", desc := "(LBarredBooks$Edition;)I" } : Jvm.MethodName) prog_5_method_2_code (2 : Nat) (Option.some Jvm.ClassFile.FieldType.int)) ∈ lw_all := lw_g (lw_at lw_m5 212 rfl) rfl
theorem q1290 : (Jvm.Cond.instanceMethod ({ cls := "BarredBooks$Clause", name := "strikes", desc := "(LBarredBooks$Look;)Z" } : Jvm.MethodName)) ∈ lw_all := lw_g (lw_at lw_m5 231 rfl) rfl
theorem q1291 : (Jvm.Cond.sameMethod "BarredBooks$Clause" "BarredBooks$Clause" "strikes" "(LBarredBooks$Look;)Z") ∈ lw_all := lw_g (lw_at lw_m5 232 rfl) rfl
theorem q1330 : (Jvm.Cond.code ({ cls := "BarredBooks$Clause", name := "strikes", desc := "(LBarredBooks$Look;)Z" } : Jvm.MethodName) prog_5_method_3_code (2 : Nat) (Option.some Jvm.ClassFile.FieldType.boolean)) ∈ lw_all := lw_g (lw_at lw_m6 31 rfl) rfl
theorem q1354 : (Jvm.Cond.instanceMethod ({ cls := "BarredBooks$Clause", name := "lets", desc := "(I)I" } : Jvm.MethodName)) ∈ lw_all := lw_g (lw_at lw_m6 55 rfl) rfl
theorem q1355 : (Jvm.Cond.sameMethod "BarredBooks$Clause" "BarredBooks$Clause" "lets" "(I)I") ∈ lw_all := lw_g (lw_at lw_m6 56 rfl) rfl
theorem q1362 : (Jvm.Cond.code ({ cls := "BarredBooks$Clause", name := "lets", desc := "(I)I" } : Jvm.MethodName) prog_5_method_4_code (2 : Nat) (Option.some Jvm.ClassFile.FieldType.int)) ∈ lw_all := lw_g (lw_at lw_m6 63 rfl) rfl
theorem q2329 : (Jvm.Cond.castable "BarredBooks$Clause" "java/lang/Object") ∈ lw_tbl := lw_at lw_m10 70 rfl

/-! BarredBooks$OfAuthor -/
set_option maxRecDepth 100000
def RX19 : String := "BarredBooks$OfAuthor"
def TX19 : u_T := fun k => match k with
  | 0 => ("BarredBooks$OfAuthor", "n", "I", true)
  | _ => ("BarredBooks$OfAuthor", "free", "Z", true)
def tyX19 : Nat → FieldType := fun k => match k with
  | 0 => .int
  | _ => .boolean
abbrev wsX190 : List Cond := u_ws RX19 TX19 2
theorem nmX19 : ∀ a, a < 2 → ∀ b, b < 2 → a ≠ b → (TX19 a).2.1 ≠ (TX19 b).2.1 := by decide +kernel
theorem tyX19_ok : ∀ k, k < 2 → parseFieldDescriptor (TX19 k).2.2.1 = some (tyX19 k) := by decide +kernel
abbrev cX19_init : ByteArray := prog_14_method_1_code
def yX19_init : MethodName := ⟨RX19, "<init>", "(IZ)V"⟩
def dkwX19_init_0 : List UInt8 := [42, 183, 0, 3, 42, 27, 181, 0, 9, 42, 28, 181, 0, 15, 177]
abbrev dktX19_init_0 : List UInt8 := dkwX19_init_0 ++ []
theorem dksX19_init_0 : cX19_init.data.toList.drop 0 = dktX19_init_0 := by decide +kernel
theorem dX19_init_0 : decode cX19_init 0 = .ok (.aload_n 0, 1) := dk_42 (dk_at dksX19_init_0 0 rfl rfl)
theorem dX19_init_1 : decode cX19_init 1 = .ok (.invokespecial 3, 3) := dk_183 0 3 (dk_at dksX19_init_0 1 rfl rfl)
theorem dX19_init_4 : decode cX19_init 4 = .ok (.aload_n 0, 1) := dk_42 (dk_at dksX19_init_0 4 rfl rfl)
theorem dX19_init_5 : decode cX19_init 5 = .ok (.iload_n 1, 1) := dk_27 (dk_at dksX19_init_0 5 rfl rfl)
theorem dX19_init_6 : decode cX19_init 6 = .ok (.putfield 9, 3) := dk_181 0 9 (dk_at dksX19_init_0 6 rfl rfl)
theorem dX19_init_9 : decode cX19_init 9 = .ok (.aload_n 0, 1) := dk_42 (dk_at dksX19_init_0 9 rfl rfl)
theorem dX19_init_10 : decode cX19_init 10 = .ok (.iload_n 2, 1) := dk_28 (dk_at dksX19_init_0 10 rfl rfl)
theorem dX19_init_11 : decode cX19_init 11 = .ok (.putfield 15, 3) := dk_181 0 15 (dk_at dksX19_init_0 11 rfl rfl)
theorem dX19_init_14 : decode cX19_init 14 = .ok (.return_, 1) := dk_177 (dk_at dksX19_init_0 14 rfl rfl)
abbrev cX19_bars : ByteArray := prog_14_method_3_code
def yX19_bars : MethodName := ⟨RX19, "bars", "(LBarredBooks$Edition;)I"⟩
def dkwX19_bars_1 : List UInt8 := [167, 0, 4, 4, 172]
abbrev dktX19_bars_1 : List UInt8 := dkwX19_bars_1 ++ []
def dkwX19_bars_0 : List UInt8 := [42, 43, 180, 0, 24, 182, 0, 30, 154, 0, 7, 2, 167, 0, 15, 42, 180, 0, 15, 153, 0, 7, 3]
abbrev dktX19_bars_0 : List UInt8 := dkwX19_bars_0 ++ dktX19_bars_1
theorem dksX19_bars_0 : cX19_bars.data.toList.drop 0 = dktX19_bars_0 := by decide +kernel
theorem dksX19_bars_1 : cX19_bars.data.toList.drop 23 = dktX19_bars_1 := dk_seg dksX19_bars_0 23 rfl rfl
theorem dX19_bars_0 : decode cX19_bars 0 = .ok (.aload_n 0, 1) := dk_42 (dk_at dksX19_bars_0 0 rfl rfl)
theorem dX19_bars_1 : decode cX19_bars 1 = .ok (.aload_n 1, 1) := dk_43 (dk_at dksX19_bars_0 1 rfl rfl)
theorem dX19_bars_2 : decode cX19_bars 2 = .ok (.getfield 24, 3) := dk_180 0 24 (dk_at dksX19_bars_0 2 rfl rfl)
theorem dX19_bars_5 : decode cX19_bars 5 = .ok (.invokevirtual 30, 3) := dk_182 0 30 (dk_at dksX19_bars_0 5 rfl rfl)
theorem dX19_bars_8 : decode cX19_bars 8 = .ok (.ifCond .ne 7, 3) := dk_154 0 7 (dk_at dksX19_bars_0 8 rfl rfl)
theorem dX19_bars_11 : decode cX19_bars 11 = .ok (.iconst (-1), 1) := dk_2 (dk_at dksX19_bars_0 11 rfl rfl)
theorem dX19_bars_12 : decode cX19_bars 12 = .ok (.goto 15, 3) := dk_167 0 15 (dk_at dksX19_bars_0 12 rfl rfl)
theorem dX19_bars_15 : decode cX19_bars 15 = .ok (.aload_n 0, 1) := dk_42 (dk_at dksX19_bars_0 15 rfl rfl)
theorem dX19_bars_16 : decode cX19_bars 16 = .ok (.getfield 15, 3) := dk_180 0 15 (dk_at dksX19_bars_0 16 rfl rfl)
theorem dX19_bars_19 : decode cX19_bars 19 = .ok (.ifCond .eq 7, 3) := dk_153 0 7 (dk_at dksX19_bars_0 19 rfl rfl)
theorem dX19_bars_22 : decode cX19_bars 22 = .ok (.iconst 0, 1) := dk_3 (dk_at dksX19_bars_0 22 rfl rfl)
theorem dX19_bars_23 : decode cX19_bars 23 = .ok (.goto 4, 3) := dk_167 0 4 (dk_at dksX19_bars_1 0 rfl rfl)
theorem dX19_bars_26 : decode cX19_bars 26 = .ok (.iconst 1, 1) := dk_4 (dk_at dksX19_bars_1 3 rfl rfl)
theorem dX19_bars_27 : decode cX19_bars 27 = .ok (.ireturn, 1) := dk_172 (dk_at dksX19_bars_1 4 rfl rfl)
abbrev cX19_speaks : ByteArray := prog_14_method_2_code
def yX19_speaks : MethodName := ⟨RX19, "speaks", "(LBarredBooks$Book;)Z"⟩
def dkwX19_speaks_0 : List UInt8 := [43, 180, 0, 19, 42, 180, 0, 9, 160, 0, 7, 4, 167, 0, 4, 3, 172]
abbrev dktX19_speaks_0 : List UInt8 := dkwX19_speaks_0 ++ []
theorem dksX19_speaks_0 : cX19_speaks.data.toList.drop 0 = dktX19_speaks_0 := by decide +kernel
theorem dX19_speaks_0 : decode cX19_speaks 0 = .ok (.aload_n 1, 1) := dk_43 (dk_at dksX19_speaks_0 0 rfl rfl)
theorem dX19_speaks_1 : decode cX19_speaks 1 = .ok (.getfield 19, 3) := dk_180 0 19 (dk_at dksX19_speaks_0 1 rfl rfl)
theorem dX19_speaks_4 : decode cX19_speaks 4 = .ok (.aload_n 0, 1) := dk_42 (dk_at dksX19_speaks_0 4 rfl rfl)
theorem dX19_speaks_5 : decode cX19_speaks 5 = .ok (.getfield 9, 3) := dk_180 0 9 (dk_at dksX19_speaks_0 5 rfl rfl)
theorem dX19_speaks_8 : decode cX19_speaks 8 = .ok (.if_icmp .ne 7, 3) := dk_160 0 7 (dk_at dksX19_speaks_0 8 rfl rfl)
theorem dX19_speaks_11 : decode cX19_speaks 11 = .ok (.iconst 1, 1) := dk_4 (dk_at dksX19_speaks_0 11 rfl rfl)
theorem dX19_speaks_12 : decode cX19_speaks 12 = .ok (.goto 4, 3) := dk_167 0 4 (dk_at dksX19_speaks_0 12 rfl rfl)
theorem dX19_speaks_15 : decode cX19_speaks 15 = .ok (.iconst 0, 1) := dk_3 (dk_at dksX19_speaks_0 15 rfl rfl)
theorem dX19_speaks_16 : decode cX19_speaks 16 = .ok (.ireturn, 1) := dk_172 (dk_at dksX19_speaks_0 16 rfl rfl)
theorem q132 : (Jvm.Cond.initialized "BarredBooks$OfAuthor") ∈ lw_all := lw_g (lw_at lw_m1 33 rfl) rfl
theorem q395 : (Jvm.Cond.fieldLinkNest "BarredBooks$OfAuthor" (19 : Nat) "BarredBooks$Book" "author" "I" "BarredBooks") ∈ lw_tbl := lw_at lw_m2 56 rfl
theorem q456 : (Jvm.Cond.fieldLinkNest "BarredBooks$OfAuthor" (24 : Nat) "BarredBooks$Edition" "book" "LBarredBooks$Book;" "BarredBooks") ∈ lw_tbl := lw_at lw_m2 117 rfl
theorem q1003 : (Jvm.Cond.instantiable "BarredBooks$OfAuthor" (2 : Nat)) ∈ lw_all := lw_g (lw_at lw_m4 184 rfl) rfl
theorem q1010 : (Jvm.Cond.instanceMethod ({ cls := "BarredBooks$OfAuthor", name := "<init>", desc := "(IZ)V" } : Jvm.MethodName)) ∈ lw_all := lw_g (lw_at lw_m4 191 rfl) rfl
theorem q1011 : (Jvm.Cond.code ({ cls := "BarredBooks$OfAuthor", name := "<init>", desc := "(IZ)V" } : Jvm.MethodName) prog_14_method_1_code (3 : Nat) (Option.none : Option Jvm.ClassFile.FieldType)) ∈ lw_all := lw_g (lw_at lw_m4 192 rfl) rfl
theorem q1012 : (Jvm.Cond.methodLinkNest "BarredBooks$OfAuthor" (3 : Nat) ({ cls := "BarredBooks$Clause", name := "<init>", desc := "()V" } : Jvm.MethodName) "BarredBooks") ∈ lw_tbl := lw_at lw_m4 193 rfl
theorem q1016 : (Jvm.Cond.fieldLink "BarredBooks$OfAuthor" (9 : Nat) "BarredBooks$OfAuthor" "n" "I") ∈ lw_all := lw_g (lw_at lw_m4 197 rfl) rfl
theorem q1019 : (Jvm.Cond.fieldLink "BarredBooks$OfAuthor" (15 : Nat) "BarredBooks$OfAuthor" "free" "Z") ∈ lw_all := lw_g (lw_at lw_m4 200 rfl) rfl
theorem q1021 : (Jvm.Cond.laysFinal "BarredBooks$OfAuthor" "BarredBooks$OfAuthor" "n" "I") ∈ lw_all := lw_g (lw_at lw_m4 202 rfl) rfl
theorem q1022 : (Jvm.Cond.soleField "BarredBooks$OfAuthor" "n") ∈ lw_all := lw_g (lw_at lw_m4 203 rfl) rfl
theorem q1023 : (Jvm.Cond.laysFinal "BarredBooks$OfAuthor" "BarredBooks$OfAuthor" "free" "Z") ∈ lw_all := lw_g (lw_at lw_m4 204 rfl) rfl
theorem q1024 : (Jvm.Cond.soleField "BarredBooks$OfAuthor" "free") ∈ lw_all := lw_g (lw_at lw_m4 205 rfl) rfl
theorem q1025 : (Jvm.Cond.superclass "BarredBooks$OfAuthor" "BarredBooks$Clause") ∈ lw_all := lw_g (lw_at lw_m4 206 rfl) rfl
theorem q1144 : (Jvm.Cond.selects "BarredBooks$OfAuthor" ({ cls := "java/lang/Object", name := "getClass", desc := "()Ljava/lang/Class;" } : Jvm.MethodName) ({ cls := "java/lang/Object", name := "getClass", desc := "()Ljava/lang/Class;" } : Jvm.MethodName)) ∈ lw_all := lw_g (lw_at lw_m5 85 rfl) rfl
theorem q1257 : (Jvm.Cond.selects "BarredBooks$OfAuthor" ({ cls := "BarredBooks$Clause", name := "bars", desc := "(LBarredBooks$Edition;)I" } : Jvm.MethodName) ({ cls := "BarredBooks$OfAuthor", name := "bars", desc := "(LBarredBooks$Edition;)I" } : Jvm.MethodName)) ∈ lw_all := lw_g (lw_at lw_m5 198 rfl) rfl
theorem q1258 : (Jvm.Cond.instanceMethod ({ cls := "BarredBooks$OfAuthor", name := "bars", desc := "(LBarredBooks$Edition;)I" } : Jvm.MethodName)) ∈ lw_all := lw_g (lw_at lw_m5 199 rfl) rfl
theorem q1259 : (Jvm.Cond.code ({ cls := "BarredBooks$OfAuthor", name := "bars", desc := "(LBarredBooks$Edition;)I" } : Jvm.MethodName) prog_14_method_3_code (2 : Nat) (Option.some Jvm.ClassFile.FieldType.int)) ∈ lw_all := lw_g (lw_at lw_m5 200 rfl) rfl
theorem q1260 : (Jvm.Cond.methodLink "BarredBooks$OfAuthor" (30 : Nat) ({ cls := "BarredBooks$OfAuthor", name := "speaks", desc := "(LBarredBooks$Book;)Z" } : Jvm.MethodName)) ∈ lw_all := lw_g (lw_at lw_m5 201 rfl) rfl
theorem q1261 : (Jvm.Cond.instanceMethod ({ cls := "BarredBooks$OfAuthor", name := "speaks", desc := "(LBarredBooks$Book;)Z" } : Jvm.MethodName)) ∈ lw_all := lw_g (lw_at lw_m5 202 rfl) rfl
theorem q1262 : (Jvm.Cond.selects "BarredBooks$OfAuthor" ({ cls := "BarredBooks$OfAuthor", name := "speaks", desc := "(LBarredBooks$Book;)Z" } : Jvm.MethodName) ({ cls := "BarredBooks$OfAuthor", name := "speaks", desc := "(LBarredBooks$Book;)Z" } : Jvm.MethodName)) ∈ lw_all := lw_g (lw_at lw_m5 203 rfl) rfl
theorem q1263 : (Jvm.Cond.sameMethod "BarredBooks$OfAuthor" "BarredBooks$OfAuthor" "speaks" "(LBarredBooks$Book;)Z") ∈ lw_all := lw_g (lw_at lw_m5 204 rfl) rfl
theorem q1267 : (Jvm.Cond.code ({ cls := "BarredBooks$OfAuthor", name := "speaks", desc := "(LBarredBooks$Book;)Z" } : Jvm.MethodName) prog_14_method_2_code (2 : Nat) (Option.some Jvm.ClassFile.FieldType.boolean)) ∈ lw_all := lw_g (lw_at lw_m5 208 rfl) rfl
theorem q1292 : (Jvm.Cond.selects "BarredBooks$OfAuthor" ({ cls := "BarredBooks$Clause", name := "strikes", desc := "(LBarredBooks$Look;)Z" } : Jvm.MethodName) ({ cls := "BarredBooks$Clause", name := "strikes", desc := "(LBarredBooks$Look;)Z" } : Jvm.MethodName)) ∈ lw_all := lw_g (lw_at lw_m5 233 rfl) rfl
theorem q1356 : (Jvm.Cond.selects "BarredBooks$OfAuthor" ({ cls := "BarredBooks$Clause", name := "lets", desc := "(I)I" } : Jvm.MethodName) ({ cls := "BarredBooks$Clause", name := "lets", desc := "(I)I" } : Jvm.MethodName)) ∈ lw_all := lw_g (lw_at lw_m6 57 rfl) rfl
theorem q2314 : (Jvm.Cond.castable "BarredBooks$OfAuthor" "BarredBooks$Clause") ∈ lw_tbl := lw_at lw_m10 55 rfl
theorem q2345 : (Jvm.Cond.castable "BarredBooks$OfAuthor" "java/lang/Object") ∈ lw_tbl := lw_at lw_m10 86 rfl
theorem in_X19 : ∀ w ∈ wsX190, w ∈ lw_all := lw_in wsX190 [1021, 1023] (by decide +kernel) (by decide +kernel)

/-! BarredBooks$OfTitle -/
set_option maxRecDepth 100000
def RX20 : String := "BarredBooks$OfTitle"
def TX20 : u_T := fun k => match k with
  | 0 => ("BarredBooks$OfAuthor", "n", "I", true)
  | _ => ("BarredBooks$OfAuthor", "free", "Z", true)
def tyX20 : Nat → FieldType := fun k => match k with
  | 0 => .int
  | _ => .boolean
abbrev wsX200 : List Cond := u_ws RX20 TX20 2
theorem nmX20 : ∀ a, a < 2 → ∀ b, b < 2 → a ≠ b → (TX20 a).2.1 ≠ (TX20 b).2.1 := by decide +kernel
theorem tyX20_ok : ∀ k, k < 2 → parseFieldDescriptor (TX20 k).2.2.1 = some (tyX20 k) := by decide +kernel
abbrev cX20_init : ByteArray := prog_17_method_1_code
def yX20_init : MethodName := ⟨RX20, "<init>", "(IZ)V"⟩
def dkwX20_init_0 : List UInt8 := [42, 27, 28, 183, 0, 1, 177]
abbrev dktX20_init_0 : List UInt8 := dkwX20_init_0 ++ []
theorem dksX20_init_0 : cX20_init.data.toList.drop 0 = dktX20_init_0 := by decide +kernel
theorem dX20_init_0 : decode cX20_init 0 = .ok (.aload_n 0, 1) := dk_42 (dk_at dksX20_init_0 0 rfl rfl)
theorem dX20_init_1 : decode cX20_init 1 = .ok (.iload_n 1, 1) := dk_27 (dk_at dksX20_init_0 1 rfl rfl)
theorem dX20_init_2 : decode cX20_init 2 = .ok (.iload_n 2, 1) := dk_28 (dk_at dksX20_init_0 2 rfl rfl)
theorem dX20_init_3 : decode cX20_init 3 = .ok (.invokespecial 1, 3) := dk_183 0 1 (dk_at dksX20_init_0 3 rfl rfl)
theorem dX20_init_6 : decode cX20_init 6 = .ok (.return_, 1) := dk_177 (dk_at dksX20_init_0 6 rfl rfl)
abbrev cX20_speaks : ByteArray := prog_17_method_2_code
def yX20_speaks : MethodName := ⟨RX20, "speaks", "(LBarredBooks$Book;)Z"⟩
def dkwX20_speaks_0 : List UInt8 := [43, 180, 0, 7, 42, 180, 0, 13, 160, 0, 7, 4, 167, 0, 4, 3, 172]
abbrev dktX20_speaks_0 : List UInt8 := dkwX20_speaks_0 ++ []
theorem dksX20_speaks_0 : cX20_speaks.data.toList.drop 0 = dktX20_speaks_0 := by decide +kernel
theorem dX20_speaks_0 : decode cX20_speaks 0 = .ok (.aload_n 1, 1) := dk_43 (dk_at dksX20_speaks_0 0 rfl rfl)
theorem dX20_speaks_1 : decode cX20_speaks 1 = .ok (.getfield 7, 3) := dk_180 0 7 (dk_at dksX20_speaks_0 1 rfl rfl)
theorem dX20_speaks_4 : decode cX20_speaks 4 = .ok (.aload_n 0, 1) := dk_42 (dk_at dksX20_speaks_0 4 rfl rfl)
theorem dX20_speaks_5 : decode cX20_speaks 5 = .ok (.getfield 13, 3) := dk_180 0 13 (dk_at dksX20_speaks_0 5 rfl rfl)
theorem dX20_speaks_8 : decode cX20_speaks 8 = .ok (.if_icmp .ne 7, 3) := dk_160 0 7 (dk_at dksX20_speaks_0 8 rfl rfl)
theorem dX20_speaks_11 : decode cX20_speaks 11 = .ok (.iconst 1, 1) := dk_4 (dk_at dksX20_speaks_0 11 rfl rfl)
theorem dX20_speaks_12 : decode cX20_speaks 12 = .ok (.goto 4, 3) := dk_167 0 4 (dk_at dksX20_speaks_0 12 rfl rfl)
theorem dX20_speaks_15 : decode cX20_speaks 15 = .ok (.iconst 0, 1) := dk_3 (dk_at dksX20_speaks_0 15 rfl rfl)
theorem dX20_speaks_16 : decode cX20_speaks 16 = .ok (.ireturn, 1) := dk_172 (dk_at dksX20_speaks_0 16 rfl rfl)
theorem q133 : (Jvm.Cond.initialized "BarredBooks$OfTitle") ∈ lw_all := lw_g (lw_at lw_m1 34 rfl) rfl
theorem q391 : (Jvm.Cond.fieldLinkNest "BarredBooks$OfTitle" (7 : Nat) "BarredBooks$Book" "title" "I" "BarredBooks") ∈ lw_tbl := lw_at lw_m2 52 rfl
theorem q1017 : (Jvm.Cond.fieldLink "BarredBooks$OfTitle" (13 : Nat) "BarredBooks$OfTitle" "n" "I") ∈ lw_all := lw_g (lw_at lw_m4 198 rfl) rfl
theorem q1018 : (Jvm.Cond.sameField "BarredBooks$OfTitle" "BarredBooks$OfAuthor" "n" "I") ∈ lw_all := lw_g (lw_at lw_m4 199 rfl) rfl
theorem q1028 : (Jvm.Cond.instantiable "BarredBooks$OfTitle" (2 : Nat)) ∈ lw_all := lw_g (lw_at lw_m4 209 rfl) rfl
theorem q1030 : (Jvm.Cond.instanceMethod ({ cls := "BarredBooks$OfTitle", name := "<init>", desc := "(IZ)V" } : Jvm.MethodName)) ∈ lw_all := lw_g (lw_at lw_m4 211 rfl) rfl
theorem q1031 : (Jvm.Cond.code ({ cls := "BarredBooks$OfTitle", name := "<init>", desc := "(IZ)V" } : Jvm.MethodName) prog_17_method_1_code (3 : Nat) (Option.none : Option Jvm.ClassFile.FieldType)) ∈ lw_all := lw_g (lw_at lw_m4 212 rfl) rfl
theorem q1032 : (Jvm.Cond.methodLink "BarredBooks$OfTitle" (1 : Nat) ({ cls := "BarredBooks$OfAuthor", name := "<init>", desc := "(IZ)V" } : Jvm.MethodName)) ∈ lw_all := lw_g (lw_at lw_m4 213 rfl) rfl
theorem q1033 : (Jvm.Cond.laysFinal "BarredBooks$OfTitle" "BarredBooks$OfAuthor" "n" "I") ∈ lw_all := lw_g (lw_at lw_m4 214 rfl) rfl
theorem q1034 : (Jvm.Cond.laysFinal "BarredBooks$OfTitle" "BarredBooks$OfAuthor" "free" "Z") ∈ lw_all := lw_g (lw_at lw_m4 215 rfl) rfl
theorem q1035 : (Jvm.Cond.superclass "BarredBooks$OfTitle" "BarredBooks$OfAuthor") ∈ lw_all := lw_g (lw_at lw_m4 216 rfl) rfl
theorem q1147 : (Jvm.Cond.selects "BarredBooks$OfTitle" ({ cls := "java/lang/Object", name := "getClass", desc := "()Ljava/lang/Class;" } : Jvm.MethodName) ({ cls := "java/lang/Object", name := "getClass", desc := "()Ljava/lang/Class;" } : Jvm.MethodName)) ∈ lw_all := lw_g (lw_at lw_m5 88 rfl) rfl
theorem q1264 : (Jvm.Cond.selects "BarredBooks$OfTitle" ({ cls := "BarredBooks$OfAuthor", name := "speaks", desc := "(LBarredBooks$Book;)Z" } : Jvm.MethodName) ({ cls := "BarredBooks$OfTitle", name := "speaks", desc := "(LBarredBooks$Book;)Z" } : Jvm.MethodName)) ∈ lw_all := lw_g (lw_at lw_m5 205 rfl) rfl
theorem q1265 : (Jvm.Cond.instanceMethod ({ cls := "BarredBooks$OfTitle", name := "speaks", desc := "(LBarredBooks$Book;)Z" } : Jvm.MethodName)) ∈ lw_all := lw_g (lw_at lw_m5 206 rfl) rfl
theorem q1266 : (Jvm.Cond.code ({ cls := "BarredBooks$OfTitle", name := "speaks", desc := "(LBarredBooks$Book;)Z" } : Jvm.MethodName) prog_17_method_2_code (2 : Nat) (Option.some Jvm.ClassFile.FieldType.boolean)) ∈ lw_all := lw_g (lw_at lw_m5 207 rfl) rfl
theorem q1270 : (Jvm.Cond.selects "BarredBooks$OfTitle" ({ cls := "BarredBooks$Clause", name := "bars", desc := "(LBarredBooks$Edition;)I" } : Jvm.MethodName) ({ cls := "BarredBooks$OfAuthor", name := "bars", desc := "(LBarredBooks$Edition;)I" } : Jvm.MethodName)) ∈ lw_all := lw_g (lw_at lw_m5 211 rfl) rfl
theorem q1329 : (Jvm.Cond.selects "BarredBooks$OfTitle" ({ cls := "BarredBooks$Clause", name := "strikes", desc := "(LBarredBooks$Look;)Z" } : Jvm.MethodName) ({ cls := "BarredBooks$Clause", name := "strikes", desc := "(LBarredBooks$Look;)Z" } : Jvm.MethodName)) ∈ lw_all := lw_g (lw_at lw_m6 30 rfl) rfl
theorem q1361 : (Jvm.Cond.selects "BarredBooks$OfTitle" ({ cls := "BarredBooks$Clause", name := "lets", desc := "(I)I" } : Jvm.MethodName) ({ cls := "BarredBooks$Clause", name := "lets", desc := "(I)I" } : Jvm.MethodName)) ∈ lw_all := lw_g (lw_at lw_m6 62 rfl) rfl
theorem q2317 : (Jvm.Cond.castable "BarredBooks$OfTitle" "BarredBooks$Clause") ∈ lw_tbl := lw_at lw_m10 58 rfl
theorem q2321 : (Jvm.Cond.castable "BarredBooks$OfTitle" "BarredBooks$OfAuthor") ∈ lw_tbl := lw_at lw_m10 62 rfl
theorem q2346 : (Jvm.Cond.castable "BarredBooks$OfTitle" "java/lang/Object") ∈ lw_tbl := lw_at lw_m10 87 rfl
theorem in_X20 : ∀ w ∈ wsX200, w ∈ lw_all := lw_in wsX200 [1033, 1034] (by decide +kernel) (by decide +kernel)

/-! BarredBooks$OfLines -/
set_option maxRecDepth 100000
def RX21 : String := "BarredBooks$OfLines"
def TX21 : u_T := fun k => match k with
  | _ => ("BarredBooks$OfLines", "test", "LBarredBooks$Test;", true)
def tyX21 : Nat → FieldType := fun k => match k with
  | _ => .object "BarredBooks$Test"
abbrev wsX210 : List Cond := u_ws RX21 TX21 1
theorem nmX21 : ∀ a, a < 1 → ∀ b, b < 1 → a ≠ b → (TX21 a).2.1 ≠ (TX21 b).2.1 := by decide +kernel
theorem tyX21_ok : ∀ k, k < 1 → parseFieldDescriptor (TX21 k).2.2.1 = some (tyX21 k) := by decide +kernel
abbrev cX21_init : ByteArray := prog_15_method_1_code
def yX21_init : MethodName := ⟨RX21, "<init>", "(LBarredBooks$Test;)V"⟩
def dkwX21_init_0 : List UInt8 := [42, 183, 0, 1, 42, 43, 181, 0, 7, 177]
abbrev dktX21_init_0 : List UInt8 := dkwX21_init_0 ++ []
theorem dksX21_init_0 : cX21_init.data.toList.drop 0 = dktX21_init_0 := by decide +kernel
theorem dX21_init_0 : decode cX21_init 0 = .ok (.aload_n 0, 1) := dk_42 (dk_at dksX21_init_0 0 rfl rfl)
theorem dX21_init_1 : decode cX21_init 1 = .ok (.invokespecial 1, 3) := dk_183 0 1 (dk_at dksX21_init_0 1 rfl rfl)
theorem dX21_init_4 : decode cX21_init 4 = .ok (.aload_n 0, 1) := dk_42 (dk_at dksX21_init_0 4 rfl rfl)
theorem dX21_init_5 : decode cX21_init 5 = .ok (.aload_n 1, 1) := dk_43 (dk_at dksX21_init_0 5 rfl rfl)
theorem dX21_init_6 : decode cX21_init 6 = .ok (.putfield 7, 3) := dk_181 0 7 (dk_at dksX21_init_0 6 rfl rfl)
theorem dX21_init_9 : decode cX21_init 9 = .ok (.return_, 1) := dk_177 (dk_at dksX21_init_0 9 rfl rfl)
abbrev cX21_strikes : ByteArray := prog_15_method_2_code
def yX21_strikes : MethodName := ⟨RX21, "strikes", "(LBarredBooks$Look;)Z"⟩
def dkwX21_strikes_0 : List UInt8 := [42, 180, 0, 7, 43, 182, 0, 13, 172]
abbrev dktX21_strikes_0 : List UInt8 := dkwX21_strikes_0 ++ []
theorem dksX21_strikes_0 : cX21_strikes.data.toList.drop 0 = dktX21_strikes_0 := by decide +kernel
theorem dX21_strikes_0 : decode cX21_strikes 0 = .ok (.aload_n 0, 1) := dk_42 (dk_at dksX21_strikes_0 0 rfl rfl)
theorem dX21_strikes_1 : decode cX21_strikes 1 = .ok (.getfield 7, 3) := dk_180 0 7 (dk_at dksX21_strikes_0 1 rfl rfl)
theorem dX21_strikes_4 : decode cX21_strikes 4 = .ok (.aload_n 1, 1) := dk_43 (dk_at dksX21_strikes_0 4 rfl rfl)
theorem dX21_strikes_5 : decode cX21_strikes 5 = .ok (.invokevirtual 13, 3) := dk_182 0 13 (dk_at dksX21_strikes_0 5 rfl rfl)
theorem dX21_strikes_8 : decode cX21_strikes 8 = .ok (.ireturn, 1) := dk_172 (dk_at dksX21_strikes_0 8 rfl rfl)
theorem q134 : (Jvm.Cond.initialized "BarredBooks$OfLines") ∈ lw_all := lw_g (lw_at lw_m1 35 rfl) rfl
theorem q1042 : (Jvm.Cond.instantiable "BarredBooks$OfLines" (1 : Nat)) ∈ lw_all := lw_g (lw_at lw_m4 223 rfl) rfl
theorem q1145 : (Jvm.Cond.selects "BarredBooks$OfLines" ({ cls := "java/lang/Object", name := "getClass", desc := "()Ljava/lang/Class;" } : Jvm.MethodName) ({ cls := "java/lang/Object", name := "getClass", desc := "()Ljava/lang/Class;" } : Jvm.MethodName)) ∈ lw_all := lw_g (lw_at lw_m5 86 rfl) rfl
theorem q1179 : (Jvm.Cond.instanceMethod ({ cls := "BarredBooks$OfLines", name := "<init>", desc := "(LBarredBooks$Test;)V" } : Jvm.MethodName)) ∈ lw_all := lw_g (lw_at lw_m5 120 rfl) rfl
theorem q1180 : (Jvm.Cond.code ({ cls := "BarredBooks$OfLines", name := "<init>", desc := "(LBarredBooks$Test;)V" } : Jvm.MethodName) prog_15_method_1_code (2 : Nat) (Option.none : Option Jvm.ClassFile.FieldType)) ∈ lw_all := lw_g (lw_at lw_m5 121 rfl) rfl
theorem q1181 : (Jvm.Cond.methodLinkNest "BarredBooks$OfLines" (1 : Nat) ({ cls := "BarredBooks$Clause", name := "<init>", desc := "()V" } : Jvm.MethodName) "BarredBooks") ∈ lw_tbl := lw_at lw_m5 122 rfl
theorem q1182 : (Jvm.Cond.fieldLink "BarredBooks$OfLines" (7 : Nat) "BarredBooks$OfLines" "test" "LBarredBooks$Test;") ∈ lw_all := lw_g (lw_at lw_m5 123 rfl) rfl
theorem q1183 : (Jvm.Cond.laysFinal "BarredBooks$OfLines" "BarredBooks$OfLines" "test" "LBarredBooks$Test;") ∈ lw_all := lw_g (lw_at lw_m5 124 rfl) rfl
theorem q1184 : (Jvm.Cond.soleField "BarredBooks$OfLines" "test") ∈ lw_all := lw_g (lw_at lw_m5 125 rfl) rfl
theorem q1185 : (Jvm.Cond.superclass "BarredBooks$OfLines" "BarredBooks$Clause") ∈ lw_all := lw_g (lw_at lw_m5 126 rfl) rfl
theorem q1268 : (Jvm.Cond.selects "BarredBooks$OfLines" ({ cls := "BarredBooks$Clause", name := "bars", desc := "(LBarredBooks$Edition;)I" } : Jvm.MethodName) ({ cls := "BarredBooks$Clause", name := "bars", desc := "(LBarredBooks$Edition;)I" } : Jvm.MethodName)) ∈ lw_all := lw_g (lw_at lw_m5 209 rfl) rfl
theorem q1293 : (Jvm.Cond.selects "BarredBooks$OfLines" ({ cls := "BarredBooks$Clause", name := "strikes", desc := "(LBarredBooks$Look;)Z" } : Jvm.MethodName) ({ cls := "BarredBooks$OfLines", name := "strikes", desc := "(LBarredBooks$Look;)Z" } : Jvm.MethodName)) ∈ lw_all := lw_g (lw_at lw_m5 234 rfl) rfl
theorem q1294 : (Jvm.Cond.instanceMethod ({ cls := "BarredBooks$OfLines", name := "strikes", desc := "(LBarredBooks$Look;)Z" } : Jvm.MethodName)) ∈ lw_all := lw_g (lw_at lw_m5 235 rfl) rfl
theorem q1295 : (Jvm.Cond.code ({ cls := "BarredBooks$OfLines", name := "strikes", desc := "(LBarredBooks$Look;)Z" } : Jvm.MethodName) prog_15_method_2_code (2 : Nat) (Option.some Jvm.ClassFile.FieldType.boolean)) ∈ lw_all := lw_g (lw_at lw_m5 236 rfl) rfl
theorem q1296 : (Jvm.Cond.methodLink "BarredBooks$OfLines" (13 : Nat) ({ cls := "BarredBooks$Test", name := "holds", desc := "(LBarredBooks$Look;)Z" } : Jvm.MethodName)) ∈ lw_all := lw_g (lw_at lw_m5 237 rfl) rfl
theorem q1357 : (Jvm.Cond.selects "BarredBooks$OfLines" ({ cls := "BarredBooks$Clause", name := "lets", desc := "(I)I" } : Jvm.MethodName) ({ cls := "BarredBooks$Clause", name := "lets", desc := "(I)I" } : Jvm.MethodName)) ∈ lw_all := lw_g (lw_at lw_m6 58 rfl) rfl
theorem q2315 : (Jvm.Cond.castable "BarredBooks$OfLines" "BarredBooks$Clause") ∈ lw_tbl := lw_at lw_m10 56 rfl
theorem q2347 : (Jvm.Cond.castable "BarredBooks$OfLines" "java/lang/Object") ∈ lw_tbl := lw_at lw_m10 88 rfl
theorem in_X21 : ∀ w ∈ wsX210, w ∈ lw_all := lw_in wsX210 [1183] (by decide +kernel) (by decide +kernel)

/-! BarredBooks$Test -/
set_option maxRecDepth 100000
def RX22 : String := "BarredBooks$Test"
abbrev cX22_init : ByteArray := prog_27_method_1_code
def yX22_init : MethodName := ⟨RX22, "<init>", "()V"⟩
theorem dX22_init_0 : decode cX22_init 0 = .ok (.aload_n 0, 1) := by decide +kernel
theorem dX22_init_1 : decode cX22_init 1 = .ok (.invokespecial 1, 3) := by decide +kernel
theorem dX22_init_4 : decode cX22_init 4 = .ok (.return_, 1) := by decide +kernel
theorem q135 : (Jvm.Cond.initialized "BarredBooks$Test") ∈ lw_all := lw_g (lw_at lw_m1 36 rfl) rfl
theorem q1053 : (Jvm.Cond.instanceMethod ({ cls := "BarredBooks$Test", name := "<init>", desc := "()V" } : Jvm.MethodName)) ∈ lw_all := lw_g (lw_at lw_m4 234 rfl) rfl
theorem q1054 : (Jvm.Cond.code ({ cls := "BarredBooks$Test", name := "<init>", desc := "()V" } : Jvm.MethodName) prog_27_method_1_code (1 : Nat) (Option.none : Option Jvm.ClassFile.FieldType)) ∈ lw_all := lw_g (lw_at lw_m4 235 rfl) rfl
theorem q1055 : (Jvm.Cond.methodLink "BarredBooks$Test" (1 : Nat) ({ cls := "java/lang/Object", name := "<init>", desc := "()V" } : Jvm.MethodName)) ∈ lw_all := lw_g (lw_at lw_m4 236 rfl) rfl
theorem q1297 : (Jvm.Cond.declares ({ cls := "BarredBooks$Test", name := "holds", desc := "(LBarredBooks$Look;)Z" } : Jvm.MethodName)) ∈ lw_tbl := lw_at lw_m5 238 rfl
theorem q1298 : (Jvm.Cond.sameMethod "BarredBooks$Test" "BarredBooks$Test" "holds" "(LBarredBooks$Look;)Z") ∈ lw_all := lw_g (lw_at lw_m5 239 rfl) rfl

/-! BarredBooks$Some -/
set_option maxRecDepth 100000
def RX23 : String := "BarredBooks$Some"
def TX23 : u_T := fun k => match k with
  | 0 => ("BarredBooks$Some", "isAll", "Z", true)
  | _ => ("BarredBooks$Some", "of", "Ljava/util/ArrayList;", true)
def tyX23 : Nat → FieldType := fun k => match k with
  | 0 => .boolean
  | _ => .object "java/util/ArrayList"
abbrev wsX230 : List Cond := u_ws RX23 TX23 2
theorem nmX23 : ∀ a, a < 2 → ∀ b, b < 2 → a ≠ b → (TX23 a).2.1 ≠ (TX23 b).2.1 := by decide +kernel
theorem tyX23_ok : ∀ k, k < 2 → parseFieldDescriptor (TX23 k).2.2.1 = some (tyX23 k) := by decide +kernel
abbrev cX23_init : ByteArray := prog_24_method_1_code
def yX23_init : MethodName := ⟨RX23, "<init>", "(Z)V"⟩
def dkwX23_init_0 : List UInt8 := [42, 183, 0, 1, 42, 187, 0, 7, 89, 183, 0, 9, 181, 0, 10, 42, 27, 181, 0, 16, 177]
abbrev dktX23_init_0 : List UInt8 := dkwX23_init_0 ++ []
theorem dksX23_init_0 : cX23_init.data.toList.drop 0 = dktX23_init_0 := by decide +kernel
theorem dX23_init_0 : decode cX23_init 0 = .ok (.aload_n 0, 1) := dk_42 (dk_at dksX23_init_0 0 rfl rfl)
theorem dX23_init_1 : decode cX23_init 1 = .ok (.invokespecial 1, 3) := dk_183 0 1 (dk_at dksX23_init_0 1 rfl rfl)
theorem dX23_init_4 : decode cX23_init 4 = .ok (.aload_n 0, 1) := dk_42 (dk_at dksX23_init_0 4 rfl rfl)
theorem dX23_init_5 : decode cX23_init 5 = .ok (.new 7, 3) := dk_187 0 7 (dk_at dksX23_init_0 5 rfl rfl)
theorem dX23_init_8 : decode cX23_init 8 = .ok (.dup, 1) := dk_89 (dk_at dksX23_init_0 8 rfl rfl)
theorem dX23_init_9 : decode cX23_init 9 = .ok (.invokespecial 9, 3) := dk_183 0 9 (dk_at dksX23_init_0 9 rfl rfl)
theorem dX23_init_12 : decode cX23_init 12 = .ok (.putfield 10, 3) := dk_181 0 10 (dk_at dksX23_init_0 12 rfl rfl)
theorem dX23_init_15 : decode cX23_init 15 = .ok (.aload_n 0, 1) := dk_42 (dk_at dksX23_init_0 15 rfl rfl)
theorem dX23_init_16 : decode cX23_init 16 = .ok (.iload_n 1, 1) := dk_27 (dk_at dksX23_init_0 16 rfl rfl)
theorem dX23_init_17 : decode cX23_init 17 = .ok (.putfield 16, 3) := dk_181 0 16 (dk_at dksX23_init_0 17 rfl rfl)
theorem dX23_init_20 : decode cX23_init 20 = .ok (.return_, 1) := dk_177 (dk_at dksX23_init_0 20 rfl rfl)
abbrev cX23_holds : ByteArray := prog_24_method_2_code
def yX23_holds : MethodName := ⟨RX23, "holds", "(LBarredBooks$Look;)Z"⟩
def dkwX23_holds_2 : List UInt8 := [132, 2, 1, 167, 255, 207, 42, 180, 0, 16, 172]
abbrev dktX23_holds_2 : List UInt8 := dkwX23_holds_2 ++ []
def dkwX23_holds_1 : List UInt8 := [43, 182, 0, 28, 42, 180, 0, 16, 159, 0, 16, 42, 180, 0, 16, 154, 0, 7, 4, 167, 0, 4, 3, 172]
abbrev dktX23_holds_1 : List UInt8 := dkwX23_holds_1 ++ dktX23_holds_2
def dkwX23_holds_0 : List UInt8 := [3, 61, 28, 42, 180, 0, 10, 182, 0, 20, 162, 0, 44, 42, 180, 0, 10, 28, 182, 0, 24, 192, 0, 2]
abbrev dktX23_holds_0 : List UInt8 := dkwX23_holds_0 ++ dktX23_holds_1
theorem dksX23_holds_0 : cX23_holds.data.toList.drop 0 = dktX23_holds_0 := by decide +kernel
theorem dksX23_holds_1 : cX23_holds.data.toList.drop 24 = dktX23_holds_1 := dk_seg dksX23_holds_0 24 rfl rfl
theorem dksX23_holds_2 : cX23_holds.data.toList.drop 48 = dktX23_holds_2 := dk_seg dksX23_holds_1 24 rfl rfl
theorem dX23_holds_0 : decode cX23_holds 0 = .ok (.iconst 0, 1) := dk_3 (dk_at dksX23_holds_0 0 rfl rfl)
theorem dX23_holds_1 : decode cX23_holds 1 = .ok (.istore_n 2, 1) := dk_61 (dk_at dksX23_holds_0 1 rfl rfl)
theorem dX23_holds_2 : decode cX23_holds 2 = .ok (.iload_n 2, 1) := dk_28 (dk_at dksX23_holds_0 2 rfl rfl)
theorem dX23_holds_3 : decode cX23_holds 3 = .ok (.aload_n 0, 1) := dk_42 (dk_at dksX23_holds_0 3 rfl rfl)
theorem dX23_holds_4 : decode cX23_holds 4 = .ok (.getfield 10, 3) := dk_180 0 10 (dk_at dksX23_holds_0 4 rfl rfl)
theorem dX23_holds_7 : decode cX23_holds 7 = .ok (.invokevirtual 20, 3) := dk_182 0 20 (dk_at dksX23_holds_0 7 rfl rfl)
theorem dX23_holds_10 : decode cX23_holds 10 = .ok (.if_icmp .ge 44, 3) := dk_162 0 44 (dk_at dksX23_holds_0 10 rfl rfl)
theorem dX23_holds_13 : decode cX23_holds 13 = .ok (.aload_n 0, 1) := dk_42 (dk_at dksX23_holds_0 13 rfl rfl)
theorem dX23_holds_14 : decode cX23_holds 14 = .ok (.getfield 10, 3) := dk_180 0 10 (dk_at dksX23_holds_0 14 rfl rfl)
theorem dX23_holds_17 : decode cX23_holds 17 = .ok (.iload_n 2, 1) := dk_28 (dk_at dksX23_holds_0 17 rfl rfl)
theorem dX23_holds_18 : decode cX23_holds 18 = .ok (.invokevirtual 24, 3) := dk_182 0 24 (dk_at dksX23_holds_0 18 rfl rfl)
theorem dX23_holds_21 : decode cX23_holds 21 = .ok (.checkcast 2, 3) := dk_192 0 2 (dk_at dksX23_holds_0 21 rfl rfl)
theorem dX23_holds_24 : decode cX23_holds 24 = .ok (.aload_n 1, 1) := dk_43 (dk_at dksX23_holds_1 0 rfl rfl)
theorem dX23_holds_25 : decode cX23_holds 25 = .ok (.invokevirtual 28, 3) := dk_182 0 28 (dk_at dksX23_holds_1 1 rfl rfl)
theorem dX23_holds_28 : decode cX23_holds 28 = .ok (.aload_n 0, 1) := dk_42 (dk_at dksX23_holds_1 4 rfl rfl)
theorem dX23_holds_29 : decode cX23_holds 29 = .ok (.getfield 16, 3) := dk_180 0 16 (dk_at dksX23_holds_1 5 rfl rfl)
theorem dX23_holds_32 : decode cX23_holds 32 = .ok (.if_icmp .eq 16, 3) := dk_159 0 16 (dk_at dksX23_holds_1 8 rfl rfl)
theorem dX23_holds_35 : decode cX23_holds 35 = .ok (.aload_n 0, 1) := dk_42 (dk_at dksX23_holds_1 11 rfl rfl)
theorem dX23_holds_36 : decode cX23_holds 36 = .ok (.getfield 16, 3) := dk_180 0 16 (dk_at dksX23_holds_1 12 rfl rfl)
theorem dX23_holds_39 : decode cX23_holds 39 = .ok (.ifCond .ne 7, 3) := dk_154 0 7 (dk_at dksX23_holds_1 15 rfl rfl)
theorem dX23_holds_42 : decode cX23_holds 42 = .ok (.iconst 1, 1) := dk_4 (dk_at dksX23_holds_1 18 rfl rfl)
theorem dX23_holds_43 : decode cX23_holds 43 = .ok (.goto 4, 3) := dk_167 0 4 (dk_at dksX23_holds_1 19 rfl rfl)
theorem dX23_holds_46 : decode cX23_holds 46 = .ok (.iconst 0, 1) := dk_3 (dk_at dksX23_holds_1 22 rfl rfl)
theorem dX23_holds_47 : decode cX23_holds 47 = .ok (.ireturn, 1) := dk_172 (dk_at dksX23_holds_1 23 rfl rfl)
theorem dX23_holds_48 : decode cX23_holds 48 = .ok (.iinc 2 1, 3) := dk_132 2 1 (dk_at dksX23_holds_2 0 rfl rfl)
theorem dX23_holds_51 : decode cX23_holds 51 = .ok (.goto (-49), 3) := dk_167 255 207 (dk_at dksX23_holds_2 3 rfl rfl)
theorem dX23_holds_54 : decode cX23_holds 54 = .ok (.aload_n 0, 1) := dk_42 (dk_at dksX23_holds_2 6 rfl rfl)
theorem dX23_holds_55 : decode cX23_holds 55 = .ok (.getfield 16, 3) := dk_180 0 16 (dk_at dksX23_holds_2 7 rfl rfl)
theorem dX23_holds_58 : decode cX23_holds 58 = .ok (.ireturn, 1) := dk_172 (dk_at dksX23_holds_2 10 rfl rfl)
theorem q136 : (Jvm.Cond.initialized "BarredBooks$Some") ∈ lw_all := lw_g (lw_at lw_m1 37 rfl) rfl
theorem q1048 : (Jvm.Cond.instantiable "BarredBooks$Some" (2 : Nat)) ∈ lw_all := lw_g (lw_at lw_m4 229 rfl) rfl
theorem q1050 : (Jvm.Cond.instanceMethod ({ cls := "BarredBooks$Some", name := "<init>", desc := "(Z)V" } : Jvm.MethodName)) ∈ lw_all := lw_g (lw_at lw_m4 231 rfl) rfl
theorem q1051 : (Jvm.Cond.code ({ cls := "BarredBooks$Some", name := "<init>", desc := "(Z)V" } : Jvm.MethodName) prog_24_method_1_code (2 : Nat) (Option.none : Option Jvm.ClassFile.FieldType)) ∈ lw_all := lw_g (lw_at lw_m4 232 rfl) rfl
theorem q1052 : (Jvm.Cond.methodLinkNest "BarredBooks$Some" (1 : Nat) ({ cls := "BarredBooks$Test", name := "<init>", desc := "()V" } : Jvm.MethodName) "BarredBooks") ∈ lw_tbl := lw_at lw_m4 233 rfl
theorem q1056 : (Jvm.Cond.classLink "BarredBooks$Some" (7 : Nat) "java/util/ArrayList") ∈ lw_all := lw_g (lw_at lw_m4 237 rfl) rfl
theorem q1057 : (Jvm.Cond.methodLink "BarredBooks$Some" (9 : Nat) ({ cls := "java/util/ArrayList", name := "<init>", desc := "()V" } : Jvm.MethodName)) ∈ lw_all := lw_g (lw_at lw_m4 238 rfl) rfl
theorem q1058 : (Jvm.Cond.fieldLink "BarredBooks$Some" (16 : Nat) "BarredBooks$Some" "isAll" "Z") ∈ lw_all := lw_g (lw_at lw_m4 239 rfl) rfl
theorem q1059 : (Jvm.Cond.fieldLink "BarredBooks$Some" (10 : Nat) "BarredBooks$Some" "of" "Ljava/util/ArrayList;") ∈ lw_all := lw_g (lw_at lw_m5 0 rfl) rfl
theorem q1061 : (Jvm.Cond.laysFinal "BarredBooks$Some" "BarredBooks$Some" "isAll" "Z") ∈ lw_all := lw_g (lw_at lw_m5 2 rfl) rfl
theorem q1062 : (Jvm.Cond.soleField "BarredBooks$Some" "isAll") ∈ lw_all := lw_g (lw_at lw_m5 3 rfl) rfl
theorem q1063 : (Jvm.Cond.laysFinal "BarredBooks$Some" "BarredBooks$Some" "of" "Ljava/util/ArrayList;") ∈ lw_all := lw_g (lw_at lw_m5 4 rfl) rfl
theorem q1064 : (Jvm.Cond.soleField "BarredBooks$Some" "of") ∈ lw_all := lw_g (lw_at lw_m5 5 rfl) rfl
theorem q1065 : (Jvm.Cond.superclass "BarredBooks$Some" "BarredBooks$Test") ∈ lw_all := lw_g (lw_at lw_m5 6 rfl) rfl
theorem q1154 : (Jvm.Cond.selects "BarredBooks$Some" ({ cls := "java/lang/Object", name := "getClass", desc := "()Ljava/lang/Class;" } : Jvm.MethodName) ({ cls := "java/lang/Object", name := "getClass", desc := "()Ljava/lang/Class;" } : Jvm.MethodName)) ∈ lw_all := lw_g (lw_at lw_m5 95 rfl) rfl
theorem q1320 : (Jvm.Cond.instanceMethod ({ cls := "BarredBooks$Some", name := "holds", desc := "(LBarredBooks$Look;)Z" } : Jvm.MethodName)) ∈ lw_all := lw_g (lw_at lw_m6 21 rfl) rfl
theorem q1321 : (Jvm.Cond.code ({ cls := "BarredBooks$Some", name := "holds", desc := "(LBarredBooks$Look;)Z" } : Jvm.MethodName) prog_24_method_2_code (3 : Nat) (Option.some Jvm.ClassFile.FieldType.boolean)) ∈ lw_all := lw_g (lw_at lw_m6 22 rfl) rfl
theorem q1322 : (Jvm.Cond.methodLink "BarredBooks$Some" (20 : Nat) ({ cls := "java/util/ArrayList", name := "size", desc := "()I" } : Jvm.MethodName)) ∈ lw_all := lw_g (lw_at lw_m6 23 rfl) rfl
theorem q1323 : (Jvm.Cond.methodLink "BarredBooks$Some" (24 : Nat) ({ cls := "java/util/ArrayList", name := "get", desc := "(I)Ljava/lang/Object;" } : Jvm.MethodName)) ∈ lw_all := lw_g (lw_at lw_m6 24 rfl) rfl
theorem q1324 : (Jvm.Cond.classLink "BarredBooks$Some" (2 : Nat) "BarredBooks$Test") ∈ lw_all := lw_g (lw_at lw_m6 25 rfl) rfl
theorem q1325 : (Jvm.Cond.methodLink "BarredBooks$Some" (28 : Nat) ({ cls := "BarredBooks$Test", name := "holds", desc := "(LBarredBooks$Look;)Z" } : Jvm.MethodName)) ∈ lw_all := lw_g (lw_at lw_m6 26 rfl) rfl
theorem q1327 : (Jvm.Cond.selects "BarredBooks$Some" ({ cls := "BarredBooks$Test", name := "holds", desc := "(LBarredBooks$Look;)Z" } : Jvm.MethodName) ({ cls := "BarredBooks$Some", name := "holds", desc := "(LBarredBooks$Look;)Z" } : Jvm.MethodName)) ∈ lw_all := lw_g (lw_at lw_m6 28 rfl) rfl
theorem q2320 : (Jvm.Cond.castable "BarredBooks$Some" "BarredBooks$Test") ∈ lw_tbl := lw_at lw_m10 61 rfl
theorem q2348 : (Jvm.Cond.castable "BarredBooks$Some" "java/lang/Object") ∈ lw_tbl := lw_at lw_m10 89 rfl
theorem in_X23 : ∀ w ∈ wsX230, w ∈ lw_all := lw_in wsX230 [1061, 1063] (by decide +kernel) (by decide +kernel)

/-! BarredBooks$Not -/
set_option maxRecDepth 100000
def RX24 : String := "BarredBooks$Not"
def TX24 : u_T := fun k => match k with
  | _ => ("BarredBooks$Not", "of", "LBarredBooks$Test;", true)
def tyX24 : Nat → FieldType := fun k => match k with
  | _ => .object "BarredBooks$Test"
abbrev wsX240 : List Cond := u_ws RX24 TX24 1
theorem nmX24 : ∀ a, a < 1 → ∀ b, b < 1 → a ≠ b → (TX24 a).2.1 ≠ (TX24 b).2.1 := by decide +kernel
theorem tyX24_ok : ∀ k, k < 1 → parseFieldDescriptor (TX24 k).2.2.1 = some (tyX24 k) := by decide +kernel
abbrev cX24_init : ByteArray := prog_13_method_1_code
def yX24_init : MethodName := ⟨RX24, "<init>", "(LBarredBooks$Test;)V"⟩
def dkwX24_init_0 : List UInt8 := [42, 183, 0, 1, 42, 43, 181, 0, 7, 177]
abbrev dktX24_init_0 : List UInt8 := dkwX24_init_0 ++ []
theorem dksX24_init_0 : cX24_init.data.toList.drop 0 = dktX24_init_0 := by decide +kernel
theorem dX24_init_0 : decode cX24_init 0 = .ok (.aload_n 0, 1) := dk_42 (dk_at dksX24_init_0 0 rfl rfl)
theorem dX24_init_1 : decode cX24_init 1 = .ok (.invokespecial 1, 3) := dk_183 0 1 (dk_at dksX24_init_0 1 rfl rfl)
theorem dX24_init_4 : decode cX24_init 4 = .ok (.aload_n 0, 1) := dk_42 (dk_at dksX24_init_0 4 rfl rfl)
theorem dX24_init_5 : decode cX24_init 5 = .ok (.aload_n 1, 1) := dk_43 (dk_at dksX24_init_0 5 rfl rfl)
theorem dX24_init_6 : decode cX24_init 6 = .ok (.putfield 7, 3) := dk_181 0 7 (dk_at dksX24_init_0 6 rfl rfl)
theorem dX24_init_9 : decode cX24_init 9 = .ok (.return_, 1) := dk_177 (dk_at dksX24_init_0 9 rfl rfl)
abbrev cX24_holds : ByteArray := prog_13_method_2_code
def yX24_holds : MethodName := ⟨RX24, "holds", "(LBarredBooks$Look;)Z"⟩
def dkwX24_holds_0 : List UInt8 := [42, 180, 0, 7, 43, 182, 0, 13, 154, 0, 7, 4, 167, 0, 4, 3, 172]
abbrev dktX24_holds_0 : List UInt8 := dkwX24_holds_0 ++ []
theorem dksX24_holds_0 : cX24_holds.data.toList.drop 0 = dktX24_holds_0 := by decide +kernel
theorem dX24_holds_0 : decode cX24_holds 0 = .ok (.aload_n 0, 1) := dk_42 (dk_at dksX24_holds_0 0 rfl rfl)
theorem dX24_holds_1 : decode cX24_holds 1 = .ok (.getfield 7, 3) := dk_180 0 7 (dk_at dksX24_holds_0 1 rfl rfl)
theorem dX24_holds_4 : decode cX24_holds 4 = .ok (.aload_n 1, 1) := dk_43 (dk_at dksX24_holds_0 4 rfl rfl)
theorem dX24_holds_5 : decode cX24_holds 5 = .ok (.invokevirtual 13, 3) := dk_182 0 13 (dk_at dksX24_holds_0 5 rfl rfl)
theorem dX24_holds_8 : decode cX24_holds 8 = .ok (.ifCond .ne 7, 3) := dk_154 0 7 (dk_at dksX24_holds_0 8 rfl rfl)
theorem dX24_holds_11 : decode cX24_holds 11 = .ok (.iconst 1, 1) := dk_4 (dk_at dksX24_holds_0 11 rfl rfl)
theorem dX24_holds_12 : decode cX24_holds 12 = .ok (.goto 4, 3) := dk_167 0 4 (dk_at dksX24_holds_0 12 rfl rfl)
theorem dX24_holds_15 : decode cX24_holds 15 = .ok (.iconst 0, 1) := dk_3 (dk_at dksX24_holds_0 15 rfl rfl)
theorem dX24_holds_16 : decode cX24_holds 16 = .ok (.ireturn, 1) := dk_172 (dk_at dksX24_holds_0 16 rfl rfl)
theorem q137 : (Jvm.Cond.initialized "BarredBooks$Not") ∈ lw_all := lw_g (lw_at lw_m1 38 rfl) rfl
theorem q1079 : (Jvm.Cond.instantiable "BarredBooks$Not" (1 : Nat)) ∈ lw_all := lw_g (lw_at lw_m5 20 rfl) rfl
theorem q1081 : (Jvm.Cond.instanceMethod ({ cls := "BarredBooks$Not", name := "<init>", desc := "(LBarredBooks$Test;)V" } : Jvm.MethodName)) ∈ lw_all := lw_g (lw_at lw_m5 22 rfl) rfl
theorem q1082 : (Jvm.Cond.code ({ cls := "BarredBooks$Not", name := "<init>", desc := "(LBarredBooks$Test;)V" } : Jvm.MethodName) prog_13_method_1_code (2 : Nat) (Option.none : Option Jvm.ClassFile.FieldType)) ∈ lw_all := lw_g (lw_at lw_m5 23 rfl) rfl
theorem q1083 : (Jvm.Cond.methodLinkNest "BarredBooks$Not" (1 : Nat) ({ cls := "BarredBooks$Test", name := "<init>", desc := "()V" } : Jvm.MethodName) "BarredBooks") ∈ lw_tbl := lw_at lw_m5 24 rfl
theorem q1084 : (Jvm.Cond.fieldLink "BarredBooks$Not" (7 : Nat) "BarredBooks$Not" "of" "LBarredBooks$Test;") ∈ lw_all := lw_g (lw_at lw_m5 25 rfl) rfl
theorem q1085 : (Jvm.Cond.laysFinal "BarredBooks$Not" "BarredBooks$Not" "of" "LBarredBooks$Test;") ∈ lw_all := lw_g (lw_at lw_m5 26 rfl) rfl
theorem q1086 : (Jvm.Cond.soleField "BarredBooks$Not" "of") ∈ lw_all := lw_g (lw_at lw_m5 27 rfl) rfl
theorem q1087 : (Jvm.Cond.superclass "BarredBooks$Not" "BarredBooks$Test") ∈ lw_all := lw_g (lw_at lw_m5 28 rfl) rfl
theorem q1143 : (Jvm.Cond.selects "BarredBooks$Not" ({ cls := "java/lang/Object", name := "getClass", desc := "()Ljava/lang/Class;" } : Jvm.MethodName) ({ cls := "java/lang/Object", name := "getClass", desc := "()Ljava/lang/Class;" } : Jvm.MethodName)) ∈ lw_all := lw_g (lw_at lw_m5 84 rfl) rfl
theorem q1299 : (Jvm.Cond.selects "BarredBooks$Not" ({ cls := "BarredBooks$Test", name := "holds", desc := "(LBarredBooks$Look;)Z" } : Jvm.MethodName) ({ cls := "BarredBooks$Not", name := "holds", desc := "(LBarredBooks$Look;)Z" } : Jvm.MethodName)) ∈ lw_all := lw_g (lw_at lw_m6 0 rfl) rfl
theorem q1300 : (Jvm.Cond.instanceMethod ({ cls := "BarredBooks$Not", name := "holds", desc := "(LBarredBooks$Look;)Z" } : Jvm.MethodName)) ∈ lw_all := lw_g (lw_at lw_m6 1 rfl) rfl
theorem q1301 : (Jvm.Cond.code ({ cls := "BarredBooks$Not", name := "holds", desc := "(LBarredBooks$Look;)Z" } : Jvm.MethodName) prog_13_method_2_code (2 : Nat) (Option.some Jvm.ClassFile.FieldType.boolean)) ∈ lw_all := lw_g (lw_at lw_m6 2 rfl) rfl
theorem q1302 : (Jvm.Cond.methodLink "BarredBooks$Not" (13 : Nat) ({ cls := "BarredBooks$Test", name := "holds", desc := "(LBarredBooks$Look;)Z" } : Jvm.MethodName)) ∈ lw_all := lw_g (lw_at lw_m6 3 rfl) rfl
theorem q2318 : (Jvm.Cond.castable "BarredBooks$Not" "BarredBooks$Test") ∈ lw_tbl := lw_at lw_m10 59 rfl
theorem q2349 : (Jvm.Cond.castable "BarredBooks$Not" "java/lang/Object") ∈ lw_tbl := lw_at lw_m10 90 rfl
theorem in_X24 : ∀ w ∈ wsX240, w ∈ lw_all := lw_in wsX240 [1085] (by decide +kernel) (by decide +kernel)

/-! BarredBooks$Says -/
set_option maxRecDepth 100000
def RX25 : String := "BarredBooks$Says"
def TX25 : u_T := fun k => match k with
  | 0 => ("BarredBooks$Says", "what", "I", true)
  | _ => ("BarredBooks$Says", "n", "I", true)
def tyX25 : Nat → FieldType := fun k => match k with
  | 0 => .int
  | _ => .int
abbrev wsX250 : List Cond := u_ws RX25 TX25 2
theorem nmX25 : ∀ a, a < 2 → ∀ b, b < 2 → a ≠ b → (TX25 a).2.1 ≠ (TX25 b).2.1 := by decide +kernel
theorem tyX25_ok : ∀ k, k < 2 → parseFieldDescriptor (TX25 k).2.2.1 = some (tyX25 k) := by decide +kernel
abbrev cX25_init : ByteArray := prog_22_method_1_code
def yX25_init : MethodName := ⟨RX25, "<init>", "(II)V"⟩
def dkwX25_init_0 : List UInt8 := [42, 183, 0, 1, 42, 27, 181, 0, 7, 42, 28, 181, 0, 13, 177]
abbrev dktX25_init_0 : List UInt8 := dkwX25_init_0 ++ []
theorem dksX25_init_0 : cX25_init.data.toList.drop 0 = dktX25_init_0 := by decide +kernel
theorem dX25_init_0 : decode cX25_init 0 = .ok (.aload_n 0, 1) := dk_42 (dk_at dksX25_init_0 0 rfl rfl)
theorem dX25_init_1 : decode cX25_init 1 = .ok (.invokespecial 1, 3) := dk_183 0 1 (dk_at dksX25_init_0 1 rfl rfl)
theorem dX25_init_4 : decode cX25_init 4 = .ok (.aload_n 0, 1) := dk_42 (dk_at dksX25_init_0 4 rfl rfl)
theorem dX25_init_5 : decode cX25_init 5 = .ok (.iload_n 1, 1) := dk_27 (dk_at dksX25_init_0 5 rfl rfl)
theorem dX25_init_6 : decode cX25_init 6 = .ok (.putfield 7, 3) := dk_181 0 7 (dk_at dksX25_init_0 6 rfl rfl)
theorem dX25_init_9 : decode cX25_init 9 = .ok (.aload_n 0, 1) := dk_42 (dk_at dksX25_init_0 9 rfl rfl)
theorem dX25_init_10 : decode cX25_init 10 = .ok (.iload_n 2, 1) := dk_28 (dk_at dksX25_init_0 10 rfl rfl)
theorem dX25_init_11 : decode cX25_init 11 = .ok (.putfield 13, 3) := dk_181 0 13 (dk_at dksX25_init_0 11 rfl rfl)
theorem dX25_init_14 : decode cX25_init 14 = .ok (.return_, 1) := dk_177 (dk_at dksX25_init_0 14 rfl rfl)
abbrev cX25_holds : ByteArray := prog_22_method_3_code
def yX25_holds : MethodName := ⟨RX25, "holds", "(LBarredBooks$Look;)Z"⟩
def dkwX25_holds_6 : List UInt8 := [180, 0, 49, 42, 180, 0, 13, 161, 0, 7, 4, 167, 0, 4, 3, 172]
abbrev dktX25_holds_6 : List UInt8 := dkwX25_holds_6 ++ []
def dkwX25_holds_5 : List UInt8 := [180, 0, 44, 42, 180, 0, 13, 160, 0, 7, 4, 167, 0, 4, 3, 172, 43, 180, 0, 34, 180, 0, 38]
abbrev dktX25_holds_5 : List UInt8 := dkwX25_holds_5 ++ dktX25_holds_6
def dkwX25_holds_4 : List UInt8 := [184, 0, 29, 42, 180, 0, 13, 161, 0, 7, 4, 167, 0, 4, 3, 172, 43, 180, 0, 34, 180, 0, 38]
abbrev dktX25_holds_4 : List UInt8 := dkwX25_holds_4 ++ dktX25_holds_5
def dkwX25_holds_3 : List UInt8 := [43, 43, 180, 0, 16, 4, 96, 182, 0, 21, 128, 182, 0, 25, 172, 43, 43, 180, 0, 16, 182, 0, 21]
abbrev dktX25_holds_3 : List UInt8 := dkwX25_holds_3 ++ dktX25_holds_4
def dkwX25_holds_2 : List UInt8 := [42, 43, 43, 180, 0, 16, 182, 0, 21, 182, 0, 25, 172, 42, 43, 43, 180, 0, 16, 4, 100, 182, 0, 21]
abbrev dktX25_holds_2 : List UInt8 := dkwX25_holds_2 ++ dktX25_holds_3
def dkwX25_holds_1 : List UInt8 := [171, 0, 0, 0, 0, 0, 0, 130, 0, 0, 0, 4, 0, 0, 0, 97, 0, 0, 0, 107, 0, 0, 0, 98, 0, 0, 0, 57, 0, 0, 0, 99, 0, 0, 0, 83, 0, 0, 0, 119, 0, 0, 0, 44]
abbrev dktX25_holds_1 : List UInt8 := dkwX25_holds_1 ++ dktX25_holds_2
def dkwX25_holds_0 : List UInt8 := [42, 180, 0, 7]
abbrev dktX25_holds_0 : List UInt8 := dkwX25_holds_0 ++ dktX25_holds_1
theorem dksX25_holds_0 : cX25_holds.data.toList.drop 0 = dktX25_holds_0 := by decide +kernel
theorem dksX25_holds_1 : cX25_holds.data.toList.drop 4 = dktX25_holds_1 := dk_seg dksX25_holds_0 4 rfl rfl
theorem dksX25_holds_2 : cX25_holds.data.toList.drop 48 = dktX25_holds_2 := dk_seg dksX25_holds_1 44 rfl rfl
theorem dksX25_holds_3 : cX25_holds.data.toList.drop 72 = dktX25_holds_3 := dk_seg dksX25_holds_2 24 rfl rfl
theorem dksX25_holds_4 : cX25_holds.data.toList.drop 95 = dktX25_holds_4 := dk_seg dksX25_holds_3 23 rfl rfl
theorem dksX25_holds_5 : cX25_holds.data.toList.drop 118 = dktX25_holds_5 := dk_seg dksX25_holds_4 23 rfl rfl
theorem dksX25_holds_6 : cX25_holds.data.toList.drop 141 = dktX25_holds_6 := dk_seg dksX25_holds_5 23 rfl rfl
theorem dX25_holds_0 : decode cX25_holds 0 = .ok (.aload_n 0, 1) := dk_42 (dk_at dksX25_holds_0 0 rfl rfl)
theorem dX25_holds_1 : decode cX25_holds 1 = .ok (.getfield 7, 3) := dk_180 0 7 (dk_at dksX25_holds_0 1 rfl rfl)
theorem dX25_holds_4 : decode cX25_holds 4 = .ok (.lookupswitch 130 #[(97, 107), (98, 57), (99, 83), (119, 44)], 44) := by decide +kernel
theorem dX25_holds_48 : decode cX25_holds 48 = .ok (.aload_n 0, 1) := dk_42 (dk_at dksX25_holds_2 0 rfl rfl)
theorem dX25_holds_49 : decode cX25_holds 49 = .ok (.aload_n 1, 1) := dk_43 (dk_at dksX25_holds_2 1 rfl rfl)
theorem dX25_holds_50 : decode cX25_holds 50 = .ok (.aload_n 1, 1) := dk_43 (dk_at dksX25_holds_2 2 rfl rfl)
theorem dX25_holds_51 : decode cX25_holds 51 = .ok (.getfield 16, 3) := dk_180 0 16 (dk_at dksX25_holds_2 3 rfl rfl)
theorem dX25_holds_54 : decode cX25_holds 54 = .ok (.invokevirtual 21, 3) := dk_182 0 21 (dk_at dksX25_holds_2 6 rfl rfl)
theorem dX25_holds_57 : decode cX25_holds 57 = .ok (.invokevirtual 25, 3) := dk_182 0 25 (dk_at dksX25_holds_2 9 rfl rfl)
theorem dX25_holds_60 : decode cX25_holds 60 = .ok (.ireturn, 1) := dk_172 (dk_at dksX25_holds_2 12 rfl rfl)
theorem dX25_holds_61 : decode cX25_holds 61 = .ok (.aload_n 0, 1) := dk_42 (dk_at dksX25_holds_2 13 rfl rfl)
theorem dX25_holds_62 : decode cX25_holds 62 = .ok (.aload_n 1, 1) := dk_43 (dk_at dksX25_holds_2 14 rfl rfl)
theorem dX25_holds_63 : decode cX25_holds 63 = .ok (.aload_n 1, 1) := dk_43 (dk_at dksX25_holds_2 15 rfl rfl)
theorem dX25_holds_64 : decode cX25_holds 64 = .ok (.getfield 16, 3) := dk_180 0 16 (dk_at dksX25_holds_2 16 rfl rfl)
theorem dX25_holds_67 : decode cX25_holds 67 = .ok (.iconst 1, 1) := dk_4 (dk_at dksX25_holds_2 19 rfl rfl)
theorem dX25_holds_68 : decode cX25_holds 68 = .ok (.isub, 1) := dk_100 (dk_at dksX25_holds_2 20 rfl rfl)
theorem dX25_holds_69 : decode cX25_holds 69 = .ok (.invokevirtual 21, 3) := dk_182 0 21 (dk_at dksX25_holds_2 21 rfl rfl)
theorem dX25_holds_72 : decode cX25_holds 72 = .ok (.aload_n 1, 1) := dk_43 (dk_at dksX25_holds_3 0 rfl rfl)
theorem dX25_holds_73 : decode cX25_holds 73 = .ok (.aload_n 1, 1) := dk_43 (dk_at dksX25_holds_3 1 rfl rfl)
theorem dX25_holds_74 : decode cX25_holds 74 = .ok (.getfield 16, 3) := dk_180 0 16 (dk_at dksX25_holds_3 2 rfl rfl)
theorem dX25_holds_77 : decode cX25_holds 77 = .ok (.iconst 1, 1) := dk_4 (dk_at dksX25_holds_3 5 rfl rfl)
theorem dX25_holds_78 : decode cX25_holds 78 = .ok (.iadd, 1) := dk_96 (dk_at dksX25_holds_3 6 rfl rfl)
theorem dX25_holds_79 : decode cX25_holds 79 = .ok (.invokevirtual 21, 3) := dk_182 0 21 (dk_at dksX25_holds_3 7 rfl rfl)
theorem dX25_holds_82 : decode cX25_holds 82 = .ok (.ior, 1) := dk_128 (dk_at dksX25_holds_3 10 rfl rfl)
theorem dX25_holds_83 : decode cX25_holds 83 = .ok (.invokevirtual 25, 3) := dk_182 0 25 (dk_at dksX25_holds_3 11 rfl rfl)
theorem dX25_holds_86 : decode cX25_holds 86 = .ok (.ireturn, 1) := dk_172 (dk_at dksX25_holds_3 14 rfl rfl)
theorem dX25_holds_87 : decode cX25_holds 87 = .ok (.aload_n 1, 1) := dk_43 (dk_at dksX25_holds_3 15 rfl rfl)
theorem dX25_holds_88 : decode cX25_holds 88 = .ok (.aload_n 1, 1) := dk_43 (dk_at dksX25_holds_3 16 rfl rfl)
theorem dX25_holds_89 : decode cX25_holds 89 = .ok (.getfield 16, 3) := dk_180 0 16 (dk_at dksX25_holds_3 17 rfl rfl)
theorem dX25_holds_92 : decode cX25_holds 92 = .ok (.invokevirtual 21, 3) := dk_182 0 21 (dk_at dksX25_holds_3 20 rfl rfl)
theorem dX25_holds_95 : decode cX25_holds 95 = .ok (.invokestatic 29, 3) := dk_184 0 29 (dk_at dksX25_holds_4 0 rfl rfl)
theorem dX25_holds_98 : decode cX25_holds 98 = .ok (.aload_n 0, 1) := dk_42 (dk_at dksX25_holds_4 3 rfl rfl)
theorem dX25_holds_99 : decode cX25_holds 99 = .ok (.getfield 13, 3) := dk_180 0 13 (dk_at dksX25_holds_4 4 rfl rfl)
theorem dX25_holds_102 : decode cX25_holds 102 = .ok (.if_icmp .lt 7, 3) := dk_161 0 7 (dk_at dksX25_holds_4 7 rfl rfl)
theorem dX25_holds_105 : decode cX25_holds 105 = .ok (.iconst 1, 1) := dk_4 (dk_at dksX25_holds_4 10 rfl rfl)
theorem dX25_holds_106 : decode cX25_holds 106 = .ok (.goto 4, 3) := dk_167 0 4 (dk_at dksX25_holds_4 11 rfl rfl)
theorem dX25_holds_109 : decode cX25_holds 109 = .ok (.iconst 0, 1) := dk_3 (dk_at dksX25_holds_4 14 rfl rfl)
theorem dX25_holds_110 : decode cX25_holds 110 = .ok (.ireturn, 1) := dk_172 (dk_at dksX25_holds_4 15 rfl rfl)
theorem dX25_holds_111 : decode cX25_holds 111 = .ok (.aload_n 1, 1) := dk_43 (dk_at dksX25_holds_4 16 rfl rfl)
theorem dX25_holds_112 : decode cX25_holds 112 = .ok (.getfield 34, 3) := dk_180 0 34 (dk_at dksX25_holds_4 17 rfl rfl)
theorem dX25_holds_115 : decode cX25_holds 115 = .ok (.getfield 38, 3) := dk_180 0 38 (dk_at dksX25_holds_4 20 rfl rfl)
theorem dX25_holds_118 : decode cX25_holds 118 = .ok (.getfield 44, 3) := dk_180 0 44 (dk_at dksX25_holds_5 0 rfl rfl)
theorem dX25_holds_121 : decode cX25_holds 121 = .ok (.aload_n 0, 1) := dk_42 (dk_at dksX25_holds_5 3 rfl rfl)
theorem dX25_holds_122 : decode cX25_holds 122 = .ok (.getfield 13, 3) := dk_180 0 13 (dk_at dksX25_holds_5 4 rfl rfl)
theorem dX25_holds_125 : decode cX25_holds 125 = .ok (.if_icmp .ne 7, 3) := dk_160 0 7 (dk_at dksX25_holds_5 7 rfl rfl)
theorem dX25_holds_128 : decode cX25_holds 128 = .ok (.iconst 1, 1) := dk_4 (dk_at dksX25_holds_5 10 rfl rfl)
theorem dX25_holds_129 : decode cX25_holds 129 = .ok (.goto 4, 3) := dk_167 0 4 (dk_at dksX25_holds_5 11 rfl rfl)
theorem dX25_holds_132 : decode cX25_holds 132 = .ok (.iconst 0, 1) := dk_3 (dk_at dksX25_holds_5 14 rfl rfl)
theorem dX25_holds_133 : decode cX25_holds 133 = .ok (.ireturn, 1) := dk_172 (dk_at dksX25_holds_5 15 rfl rfl)
theorem dX25_holds_134 : decode cX25_holds 134 = .ok (.aload_n 1, 1) := dk_43 (dk_at dksX25_holds_5 16 rfl rfl)
theorem dX25_holds_135 : decode cX25_holds 135 = .ok (.getfield 34, 3) := dk_180 0 34 (dk_at dksX25_holds_5 17 rfl rfl)
theorem dX25_holds_138 : decode cX25_holds 138 = .ok (.getfield 38, 3) := dk_180 0 38 (dk_at dksX25_holds_5 20 rfl rfl)
theorem dX25_holds_141 : decode cX25_holds 141 = .ok (.getfield 49, 3) := dk_180 0 49 (dk_at dksX25_holds_6 0 rfl rfl)
theorem dX25_holds_144 : decode cX25_holds 144 = .ok (.aload_n 0, 1) := dk_42 (dk_at dksX25_holds_6 3 rfl rfl)
theorem dX25_holds_145 : decode cX25_holds 145 = .ok (.getfield 13, 3) := dk_180 0 13 (dk_at dksX25_holds_6 4 rfl rfl)
theorem dX25_holds_148 : decode cX25_holds 148 = .ok (.if_icmp .lt 7, 3) := dk_161 0 7 (dk_at dksX25_holds_6 7 rfl rfl)
theorem dX25_holds_151 : decode cX25_holds 151 = .ok (.iconst 1, 1) := dk_4 (dk_at dksX25_holds_6 10 rfl rfl)
theorem dX25_holds_152 : decode cX25_holds 152 = .ok (.goto 4, 3) := dk_167 0 4 (dk_at dksX25_holds_6 11 rfl rfl)
theorem dX25_holds_155 : decode cX25_holds 155 = .ok (.iconst 0, 1) := dk_3 (dk_at dksX25_holds_6 14 rfl rfl)
theorem dX25_holds_156 : decode cX25_holds 156 = .ok (.ireturn, 1) := dk_172 (dk_at dksX25_holds_6 15 rfl rfl)
abbrev cX25_has : ByteArray := prog_22_method_2_code
def yX25_has : MethodName := ⟨RX25, "has", "(I)Z"⟩
def dkwX25_has_1 : List UInt8 := [167, 0, 4, 3, 172]
abbrev dktX25_has_1 : List UInt8 := dkwX25_has_1 ++ []
def dkwX25_has_0 : List UInt8 := [42, 180, 0, 13, 16, 16, 162, 0, 19, 27, 42, 180, 0, 13, 122, 4, 126, 4, 160, 0, 7, 4]
abbrev dktX25_has_0 : List UInt8 := dkwX25_has_0 ++ dktX25_has_1
theorem dksX25_has_0 : cX25_has.data.toList.drop 0 = dktX25_has_0 := by decide +kernel
theorem dksX25_has_1 : cX25_has.data.toList.drop 22 = dktX25_has_1 := dk_seg dksX25_has_0 22 rfl rfl
theorem dX25_has_0 : decode cX25_has 0 = .ok (.aload_n 0, 1) := dk_42 (dk_at dksX25_has_0 0 rfl rfl)
theorem dX25_has_1 : decode cX25_has 1 = .ok (.getfield 13, 3) := dk_180 0 13 (dk_at dksX25_has_0 1 rfl rfl)
theorem dX25_has_4 : decode cX25_has 4 = .ok (.bipush 16, 2) := dk_16 16 (dk_at dksX25_has_0 4 rfl rfl)
theorem dX25_has_6 : decode cX25_has 6 = .ok (.if_icmp .ge 19, 3) := dk_162 0 19 (dk_at dksX25_has_0 6 rfl rfl)
theorem dX25_has_9 : decode cX25_has 9 = .ok (.iload_n 1, 1) := dk_27 (dk_at dksX25_has_0 9 rfl rfl)
theorem dX25_has_10 : decode cX25_has 10 = .ok (.aload_n 0, 1) := dk_42 (dk_at dksX25_has_0 10 rfl rfl)
theorem dX25_has_11 : decode cX25_has 11 = .ok (.getfield 13, 3) := dk_180 0 13 (dk_at dksX25_has_0 11 rfl rfl)
theorem dX25_has_14 : decode cX25_has 14 = .ok (.ishr, 1) := dk_122 (dk_at dksX25_has_0 14 rfl rfl)
theorem dX25_has_15 : decode cX25_has 15 = .ok (.iconst 1, 1) := dk_4 (dk_at dksX25_has_0 15 rfl rfl)
theorem dX25_has_16 : decode cX25_has 16 = .ok (.iand, 1) := dk_126 (dk_at dksX25_has_0 16 rfl rfl)
theorem dX25_has_17 : decode cX25_has 17 = .ok (.iconst 1, 1) := dk_4 (dk_at dksX25_has_0 17 rfl rfl)
theorem dX25_has_18 : decode cX25_has 18 = .ok (.if_icmp .ne 7, 3) := dk_160 0 7 (dk_at dksX25_has_0 18 rfl rfl)
theorem dX25_has_21 : decode cX25_has 21 = .ok (.iconst 1, 1) := dk_4 (dk_at dksX25_has_0 21 rfl rfl)
theorem dX25_has_22 : decode cX25_has 22 = .ok (.goto 4, 3) := dk_167 0 4 (dk_at dksX25_has_1 0 rfl rfl)
theorem dX25_has_25 : decode cX25_has 25 = .ok (.iconst 0, 1) := dk_3 (dk_at dksX25_has_1 3 rfl rfl)
theorem dX25_has_26 : decode cX25_has 26 = .ok (.ireturn, 1) := dk_172 (dk_at dksX25_has_1 4 rfl rfl)
theorem q138 : (Jvm.Cond.initialized "BarredBooks$Says") ∈ lw_all := lw_g (lw_at lw_m1 39 rfl) rfl
theorem q193 : (Jvm.Cond.fieldLinkNest "BarredBooks$Says" (34 : Nat) "BarredBooks$Look" "edition" "LBarredBooks$Edition;" "BarredBooks") ∈ lw_tbl := lw_at lw_m1 94 rfl
theorem q195 : (Jvm.Cond.fieldLinkNest "BarredBooks$Says" (16 : Nat) "BarredBooks$Look" "line" "I" "BarredBooks") ∈ lw_tbl := lw_at lw_m1 96 rfl
theorem q397 : (Jvm.Cond.fieldLinkNest "BarredBooks$Says" (44 : Nat) "BarredBooks$Book" "author" "I" "BarredBooks") ∈ lw_tbl := lw_at lw_m2 58 rfl
theorem q401 : (Jvm.Cond.fieldLinkNest "BarredBooks$Says" (49 : Nat) "BarredBooks$Book" "year" "I" "BarredBooks") ∈ lw_tbl := lw_at lw_m2 62 rfl
theorem q457 : (Jvm.Cond.fieldLinkNest "BarredBooks$Says" (38 : Nat) "BarredBooks$Edition" "book" "LBarredBooks$Book;" "BarredBooks") ∈ lw_tbl := lw_at lw_m2 118 rfl
theorem q1089 : (Jvm.Cond.instantiable "BarredBooks$Says" (2 : Nat)) ∈ lw_all := lw_g (lw_at lw_m5 30 rfl) rfl
theorem q1091 : (Jvm.Cond.instanceMethod ({ cls := "BarredBooks$Says", name := "<init>", desc := "(II)V" } : Jvm.MethodName)) ∈ lw_all := lw_g (lw_at lw_m5 32 rfl) rfl
theorem q1092 : (Jvm.Cond.code ({ cls := "BarredBooks$Says", name := "<init>", desc := "(II)V" } : Jvm.MethodName) prog_22_method_1_code (3 : Nat) (Option.none : Option Jvm.ClassFile.FieldType)) ∈ lw_all := lw_g (lw_at lw_m5 33 rfl) rfl
theorem q1093 : (Jvm.Cond.methodLinkNest "BarredBooks$Says" (1 : Nat) ({ cls := "BarredBooks$Test", name := "<init>", desc := "()V" } : Jvm.MethodName) "BarredBooks") ∈ lw_tbl := lw_at lw_m5 34 rfl
theorem q1094 : (Jvm.Cond.fieldLink "BarredBooks$Says" (7 : Nat) "BarredBooks$Says" "what" "I") ∈ lw_all := lw_g (lw_at lw_m5 35 rfl) rfl
theorem q1095 : (Jvm.Cond.fieldLink "BarredBooks$Says" (13 : Nat) "BarredBooks$Says" "n" "I") ∈ lw_all := lw_g (lw_at lw_m5 36 rfl) rfl
theorem q1096 : (Jvm.Cond.laysFinal "BarredBooks$Says" "BarredBooks$Says" "what" "I") ∈ lw_all := lw_g (lw_at lw_m5 37 rfl) rfl
theorem q1097 : (Jvm.Cond.soleField "BarredBooks$Says" "what") ∈ lw_all := lw_g (lw_at lw_m5 38 rfl) rfl
theorem q1098 : (Jvm.Cond.laysFinal "BarredBooks$Says" "BarredBooks$Says" "n" "I") ∈ lw_all := lw_g (lw_at lw_m5 39 rfl) rfl
theorem q1099 : (Jvm.Cond.soleField "BarredBooks$Says" "n") ∈ lw_all := lw_g (lw_at lw_m5 40 rfl) rfl
theorem q1100 : (Jvm.Cond.superclass "BarredBooks$Says" "BarredBooks$Test") ∈ lw_all := lw_g (lw_at lw_m5 41 rfl) rfl
theorem q1152 : (Jvm.Cond.selects "BarredBooks$Says" ({ cls := "java/lang/Object", name := "getClass", desc := "()Ljava/lang/Class;" } : Jvm.MethodName) ({ cls := "java/lang/Object", name := "getClass", desc := "()Ljava/lang/Class;" } : Jvm.MethodName)) ∈ lw_all := lw_g (lw_at lw_m5 93 rfl) rfl
theorem q1303 : (Jvm.Cond.instanceMethod ({ cls := "BarredBooks$Says", name := "holds", desc := "(LBarredBooks$Look;)Z" } : Jvm.MethodName)) ∈ lw_all := lw_g (lw_at lw_m6 4 rfl) rfl
theorem q1304 : (Jvm.Cond.code ({ cls := "BarredBooks$Says", name := "holds", desc := "(LBarredBooks$Look;)Z" } : Jvm.MethodName) prog_22_method_3_code (2 : Nat) (Option.some Jvm.ClassFile.FieldType.boolean)) ∈ lw_all := lw_g (lw_at lw_m6 5 rfl) rfl
theorem q1305 : (Jvm.Cond.methodLinkNest "BarredBooks$Says" (21 : Nat) ({ cls := "BarredBooks$Look", name := "words", desc := "(I)I" } : Jvm.MethodName) "BarredBooks") ∈ lw_tbl := lw_at lw_m6 6 rfl
theorem q1310 : (Jvm.Cond.methodLink "BarredBooks$Says" (25 : Nat) ({ cls := "BarredBooks$Says", name := "has", desc := "(I)Z" } : Jvm.MethodName)) ∈ lw_all := lw_g (lw_at lw_m6 11 rfl) rfl
theorem q1311 : (Jvm.Cond.privateMethod ({ cls := "BarredBooks$Says", name := "has", desc := "(I)Z" } : Jvm.MethodName)) ∈ lw_tbl := lw_at lw_m6 12 rfl
theorem q1312 : (Jvm.Cond.instanceMethod ({ cls := "BarredBooks$Says", name := "has", desc := "(I)Z" } : Jvm.MethodName)) ∈ lw_all := lw_g (lw_at lw_m6 13 rfl) rfl
theorem q1313 : (Jvm.Cond.code ({ cls := "BarredBooks$Says", name := "has", desc := "(I)Z" } : Jvm.MethodName) prog_22_method_2_code (2 : Nat) (Option.some Jvm.ClassFile.FieldType.boolean)) ∈ lw_all := lw_g (lw_at lw_m6 14 rfl) rfl
theorem q1314 : (Jvm.Cond.methodLink "BarredBooks$Says" (29 : Nat) ({ cls := "java/lang/Integer", name := "bitCount", desc := "(I)I" } : Jvm.MethodName)) ∈ lw_all := lw_g (lw_at lw_m6 15 rfl) rfl
theorem q1326 : (Jvm.Cond.selects "BarredBooks$Says" ({ cls := "BarredBooks$Test", name := "holds", desc := "(LBarredBooks$Look;)Z" } : Jvm.MethodName) ({ cls := "BarredBooks$Says", name := "holds", desc := "(LBarredBooks$Look;)Z" } : Jvm.MethodName)) ∈ lw_all := lw_g (lw_at lw_m6 27 rfl) rfl
theorem q2319 : (Jvm.Cond.castable "BarredBooks$Says" "BarredBooks$Test") ∈ lw_tbl := lw_at lw_m10 60 rfl
theorem q2350 : (Jvm.Cond.castable "BarredBooks$Says" "java/lang/Object") ∈ lw_tbl := lw_at lw_m10 91 rfl
theorem in_X25 : ∀ w ∈ wsX250, w ∈ lw_all := lw_in wsX250 [1096, 1098] (by decide +kernel) (by decide +kernel)

/-! BarredBooks$OfRank -/
set_option maxRecDepth 100000
def RX26 : String := "BarredBooks$OfRank"
def TX26 : u_T := fun k => match k with
  | 0 => ("BarredBooks$OfRank", "rank", "I", true)
  | _ => ("BarredBooks$OfRank", "days", "I", true)
def tyX26 : Nat → FieldType := fun k => match k with
  | 0 => .int
  | _ => .int
abbrev wsX260 : List Cond := u_ws RX26 TX26 2
theorem nmX26 : ∀ a, a < 2 → ∀ b, b < 2 → a ≠ b → (TX26 a).2.1 ≠ (TX26 b).2.1 := by decide +kernel
theorem tyX26_ok : ∀ k, k < 2 → parseFieldDescriptor (TX26 k).2.2.1 = some (tyX26 k) := by decide +kernel
abbrev cX26_init : ByteArray := prog_16_method_1_code
def yX26_init : MethodName := ⟨RX26, "<init>", "(II)V"⟩
def dkwX26_init_0 : List UInt8 := [42, 183, 0, 3, 42, 27, 181, 0, 9, 42, 28, 181, 0, 15, 177]
abbrev dktX26_init_0 : List UInt8 := dkwX26_init_0 ++ []
theorem dksX26_init_0 : cX26_init.data.toList.drop 0 = dktX26_init_0 := by decide +kernel
theorem dX26_init_0 : decode cX26_init 0 = .ok (.aload_n 0, 1) := dk_42 (dk_at dksX26_init_0 0 rfl rfl)
theorem dX26_init_1 : decode cX26_init 1 = .ok (.invokespecial 3, 3) := dk_183 0 3 (dk_at dksX26_init_0 1 rfl rfl)
theorem dX26_init_4 : decode cX26_init 4 = .ok (.aload_n 0, 1) := dk_42 (dk_at dksX26_init_0 4 rfl rfl)
theorem dX26_init_5 : decode cX26_init 5 = .ok (.iload_n 1, 1) := dk_27 (dk_at dksX26_init_0 5 rfl rfl)
theorem dX26_init_6 : decode cX26_init 6 = .ok (.putfield 9, 3) := dk_181 0 9 (dk_at dksX26_init_0 6 rfl rfl)
theorem dX26_init_9 : decode cX26_init 9 = .ok (.aload_n 0, 1) := dk_42 (dk_at dksX26_init_0 9 rfl rfl)
theorem dX26_init_10 : decode cX26_init 10 = .ok (.iload_n 2, 1) := dk_28 (dk_at dksX26_init_0 10 rfl rfl)
theorem dX26_init_11 : decode cX26_init 11 = .ok (.putfield 15, 3) := dk_181 0 15 (dk_at dksX26_init_0 11 rfl rfl)
theorem dX26_init_14 : decode cX26_init 14 = .ok (.return_, 1) := dk_177 (dk_at dksX26_init_0 14 rfl rfl)
abbrev cX26_lets : ByteArray := prog_16_method_2_code
def yX26_lets : MethodName := ⟨RX26, "lets", "(I)I"⟩
def dkwX26_lets_0 : List UInt8 := [27, 42, 180, 0, 9, 160, 0, 10, 42, 180, 0, 15, 167, 0, 4, 2, 172]
abbrev dktX26_lets_0 : List UInt8 := dkwX26_lets_0 ++ []
theorem dksX26_lets_0 : cX26_lets.data.toList.drop 0 = dktX26_lets_0 := by decide +kernel
theorem dX26_lets_0 : decode cX26_lets 0 = .ok (.iload_n 1, 1) := dk_27 (dk_at dksX26_lets_0 0 rfl rfl)
theorem dX26_lets_1 : decode cX26_lets 1 = .ok (.aload_n 0, 1) := dk_42 (dk_at dksX26_lets_0 1 rfl rfl)
theorem dX26_lets_2 : decode cX26_lets 2 = .ok (.getfield 9, 3) := dk_180 0 9 (dk_at dksX26_lets_0 2 rfl rfl)
theorem dX26_lets_5 : decode cX26_lets 5 = .ok (.if_icmp .ne 10, 3) := dk_160 0 10 (dk_at dksX26_lets_0 5 rfl rfl)
theorem dX26_lets_8 : decode cX26_lets 8 = .ok (.aload_n 0, 1) := dk_42 (dk_at dksX26_lets_0 8 rfl rfl)
theorem dX26_lets_9 : decode cX26_lets 9 = .ok (.getfield 15, 3) := dk_180 0 15 (dk_at dksX26_lets_0 9 rfl rfl)
theorem dX26_lets_12 : decode cX26_lets 12 = .ok (.goto 4, 3) := dk_167 0 4 (dk_at dksX26_lets_0 12 rfl rfl)
theorem dX26_lets_15 : decode cX26_lets 15 = .ok (.iconst (-1), 1) := dk_2 (dk_at dksX26_lets_0 15 rfl rfl)
theorem dX26_lets_16 : decode cX26_lets 16 = .ok (.ireturn, 1) := dk_172 (dk_at dksX26_lets_0 16 rfl rfl)
theorem q142 : (Jvm.Cond.initialized "BarredBooks$OfRank") ∈ lw_all := lw_g (lw_at lw_m1 43 rfl) rfl
theorem q1146 : (Jvm.Cond.selects "BarredBooks$OfRank" ({ cls := "java/lang/Object", name := "getClass", desc := "()Ljava/lang/Class;" } : Jvm.MethodName) ({ cls := "java/lang/Object", name := "getClass", desc := "()Ljava/lang/Class;" } : Jvm.MethodName)) ∈ lw_all := lw_g (lw_at lw_m5 87 rfl) rfl
theorem q1188 : (Jvm.Cond.instantiable "BarredBooks$OfRank" (2 : Nat)) ∈ lw_all := lw_g (lw_at lw_m5 129 rfl) rfl
theorem q1190 : (Jvm.Cond.instanceMethod ({ cls := "BarredBooks$OfRank", name := "<init>", desc := "(II)V" } : Jvm.MethodName)) ∈ lw_all := lw_g (lw_at lw_m5 131 rfl) rfl
theorem q1191 : (Jvm.Cond.code ({ cls := "BarredBooks$OfRank", name := "<init>", desc := "(II)V" } : Jvm.MethodName) prog_16_method_1_code (3 : Nat) (Option.none : Option Jvm.ClassFile.FieldType)) ∈ lw_all := lw_g (lw_at lw_m5 132 rfl) rfl
theorem q1192 : (Jvm.Cond.methodLinkNest "BarredBooks$OfRank" (3 : Nat) ({ cls := "BarredBooks$Clause", name := "<init>", desc := "()V" } : Jvm.MethodName) "BarredBooks") ∈ lw_tbl := lw_at lw_m5 133 rfl
theorem q1193 : (Jvm.Cond.fieldLink "BarredBooks$OfRank" (9 : Nat) "BarredBooks$OfRank" "rank" "I") ∈ lw_all := lw_g (lw_at lw_m5 134 rfl) rfl
theorem q1194 : (Jvm.Cond.fieldLink "BarredBooks$OfRank" (15 : Nat) "BarredBooks$OfRank" "days" "I") ∈ lw_all := lw_g (lw_at lw_m5 135 rfl) rfl
theorem q1195 : (Jvm.Cond.laysFinal "BarredBooks$OfRank" "BarredBooks$OfRank" "rank" "I") ∈ lw_all := lw_g (lw_at lw_m5 136 rfl) rfl
theorem q1196 : (Jvm.Cond.soleField "BarredBooks$OfRank" "rank") ∈ lw_all := lw_g (lw_at lw_m5 137 rfl) rfl
theorem q1197 : (Jvm.Cond.laysFinal "BarredBooks$OfRank" "BarredBooks$OfRank" "days" "I") ∈ lw_all := lw_g (lw_at lw_m5 138 rfl) rfl
theorem q1198 : (Jvm.Cond.soleField "BarredBooks$OfRank" "days") ∈ lw_all := lw_g (lw_at lw_m5 139 rfl) rfl
theorem q1199 : (Jvm.Cond.superclass "BarredBooks$OfRank" "BarredBooks$Clause") ∈ lw_all := lw_g (lw_at lw_m5 140 rfl) rfl
theorem q1269 : (Jvm.Cond.selects "BarredBooks$OfRank" ({ cls := "BarredBooks$Clause", name := "bars", desc := "(LBarredBooks$Edition;)I" } : Jvm.MethodName) ({ cls := "BarredBooks$Clause", name := "bars", desc := "(LBarredBooks$Edition;)I" } : Jvm.MethodName)) ∈ lw_all := lw_g (lw_at lw_m5 210 rfl) rfl
theorem q1328 : (Jvm.Cond.selects "BarredBooks$OfRank" ({ cls := "BarredBooks$Clause", name := "strikes", desc := "(LBarredBooks$Look;)Z" } : Jvm.MethodName) ({ cls := "BarredBooks$Clause", name := "strikes", desc := "(LBarredBooks$Look;)Z" } : Jvm.MethodName)) ∈ lw_all := lw_g (lw_at lw_m6 29 rfl) rfl
theorem q1358 : (Jvm.Cond.selects "BarredBooks$OfRank" ({ cls := "BarredBooks$Clause", name := "lets", desc := "(I)I" } : Jvm.MethodName) ({ cls := "BarredBooks$OfRank", name := "lets", desc := "(I)I" } : Jvm.MethodName)) ∈ lw_all := lw_g (lw_at lw_m6 59 rfl) rfl
theorem q1359 : (Jvm.Cond.instanceMethod ({ cls := "BarredBooks$OfRank", name := "lets", desc := "(I)I" } : Jvm.MethodName)) ∈ lw_all := lw_g (lw_at lw_m6 60 rfl) rfl
theorem q1360 : (Jvm.Cond.code ({ cls := "BarredBooks$OfRank", name := "lets", desc := "(I)I" } : Jvm.MethodName) prog_16_method_2_code (2 : Nat) (Option.some Jvm.ClassFile.FieldType.int)) ∈ lw_all := lw_g (lw_at lw_m6 61 rfl) rfl
theorem q2316 : (Jvm.Cond.castable "BarredBooks$OfRank" "BarredBooks$Clause") ∈ lw_tbl := lw_at lw_m10 57 rfl
theorem q2351 : (Jvm.Cond.castable "BarredBooks$OfRank" "java/lang/Object") ∈ lw_tbl := lw_at lw_m10 92 rfl
theorem in_X26 : ∀ w ∈ wsX260, w ∈ lw_all := lw_in wsX260 [1195, 1197] (by decide +kernel) (by decide +kernel)

/-! BarredBooks$Slip -/
set_option maxRecDepth 100000
def RX27 : String := "BarredBooks$Slip"
def TX27 : u_T := fun k => match k with
  | 0 => ("BarredBooks$Slip", "number", "I", true)
  | 1 => ("BarredBooks$Slip", "title", "I", true)
  | 2 => ("BarredBooks$Slip", "author", "I", true)
  | 3 => ("BarredBooks$Slip", "year", "I", true)
  | _ => ("BarredBooks$Slip", "from", "LBarredBooks$Slip;", true)
def tyX27 : Nat → FieldType := fun k => match k with
  | 0 => .int
  | 1 => .int
  | 2 => .int
  | 3 => .int
  | _ => .object "BarredBooks$Slip"
abbrev wsX270 : List Cond := u_ws RX27 TX27 5
theorem nmX27 : ∀ a, a < 5 → ∀ b, b < 5 → a ≠ b → (TX27 a).2.1 ≠ (TX27 b).2.1 := by decide +kernel
theorem tyX27_ok : ∀ k, k < 5 → parseFieldDescriptor (TX27 k).2.2.1 = some (tyX27 k) := by decide +kernel
abbrev cX27_init : ByteArray := prog_23_method_1_code
def yX27_init : MethodName := ⟨RX27, "<init>", "(IIIILBarredBooks$Slip;)V"⟩
def dkwX27_init_1 : List UInt8 := [181, 0, 21, 42, 25, 5, 181, 0, 24, 177]
abbrev dktX27_init_1 : List UInt8 := dkwX27_init_1 ++ []
def dkwX27_init_0 : List UInt8 := [42, 183, 0, 3, 42, 27, 181, 0, 9, 42, 28, 181, 0, 15, 42, 29, 181, 0, 18, 42, 21, 4]
abbrev dktX27_init_0 : List UInt8 := dkwX27_init_0 ++ dktX27_init_1
theorem dksX27_init_0 : cX27_init.data.toList.drop 0 = dktX27_init_0 := by decide +kernel
theorem dksX27_init_1 : cX27_init.data.toList.drop 22 = dktX27_init_1 := dk_seg dksX27_init_0 22 rfl rfl
theorem dX27_init_0 : decode cX27_init 0 = .ok (.aload_n 0, 1) := dk_42 (dk_at dksX27_init_0 0 rfl rfl)
theorem dX27_init_1 : decode cX27_init 1 = .ok (.invokespecial 3, 3) := dk_183 0 3 (dk_at dksX27_init_0 1 rfl rfl)
theorem dX27_init_4 : decode cX27_init 4 = .ok (.aload_n 0, 1) := dk_42 (dk_at dksX27_init_0 4 rfl rfl)
theorem dX27_init_5 : decode cX27_init 5 = .ok (.iload_n 1, 1) := dk_27 (dk_at dksX27_init_0 5 rfl rfl)
theorem dX27_init_6 : decode cX27_init 6 = .ok (.putfield 9, 3) := dk_181 0 9 (dk_at dksX27_init_0 6 rfl rfl)
theorem dX27_init_9 : decode cX27_init 9 = .ok (.aload_n 0, 1) := dk_42 (dk_at dksX27_init_0 9 rfl rfl)
theorem dX27_init_10 : decode cX27_init 10 = .ok (.iload_n 2, 1) := dk_28 (dk_at dksX27_init_0 10 rfl rfl)
theorem dX27_init_11 : decode cX27_init 11 = .ok (.putfield 15, 3) := dk_181 0 15 (dk_at dksX27_init_0 11 rfl rfl)
theorem dX27_init_14 : decode cX27_init 14 = .ok (.aload_n 0, 1) := dk_42 (dk_at dksX27_init_0 14 rfl rfl)
theorem dX27_init_15 : decode cX27_init 15 = .ok (.iload_n 3, 1) := dk_29 (dk_at dksX27_init_0 15 rfl rfl)
theorem dX27_init_16 : decode cX27_init 16 = .ok (.putfield 18, 3) := dk_181 0 18 (dk_at dksX27_init_0 16 rfl rfl)
theorem dX27_init_19 : decode cX27_init 19 = .ok (.aload_n 0, 1) := dk_42 (dk_at dksX27_init_0 19 rfl rfl)
theorem dX27_init_20 : decode cX27_init 20 = .ok (.iload 4, 2) := dk_21 4 (dk_at dksX27_init_0 20 rfl rfl)
theorem dX27_init_22 : decode cX27_init 22 = .ok (.putfield 21, 3) := dk_181 0 21 (dk_at dksX27_init_1 0 rfl rfl)
theorem dX27_init_25 : decode cX27_init 25 = .ok (.aload_n 0, 1) := dk_42 (dk_at dksX27_init_1 3 rfl rfl)
theorem dX27_init_26 : decode cX27_init 26 = .ok (.aload 5, 2) := dk_25 5 (dk_at dksX27_init_1 4 rfl rfl)
theorem dX27_init_28 : decode cX27_init 28 = .ok (.putfield 24, 3) := dk_181 0 24 (dk_at dksX27_init_1 6 rfl rfl)
theorem dX27_init_31 : decode cX27_init 31 = .ok (.return_, 1) := dk_177 (dk_at dksX27_init_1 9 rfl rfl)
abbrev cX27_means : ByteArray := prog_23_method_2_code
def yX27_means : MethodName := ⟨RX27, "means", "(LBarredBooks$Book;)Z"⟩
def dkwX27_means_2 : List UInt8 := [180, 0, 21, 43, 180, 0, 32, 160, 0, 7, 4, 167, 0, 4, 3, 172]
abbrev dktX27_means_2 : List UInt8 := dkwX27_means_2 ++ []
def dkwX27_means_1 : List UInt8 := [159, 0, 14, 42, 180, 0, 18, 43, 180, 0, 31, 160, 0, 26, 42, 180, 0, 21, 2, 159, 0, 14, 42]
abbrev dktX27_means_1 : List UInt8 := dkwX27_means_1 ++ dktX27_means_2
def dkwX27_means_0 : List UInt8 := [42, 180, 0, 15, 2, 159, 0, 14, 42, 180, 0, 15, 43, 180, 0, 28, 160, 0, 45, 42, 180, 0, 18, 2]
abbrev dktX27_means_0 : List UInt8 := dkwX27_means_0 ++ dktX27_means_1
theorem dksX27_means_0 : cX27_means.data.toList.drop 0 = dktX27_means_0 := by decide +kernel
theorem dksX27_means_1 : cX27_means.data.toList.drop 24 = dktX27_means_1 := dk_seg dksX27_means_0 24 rfl rfl
theorem dksX27_means_2 : cX27_means.data.toList.drop 47 = dktX27_means_2 := dk_seg dksX27_means_1 23 rfl rfl
theorem dX27_means_0 : decode cX27_means 0 = .ok (.aload_n 0, 1) := dk_42 (dk_at dksX27_means_0 0 rfl rfl)
theorem dX27_means_1 : decode cX27_means 1 = .ok (.getfield 15, 3) := dk_180 0 15 (dk_at dksX27_means_0 1 rfl rfl)
theorem dX27_means_4 : decode cX27_means 4 = .ok (.iconst (-1), 1) := dk_2 (dk_at dksX27_means_0 4 rfl rfl)
theorem dX27_means_5 : decode cX27_means 5 = .ok (.if_icmp .eq 14, 3) := dk_159 0 14 (dk_at dksX27_means_0 5 rfl rfl)
theorem dX27_means_8 : decode cX27_means 8 = .ok (.aload_n 0, 1) := dk_42 (dk_at dksX27_means_0 8 rfl rfl)
theorem dX27_means_9 : decode cX27_means 9 = .ok (.getfield 15, 3) := dk_180 0 15 (dk_at dksX27_means_0 9 rfl rfl)
theorem dX27_means_12 : decode cX27_means 12 = .ok (.aload_n 1, 1) := dk_43 (dk_at dksX27_means_0 12 rfl rfl)
theorem dX27_means_13 : decode cX27_means 13 = .ok (.getfield 28, 3) := dk_180 0 28 (dk_at dksX27_means_0 13 rfl rfl)
theorem dX27_means_16 : decode cX27_means 16 = .ok (.if_icmp .ne 45, 3) := dk_160 0 45 (dk_at dksX27_means_0 16 rfl rfl)
theorem dX27_means_19 : decode cX27_means 19 = .ok (.aload_n 0, 1) := dk_42 (dk_at dksX27_means_0 19 rfl rfl)
theorem dX27_means_20 : decode cX27_means 20 = .ok (.getfield 18, 3) := dk_180 0 18 (dk_at dksX27_means_0 20 rfl rfl)
theorem dX27_means_23 : decode cX27_means 23 = .ok (.iconst (-1), 1) := dk_2 (dk_at dksX27_means_0 23 rfl rfl)
theorem dX27_means_24 : decode cX27_means 24 = .ok (.if_icmp .eq 14, 3) := dk_159 0 14 (dk_at dksX27_means_1 0 rfl rfl)
theorem dX27_means_27 : decode cX27_means 27 = .ok (.aload_n 0, 1) := dk_42 (dk_at dksX27_means_1 3 rfl rfl)
theorem dX27_means_28 : decode cX27_means 28 = .ok (.getfield 18, 3) := dk_180 0 18 (dk_at dksX27_means_1 4 rfl rfl)
theorem dX27_means_31 : decode cX27_means 31 = .ok (.aload_n 1, 1) := dk_43 (dk_at dksX27_means_1 7 rfl rfl)
theorem dX27_means_32 : decode cX27_means 32 = .ok (.getfield 31, 3) := dk_180 0 31 (dk_at dksX27_means_1 8 rfl rfl)
theorem dX27_means_35 : decode cX27_means 35 = .ok (.if_icmp .ne 26, 3) := dk_160 0 26 (dk_at dksX27_means_1 11 rfl rfl)
theorem dX27_means_38 : decode cX27_means 38 = .ok (.aload_n 0, 1) := dk_42 (dk_at dksX27_means_1 14 rfl rfl)
theorem dX27_means_39 : decode cX27_means 39 = .ok (.getfield 21, 3) := dk_180 0 21 (dk_at dksX27_means_1 15 rfl rfl)
theorem dX27_means_42 : decode cX27_means 42 = .ok (.iconst (-1), 1) := dk_2 (dk_at dksX27_means_1 18 rfl rfl)
theorem dX27_means_43 : decode cX27_means 43 = .ok (.if_icmp .eq 14, 3) := dk_159 0 14 (dk_at dksX27_means_1 19 rfl rfl)
theorem dX27_means_46 : decode cX27_means 46 = .ok (.aload_n 0, 1) := dk_42 (dk_at dksX27_means_1 22 rfl rfl)
theorem dX27_means_47 : decode cX27_means 47 = .ok (.getfield 21, 3) := dk_180 0 21 (dk_at dksX27_means_2 0 rfl rfl)
theorem dX27_means_50 : decode cX27_means 50 = .ok (.aload_n 1, 1) := dk_43 (dk_at dksX27_means_2 3 rfl rfl)
theorem dX27_means_51 : decode cX27_means 51 = .ok (.getfield 32, 3) := dk_180 0 32 (dk_at dksX27_means_2 4 rfl rfl)
theorem dX27_means_54 : decode cX27_means 54 = .ok (.if_icmp .ne 7, 3) := dk_160 0 7 (dk_at dksX27_means_2 7 rfl rfl)
theorem dX27_means_57 : decode cX27_means 57 = .ok (.iconst 1, 1) := dk_4 (dk_at dksX27_means_2 10 rfl rfl)
theorem dX27_means_58 : decode cX27_means 58 = .ok (.goto 4, 3) := dk_167 0 4 (dk_at dksX27_means_2 11 rfl rfl)
theorem dX27_means_61 : decode cX27_means 61 = .ok (.iconst 0, 1) := dk_3 (dk_at dksX27_means_2 14 rfl rfl)
theorem dX27_means_62 : decode cX27_means 62 = .ok (.ireturn, 1) := dk_172 (dk_at dksX27_means_2 15 rfl rfl)
abbrev cX27_isTrue : ByteArray := prog_23_method_3_code
def yX27_isTrue : MethodName := ⟨RX27, "isTrue", "()Z"⟩
def dkwX27_isTrue_2 : List UInt8 := [160, 0, 7, 4, 167, 0, 4, 3, 172]
abbrev dktX27_isTrue_2 : List UInt8 := dkwX27_isTrue_2 ++ []
def dkwX27_isTrue_1 : List UInt8 := [180, 0, 18, 42, 180, 0, 24, 180, 0, 18, 160, 0, 21, 42, 180, 0, 21, 42, 180, 0, 24, 180, 0, 21]
abbrev dktX27_isTrue_1 : List UInt8 := dkwX27_isTrue_1 ++ dktX27_isTrue_2
def dkwX27_isTrue_0 : List UInt8 := [42, 180, 0, 24, 198, 0, 45, 42, 180, 0, 15, 42, 180, 0, 24, 180, 0, 15, 160, 0, 35, 42]
abbrev dktX27_isTrue_0 : List UInt8 := dkwX27_isTrue_0 ++ dktX27_isTrue_1
theorem dksX27_isTrue_0 : cX27_isTrue.data.toList.drop 0 = dktX27_isTrue_0 := by decide +kernel
theorem dksX27_isTrue_1 : cX27_isTrue.data.toList.drop 22 = dktX27_isTrue_1 := dk_seg dksX27_isTrue_0 22 rfl rfl
theorem dksX27_isTrue_2 : cX27_isTrue.data.toList.drop 46 = dktX27_isTrue_2 := dk_seg dksX27_isTrue_1 24 rfl rfl
theorem dX27_isTrue_0 : decode cX27_isTrue 0 = .ok (.aload_n 0, 1) := dk_42 (dk_at dksX27_isTrue_0 0 rfl rfl)
theorem dX27_isTrue_1 : decode cX27_isTrue 1 = .ok (.getfield 24, 3) := dk_180 0 24 (dk_at dksX27_isTrue_0 1 rfl rfl)
theorem dX27_isTrue_4 : decode cX27_isTrue 4 = .ok (.ifnull 45, 3) := dk_198 0 45 (dk_at dksX27_isTrue_0 4 rfl rfl)
theorem dX27_isTrue_7 : decode cX27_isTrue 7 = .ok (.aload_n 0, 1) := dk_42 (dk_at dksX27_isTrue_0 7 rfl rfl)
theorem dX27_isTrue_8 : decode cX27_isTrue 8 = .ok (.getfield 15, 3) := dk_180 0 15 (dk_at dksX27_isTrue_0 8 rfl rfl)
theorem dX27_isTrue_11 : decode cX27_isTrue 11 = .ok (.aload_n 0, 1) := dk_42 (dk_at dksX27_isTrue_0 11 rfl rfl)
theorem dX27_isTrue_12 : decode cX27_isTrue 12 = .ok (.getfield 24, 3) := dk_180 0 24 (dk_at dksX27_isTrue_0 12 rfl rfl)
theorem dX27_isTrue_15 : decode cX27_isTrue 15 = .ok (.getfield 15, 3) := dk_180 0 15 (dk_at dksX27_isTrue_0 15 rfl rfl)
theorem dX27_isTrue_18 : decode cX27_isTrue 18 = .ok (.if_icmp .ne 35, 3) := dk_160 0 35 (dk_at dksX27_isTrue_0 18 rfl rfl)
theorem dX27_isTrue_21 : decode cX27_isTrue 21 = .ok (.aload_n 0, 1) := dk_42 (dk_at dksX27_isTrue_0 21 rfl rfl)
theorem dX27_isTrue_22 : decode cX27_isTrue 22 = .ok (.getfield 18, 3) := dk_180 0 18 (dk_at dksX27_isTrue_1 0 rfl rfl)
theorem dX27_isTrue_25 : decode cX27_isTrue 25 = .ok (.aload_n 0, 1) := dk_42 (dk_at dksX27_isTrue_1 3 rfl rfl)
theorem dX27_isTrue_26 : decode cX27_isTrue 26 = .ok (.getfield 24, 3) := dk_180 0 24 (dk_at dksX27_isTrue_1 4 rfl rfl)
theorem dX27_isTrue_29 : decode cX27_isTrue 29 = .ok (.getfield 18, 3) := dk_180 0 18 (dk_at dksX27_isTrue_1 7 rfl rfl)
theorem dX27_isTrue_32 : decode cX27_isTrue 32 = .ok (.if_icmp .ne 21, 3) := dk_160 0 21 (dk_at dksX27_isTrue_1 10 rfl rfl)
theorem dX27_isTrue_35 : decode cX27_isTrue 35 = .ok (.aload_n 0, 1) := dk_42 (dk_at dksX27_isTrue_1 13 rfl rfl)
theorem dX27_isTrue_36 : decode cX27_isTrue 36 = .ok (.getfield 21, 3) := dk_180 0 21 (dk_at dksX27_isTrue_1 14 rfl rfl)
theorem dX27_isTrue_39 : decode cX27_isTrue 39 = .ok (.aload_n 0, 1) := dk_42 (dk_at dksX27_isTrue_1 17 rfl rfl)
theorem dX27_isTrue_40 : decode cX27_isTrue 40 = .ok (.getfield 24, 3) := dk_180 0 24 (dk_at dksX27_isTrue_1 18 rfl rfl)
theorem dX27_isTrue_43 : decode cX27_isTrue 43 = .ok (.getfield 21, 3) := dk_180 0 21 (dk_at dksX27_isTrue_1 21 rfl rfl)
theorem dX27_isTrue_46 : decode cX27_isTrue 46 = .ok (.if_icmp .ne 7, 3) := dk_160 0 7 (dk_at dksX27_isTrue_2 0 rfl rfl)
theorem dX27_isTrue_49 : decode cX27_isTrue 49 = .ok (.iconst 1, 1) := dk_4 (dk_at dksX27_isTrue_2 3 rfl rfl)
theorem dX27_isTrue_50 : decode cX27_isTrue 50 = .ok (.goto 4, 3) := dk_167 0 4 (dk_at dksX27_isTrue_2 4 rfl rfl)
theorem dX27_isTrue_53 : decode cX27_isTrue 53 = .ok (.iconst 0, 1) := dk_3 (dk_at dksX27_isTrue_2 7 rfl rfl)
theorem dX27_isTrue_54 : decode cX27_isTrue 54 = .ok (.ireturn, 1) := dk_172 (dk_at dksX27_isTrue_2 8 rfl rfl)
abbrev cX27_hangsOn : ByteArray := prog_23_method_4_code
def yX27_hangsOn : MethodName := ⟨RX27, "hangsOn", "(LBarredBooks$Slip;)Z"⟩
def dkwX27_hangsOn_1 : List UInt8 := [153, 0, 7, 4, 167, 0, 4, 3, 172]
abbrev dktX27_hangsOn_1 : List UInt8 := dkwX27_hangsOn_1 ++ []
def dkwX27_hangsOn_0 : List UInt8 := [42, 180, 0, 24, 198, 0, 26, 42, 180, 0, 24, 43, 165, 0, 14, 42, 180, 0, 24, 43, 182, 0, 33]
abbrev dktX27_hangsOn_0 : List UInt8 := dkwX27_hangsOn_0 ++ dktX27_hangsOn_1
theorem dksX27_hangsOn_0 : cX27_hangsOn.data.toList.drop 0 = dktX27_hangsOn_0 := by decide +kernel
theorem dksX27_hangsOn_1 : cX27_hangsOn.data.toList.drop 23 = dktX27_hangsOn_1 := dk_seg dksX27_hangsOn_0 23 rfl rfl
theorem dX27_hangsOn_0 : decode cX27_hangsOn 0 = .ok (.aload_n 0, 1) := dk_42 (dk_at dksX27_hangsOn_0 0 rfl rfl)
theorem dX27_hangsOn_1 : decode cX27_hangsOn 1 = .ok (.getfield 24, 3) := dk_180 0 24 (dk_at dksX27_hangsOn_0 1 rfl rfl)
theorem dX27_hangsOn_4 : decode cX27_hangsOn 4 = .ok (.ifnull 26, 3) := dk_198 0 26 (dk_at dksX27_hangsOn_0 4 rfl rfl)
theorem dX27_hangsOn_7 : decode cX27_hangsOn 7 = .ok (.aload_n 0, 1) := dk_42 (dk_at dksX27_hangsOn_0 7 rfl rfl)
theorem dX27_hangsOn_8 : decode cX27_hangsOn 8 = .ok (.getfield 24, 3) := dk_180 0 24 (dk_at dksX27_hangsOn_0 8 rfl rfl)
theorem dX27_hangsOn_11 : decode cX27_hangsOn 11 = .ok (.aload_n 1, 1) := dk_43 (dk_at dksX27_hangsOn_0 11 rfl rfl)
theorem dX27_hangsOn_12 : decode cX27_hangsOn 12 = .ok (.if_acmp .eq 14, 3) := dk_165 0 14 (dk_at dksX27_hangsOn_0 12 rfl rfl)
theorem dX27_hangsOn_15 : decode cX27_hangsOn 15 = .ok (.aload_n 0, 1) := dk_42 (dk_at dksX27_hangsOn_0 15 rfl rfl)
theorem dX27_hangsOn_16 : decode cX27_hangsOn 16 = .ok (.getfield 24, 3) := dk_180 0 24 (dk_at dksX27_hangsOn_0 16 rfl rfl)
theorem dX27_hangsOn_19 : decode cX27_hangsOn 19 = .ok (.aload_n 1, 1) := dk_43 (dk_at dksX27_hangsOn_0 19 rfl rfl)
theorem dX27_hangsOn_20 : decode cX27_hangsOn 20 = .ok (.invokevirtual 33, 3) := dk_182 0 33 (dk_at dksX27_hangsOn_0 20 rfl rfl)
theorem dX27_hangsOn_23 : decode cX27_hangsOn 23 = .ok (.ifCond .eq 7, 3) := dk_153 0 7 (dk_at dksX27_hangsOn_1 0 rfl rfl)
theorem dX27_hangsOn_26 : decode cX27_hangsOn 26 = .ok (.iconst 1, 1) := dk_4 (dk_at dksX27_hangsOn_1 3 rfl rfl)
theorem dX27_hangsOn_27 : decode cX27_hangsOn 27 = .ok (.goto 4, 3) := dk_167 0 4 (dk_at dksX27_hangsOn_1 4 rfl rfl)
theorem dX27_hangsOn_30 : decode cX27_hangsOn 30 = .ok (.iconst 0, 1) := dk_3 (dk_at dksX27_hangsOn_1 7 rfl rfl)
theorem dX27_hangsOn_31 : decode cX27_hangsOn 31 = .ok (.ireturn, 1) := dk_172 (dk_at dksX27_hangsOn_1 8 rfl rfl)
abbrev cX27_root : ByteArray := prog_23_method_5_code
def yX27_root : MethodName := ⟨RX27, "root", "()LBarredBooks$Slip;"⟩
def dkwX27_root_0 : List UInt8 := [42, 180, 0, 24, 199, 0, 7, 42, 167, 0, 10, 42, 180, 0, 24, 182, 0, 37, 176]
abbrev dktX27_root_0 : List UInt8 := dkwX27_root_0 ++ []
theorem dksX27_root_0 : cX27_root.data.toList.drop 0 = dktX27_root_0 := by decide +kernel
theorem dX27_root_0 : decode cX27_root 0 = .ok (.aload_n 0, 1) := dk_42 (dk_at dksX27_root_0 0 rfl rfl)
theorem dX27_root_1 : decode cX27_root 1 = .ok (.getfield 24, 3) := dk_180 0 24 (dk_at dksX27_root_0 1 rfl rfl)
theorem dX27_root_4 : decode cX27_root 4 = .ok (.ifnonnull 7, 3) := dk_199 0 7 (dk_at dksX27_root_0 4 rfl rfl)
theorem dX27_root_7 : decode cX27_root 7 = .ok (.aload_n 0, 1) := dk_42 (dk_at dksX27_root_0 7 rfl rfl)
theorem dX27_root_8 : decode cX27_root 8 = .ok (.goto 10, 3) := dk_167 0 10 (dk_at dksX27_root_0 8 rfl rfl)
theorem dX27_root_11 : decode cX27_root 11 = .ok (.aload_n 0, 1) := dk_42 (dk_at dksX27_root_0 11 rfl rfl)
theorem dX27_root_12 : decode cX27_root 12 = .ok (.getfield 24, 3) := dk_180 0 24 (dk_at dksX27_root_0 12 rfl rfl)
theorem dX27_root_15 : decode cX27_root 15 = .ok (.invokevirtual 37, 3) := dk_182 0 37 (dk_at dksX27_root_0 15 rfl rfl)
theorem dX27_root_18 : decode cX27_root 18 = .ok (.areturn, 1) := dk_176 (dk_at dksX27_root_0 18 rfl rfl)
abbrev cX27_where : ByteArray := prog_23_method_6_code
def yX27_where : MethodName := ⟨RX27, "where", "()LBarredBooks$Slip;"⟩
def dkwX27_where_1 : List UInt8 := [167, 0, 15, 42, 182, 0, 44, 153, 0, 7, 1, 167, 0, 4, 42, 176]
abbrev dktX27_where_1 : List UInt8 := dkwX27_where_1 ++ []
def dkwX27_where_0 : List UInt8 := [42, 180, 0, 24, 199, 0, 7, 1, 167, 0, 10, 42, 180, 0, 24, 182, 0, 41, 76, 43, 198, 0, 7, 43]
abbrev dktX27_where_0 : List UInt8 := dkwX27_where_0 ++ dktX27_where_1
theorem dksX27_where_0 : cX27_where.data.toList.drop 0 = dktX27_where_0 := by decide +kernel
theorem dksX27_where_1 : cX27_where.data.toList.drop 24 = dktX27_where_1 := dk_seg dksX27_where_0 24 rfl rfl
theorem dX27_where_0 : decode cX27_where 0 = .ok (.aload_n 0, 1) := dk_42 (dk_at dksX27_where_0 0 rfl rfl)
theorem dX27_where_1 : decode cX27_where 1 = .ok (.getfield 24, 3) := dk_180 0 24 (dk_at dksX27_where_0 1 rfl rfl)
theorem dX27_where_4 : decode cX27_where 4 = .ok (.ifnonnull 7, 3) := dk_199 0 7 (dk_at dksX27_where_0 4 rfl rfl)
theorem dX27_where_7 : decode cX27_where 7 = .ok (.aconst_null, 1) := dk_1 (dk_at dksX27_where_0 7 rfl rfl)
theorem dX27_where_8 : decode cX27_where 8 = .ok (.goto 10, 3) := dk_167 0 10 (dk_at dksX27_where_0 8 rfl rfl)
theorem dX27_where_11 : decode cX27_where 11 = .ok (.aload_n 0, 1) := dk_42 (dk_at dksX27_where_0 11 rfl rfl)
theorem dX27_where_12 : decode cX27_where 12 = .ok (.getfield 24, 3) := dk_180 0 24 (dk_at dksX27_where_0 12 rfl rfl)
theorem dX27_where_15 : decode cX27_where 15 = .ok (.invokevirtual 41, 3) := dk_182 0 41 (dk_at dksX27_where_0 15 rfl rfl)
theorem dX27_where_18 : decode cX27_where 18 = .ok (.astore_n 1, 1) := dk_76 (dk_at dksX27_where_0 18 rfl rfl)
theorem dX27_where_19 : decode cX27_where 19 = .ok (.aload_n 1, 1) := dk_43 (dk_at dksX27_where_0 19 rfl rfl)
theorem dX27_where_20 : decode cX27_where 20 = .ok (.ifnull 7, 3) := dk_198 0 7 (dk_at dksX27_where_0 20 rfl rfl)
theorem dX27_where_23 : decode cX27_where 23 = .ok (.aload_n 1, 1) := dk_43 (dk_at dksX27_where_0 23 rfl rfl)
theorem dX27_where_24 : decode cX27_where 24 = .ok (.goto 15, 3) := dk_167 0 15 (dk_at dksX27_where_1 0 rfl rfl)
theorem dX27_where_27 : decode cX27_where 27 = .ok (.aload_n 0, 1) := dk_42 (dk_at dksX27_where_1 3 rfl rfl)
theorem dX27_where_28 : decode cX27_where 28 = .ok (.invokevirtual 44, 3) := dk_182 0 44 (dk_at dksX27_where_1 4 rfl rfl)
theorem dX27_where_31 : decode cX27_where 31 = .ok (.ifCond .eq 7, 3) := dk_153 0 7 (dk_at dksX27_where_1 7 rfl rfl)
theorem dX27_where_34 : decode cX27_where 34 = .ok (.aconst_null, 1) := dk_1 (dk_at dksX27_where_1 10 rfl rfl)
theorem dX27_where_35 : decode cX27_where 35 = .ok (.goto 4, 3) := dk_167 0 4 (dk_at dksX27_where_1 11 rfl rfl)
theorem dX27_where_38 : decode cX27_where 38 = .ok (.aload_n 0, 1) := dk_42 (dk_at dksX27_where_1 14 rfl rfl)
theorem dX27_where_39 : decode cX27_where 39 = .ok (.areturn, 1) := dk_176 (dk_at dksX27_where_1 15 rfl rfl)
theorem q145 : (Jvm.Cond.initialized "BarredBooks$Slip") ∈ lw_all := lw_g (lw_at lw_m1 46 rfl) rfl
theorem q392 : (Jvm.Cond.fieldLinkNest "BarredBooks$Slip" (28 : Nat) "BarredBooks$Book" "title" "I" "BarredBooks") ∈ lw_tbl := lw_at lw_m2 53 rfl
theorem q396 : (Jvm.Cond.fieldLinkNest "BarredBooks$Slip" (31 : Nat) "BarredBooks$Book" "author" "I" "BarredBooks") ∈ lw_tbl := lw_at lw_m2 57 rfl
theorem q400 : (Jvm.Cond.fieldLinkNest "BarredBooks$Slip" (32 : Nat) "BarredBooks$Book" "year" "I" "BarredBooks") ∈ lw_tbl := lw_at lw_m2 61 rfl
theorem q1153 : (Jvm.Cond.selects "BarredBooks$Slip" ({ cls := "java/lang/Object", name := "getClass", desc := "()Ljava/lang/Class;" } : Jvm.MethodName) ({ cls := "java/lang/Object", name := "getClass", desc := "()Ljava/lang/Class;" } : Jvm.MethodName)) ∈ lw_all := lw_g (lw_at lw_m5 94 rfl) rfl
theorem q1367 : (Jvm.Cond.instantiable "BarredBooks$Slip" (5 : Nat)) ∈ lw_all := lw_g (lw_at lw_m6 68 rfl) rfl
theorem q1369 : (Jvm.Cond.instanceMethod ({ cls := "BarredBooks$Slip", name := "<init>", desc := "(IIIILBarredBooks$Slip;)V" } : Jvm.MethodName)) ∈ lw_all := lw_g (lw_at lw_m6 70 rfl) rfl
theorem q1370 : (Jvm.Cond.code ({ cls := "BarredBooks$Slip", name := "<init>", desc := "(IIIILBarredBooks$Slip;)V" } : Jvm.MethodName) prog_23_method_1_code (6 : Nat) (Option.none : Option Jvm.ClassFile.FieldType)) ∈ lw_all := lw_g (lw_at lw_m6 71 rfl) rfl
theorem q1371 : (Jvm.Cond.methodLink "BarredBooks$Slip" (3 : Nat) ({ cls := "java/lang/Object", name := "<init>", desc := "()V" } : Jvm.MethodName)) ∈ lw_all := lw_g (lw_at lw_m6 72 rfl) rfl
theorem q1372 : (Jvm.Cond.fieldLink "BarredBooks$Slip" (9 : Nat) "BarredBooks$Slip" "number" "I") ∈ lw_all := lw_g (lw_at lw_m6 73 rfl) rfl
theorem q1374 : (Jvm.Cond.fieldLink "BarredBooks$Slip" (15 : Nat) "BarredBooks$Slip" "title" "I") ∈ lw_all := lw_g (lw_at lw_m6 75 rfl) rfl
theorem q1375 : (Jvm.Cond.fieldLink "BarredBooks$Slip" (18 : Nat) "BarredBooks$Slip" "author" "I") ∈ lw_all := lw_g (lw_at lw_m6 76 rfl) rfl
theorem q1376 : (Jvm.Cond.fieldLink "BarredBooks$Slip" (21 : Nat) "BarredBooks$Slip" "year" "I") ∈ lw_all := lw_g (lw_at lw_m6 77 rfl) rfl
theorem q1377 : (Jvm.Cond.fieldLink "BarredBooks$Slip" (24 : Nat) "BarredBooks$Slip" "from" "LBarredBooks$Slip;") ∈ lw_all := lw_g (lw_at lw_m6 78 rfl) rfl
theorem q1378 : (Jvm.Cond.laysFinal "BarredBooks$Slip" "BarredBooks$Slip" "number" "I") ∈ lw_all := lw_g (lw_at lw_m6 79 rfl) rfl
theorem q1379 : (Jvm.Cond.soleField "BarredBooks$Slip" "number") ∈ lw_all := lw_g (lw_at lw_m6 80 rfl) rfl
theorem q1380 : (Jvm.Cond.laysFinal "BarredBooks$Slip" "BarredBooks$Slip" "title" "I") ∈ lw_all := lw_g (lw_at lw_m6 81 rfl) rfl
theorem q1381 : (Jvm.Cond.soleField "BarredBooks$Slip" "title") ∈ lw_all := lw_g (lw_at lw_m6 82 rfl) rfl
theorem q1382 : (Jvm.Cond.laysFinal "BarredBooks$Slip" "BarredBooks$Slip" "author" "I") ∈ lw_all := lw_g (lw_at lw_m6 83 rfl) rfl
theorem q1383 : (Jvm.Cond.soleField "BarredBooks$Slip" "author") ∈ lw_all := lw_g (lw_at lw_m6 84 rfl) rfl
theorem q1384 : (Jvm.Cond.laysFinal "BarredBooks$Slip" "BarredBooks$Slip" "year" "I") ∈ lw_all := lw_g (lw_at lw_m6 85 rfl) rfl
theorem q1385 : (Jvm.Cond.soleField "BarredBooks$Slip" "year") ∈ lw_all := lw_g (lw_at lw_m6 86 rfl) rfl
theorem q1386 : (Jvm.Cond.laysFinal "BarredBooks$Slip" "BarredBooks$Slip" "from" "LBarredBooks$Slip;") ∈ lw_all := lw_g (lw_at lw_m6 87 rfl) rfl
theorem q1387 : (Jvm.Cond.soleField "BarredBooks$Slip" "from") ∈ lw_all := lw_g (lw_at lw_m6 88 rfl) rfl
theorem q1388 : (Jvm.Cond.superclass "BarredBooks$Slip" "java/lang/Object") ∈ lw_all := lw_g (lw_at lw_m6 89 rfl) rfl
theorem q1394 : (Jvm.Cond.instanceMethod ({ cls := "BarredBooks$Slip", name := "means", desc := "(LBarredBooks$Book;)Z" } : Jvm.MethodName)) ∈ lw_all := lw_g (lw_at lw_m6 95 rfl) rfl
theorem q1395 : (Jvm.Cond.selects "BarredBooks$Slip" ({ cls := "BarredBooks$Slip", name := "means", desc := "(LBarredBooks$Book;)Z" } : Jvm.MethodName) ({ cls := "BarredBooks$Slip", name := "means", desc := "(LBarredBooks$Book;)Z" } : Jvm.MethodName)) ∈ lw_all := lw_g (lw_at lw_m6 96 rfl) rfl
theorem q1396 : (Jvm.Cond.code ({ cls := "BarredBooks$Slip", name := "means", desc := "(LBarredBooks$Book;)Z" } : Jvm.MethodName) prog_23_method_2_code (2 : Nat) (Option.some Jvm.ClassFile.FieldType.boolean)) ∈ lw_all := lw_g (lw_at lw_m6 97 rfl) rfl
theorem q1398 : (Jvm.Cond.instanceMethod ({ cls := "BarredBooks$Slip", name := "isTrue", desc := "()Z" } : Jvm.MethodName)) ∈ lw_all := lw_g (lw_at lw_m6 99 rfl) rfl
theorem q1399 : (Jvm.Cond.selects "BarredBooks$Slip" ({ cls := "BarredBooks$Slip", name := "isTrue", desc := "()Z" } : Jvm.MethodName) ({ cls := "BarredBooks$Slip", name := "isTrue", desc := "()Z" } : Jvm.MethodName)) ∈ lw_all := lw_g (lw_at lw_m6 100 rfl) rfl
theorem q1400 : (Jvm.Cond.code ({ cls := "BarredBooks$Slip", name := "isTrue", desc := "()Z" } : Jvm.MethodName) prog_23_method_3_code (1 : Nat) (Option.some Jvm.ClassFile.FieldType.boolean)) ∈ lw_all := lw_g (lw_at lw_m6 101 rfl) rfl
theorem q1402 : (Jvm.Cond.instanceMethod ({ cls := "BarredBooks$Slip", name := "hangsOn", desc := "(LBarredBooks$Slip;)Z" } : Jvm.MethodName)) ∈ lw_all := lw_g (lw_at lw_m6 103 rfl) rfl
theorem q1403 : (Jvm.Cond.selects "BarredBooks$Slip" ({ cls := "BarredBooks$Slip", name := "hangsOn", desc := "(LBarredBooks$Slip;)Z" } : Jvm.MethodName) ({ cls := "BarredBooks$Slip", name := "hangsOn", desc := "(LBarredBooks$Slip;)Z" } : Jvm.MethodName)) ∈ lw_all := lw_g (lw_at lw_m6 104 rfl) rfl
theorem q1404 : (Jvm.Cond.code ({ cls := "BarredBooks$Slip", name := "hangsOn", desc := "(LBarredBooks$Slip;)Z" } : Jvm.MethodName) prog_23_method_4_code (2 : Nat) (Option.some Jvm.ClassFile.FieldType.boolean)) ∈ lw_all := lw_g (lw_at lw_m6 105 rfl) rfl
theorem q1405 : (Jvm.Cond.methodLink "BarredBooks$Slip" (33 : Nat) ({ cls := "BarredBooks$Slip", name := "hangsOn", desc := "(LBarredBooks$Slip;)Z" } : Jvm.MethodName)) ∈ lw_all := lw_g (lw_at lw_m6 106 rfl) rfl
theorem q1407 : (Jvm.Cond.instanceMethod ({ cls := "BarredBooks$Slip", name := "root", desc := "()LBarredBooks$Slip;" } : Jvm.MethodName)) ∈ lw_all := lw_g (lw_at lw_m6 108 rfl) rfl
theorem q1408 : (Jvm.Cond.selects "BarredBooks$Slip" ({ cls := "BarredBooks$Slip", name := "root", desc := "()LBarredBooks$Slip;" } : Jvm.MethodName) ({ cls := "BarredBooks$Slip", name := "root", desc := "()LBarredBooks$Slip;" } : Jvm.MethodName)) ∈ lw_all := lw_g (lw_at lw_m6 109 rfl) rfl
theorem q1409 : (Jvm.Cond.code ({ cls := "BarredBooks$Slip", name := "root", desc := "()LBarredBooks$Slip;" } : Jvm.MethodName) prog_23_method_5_code (1 : Nat) (Option.some (Jvm.ClassFile.FieldType.object "BarredBooks$Slip"))) ∈ lw_all := lw_g (lw_at lw_m6 110 rfl) rfl
theorem q1410 : (Jvm.Cond.methodLink "BarredBooks$Slip" (37 : Nat) ({ cls := "BarredBooks$Slip", name := "root", desc := "()LBarredBooks$Slip;" } : Jvm.MethodName)) ∈ lw_all := lw_g (lw_at lw_m6 111 rfl) rfl
theorem q1412 : (Jvm.Cond.instanceMethod ({ cls := "BarredBooks$Slip", name := "where", desc := "()LBarredBooks$Slip;" } : Jvm.MethodName)) ∈ lw_all := lw_g (lw_at lw_m6 113 rfl) rfl
theorem q1413 : (Jvm.Cond.selects "BarredBooks$Slip" ({ cls := "BarredBooks$Slip", name := "where", desc := "()LBarredBooks$Slip;" } : Jvm.MethodName) ({ cls := "BarredBooks$Slip", name := "where", desc := "()LBarredBooks$Slip;" } : Jvm.MethodName)) ∈ lw_all := lw_g (lw_at lw_m6 114 rfl) rfl
theorem q1414 : (Jvm.Cond.code ({ cls := "BarredBooks$Slip", name := "where", desc := "()LBarredBooks$Slip;" } : Jvm.MethodName) prog_23_method_6_code (2 : Nat) (Option.some (Jvm.ClassFile.FieldType.object "BarredBooks$Slip"))) ∈ lw_all := lw_g (lw_at lw_m6 115 rfl) rfl
theorem q1415 : (Jvm.Cond.methodLink "BarredBooks$Slip" (41 : Nat) ({ cls := "BarredBooks$Slip", name := "where", desc := "()LBarredBooks$Slip;" } : Jvm.MethodName)) ∈ lw_all := lw_g (lw_at lw_m6 116 rfl) rfl
theorem q1416 : (Jvm.Cond.methodLink "BarredBooks$Slip" (44 : Nat) ({ cls := "BarredBooks$Slip", name := "isTrue", desc := "()Z" } : Jvm.MethodName)) ∈ lw_all := lw_g (lw_at lw_m6 117 rfl) rfl
theorem q2328 : (Jvm.Cond.castable "BarredBooks$Slip" "java/lang/Object") ∈ lw_tbl := lw_at lw_m10 69 rfl
theorem in_X27 : ∀ w ∈ wsX270, w ∈ lw_all := lw_in wsX270 [1378, 1380, 1382, 1384, 1386] (by decide +kernel) (by decide +kernel)

/-! java/lang/Math -/
set_option maxRecDepth 100000
def RJ0 : String := "java/lang/Math"
abbrev cJ0_min : ByteArray := prog_40_method_69_code
def yJ0_min : MethodName := ⟨RJ0, "min", "(II)I"⟩
def dkwJ0_min_0 : List UInt8 := [26, 27, 163, 0, 7, 26, 167, 0, 4, 27, 172]
abbrev dktJ0_min_0 : List UInt8 := dkwJ0_min_0 ++ []
theorem dksJ0_min_0 : cJ0_min.data.toList.drop 0 = dktJ0_min_0 := by decide +kernel
theorem dJ0_min_0 : decode cJ0_min 0 = .ok (.iload_n 0, 1) := dk_26 (dk_at dksJ0_min_0 0 rfl rfl)
theorem dJ0_min_1 : decode cJ0_min 1 = .ok (.iload_n 1, 1) := dk_27 (dk_at dksJ0_min_0 1 rfl rfl)
theorem dJ0_min_2 : decode cJ0_min 2 = .ok (.if_icmp .gt 7, 3) := dk_163 0 7 (dk_at dksJ0_min_0 2 rfl rfl)
theorem dJ0_min_5 : decode cJ0_min 5 = .ok (.iload_n 0, 1) := dk_26 (dk_at dksJ0_min_0 5 rfl rfl)
theorem dJ0_min_6 : decode cJ0_min 6 = .ok (.goto 4, 3) := dk_167 0 4 (dk_at dksJ0_min_0 6 rfl rfl)
theorem dJ0_min_9 : decode cJ0_min 9 = .ok (.iload_n 1, 1) := dk_27 (dk_at dksJ0_min_0 9 rfl rfl)
theorem dJ0_min_10 : decode cJ0_min 10 = .ok (.ireturn, 1) := dk_172 (dk_at dksJ0_min_0 10 rfl rfl)
abbrev cJ0_max : ByteArray := prog_40_method_65_code
def yJ0_max : MethodName := ⟨RJ0, "max", "(II)I"⟩
def dkwJ0_max_0 : List UInt8 := [26, 27, 161, 0, 7, 26, 167, 0, 4, 27, 172]
abbrev dktJ0_max_0 : List UInt8 := dkwJ0_max_0 ++ []
theorem dksJ0_max_0 : cJ0_max.data.toList.drop 0 = dktJ0_max_0 := by decide +kernel
theorem dJ0_max_0 : decode cJ0_max 0 = .ok (.iload_n 0, 1) := dk_26 (dk_at dksJ0_max_0 0 rfl rfl)
theorem dJ0_max_1 : decode cJ0_max 1 = .ok (.iload_n 1, 1) := dk_27 (dk_at dksJ0_max_0 1 rfl rfl)
theorem dJ0_max_2 : decode cJ0_max 2 = .ok (.if_icmp .lt 7, 3) := dk_161 0 7 (dk_at dksJ0_max_0 2 rfl rfl)
theorem dJ0_max_5 : decode cJ0_max 5 = .ok (.iload_n 0, 1) := dk_26 (dk_at dksJ0_max_0 5 rfl rfl)
theorem dJ0_max_6 : decode cJ0_max 6 = .ok (.goto 4, 3) := dk_167 0 4 (dk_at dksJ0_max_0 6 rfl rfl)
theorem dJ0_max_9 : decode cJ0_max 9 = .ok (.iload_n 1, 1) := dk_27 (dk_at dksJ0_max_0 9 rfl rfl)
theorem dJ0_max_10 : decode cJ0_max 10 = .ok (.ireturn, 1) := dk_172 (dk_at dksJ0_max_0 10 rfl rfl)
theorem q105 : (Jvm.Cond.initialized "java/lang/Math") ∈ lw_all := lw_g (lw_at lw_m1 6 rfl) rfl
theorem q355 : (Jvm.Cond.static ({ cls := "java/lang/Math", name := "min", desc := "(II)I" } : Jvm.MethodName)) ∈ lw_all := lw_g (lw_at lw_m2 16 rfl) rfl
theorem q356 : (Jvm.Cond.code ({ cls := "java/lang/Math", name := "min", desc := "(II)I" } : Jvm.MethodName) prog_40_method_69_code (2 : Nat) (Option.some Jvm.ClassFile.FieldType.int)) ∈ lw_all := lw_g (lw_at lw_m2 17 rfl) rfl
theorem q1121 : (Jvm.Cond.static ({ cls := "java/lang/Math", name := "max", desc := "(II)I" } : Jvm.MethodName)) ∈ lw_all := lw_g (lw_at lw_m5 62 rfl) rfl
theorem q1122 : (Jvm.Cond.code ({ cls := "java/lang/Math", name := "max", desc := "(II)I" } : Jvm.MethodName) prog_40_method_65_code (2 : Nat) (Option.some Jvm.ClassFile.FieldType.int)) ∈ lw_all := lw_g (lw_at lw_m5 63 rfl) rfl

/-! java/lang/Throwable -/
set_option maxRecDepth 100000
def RJ1 : String := "java/lang/Throwable"
def TJ1 : u_T := fun k => match k with
  | 0 => ("java/lang/Throwable", "cause", "Ljava/lang/Throwable;", false)
  | 1 => ("java/lang/Throwable", "stackTrace", "[Ljava/lang/StackTraceElement;", false)
  | 2 => ("java/lang/Throwable", "suppressedExceptions", "Ljava/util/List;", false)
  | 3 => ("java/lang/Throwable", "detailMessage", "Ljava/lang/String;", false)
  | _ => ("java/lang/Throwable", "backtrace", "Ljava/lang/Object;", false)
def tyJ1 : Nat → FieldType := fun k => match k with
  | 0 => .object "java/lang/Throwable"
  | 1 => .array (.object "java/lang/StackTraceElement")
  | 2 => .object "java/util/List"
  | 3 => .object "java/lang/String"
  | _ => .object "java/lang/Object"
abbrev wsJ10 : List Cond := u_ws RJ1 TJ1 5
theorem nmJ1 : ∀ a, a < 5 → ∀ b, b < 5 → a ≠ b → (TJ1 a).2.1 ≠ (TJ1 b).2.1 := by decide +kernel
theorem tyJ1_ok : ∀ k, k < 5 → parseFieldDescriptor (TJ1 k).2.2.1 = some (tyJ1 k) := by decide +kernel
abbrev cJ1_init : ByteArray := prog_48_method_2_code
def yJ1_init : MethodName := ⟨RJ1, "<init>", "(Ljava/lang/String;)V"⟩
def dkwJ1_init_1 : List UInt8 := [182, 0, 27, 87, 42, 43, 181, 0, 31, 177]
abbrev dktJ1_init_1 : List UInt8 := dkwJ1_init_1 ++ []
def dkwJ1_init_0 : List UInt8 := [42, 183, 0, 1, 42, 42, 181, 0, 7, 42, 178, 0, 13, 181, 0, 17, 42, 178, 0, 20, 181, 0, 24, 42]
abbrev dktJ1_init_0 : List UInt8 := dkwJ1_init_0 ++ dktJ1_init_1
theorem dksJ1_init_0 : cJ1_init.data.toList.drop 0 = dktJ1_init_0 := by decide +kernel
theorem dksJ1_init_1 : cJ1_init.data.toList.drop 24 = dktJ1_init_1 := dk_seg dksJ1_init_0 24 rfl rfl
theorem dJ1_init_0 : decode cJ1_init 0 = .ok (.aload_n 0, 1) := dk_42 (dk_at dksJ1_init_0 0 rfl rfl)
theorem dJ1_init_1 : decode cJ1_init 1 = .ok (.invokespecial 1, 3) := dk_183 0 1 (dk_at dksJ1_init_0 1 rfl rfl)
theorem dJ1_init_4 : decode cJ1_init 4 = .ok (.aload_n 0, 1) := dk_42 (dk_at dksJ1_init_0 4 rfl rfl)
theorem dJ1_init_5 : decode cJ1_init 5 = .ok (.aload_n 0, 1) := dk_42 (dk_at dksJ1_init_0 5 rfl rfl)
theorem dJ1_init_6 : decode cJ1_init 6 = .ok (.putfield 7, 3) := dk_181 0 7 (dk_at dksJ1_init_0 6 rfl rfl)
theorem dJ1_init_9 : decode cJ1_init 9 = .ok (.aload_n 0, 1) := dk_42 (dk_at dksJ1_init_0 9 rfl rfl)
theorem dJ1_init_10 : decode cJ1_init 10 = .ok (.getstatic 13, 3) := dk_178 0 13 (dk_at dksJ1_init_0 10 rfl rfl)
theorem dJ1_init_13 : decode cJ1_init 13 = .ok (.putfield 17, 3) := dk_181 0 17 (dk_at dksJ1_init_0 13 rfl rfl)
theorem dJ1_init_16 : decode cJ1_init 16 = .ok (.aload_n 0, 1) := dk_42 (dk_at dksJ1_init_0 16 rfl rfl)
theorem dJ1_init_17 : decode cJ1_init 17 = .ok (.getstatic 20, 3) := dk_178 0 20 (dk_at dksJ1_init_0 17 rfl rfl)
theorem dJ1_init_20 : decode cJ1_init 20 = .ok (.putfield 24, 3) := dk_181 0 24 (dk_at dksJ1_init_0 20 rfl rfl)
theorem dJ1_init_23 : decode cJ1_init 23 = .ok (.aload_n 0, 1) := dk_42 (dk_at dksJ1_init_0 23 rfl rfl)
theorem dJ1_init_24 : decode cJ1_init 24 = .ok (.invokevirtual 27, 3) := dk_182 0 27 (dk_at dksJ1_init_1 0 rfl rfl)
theorem dJ1_init_27 : decode cJ1_init 27 = .ok (.pop, 1) := dk_87 (dk_at dksJ1_init_1 3 rfl rfl)
theorem dJ1_init_28 : decode cJ1_init 28 = .ok (.aload_n 0, 1) := dk_42 (dk_at dksJ1_init_1 4 rfl rfl)
theorem dJ1_init_29 : decode cJ1_init 29 = .ok (.aload_n 1, 1) := dk_43 (dk_at dksJ1_init_1 5 rfl rfl)
theorem dJ1_init_30 : decode cJ1_init 30 = .ok (.putfield 31, 3) := dk_181 0 31 (dk_at dksJ1_init_1 6 rfl rfl)
theorem dJ1_init_33 : decode cJ1_init 33 = .ok (.return_, 1) := dk_177 (dk_at dksJ1_init_1 9 rfl rfl)
abbrev cJ1_init_2 : ByteArray := prog_48_method_1_code
def yJ1_init_2 : MethodName := ⟨RJ1, "<init>", "()V"⟩
def dkwJ1_init_2_1 : List UInt8 := [182, 0, 27, 87, 177]
abbrev dktJ1_init_2_1 : List UInt8 := dkwJ1_init_2_1 ++ []
def dkwJ1_init_2_0 : List UInt8 := [42, 183, 0, 1, 42, 42, 181, 0, 7, 42, 178, 0, 13, 181, 0, 17, 42, 178, 0, 20, 181, 0, 24, 42]
abbrev dktJ1_init_2_0 : List UInt8 := dkwJ1_init_2_0 ++ dktJ1_init_2_1
theorem dksJ1_init_2_0 : cJ1_init_2.data.toList.drop 0 = dktJ1_init_2_0 := by decide +kernel
theorem dksJ1_init_2_1 : cJ1_init_2.data.toList.drop 24 = dktJ1_init_2_1 := dk_seg dksJ1_init_2_0 24 rfl rfl
theorem dJ1_init_2_0 : decode cJ1_init_2 0 = .ok (.aload_n 0, 1) := dk_42 (dk_at dksJ1_init_2_0 0 rfl rfl)
theorem dJ1_init_2_1 : decode cJ1_init_2 1 = .ok (.invokespecial 1, 3) := dk_183 0 1 (dk_at dksJ1_init_2_0 1 rfl rfl)
theorem dJ1_init_2_4 : decode cJ1_init_2 4 = .ok (.aload_n 0, 1) := dk_42 (dk_at dksJ1_init_2_0 4 rfl rfl)
theorem dJ1_init_2_5 : decode cJ1_init_2 5 = .ok (.aload_n 0, 1) := dk_42 (dk_at dksJ1_init_2_0 5 rfl rfl)
theorem dJ1_init_2_6 : decode cJ1_init_2 6 = .ok (.putfield 7, 3) := dk_181 0 7 (dk_at dksJ1_init_2_0 6 rfl rfl)
theorem dJ1_init_2_9 : decode cJ1_init_2 9 = .ok (.aload_n 0, 1) := dk_42 (dk_at dksJ1_init_2_0 9 rfl rfl)
theorem dJ1_init_2_10 : decode cJ1_init_2 10 = .ok (.getstatic 13, 3) := dk_178 0 13 (dk_at dksJ1_init_2_0 10 rfl rfl)
theorem dJ1_init_2_13 : decode cJ1_init_2 13 = .ok (.putfield 17, 3) := dk_181 0 17 (dk_at dksJ1_init_2_0 13 rfl rfl)
theorem dJ1_init_2_16 : decode cJ1_init_2 16 = .ok (.aload_n 0, 1) := dk_42 (dk_at dksJ1_init_2_0 16 rfl rfl)
theorem dJ1_init_2_17 : decode cJ1_init_2 17 = .ok (.getstatic 20, 3) := dk_178 0 20 (dk_at dksJ1_init_2_0 17 rfl rfl)
theorem dJ1_init_2_20 : decode cJ1_init_2 20 = .ok (.putfield 24, 3) := dk_181 0 24 (dk_at dksJ1_init_2_0 20 rfl rfl)
theorem dJ1_init_2_23 : decode cJ1_init_2 23 = .ok (.aload_n 0, 1) := dk_42 (dk_at dksJ1_init_2_0 23 rfl rfl)
theorem dJ1_init_2_24 : decode cJ1_init_2 24 = .ok (.invokevirtual 27, 3) := dk_182 0 27 (dk_at dksJ1_init_2_1 0 rfl rfl)
theorem dJ1_init_2_27 : decode cJ1_init_2 27 = .ok (.pop, 1) := dk_87 (dk_at dksJ1_init_2_1 3 rfl rfl)
theorem dJ1_init_2_28 : decode cJ1_init_2 28 = .ok (.return_, 1) := dk_177 (dk_at dksJ1_init_2_1 4 rfl rfl)
theorem q115 : (Jvm.Cond.initialized "java/lang/Throwable") ∈ lw_all := lw_g (lw_at lw_m1 16 rfl) rfl
theorem q597 : (Jvm.Cond.instanceMethod ({ cls := "java/lang/Throwable", name := "<init>", desc := "(Ljava/lang/String;)V" } : Jvm.MethodName)) ∈ lw_all := lw_g (lw_at lw_m3 18 rfl) rfl
theorem q598 : (Jvm.Cond.code ({ cls := "java/lang/Throwable", name := "<init>", desc := "(Ljava/lang/String;)V" } : Jvm.MethodName) prog_48_method_2_code (2 : Nat) (Option.none : Option Jvm.ClassFile.FieldType)) ∈ lw_all := lw_g (lw_at lw_m3 19 rfl) rfl
theorem q599 : (Jvm.Cond.methodLink "java/lang/Throwable" (1 : Nat) ({ cls := "java/lang/Object", name := "<init>", desc := "()V" } : Jvm.MethodName)) ∈ lw_all := lw_g (lw_at lw_m3 20 rfl) rfl
theorem q600 : (Jvm.Cond.fieldLink "java/lang/Throwable" (13 : Nat) "java/lang/Throwable" "UNASSIGNED_STACK" "[Ljava/lang/StackTraceElement;") ∈ lw_all := lw_g (lw_at lw_m3 21 rfl) rfl
theorem q601 : (Jvm.Cond.laysStatic "java/lang/Throwable" "UNASSIGNED_STACK" "[Ljava/lang/StackTraceElement;") ∈ lw_tbl := lw_at lw_m3 22 rfl
theorem q602 : (Jvm.Cond.fieldLink "java/lang/Throwable" (20 : Nat) "java/lang/Throwable" "SUPPRESSED_SENTINEL" "Ljava/util/List;") ∈ lw_all := lw_g (lw_at lw_m3 23 rfl) rfl
theorem q603 : (Jvm.Cond.laysStatic "java/lang/Throwable" "SUPPRESSED_SENTINEL" "Ljava/util/List;") ∈ lw_tbl := lw_at lw_m3 24 rfl
theorem q604 : (Jvm.Cond.methodLink "java/lang/Throwable" (27 : Nat) ({ cls := "java/lang/Throwable", name := "fillInStackTrace", desc := "()Ljava/lang/Throwable;" } : Jvm.MethodName)) ∈ lw_all := lw_g (lw_at lw_m3 25 rfl) rfl
theorem q605 : (Jvm.Cond.instanceMethod ({ cls := "java/lang/Throwable", name := "fillInStackTrace", desc := "()Ljava/lang/Throwable;" } : Jvm.MethodName)) ∈ lw_all := lw_g (lw_at lw_m3 26 rfl) rfl
theorem q606 : (Jvm.Cond.sameMethod "java/lang/Throwable" "java/lang/Throwable" "fillInStackTrace" "()Ljava/lang/Throwable;") ∈ lw_all := lw_g (lw_at lw_m3 27 rfl) rfl
theorem q622 : (Jvm.Cond.declares ({ cls := "java/lang/Throwable", name := "fillInStackTrace", desc := "()Ljava/lang/Throwable;" } : Jvm.MethodName)) ∈ lw_tbl := lw_at lw_m3 43 rfl
theorem q626 : (Jvm.Cond.codeSync ({ cls := "java/lang/Throwable", name := "fillInStackTrace", desc := "()Ljava/lang/Throwable;" } : Jvm.MethodName) prog_48_method_18_code (1 : Nat) (Option.some (Jvm.ClassFile.FieldType.object "java/lang/Throwable"))) ∈ lw_all := lw_g (lw_at lw_m3 47 rfl) rfl
theorem q627 : (Jvm.Cond.methodLink "java/lang/Throwable" (202 : Nat) ({ cls := "java/lang/Throwable", name := "fillInStackTrace", desc := "(I)Ljava/lang/Throwable;" } : Jvm.MethodName)) ∈ lw_all := lw_g (lw_at lw_m3 48 rfl) rfl
theorem q628 : (Jvm.Cond.privateMethod ({ cls := "java/lang/Throwable", name := "fillInStackTrace", desc := "(I)Ljava/lang/Throwable;" } : Jvm.MethodName)) ∈ lw_tbl := lw_at lw_m3 49 rfl
theorem q629 : (Jvm.Cond.instanceMethod ({ cls := "java/lang/Throwable", name := "fillInStackTrace", desc := "(I)Ljava/lang/Throwable;" } : Jvm.MethodName)) ∈ lw_all := lw_g (lw_at lw_m3 50 rfl) rfl
theorem q630 : (Jvm.Cond.instantiable "java/lang/Throwable" (6 : Nat)) ∈ lw_all := lw_g (lw_at lw_m3 51 rfl) rfl
theorem q631 : (Jvm.Cond.native ({ cls := "java/lang/Throwable", name := "fillInStackTrace", desc := "(I)Ljava/lang/Throwable;" } : Jvm.MethodName)) ∈ lw_all := lw_g (lw_at lw_m3 52 rfl) rfl
theorem q632 : (Jvm.Cond.fieldLink "java/lang/Throwable" (198 : Nat) "java/lang/Throwable" "backtrace" "Ljava/lang/Object;") ∈ lw_all := lw_g (lw_at lw_m3 53 rfl) rfl
theorem q633 : (Jvm.Cond.fieldLink "java/lang/Throwable" (31 : Nat) "java/lang/Throwable" "detailMessage" "Ljava/lang/String;") ∈ lw_all := lw_g (lw_at lw_m3 54 rfl) rfl
theorem q634 : (Jvm.Cond.fieldLink "java/lang/Throwable" (7 : Nat) "java/lang/Throwable" "cause" "Ljava/lang/Throwable;") ∈ lw_all := lw_g (lw_at lw_m3 55 rfl) rfl
theorem q635 : (Jvm.Cond.fieldLink "java/lang/Throwable" (17 : Nat) "java/lang/Throwable" "stackTrace" "[Ljava/lang/StackTraceElement;") ∈ lw_all := lw_g (lw_at lw_m3 56 rfl) rfl
theorem q636 : (Jvm.Cond.fieldLink "java/lang/Throwable" (24 : Nat) "java/lang/Throwable" "suppressedExceptions" "Ljava/util/List;") ∈ lw_all := lw_g (lw_at lw_m3 57 rfl) rfl
theorem q638 : (Jvm.Cond.soleField "java/lang/Throwable" "backtrace") ∈ lw_all := lw_g (lw_at lw_m3 59 rfl) rfl
theorem q640 : (Jvm.Cond.soleField "java/lang/Throwable" "detailMessage") ∈ lw_all := lw_g (lw_at lw_m3 61 rfl) rfl
theorem q642 : (Jvm.Cond.soleField "java/lang/Throwable" "cause") ∈ lw_all := lw_g (lw_at lw_m3 63 rfl) rfl
theorem q644 : (Jvm.Cond.soleField "java/lang/Throwable" "stackTrace") ∈ lw_all := lw_g (lw_at lw_m3 65 rfl) rfl
theorem q646 : (Jvm.Cond.soleField "java/lang/Throwable" "depth") ∈ lw_all := lw_g (lw_at lw_m3 67 rfl) rfl
theorem q648 : (Jvm.Cond.soleField "java/lang/Throwable" "suppressedExceptions") ∈ lw_all := lw_g (lw_at lw_m3 69 rfl) rfl
theorem q655 : (Jvm.Cond.declares ({ cls := "java/lang/Throwable", name := "<init>", desc := "()V" } : Jvm.MethodName)) ∈ lw_tbl := lw_at lw_m3 76 rfl
theorem q656 : (Jvm.Cond.declares ({ cls := "java/lang/Throwable", name := "<init>", desc := "(Ljava/lang/String;)V" } : Jvm.MethodName)) ∈ lw_tbl := lw_at lw_m3 77 rfl
theorem q658 : (Jvm.Cond.lays "java/lang/Throwable" "java/lang/Throwable" "cause" "Ljava/lang/Throwable;") ∈ lw_all := lw_g (lw_at lw_m3 79 rfl) rfl
theorem q659 : (Jvm.Cond.lays "java/lang/Throwable" "java/lang/Throwable" "stackTrace" "[Ljava/lang/StackTraceElement;") ∈ lw_all := lw_g (lw_at lw_m3 80 rfl) rfl
theorem q660 : (Jvm.Cond.lays "java/lang/Throwable" "java/lang/Throwable" "suppressedExceptions" "Ljava/util/List;") ∈ lw_all := lw_g (lw_at lw_m3 81 rfl) rfl
theorem q661 : (Jvm.Cond.lays "java/lang/Throwable" "java/lang/Throwable" "detailMessage" "Ljava/lang/String;") ∈ lw_all := lw_g (lw_at lw_m3 82 rfl) rfl
theorem q662 : (Jvm.Cond.lays "java/lang/Throwable" "java/lang/Throwable" "backtrace" "Ljava/lang/Object;") ∈ lw_all := lw_g (lw_at lw_m3 83 rfl) rfl
theorem q663 : (Jvm.Cond.fieldLink "java/lang/Throwable" (198 : Nat) "java/lang/Throwable" "backtrace" "Ljava/lang/Object;") ∈ lw_all := lw_g (lw_at lw_m3 84 rfl) rfl
theorem q664 : (Jvm.Cond.superclass "java/lang/Throwable" "java/lang/Object") ∈ lw_all := lw_g (lw_at lw_m3 85 rfl) rfl
theorem q665 : (Jvm.Cond.instanceMethod ({ cls := "java/lang/Throwable", name := "<init>", desc := "()V" } : Jvm.MethodName)) ∈ lw_all := lw_g (lw_at lw_m3 86 rfl) rfl
theorem q666 : (Jvm.Cond.code ({ cls := "java/lang/Throwable", name := "<init>", desc := "()V" } : Jvm.MethodName) prog_48_method_1_code (1 : Nat) (Option.none : Option Jvm.ClassFile.FieldType)) ∈ lw_all := lw_g (lw_at lw_m3 87 rfl) rfl
theorem q2298 : (Jvm.Cond.sameMethod "java/lang/Throwable" "java/lang/Throwable" "fillInStackTrace" "(I)Ljava/lang/Throwable;") ∈ lw_all := lw_g (lw_at lw_m10 39 rfl) rfl
theorem q2355 : (Jvm.Cond.castable "java/lang/Throwable" "java/lang/Object") ∈ lw_tbl := lw_at lw_m10 96 rfl
theorem in_J1 : ∀ w ∈ wsJ10, w ∈ lw_all := lw_in wsJ10 [658, 659, 660, 661, 662] (by decide +kernel) (by decide +kernel)

/-! java/lang/Exception -/
set_option maxRecDepth 100000
def RJ2 : String := "java/lang/Exception"
abbrev cJ2_init : ByteArray := prog_36_method_2_code
def yJ2_init : MethodName := ⟨RJ2, "<init>", "(Ljava/lang/String;)V"⟩
def dkwJ2_init_0 : List UInt8 := [42, 43, 183, 0, 7, 177]
abbrev dktJ2_init_0 : List UInt8 := dkwJ2_init_0 ++ []
theorem dksJ2_init_0 : cJ2_init.data.toList.drop 0 = dktJ2_init_0 := by decide +kernel
theorem dJ2_init_0 : decode cJ2_init 0 = .ok (.aload_n 0, 1) := dk_42 (dk_at dksJ2_init_0 0 rfl rfl)
theorem dJ2_init_1 : decode cJ2_init 1 = .ok (.aload_n 1, 1) := dk_43 (dk_at dksJ2_init_0 1 rfl rfl)
theorem dJ2_init_2 : decode cJ2_init 2 = .ok (.invokespecial 7, 3) := dk_183 0 7 (dk_at dksJ2_init_0 2 rfl rfl)
theorem dJ2_init_5 : decode cJ2_init 5 = .ok (.return_, 1) := dk_177 (dk_at dksJ2_init_0 5 rfl rfl)
abbrev cJ2_init_2 : ByteArray := prog_36_method_1_code
def yJ2_init_2 : MethodName := ⟨RJ2, "<init>", "()V"⟩
theorem dJ2_init_2_0 : decode cJ2_init_2 0 = .ok (.aload_n 0, 1) := by decide +kernel
theorem dJ2_init_2_1 : decode cJ2_init_2 1 = .ok (.invokespecial 1, 3) := by decide +kernel
theorem dJ2_init_2_4 : decode cJ2_init_2 4 = .ok (.return_, 1) := by decide +kernel
theorem q116 : (Jvm.Cond.initialized "java/lang/Exception") ∈ lw_all := lw_g (lw_at lw_m1 17 rfl) rfl
theorem q594 : (Jvm.Cond.instanceMethod ({ cls := "java/lang/Exception", name := "<init>", desc := "(Ljava/lang/String;)V" } : Jvm.MethodName)) ∈ lw_all := lw_g (lw_at lw_m3 15 rfl) rfl
theorem q595 : (Jvm.Cond.code ({ cls := "java/lang/Exception", name := "<init>", desc := "(Ljava/lang/String;)V" } : Jvm.MethodName) prog_36_method_2_code (2 : Nat) (Option.none : Option Jvm.ClassFile.FieldType)) ∈ lw_all := lw_g (lw_at lw_m3 16 rfl) rfl
theorem q596 : (Jvm.Cond.methodLink "java/lang/Exception" (7 : Nat) ({ cls := "java/lang/Throwable", name := "<init>", desc := "(Ljava/lang/String;)V" } : Jvm.MethodName)) ∈ lw_all := lw_g (lw_at lw_m3 17 rfl) rfl
theorem q625 : (Jvm.Cond.superclass "java/lang/Exception" "java/lang/Throwable") ∈ lw_all := lw_g (lw_at lw_m3 46 rfl) rfl
theorem q653 : (Jvm.Cond.declares ({ cls := "java/lang/Exception", name := "<init>", desc := "()V" } : Jvm.MethodName)) ∈ lw_tbl := lw_at lw_m3 74 rfl
theorem q654 : (Jvm.Cond.declares ({ cls := "java/lang/Exception", name := "<init>", desc := "(Ljava/lang/String;)V" } : Jvm.MethodName)) ∈ lw_tbl := lw_at lw_m3 75 rfl
theorem q812 : (Jvm.Cond.instanceMethod ({ cls := "java/lang/Exception", name := "<init>", desc := "()V" } : Jvm.MethodName)) ∈ lw_all := lw_g (lw_at lw_m3 233 rfl) rfl
theorem q813 : (Jvm.Cond.code ({ cls := "java/lang/Exception", name := "<init>", desc := "()V" } : Jvm.MethodName) prog_36_method_1_code (1 : Nat) (Option.none : Option Jvm.ClassFile.FieldType)) ∈ lw_all := lw_g (lw_at lw_m3 234 rfl) rfl
theorem q814 : (Jvm.Cond.methodLink "java/lang/Exception" (1 : Nat) ({ cls := "java/lang/Throwable", name := "<init>", desc := "()V" } : Jvm.MethodName)) ∈ lw_all := lw_g (lw_at lw_m3 235 rfl) rfl

/-! java/lang/RuntimeException -/
set_option maxRecDepth 100000
def RJ3 : String := "java/lang/RuntimeException"
abbrev cJ3_init : ByteArray := prog_43_method_2_code
def yJ3_init : MethodName := ⟨RJ3, "<init>", "(Ljava/lang/String;)V"⟩
def dkwJ3_init_0 : List UInt8 := [42, 43, 183, 0, 7, 177]
abbrev dktJ3_init_0 : List UInt8 := dkwJ3_init_0 ++ []
theorem dksJ3_init_0 : cJ3_init.data.toList.drop 0 = dktJ3_init_0 := by decide +kernel
theorem dJ3_init_0 : decode cJ3_init 0 = .ok (.aload_n 0, 1) := dk_42 (dk_at dksJ3_init_0 0 rfl rfl)
theorem dJ3_init_1 : decode cJ3_init 1 = .ok (.aload_n 1, 1) := dk_43 (dk_at dksJ3_init_0 1 rfl rfl)
theorem dJ3_init_2 : decode cJ3_init 2 = .ok (.invokespecial 7, 3) := dk_183 0 7 (dk_at dksJ3_init_0 2 rfl rfl)
theorem dJ3_init_5 : decode cJ3_init 5 = .ok (.return_, 1) := dk_177 (dk_at dksJ3_init_0 5 rfl rfl)
abbrev cJ3_init_2 : ByteArray := prog_43_method_1_code
def yJ3_init_2 : MethodName := ⟨RJ3, "<init>", "()V"⟩
theorem dJ3_init_2_0 : decode cJ3_init_2 0 = .ok (.aload_n 0, 1) := by decide +kernel
theorem dJ3_init_2_1 : decode cJ3_init_2 1 = .ok (.invokespecial 1, 3) := by decide +kernel
theorem dJ3_init_2_4 : decode cJ3_init_2 4 = .ok (.return_, 1) := by decide +kernel
theorem q117 : (Jvm.Cond.initialized "java/lang/RuntimeException") ∈ lw_all := lw_g (lw_at lw_m1 18 rfl) rfl
theorem q591 : (Jvm.Cond.instanceMethod ({ cls := "java/lang/RuntimeException", name := "<init>", desc := "(Ljava/lang/String;)V" } : Jvm.MethodName)) ∈ lw_all := lw_g (lw_at lw_m3 12 rfl) rfl
theorem q592 : (Jvm.Cond.code ({ cls := "java/lang/RuntimeException", name := "<init>", desc := "(Ljava/lang/String;)V" } : Jvm.MethodName) prog_43_method_2_code (2 : Nat) (Option.none : Option Jvm.ClassFile.FieldType)) ∈ lw_all := lw_g (lw_at lw_m3 13 rfl) rfl
theorem q593 : (Jvm.Cond.methodLink "java/lang/RuntimeException" (7 : Nat) ({ cls := "java/lang/Exception", name := "<init>", desc := "(Ljava/lang/String;)V" } : Jvm.MethodName)) ∈ lw_all := lw_g (lw_at lw_m3 14 rfl) rfl
theorem q621 : (Jvm.Cond.sameMethod "java/lang/RuntimeException" "java/lang/Throwable" "fillInStackTrace" "()Ljava/lang/Throwable;") ∈ lw_all := lw_g (lw_at lw_m3 42 rfl) rfl
theorem q624 : (Jvm.Cond.superclass "java/lang/RuntimeException" "java/lang/Exception") ∈ lw_all := lw_g (lw_at lw_m3 45 rfl) rfl
theorem q651 : (Jvm.Cond.declares ({ cls := "java/lang/RuntimeException", name := "<init>", desc := "()V" } : Jvm.MethodName)) ∈ lw_tbl := lw_at lw_m3 72 rfl
theorem q652 : (Jvm.Cond.declares ({ cls := "java/lang/RuntimeException", name := "<init>", desc := "(Ljava/lang/String;)V" } : Jvm.MethodName)) ∈ lw_tbl := lw_at lw_m3 73 rfl
theorem q809 : (Jvm.Cond.instanceMethod ({ cls := "java/lang/RuntimeException", name := "<init>", desc := "()V" } : Jvm.MethodName)) ∈ lw_all := lw_g (lw_at lw_m3 230 rfl) rfl
theorem q810 : (Jvm.Cond.code ({ cls := "java/lang/RuntimeException", name := "<init>", desc := "()V" } : Jvm.MethodName) prog_43_method_1_code (1 : Nat) (Option.none : Option Jvm.ClassFile.FieldType)) ∈ lw_all := lw_g (lw_at lw_m3 231 rfl) rfl
theorem q811 : (Jvm.Cond.methodLink "java/lang/RuntimeException" (1 : Nat) ({ cls := "java/lang/Exception", name := "<init>", desc := "()V" } : Jvm.MethodName)) ∈ lw_all := lw_g (lw_at lw_m3 232 rfl) rfl
theorem q829 : (Jvm.Cond.castable "java/lang/RuntimeException" "java/lang/Throwable") ∈ lw_tbl := lw_at lw_m4 10 rfl

/-! java/lang/ClassCastException -/
set_option maxRecDepth 100000
def RJ4 : String := "java/lang/ClassCastException"
def TJ4 : u_T := fun k => match k with
  | 0 => ("java/lang/Throwable", "backtrace", "Ljava/lang/Object;", false)
  | 1 => ("java/lang/Throwable", "detailMessage", "Ljava/lang/String;", false)
  | 2 => ("java/lang/Throwable", "cause", "Ljava/lang/Throwable;", false)
  | 3 => ("java/lang/Throwable", "stackTrace", "[Ljava/lang/StackTraceElement;", false)
  | 4 => ("java/lang/Throwable", "depth", "I", false)
  | _ => ("java/lang/Throwable", "suppressedExceptions", "Ljava/util/List;", false)
def tyJ4 : Nat → FieldType := fun k => match k with
  | 0 => .object "java/lang/Object"
  | 1 => .object "java/lang/String"
  | 2 => .object "java/lang/Throwable"
  | 3 => .array (.object "java/lang/StackTraceElement")
  | 4 => .int
  | _ => .object "java/util/List"
abbrev wsJ40 : List Cond := u_ws RJ4 TJ4 6
theorem nmJ4 : ∀ a, a < 6 → ∀ b, b < 6 → a ≠ b → (TJ4 a).2.1 ≠ (TJ4 b).2.1 := by decide +kernel
theorem tyJ4_ok : ∀ k, k < 6 → parseFieldDescriptor (TJ4 k).2.2.1 = some (tyJ4 k) := by decide +kernel
abbrev cJ4_init : ByteArray := prog_34_method_2_code
def yJ4_init : MethodName := ⟨RJ4, "<init>", "(Ljava/lang/String;)V"⟩
def dkwJ4_init_0 : List UInt8 := [42, 43, 183, 0, 7, 177]
abbrev dktJ4_init_0 : List UInt8 := dkwJ4_init_0 ++ []
theorem dksJ4_init_0 : cJ4_init.data.toList.drop 0 = dktJ4_init_0 := by decide +kernel
theorem dJ4_init_0 : decode cJ4_init 0 = .ok (.aload_n 0, 1) := dk_42 (dk_at dksJ4_init_0 0 rfl rfl)
theorem dJ4_init_1 : decode cJ4_init 1 = .ok (.aload_n 1, 1) := dk_43 (dk_at dksJ4_init_0 1 rfl rfl)
theorem dJ4_init_2 : decode cJ4_init 2 = .ok (.invokespecial 7, 3) := dk_183 0 7 (dk_at dksJ4_init_0 2 rfl rfl)
theorem dJ4_init_5 : decode cJ4_init 5 = .ok (.return_, 1) := dk_177 (dk_at dksJ4_init_0 5 rfl rfl)
theorem q118 : (Jvm.Cond.initialized "java/lang/ClassCastException") ∈ lw_all := lw_g (lw_at lw_m1 19 rfl) rfl
theorem q587 : (Jvm.Cond.instantiable "java/lang/ClassCastException" (6 : Nat)) ∈ lw_all := lw_g (lw_at lw_m3 8 rfl) rfl
theorem q588 : (Jvm.Cond.instanceMethod ({ cls := "java/lang/ClassCastException", name := "<init>", desc := "(Ljava/lang/String;)V" } : Jvm.MethodName)) ∈ lw_all := lw_g (lw_at lw_m3 9 rfl) rfl
theorem q589 : (Jvm.Cond.code ({ cls := "java/lang/ClassCastException", name := "<init>", desc := "(Ljava/lang/String;)V" } : Jvm.MethodName) prog_34_method_2_code (2 : Nat) (Option.none : Option Jvm.ClassFile.FieldType)) ∈ lw_all := lw_g (lw_at lw_m3 10 rfl) rfl
theorem q590 : (Jvm.Cond.methodLink "java/lang/ClassCastException" (7 : Nat) ({ cls := "java/lang/RuntimeException", name := "<init>", desc := "(Ljava/lang/String;)V" } : Jvm.MethodName)) ∈ lw_all := lw_g (lw_at lw_m3 11 rfl) rfl
theorem q610 : (Jvm.Cond.selects "java/lang/ClassCastException" ({ cls := "java/lang/Throwable", name := "fillInStackTrace", desc := "()Ljava/lang/Throwable;" } : Jvm.MethodName) ({ cls := "java/lang/Throwable", name := "fillInStackTrace", desc := "()Ljava/lang/Throwable;" } : Jvm.MethodName)) ∈ lw_all := lw_g (lw_at lw_m3 31 rfl) rfl
theorem q637 : (Jvm.Cond.lays "java/lang/ClassCastException" "java/lang/Throwable" "backtrace" "Ljava/lang/Object;") ∈ lw_all := lw_g (lw_at lw_m3 58 rfl) rfl
theorem q639 : (Jvm.Cond.lays "java/lang/ClassCastException" "java/lang/Throwable" "detailMessage" "Ljava/lang/String;") ∈ lw_all := lw_g (lw_at lw_m3 60 rfl) rfl
theorem q641 : (Jvm.Cond.lays "java/lang/ClassCastException" "java/lang/Throwable" "cause" "Ljava/lang/Throwable;") ∈ lw_all := lw_g (lw_at lw_m3 62 rfl) rfl
theorem q643 : (Jvm.Cond.lays "java/lang/ClassCastException" "java/lang/Throwable" "stackTrace" "[Ljava/lang/StackTraceElement;") ∈ lw_all := lw_g (lw_at lw_m3 64 rfl) rfl
theorem q645 : (Jvm.Cond.lays "java/lang/ClassCastException" "java/lang/Throwable" "depth" "I") ∈ lw_all := lw_g (lw_at lw_m3 66 rfl) rfl
theorem q647 : (Jvm.Cond.lays "java/lang/ClassCastException" "java/lang/Throwable" "suppressedExceptions" "Ljava/util/List;") ∈ lw_all := lw_g (lw_at lw_m3 68 rfl) rfl
theorem q649 : (Jvm.Cond.superclass "java/lang/ClassCastException" "java/lang/RuntimeException") ∈ lw_all := lw_g (lw_at lw_m3 70 rfl) rfl
theorem q650 : (Jvm.Cond.castable "java/lang/ClassCastException" "java/lang/ClassCastException") ∈ lw_tbl := lw_at lw_m3 71 rfl
theorem q657 : (Jvm.Cond.selects "java/lang/ClassCastException" ({ cls := "java/lang/Throwable", name := "fillInStackTrace", desc := "(I)Ljava/lang/Throwable;" } : Jvm.MethodName) ({ cls := "java/lang/Throwable", name := "fillInStackTrace", desc := "(I)Ljava/lang/Throwable;" } : Jvm.MethodName)) ∈ lw_all := lw_g (lw_at lw_m3 78 rfl) rfl
theorem q1161 : (Jvm.Cond.selects "java/lang/ClassCastException" ({ cls := "java/lang/Object", name := "getClass", desc := "()Ljava/lang/Class;" } : Jvm.MethodName) ({ cls := "java/lang/Object", name := "getClass", desc := "()Ljava/lang/Class;" } : Jvm.MethodName)) ∈ lw_all := lw_g (lw_at lw_m5 102 rfl) rfl
theorem q2339 : (Jvm.Cond.castable "java/lang/ClassCastException" "java/lang/Object") ∈ lw_tbl := lw_at lw_m10 80 rfl
theorem in_J4 : ∀ w ∈ wsJ40, w ∈ lw_all := lw_in wsJ40 [637, 639, 641, 643, 645, 647] (by decide +kernel) (by decide +kernel)

/-! java/lang/String -/
set_option maxRecDepth 100000
def RJ5 : String := "java/lang/String"
def TJ5 : u_T := fun k => match k with
  | 0 => ("java/lang/String", "value", "[B", true)
  | _ => ("java/lang/String", "coder", "B", true)
def tyJ5 : Nat → FieldType := fun k => match k with
  | 0 => .array .byte
  | _ => .byte
abbrev wsJ50 : List Cond := u_ws RJ5 TJ5 2
theorem nmJ5 : ∀ a, a < 2 → ∀ b, b < 2 → a ≠ b → (TJ5 a).2.1 ≠ (TJ5 b).2.1 := by decide +kernel
theorem tyJ5_ok : ∀ k, k < 2 → parseFieldDescriptor (TJ5 k).2.2.1 = some (tyJ5 k) := by decide +kernel
abbrev cJ5_length : ByteArray := prog_44_method_54_code
def yJ5_length : MethodName := ⟨RJ5, "length", "()I"⟩
def dkwJ5_length_0 : List UInt8 := [42, 180, 0, 9, 190, 42, 182, 1, 79, 122, 172]
abbrev dktJ5_length_0 : List UInt8 := dkwJ5_length_0 ++ []
theorem dksJ5_length_0 : cJ5_length.data.toList.drop 0 = dktJ5_length_0 := by decide +kernel
theorem dJ5_length_0 : decode cJ5_length 0 = .ok (.aload_n 0, 1) := dk_42 (dk_at dksJ5_length_0 0 rfl rfl)
theorem dJ5_length_1 : decode cJ5_length 1 = .ok (.getfield 9, 3) := dk_180 0 9 (dk_at dksJ5_length_0 1 rfl rfl)
theorem dJ5_length_4 : decode cJ5_length 4 = .ok (.arraylength, 1) := dk_190 (dk_at dksJ5_length_0 4 rfl rfl)
theorem dJ5_length_5 : decode cJ5_length 5 = .ok (.aload_n 0, 1) := dk_42 (dk_at dksJ5_length_0 5 rfl rfl)
theorem dJ5_length_6 : decode cJ5_length 6 = .ok (.invokevirtual 335, 3) := dk_182 1 79 (dk_at dksJ5_length_0 6 rfl rfl)
theorem dJ5_length_9 : decode cJ5_length 9 = .ok (.ishr, 1) := dk_122 (dk_at dksJ5_length_0 9 rfl rfl)
theorem dJ5_length_10 : decode cJ5_length 10 = .ok (.ireturn, 1) := dk_172 (dk_at dksJ5_length_0 10 rfl rfl)
abbrev cJ5_coder : ByteArray := prog_44_method_152_code
def yJ5_coder : MethodName := ⟨RJ5, "coder", "()B"⟩
def dkwJ5_coder_0 : List UInt8 := [178, 0, 38, 153, 0, 10, 42, 180, 0, 15, 167, 0, 4, 4, 172]
abbrev dktJ5_coder_0 : List UInt8 := dkwJ5_coder_0 ++ []
theorem dksJ5_coder_0 : cJ5_coder.data.toList.drop 0 = dktJ5_coder_0 := by decide +kernel
theorem dJ5_coder_0 : decode cJ5_coder 0 = .ok (.getstatic 38, 3) := dk_178 0 38 (dk_at dksJ5_coder_0 0 rfl rfl)
theorem dJ5_coder_3 : decode cJ5_coder 3 = .ok (.ifCond .eq 10, 3) := dk_153 0 10 (dk_at dksJ5_coder_0 3 rfl rfl)
theorem dJ5_coder_6 : decode cJ5_coder 6 = .ok (.aload_n 0, 1) := dk_42 (dk_at dksJ5_coder_0 6 rfl rfl)
theorem dJ5_coder_7 : decode cJ5_coder 7 = .ok (.getfield 15, 3) := dk_180 0 15 (dk_at dksJ5_coder_0 7 rfl rfl)
theorem dJ5_coder_10 : decode cJ5_coder 10 = .ok (.goto 4, 3) := dk_167 0 4 (dk_at dksJ5_coder_0 10 rfl rfl)
theorem dJ5_coder_13 : decode cJ5_coder 13 = .ok (.iconst 1, 1) := dk_4 (dk_at dksJ5_coder_0 13 rfl rfl)
theorem dJ5_coder_14 : decode cJ5_coder 14 = .ok (.ireturn, 1) := dk_172 (dk_at dksJ5_coder_0 14 rfl rfl)
abbrev cJ5_charAt : ByteArray := prog_44_method_56_code
def yJ5_charAt : MethodName := ⟨RJ5, "charAt", "(I)C"⟩
def dkwJ5_charAt_1 : List UInt8 := [172]
abbrev dktJ5_charAt_1 : List UInt8 := dkwJ5_charAt_1 ++ []
def dkwJ5_charAt_0 : List UInt8 := [42, 182, 1, 236, 153, 0, 12, 42, 180, 0, 9, 27, 184, 1, 239, 172, 42, 180, 0, 9, 27, 184, 1, 242]
abbrev dktJ5_charAt_0 : List UInt8 := dkwJ5_charAt_0 ++ dktJ5_charAt_1
theorem dksJ5_charAt_0 : cJ5_charAt.data.toList.drop 0 = dktJ5_charAt_0 := by decide +kernel
theorem dksJ5_charAt_1 : cJ5_charAt.data.toList.drop 24 = dktJ5_charAt_1 := dk_seg dksJ5_charAt_0 24 rfl rfl
theorem dJ5_charAt_0 : decode cJ5_charAt 0 = .ok (.aload_n 0, 1) := dk_42 (dk_at dksJ5_charAt_0 0 rfl rfl)
theorem dJ5_charAt_1 : decode cJ5_charAt 1 = .ok (.invokevirtual 492, 3) := dk_182 1 236 (dk_at dksJ5_charAt_0 1 rfl rfl)
theorem dJ5_charAt_4 : decode cJ5_charAt 4 = .ok (.ifCond .eq 12, 3) := dk_153 0 12 (dk_at dksJ5_charAt_0 4 rfl rfl)
theorem dJ5_charAt_7 : decode cJ5_charAt 7 = .ok (.aload_n 0, 1) := dk_42 (dk_at dksJ5_charAt_0 7 rfl rfl)
theorem dJ5_charAt_8 : decode cJ5_charAt 8 = .ok (.getfield 9, 3) := dk_180 0 9 (dk_at dksJ5_charAt_0 8 rfl rfl)
theorem dJ5_charAt_11 : decode cJ5_charAt 11 = .ok (.iload_n 1, 1) := dk_27 (dk_at dksJ5_charAt_0 11 rfl rfl)
theorem dJ5_charAt_12 : decode cJ5_charAt 12 = .ok (.invokestatic 495, 3) := dk_184 1 239 (dk_at dksJ5_charAt_0 12 rfl rfl)
theorem dJ5_charAt_15 : decode cJ5_charAt 15 = .ok (.ireturn, 1) := dk_172 (dk_at dksJ5_charAt_0 15 rfl rfl)
theorem dJ5_charAt_16 : decode cJ5_charAt 16 = .ok (.aload_n 0, 1) := dk_42 (dk_at dksJ5_charAt_0 16 rfl rfl)
theorem dJ5_charAt_17 : decode cJ5_charAt 17 = .ok (.getfield 9, 3) := dk_180 0 9 (dk_at dksJ5_charAt_0 17 rfl rfl)
theorem dJ5_charAt_20 : decode cJ5_charAt 20 = .ok (.iload_n 1, 1) := dk_27 (dk_at dksJ5_charAt_0 20 rfl rfl)
theorem dJ5_charAt_21 : decode cJ5_charAt 21 = .ok (.invokestatic 498, 3) := dk_184 1 242 (dk_at dksJ5_charAt_0 21 rfl rfl)
theorem dJ5_charAt_24 : decode cJ5_charAt 24 = .ok (.ireturn, 1) := dk_172 (dk_at dksJ5_charAt_1 0 rfl rfl)
abbrev cJ5_isLatin1 : ByteArray := prog_44_method_154_code
def yJ5_isLatin1 : MethodName := ⟨RJ5, "isLatin1", "()Z"⟩
def dkwJ5_isLatin1_0 : List UInt8 := [178, 0, 38, 153, 0, 14, 42, 180, 0, 15, 154, 0, 7, 4, 167, 0, 4, 3, 172]
abbrev dktJ5_isLatin1_0 : List UInt8 := dkwJ5_isLatin1_0 ++ []
theorem dksJ5_isLatin1_0 : cJ5_isLatin1.data.toList.drop 0 = dktJ5_isLatin1_0 := by decide +kernel
theorem dJ5_isLatin1_0 : decode cJ5_isLatin1 0 = .ok (.getstatic 38, 3) := dk_178 0 38 (dk_at dksJ5_isLatin1_0 0 rfl rfl)
theorem dJ5_isLatin1_3 : decode cJ5_isLatin1 3 = .ok (.ifCond .eq 14, 3) := dk_153 0 14 (dk_at dksJ5_isLatin1_0 3 rfl rfl)
theorem dJ5_isLatin1_6 : decode cJ5_isLatin1 6 = .ok (.aload_n 0, 1) := dk_42 (dk_at dksJ5_isLatin1_0 6 rfl rfl)
theorem dJ5_isLatin1_7 : decode cJ5_isLatin1 7 = .ok (.getfield 15, 3) := dk_180 0 15 (dk_at dksJ5_isLatin1_0 7 rfl rfl)
theorem dJ5_isLatin1_10 : decode cJ5_isLatin1 10 = .ok (.ifCond .ne 7, 3) := dk_154 0 7 (dk_at dksJ5_isLatin1_0 10 rfl rfl)
theorem dJ5_isLatin1_13 : decode cJ5_isLatin1 13 = .ok (.iconst 1, 1) := dk_4 (dk_at dksJ5_isLatin1_0 13 rfl rfl)
theorem dJ5_isLatin1_14 : decode cJ5_isLatin1 14 = .ok (.goto 4, 3) := dk_167 0 4 (dk_at dksJ5_isLatin1_0 14 rfl rfl)
theorem dJ5_isLatin1_17 : decode cJ5_isLatin1 17 = .ok (.iconst 0, 1) := dk_3 (dk_at dksJ5_isLatin1_0 17 rfl rfl)
theorem dJ5_isLatin1_18 : decode cJ5_isLatin1 18 = .ok (.ireturn, 1) := dk_172 (dk_at dksJ5_isLatin1_0 18 rfl rfl)
abbrev cJ5_checkIndex : ByteArray := prog_44_method_155_code
def yJ5_checkIndex : MethodName := ⟨RJ5, "checkIndex", "(II)V"⟩
def dkwJ5_checkIndex_0 : List UInt8 := [26, 27, 178, 4, 29, 184, 4, 35, 87, 177]
abbrev dktJ5_checkIndex_0 : List UInt8 := dkwJ5_checkIndex_0 ++ []
theorem dksJ5_checkIndex_0 : cJ5_checkIndex.data.toList.drop 0 = dktJ5_checkIndex_0 := by decide +kernel
theorem dJ5_checkIndex_0 : decode cJ5_checkIndex 0 = .ok (.iload_n 0, 1) := dk_26 (dk_at dksJ5_checkIndex_0 0 rfl rfl)
theorem dJ5_checkIndex_1 : decode cJ5_checkIndex 1 = .ok (.iload_n 1, 1) := dk_27 (dk_at dksJ5_checkIndex_0 1 rfl rfl)
theorem dJ5_checkIndex_2 : decode cJ5_checkIndex 2 = .ok (.getstatic 1053, 3) := dk_178 4 29 (dk_at dksJ5_checkIndex_0 2 rfl rfl)
theorem dJ5_checkIndex_5 : decode cJ5_checkIndex 5 = .ok (.invokestatic 1059, 3) := dk_184 4 35 (dk_at dksJ5_checkIndex_0 5 rfl rfl)
theorem dJ5_checkIndex_8 : decode cJ5_checkIndex 8 = .ok (.pop, 1) := dk_87 (dk_at dksJ5_checkIndex_0 8 rfl rfl)
theorem dJ5_checkIndex_9 : decode cJ5_checkIndex 9 = .ok (.return_, 1) := dk_177 (dk_at dksJ5_checkIndex_0 9 rfl rfl)
theorem q119 : (Jvm.Cond.initialized "java/lang/String") ∈ lw_all := lw_g (lw_at lw_m1 20 rfl) rfl
theorem q667 : (Jvm.Cond.instantiable "java/lang/String" (4 : Nat)) ∈ lw_all := lw_g (lw_at lw_m3 88 rfl) rfl
theorem q668 : (Jvm.Cond.laysFinal "java/lang/String" "java/lang/String" "value" "[B") ∈ lw_all := lw_g (lw_at lw_m3 89 rfl) rfl
theorem q669 : (Jvm.Cond.soleField "java/lang/String" "value") ∈ lw_all := lw_g (lw_at lw_m3 90 rfl) rfl
theorem q670 : (Jvm.Cond.laysFinal "java/lang/String" "java/lang/String" "coder" "B") ∈ lw_all := lw_g (lw_at lw_m3 91 rfl) rfl
theorem q671 : (Jvm.Cond.soleField "java/lang/String" "coder") ∈ lw_all := lw_g (lw_at lw_m3 92 rfl) rfl
theorem q928 : (Jvm.Cond.instanceMethod ({ cls := "java/lang/String", name := "length", desc := "()I" } : Jvm.MethodName)) ∈ lw_all := lw_g (lw_at lw_m4 109 rfl) rfl
theorem q929 : (Jvm.Cond.selects "java/lang/String" ({ cls := "java/lang/String", name := "length", desc := "()I" } : Jvm.MethodName) ({ cls := "java/lang/String", name := "length", desc := "()I" } : Jvm.MethodName)) ∈ lw_all := lw_g (lw_at lw_m4 110 rfl) rfl
theorem q930 : (Jvm.Cond.code ({ cls := "java/lang/String", name := "length", desc := "()I" } : Jvm.MethodName) prog_44_method_54_code (1 : Nat) (Option.some Jvm.ClassFile.FieldType.int)) ∈ lw_all := lw_g (lw_at lw_m4 111 rfl) rfl
theorem q931 : (Jvm.Cond.methodLink "java/lang/String" (335 : Nat) ({ cls := "java/lang/String", name := "coder", desc := "()B" } : Jvm.MethodName)) ∈ lw_all := lw_g (lw_at lw_m4 112 rfl) rfl
theorem q932 : (Jvm.Cond.instanceMethod ({ cls := "java/lang/String", name := "coder", desc := "()B" } : Jvm.MethodName)) ∈ lw_all := lw_g (lw_at lw_m4 113 rfl) rfl
theorem q933 : (Jvm.Cond.selects "java/lang/String" ({ cls := "java/lang/String", name := "coder", desc := "()B" } : Jvm.MethodName) ({ cls := "java/lang/String", name := "coder", desc := "()B" } : Jvm.MethodName)) ∈ lw_all := lw_g (lw_at lw_m4 114 rfl) rfl
theorem q934 : (Jvm.Cond.code ({ cls := "java/lang/String", name := "coder", desc := "()B" } : Jvm.MethodName) prog_44_method_152_code (1 : Nat) (Option.some Jvm.ClassFile.FieldType.byte)) ∈ lw_all := lw_g (lw_at lw_m4 115 rfl) rfl
theorem q935 : (Jvm.Cond.fieldLink "java/lang/String" (38 : Nat) "java/lang/String" "COMPACT_STRINGS" "Z") ∈ lw_all := lw_g (lw_at lw_m4 116 rfl) rfl
theorem q936 : (Jvm.Cond.laysStatic "java/lang/String" "COMPACT_STRINGS" "Z") ∈ lw_tbl := lw_at lw_m4 117 rfl
theorem q938 : (Jvm.Cond.instanceMethod ({ cls := "java/lang/String", name := "charAt", desc := "(I)C" } : Jvm.MethodName)) ∈ lw_all := lw_g (lw_at lw_m4 119 rfl) rfl
theorem q939 : (Jvm.Cond.selects "java/lang/String" ({ cls := "java/lang/String", name := "charAt", desc := "(I)C" } : Jvm.MethodName) ({ cls := "java/lang/String", name := "charAt", desc := "(I)C" } : Jvm.MethodName)) ∈ lw_all := lw_g (lw_at lw_m4 120 rfl) rfl
theorem q940 : (Jvm.Cond.code ({ cls := "java/lang/String", name := "charAt", desc := "(I)C" } : Jvm.MethodName) prog_44_method_56_code (2 : Nat) (Option.some Jvm.ClassFile.FieldType.char)) ∈ lw_all := lw_g (lw_at lw_m4 121 rfl) rfl
theorem q941 : (Jvm.Cond.methodLink "java/lang/String" (492 : Nat) ({ cls := "java/lang/String", name := "isLatin1", desc := "()Z" } : Jvm.MethodName)) ∈ lw_all := lw_g (lw_at lw_m4 122 rfl) rfl
theorem q942 : (Jvm.Cond.instanceMethod ({ cls := "java/lang/String", name := "isLatin1", desc := "()Z" } : Jvm.MethodName)) ∈ lw_all := lw_g (lw_at lw_m4 123 rfl) rfl
theorem q943 : (Jvm.Cond.selects "java/lang/String" ({ cls := "java/lang/String", name := "isLatin1", desc := "()Z" } : Jvm.MethodName) ({ cls := "java/lang/String", name := "isLatin1", desc := "()Z" } : Jvm.MethodName)) ∈ lw_all := lw_g (lw_at lw_m4 124 rfl) rfl
theorem q944 : (Jvm.Cond.code ({ cls := "java/lang/String", name := "isLatin1", desc := "()Z" } : Jvm.MethodName) prog_44_method_154_code (1 : Nat) (Option.some Jvm.ClassFile.FieldType.boolean)) ∈ lw_all := lw_g (lw_at lw_m4 125 rfl) rfl
theorem q945 : (Jvm.Cond.methodLink "java/lang/String" (495 : Nat) ({ cls := "java/lang/StringLatin1", name := "charAt", desc := "([BI)C" } : Jvm.MethodName)) ∈ lw_all := lw_g (lw_at lw_m4 126 rfl) rfl
theorem q949 : (Jvm.Cond.static ({ cls := "java/lang/String", name := "checkIndex", desc := "(II)V" } : Jvm.MethodName)) ∈ lw_all := lw_g (lw_at lw_m4 130 rfl) rfl
theorem q950 : (Jvm.Cond.code ({ cls := "java/lang/String", name := "checkIndex", desc := "(II)V" } : Jvm.MethodName) prog_44_method_155_code (2 : Nat) (Option.none : Option Jvm.ClassFile.FieldType)) ∈ lw_all := lw_g (lw_at lw_m4 131 rfl) rfl
theorem q951 : (Jvm.Cond.fieldLink "java/lang/String" (1053 : Nat) "jdk/internal/util/Preconditions" "SIOOBE_FORMATTER" "Ljava/util/function/BiFunction;") ∈ lw_all := lw_g (lw_at lw_m4 132 rfl) rfl
theorem q953 : (Jvm.Cond.methodLink "java/lang/String" (1059 : Nat) ({ cls := "jdk/internal/util/Preconditions", name := "checkIndex", desc := "(IILjava/util/function/BiFunction;)I" } : Jvm.MethodName)) ∈ lw_all := lw_g (lw_at lw_m4 134 rfl) rfl
theorem q956 : (Jvm.Cond.methodLink "java/lang/String" (498 : Nat) ({ cls := "java/lang/StringUTF16", name := "charAt", desc := "([BI)C" } : Jvm.MethodName)) ∈ lw_all := lw_g (lw_at lw_m4 137 rfl) rfl
theorem q2356 : (Jvm.Cond.castable "java/lang/String" "java/lang/Object") ∈ lw_tbl := lw_at lw_m10 97 rfl
theorem q2375 : (Jvm.Cond.fieldLink "java/lang/String" (9 : Nat) "java/lang/String" "value" "[B") ∈ lw_all := lw_g (lw_at lw_m10 116 rfl) rfl
theorem q2376 : (Jvm.Cond.fieldLink "java/lang/String" (15 : Nat) "java/lang/String" "coder" "B") ∈ lw_all := lw_g (lw_at lw_m10 117 rfl) rfl
theorem in_J5 : ∀ w ∈ wsJ50, w ∈ lw_all := lw_in wsJ50 [668, 670] (by decide +kernel) (by decide +kernel)

/-! java/lang/NullPointerException -/
set_option maxRecDepth 100000
def RJ6 : String := "java/lang/NullPointerException"
def TJ6 : u_T := fun k => match k with
  | 0 => ("java/lang/Throwable", "backtrace", "Ljava/lang/Object;", false)
  | 1 => ("java/lang/Throwable", "detailMessage", "Ljava/lang/String;", false)
  | 2 => ("java/lang/Throwable", "cause", "Ljava/lang/Throwable;", false)
  | 3 => ("java/lang/Throwable", "stackTrace", "[Ljava/lang/StackTraceElement;", false)
  | 4 => ("java/lang/Throwable", "depth", "I", false)
  | 5 => ("java/lang/Throwable", "suppressedExceptions", "Ljava/util/List;", false)
  | 6 => ("java/lang/NullPointerException", "extendedMessageState", "I", false)
  | _ => ("java/lang/NullPointerException", "extendedMessage", "Ljava/lang/String;", false)
def tyJ6 : Nat → FieldType := fun k => match k with
  | 0 => .object "java/lang/Object"
  | 1 => .object "java/lang/String"
  | 2 => .object "java/lang/Throwable"
  | 3 => .array (.object "java/lang/StackTraceElement")
  | 4 => .int
  | 5 => .object "java/util/List"
  | 6 => .int
  | _ => .object "java/lang/String"
abbrev wsJ60 : List Cond := u_ws RJ6 TJ6 8
theorem nmJ6 : ∀ a, a < 8 → ∀ b, b < 8 → a ≠ b → (TJ6 a).2.1 ≠ (TJ6 b).2.1 := by decide +kernel
theorem tyJ6_ok : ∀ k, k < 8 → parseFieldDescriptor (TJ6 k).2.2.1 = some (tyJ6 k) := by decide +kernel
abbrev cJ6_init : ByteArray := prog_42_method_1_code
def yJ6_init : MethodName := ⟨RJ6, "<init>", "()V"⟩
theorem dJ6_init_0 : decode cJ6_init 0 = .ok (.aload_n 0, 1) := by decide +kernel
theorem dJ6_init_1 : decode cJ6_init 1 = .ok (.invokespecial 1, 3) := by decide +kernel
theorem dJ6_init_4 : decode cJ6_init 4 = .ok (.return_, 1) := by decide +kernel
theorem q121 : (Jvm.Cond.initialized "java/lang/NullPointerException") ∈ lw_all := lw_g (lw_at lw_m1 22 rfl) rfl
theorem q612 : (Jvm.Cond.selects "java/lang/NullPointerException" ({ cls := "java/lang/Throwable", name := "fillInStackTrace", desc := "()Ljava/lang/Throwable;" } : Jvm.MethodName) ({ cls := "java/lang/NullPointerException", name := "fillInStackTrace", desc := "()Ljava/lang/Throwable;" } : Jvm.MethodName)) ∈ lw_all := lw_g (lw_at lw_m3 33 rfl) rfl
theorem q613 : (Jvm.Cond.instanceMethod ({ cls := "java/lang/NullPointerException", name := "fillInStackTrace", desc := "()Ljava/lang/Throwable;" } : Jvm.MethodName)) ∈ lw_all := lw_g (lw_at lw_m3 34 rfl) rfl
theorem q614 : (Jvm.Cond.codeSync ({ cls := "java/lang/NullPointerException", name := "fillInStackTrace", desc := "()Ljava/lang/Throwable;" } : Jvm.MethodName) prog_42_method_3_code (1 : Nat) (Option.some (Jvm.ClassFile.FieldType.object "java/lang/Throwable"))) ∈ lw_all := lw_g (lw_at lw_m3 35 rfl) rfl
theorem q615 : (Jvm.Cond.methodLink "java/lang/NullPointerException" (16 : Nat) ({ cls := "java/lang/NullPointerException", name := "getExtendedNPEMessage", desc := "()Ljava/lang/String;" } : Jvm.MethodName)) ∈ lw_all := lw_g (lw_at lw_m3 36 rfl) rfl
theorem q616 : (Jvm.Cond.privateMethod ({ cls := "java/lang/NullPointerException", name := "getExtendedNPEMessage", desc := "()Ljava/lang/String;" } : Jvm.MethodName)) ∈ lw_tbl := lw_at lw_m3 37 rfl
theorem q617 : (Jvm.Cond.instanceMethod ({ cls := "java/lang/NullPointerException", name := "getExtendedNPEMessage", desc := "()Ljava/lang/String;" } : Jvm.MethodName)) ∈ lw_all := lw_g (lw_at lw_m3 38 rfl) rfl
theorem q618 : (Jvm.Cond.instantiable "java/lang/NullPointerException" (8 : Nat)) ∈ lw_all := lw_g (lw_at lw_m3 39 rfl) rfl
theorem q619 : (Jvm.Cond.native ({ cls := "java/lang/NullPointerException", name := "getExtendedNPEMessage", desc := "()Ljava/lang/String;" } : Jvm.MethodName)) ∈ lw_all := lw_g (lw_at lw_m3 40 rfl) rfl
theorem q620 : (Jvm.Cond.methodLink "java/lang/NullPointerException" (24 : Nat) ({ cls := "java/lang/RuntimeException", name := "fillInStackTrace", desc := "()Ljava/lang/Throwable;" } : Jvm.MethodName)) ∈ lw_all := lw_g (lw_at lw_m3 41 rfl) rfl
theorem q623 : (Jvm.Cond.superclass "java/lang/NullPointerException" "java/lang/RuntimeException") ∈ lw_all := lw_g (lw_at lw_m3 44 rfl) rfl
theorem q806 : (Jvm.Cond.instanceMethod ({ cls := "java/lang/NullPointerException", name := "<init>", desc := "()V" } : Jvm.MethodName)) ∈ lw_all := lw_g (lw_at lw_m3 227 rfl) rfl
theorem q807 : (Jvm.Cond.code ({ cls := "java/lang/NullPointerException", name := "<init>", desc := "()V" } : Jvm.MethodName) prog_42_method_1_code (1 : Nat) (Option.none : Option Jvm.ClassFile.FieldType)) ∈ lw_all := lw_g (lw_at lw_m3 228 rfl) rfl
theorem q808 : (Jvm.Cond.methodLink "java/lang/NullPointerException" (1 : Nat) ({ cls := "java/lang/RuntimeException", name := "<init>", desc := "()V" } : Jvm.MethodName)) ∈ lw_all := lw_g (lw_at lw_m3 229 rfl) rfl
theorem q815 : (Jvm.Cond.fieldLink "java/lang/NullPointerException" (10 : Nat) "java/lang/NullPointerException" "extendedMessageState" "I") ∈ lw_all := lw_g (lw_at lw_m3 236 rfl) rfl
theorem q816 : (Jvm.Cond.fieldLink "java/lang/NullPointerException" (20 : Nat) "java/lang/NullPointerException" "extendedMessage" "Ljava/lang/String;") ∈ lw_all := lw_g (lw_at lw_m3 237 rfl) rfl
theorem q817 : (Jvm.Cond.lays "java/lang/NullPointerException" "java/lang/NullPointerException" "extendedMessageState" "I") ∈ lw_all := lw_g (lw_at lw_m3 238 rfl) rfl
theorem q818 : (Jvm.Cond.soleField "java/lang/NullPointerException" "extendedMessageState") ∈ lw_all := lw_g (lw_at lw_m3 239 rfl) rfl
theorem q819 : (Jvm.Cond.lays "java/lang/NullPointerException" "java/lang/NullPointerException" "extendedMessage" "Ljava/lang/String;") ∈ lw_all := lw_g (lw_at lw_m4 0 rfl) rfl
theorem q820 : (Jvm.Cond.soleField "java/lang/NullPointerException" "extendedMessage") ∈ lw_all := lw_g (lw_at lw_m4 1 rfl) rfl
theorem q821 : (Jvm.Cond.lays "java/lang/NullPointerException" "java/lang/Throwable" "backtrace" "Ljava/lang/Object;") ∈ lw_all := lw_g (lw_at lw_m4 2 rfl) rfl
theorem q822 : (Jvm.Cond.lays "java/lang/NullPointerException" "java/lang/Throwable" "detailMessage" "Ljava/lang/String;") ∈ lw_all := lw_g (lw_at lw_m4 3 rfl) rfl
theorem q823 : (Jvm.Cond.lays "java/lang/NullPointerException" "java/lang/Throwable" "cause" "Ljava/lang/Throwable;") ∈ lw_all := lw_g (lw_at lw_m4 4 rfl) rfl
theorem q824 : (Jvm.Cond.lays "java/lang/NullPointerException" "java/lang/Throwable" "stackTrace" "[Ljava/lang/StackTraceElement;") ∈ lw_all := lw_g (lw_at lw_m4 5 rfl) rfl
theorem q825 : (Jvm.Cond.lays "java/lang/NullPointerException" "java/lang/Throwable" "depth" "I") ∈ lw_all := lw_g (lw_at lw_m4 6 rfl) rfl
theorem q826 : (Jvm.Cond.lays "java/lang/NullPointerException" "java/lang/Throwable" "suppressedExceptions" "Ljava/util/List;") ∈ lw_all := lw_g (lw_at lw_m4 7 rfl) rfl
theorem q827 : (Jvm.Cond.castable "java/lang/NullPointerException" "java/lang/NullPointerException") ∈ lw_tbl := lw_at lw_m4 8 rfl
theorem q828 : (Jvm.Cond.selects "java/lang/NullPointerException" ({ cls := "java/lang/Throwable", name := "fillInStackTrace", desc := "(I)Ljava/lang/Throwable;" } : Jvm.MethodName) ({ cls := "java/lang/Throwable", name := "fillInStackTrace", desc := "(I)Ljava/lang/Throwable;" } : Jvm.MethodName)) ∈ lw_all := lw_g (lw_at lw_m4 9 rfl) rfl
theorem q1163 : (Jvm.Cond.selects "java/lang/NullPointerException" ({ cls := "java/lang/Object", name := "getClass", desc := "()Ljava/lang/Class;" } : Jvm.MethodName) ({ cls := "java/lang/Object", name := "getClass", desc := "()Ljava/lang/Class;" } : Jvm.MethodName)) ∈ lw_all := lw_g (lw_at lw_m5 104 rfl) rfl
theorem q2341 : (Jvm.Cond.castable "java/lang/NullPointerException" "java/lang/Object") ∈ lw_tbl := lw_at lw_m10 82 rfl
theorem in_J6 : ∀ w ∈ wsJ60, w ∈ lw_all := lw_in wsJ60 [821, 822, 823, 824, 825, 826, 817, 819] (by decide +kernel) (by decide +kernel)

/-! java/util/AbstractCollection -/
set_option maxRecDepth 100000
def RJ7 : String := "java/util/AbstractCollection"
abbrev cJ7_init : ByteArray := prog_49_method_1_code
def yJ7_init : MethodName := ⟨RJ7, "<init>", "()V"⟩
theorem dJ7_init_0 : decode cJ7_init 0 = .ok (.aload_n 0, 1) := by decide +kernel
theorem dJ7_init_1 : decode cJ7_init 1 = .ok (.invokespecial 1, 3) := by decide +kernel
theorem dJ7_init_4 : decode cJ7_init 4 = .ok (.return_, 1) := by decide +kernel
theorem q124 : (Jvm.Cond.initialized "java/util/AbstractCollection") ∈ lw_all := lw_g (lw_at lw_m1 25 rfl) rfl
theorem q884 : (Jvm.Cond.instanceMethod ({ cls := "java/util/AbstractCollection", name := "<init>", desc := "()V" } : Jvm.MethodName)) ∈ lw_all := lw_g (lw_at lw_m4 65 rfl) rfl
theorem q885 : (Jvm.Cond.code ({ cls := "java/util/AbstractCollection", name := "<init>", desc := "()V" } : Jvm.MethodName) prog_49_method_1_code (1 : Nat) (Option.none : Option Jvm.ClassFile.FieldType)) ∈ lw_all := lw_g (lw_at lw_m4 66 rfl) rfl
theorem q886 : (Jvm.Cond.methodLink "java/util/AbstractCollection" (1 : Nat) ({ cls := "java/lang/Object", name := "<init>", desc := "()V" } : Jvm.MethodName)) ∈ lw_all := lw_g (lw_at lw_m4 67 rfl) rfl

/-! java/util/AbstractList -/
set_option maxRecDepth 100000
def RJ8 : String := "java/util/AbstractList"
abbrev cJ8_init : ByteArray := prog_50_method_1_code
def yJ8_init : MethodName := ⟨RJ8, "<init>", "()V"⟩
def dkwJ8_init_0 : List UInt8 := [42, 183, 0, 1, 42, 3, 181, 0, 7, 177]
abbrev dktJ8_init_0 : List UInt8 := dkwJ8_init_0 ++ []
theorem dksJ8_init_0 : cJ8_init.data.toList.drop 0 = dktJ8_init_0 := by decide +kernel
theorem dJ8_init_0 : decode cJ8_init 0 = .ok (.aload_n 0, 1) := dk_42 (dk_at dksJ8_init_0 0 rfl rfl)
theorem dJ8_init_1 : decode cJ8_init 1 = .ok (.invokespecial 1, 3) := dk_183 0 1 (dk_at dksJ8_init_0 1 rfl rfl)
theorem dJ8_init_4 : decode cJ8_init 4 = .ok (.aload_n 0, 1) := dk_42 (dk_at dksJ8_init_0 4 rfl rfl)
theorem dJ8_init_5 : decode cJ8_init 5 = .ok (.iconst 0, 1) := dk_3 (dk_at dksJ8_init_0 5 rfl rfl)
theorem dJ8_init_6 : decode cJ8_init 6 = .ok (.putfield 7, 3) := dk_181 0 7 (dk_at dksJ8_init_0 6 rfl rfl)
theorem dJ8_init_9 : decode cJ8_init 9 = .ok (.return_, 1) := dk_177 (dk_at dksJ8_init_0 9 rfl rfl)
theorem q125 : (Jvm.Cond.initialized "java/util/AbstractList") ∈ lw_all := lw_g (lw_at lw_m1 26 rfl) rfl
theorem q881 : (Jvm.Cond.instanceMethod ({ cls := "java/util/AbstractList", name := "<init>", desc := "()V" } : Jvm.MethodName)) ∈ lw_all := lw_g (lw_at lw_m4 62 rfl) rfl
theorem q882 : (Jvm.Cond.code ({ cls := "java/util/AbstractList", name := "<init>", desc := "()V" } : Jvm.MethodName) prog_50_method_1_code (1 : Nat) (Option.none : Option Jvm.ClassFile.FieldType)) ∈ lw_all := lw_g (lw_at lw_m4 63 rfl) rfl
theorem q883 : (Jvm.Cond.methodLink "java/util/AbstractList" (1 : Nat) ({ cls := "java/util/AbstractCollection", name := "<init>", desc := "()V" } : Jvm.MethodName)) ∈ lw_all := lw_g (lw_at lw_m4 64 rfl) rfl
theorem q891 : (Jvm.Cond.fieldLink "java/util/AbstractList" (7 : Nat) "java/util/AbstractList" "modCount" "I") ∈ lw_all := lw_g (lw_at lw_m4 72 rfl) rfl
theorem q899 : (Jvm.Cond.soleField "java/util/AbstractList" "modCount") ∈ lw_all := lw_g (lw_at lw_m4 80 rfl) rfl

/-! java/util/ArrayList -/
set_option maxRecDepth 100000
def RJ9 : String := "java/util/ArrayList"
def TJ9 : u_T := fun k => match k with
  | 0 => ("java/util/AbstractList", "modCount", "I", false)
  | 1 => ("java/util/ArrayList", "elementData", "[Ljava/lang/Object;", false)
  | _ => ("java/util/ArrayList", "size", "I", false)
def tyJ9 : Nat → FieldType := fun k => match k with
  | 0 => .int
  | 1 => .array (.object "java/lang/Object")
  | _ => .int
abbrev wsJ90 : List Cond := u_ws RJ9 TJ9 3
theorem nmJ9 : ∀ a, a < 3 → ∀ b, b < 3 → a ≠ b → (TJ9 a).2.1 ≠ (TJ9 b).2.1 := by decide +kernel
theorem tyJ9_ok : ∀ k, k < 3 → parseFieldDescriptor (TJ9 k).2.2.1 = some (tyJ9 k) := by decide +kernel
abbrev cJ9_init : ByteArray := prog_51_method_2_code
def yJ9_init : MethodName := ⟨RJ9, "<init>", "()V"⟩
def dkwJ9_init_0 : List UInt8 := [42, 183, 0, 1, 42, 178, 0, 39, 181, 0, 9, 177]
abbrev dktJ9_init_0 : List UInt8 := dkwJ9_init_0 ++ []
theorem dksJ9_init_0 : cJ9_init.data.toList.drop 0 = dktJ9_init_0 := by decide +kernel
theorem dJ9_init_0 : decode cJ9_init 0 = .ok (.aload_n 0, 1) := dk_42 (dk_at dksJ9_init_0 0 rfl rfl)
theorem dJ9_init_1 : decode cJ9_init 1 = .ok (.invokespecial 1, 3) := dk_183 0 1 (dk_at dksJ9_init_0 1 rfl rfl)
theorem dJ9_init_4 : decode cJ9_init 4 = .ok (.aload_n 0, 1) := dk_42 (dk_at dksJ9_init_0 4 rfl rfl)
theorem dJ9_init_5 : decode cJ9_init 5 = .ok (.getstatic 39, 3) := dk_178 0 39 (dk_at dksJ9_init_0 5 rfl rfl)
theorem dJ9_init_8 : decode cJ9_init 8 = .ok (.putfield 9, 3) := dk_181 0 9 (dk_at dksJ9_init_0 8 rfl rfl)
theorem dJ9_init_11 : decode cJ9_init 11 = .ok (.return_, 1) := dk_177 (dk_at dksJ9_init_0 11 rfl rfl)
abbrev cJ9_add : ByteArray := prog_51_method_25_code
def yJ9_add : MethodName := ⟨RJ9, "add", "(Ljava/lang/Object;)Z"⟩
def dkwJ9_add_1 : List UInt8 := [172]
abbrev dktJ9_add_1 : List UInt8 := dkwJ9_add_1 ++ []
def dkwJ9_add_0 : List UInt8 := [42, 89, 180, 0, 63, 4, 96, 181, 0, 63, 42, 43, 42, 180, 0, 9, 42, 180, 0, 48, 182, 0, 131, 4]
abbrev dktJ9_add_0 : List UInt8 := dkwJ9_add_0 ++ dktJ9_add_1
theorem dksJ9_add_0 : cJ9_add.data.toList.drop 0 = dktJ9_add_0 := by decide +kernel
theorem dksJ9_add_1 : cJ9_add.data.toList.drop 24 = dktJ9_add_1 := dk_seg dksJ9_add_0 24 rfl rfl
theorem dJ9_add_0 : decode cJ9_add 0 = .ok (.aload_n 0, 1) := dk_42 (dk_at dksJ9_add_0 0 rfl rfl)
theorem dJ9_add_1 : decode cJ9_add 1 = .ok (.dup, 1) := dk_89 (dk_at dksJ9_add_0 1 rfl rfl)
theorem dJ9_add_2 : decode cJ9_add 2 = .ok (.getfield 63, 3) := dk_180 0 63 (dk_at dksJ9_add_0 2 rfl rfl)
theorem dJ9_add_5 : decode cJ9_add 5 = .ok (.iconst 1, 1) := dk_4 (dk_at dksJ9_add_0 5 rfl rfl)
theorem dJ9_add_6 : decode cJ9_add 6 = .ok (.iadd, 1) := dk_96 (dk_at dksJ9_add_0 6 rfl rfl)
theorem dJ9_add_7 : decode cJ9_add 7 = .ok (.putfield 63, 3) := dk_181 0 63 (dk_at dksJ9_add_0 7 rfl rfl)
theorem dJ9_add_10 : decode cJ9_add 10 = .ok (.aload_n 0, 1) := dk_42 (dk_at dksJ9_add_0 10 rfl rfl)
theorem dJ9_add_11 : decode cJ9_add 11 = .ok (.aload_n 1, 1) := dk_43 (dk_at dksJ9_add_0 11 rfl rfl)
theorem dJ9_add_12 : decode cJ9_add 12 = .ok (.aload_n 0, 1) := dk_42 (dk_at dksJ9_add_0 12 rfl rfl)
theorem dJ9_add_13 : decode cJ9_add 13 = .ok (.getfield 9, 3) := dk_180 0 9 (dk_at dksJ9_add_0 13 rfl rfl)
theorem dJ9_add_16 : decode cJ9_add 16 = .ok (.aload_n 0, 1) := dk_42 (dk_at dksJ9_add_0 16 rfl rfl)
theorem dJ9_add_17 : decode cJ9_add 17 = .ok (.getfield 48, 3) := dk_180 0 48 (dk_at dksJ9_add_0 17 rfl rfl)
theorem dJ9_add_20 : decode cJ9_add 20 = .ok (.invokevirtual 131, 3) := dk_182 0 131 (dk_at dksJ9_add_0 20 rfl rfl)
theorem dJ9_add_23 : decode cJ9_add 23 = .ok (.iconst 1, 1) := dk_4 (dk_at dksJ9_add_0 23 rfl rfl)
theorem dJ9_add_24 : decode cJ9_add 24 = .ok (.ireturn, 1) := dk_172 (dk_at dksJ9_add_1 0 rfl rfl)
abbrev cJ9_add_2 : ByteArray := prog_51_method_24_code
def yJ9_add_2 : MethodName := ⟨RJ9, "add", "(Ljava/lang/Object;[Ljava/lang/Object;I)V"⟩
def dkwJ9_add_2_0 : List UInt8 := [29, 44, 190, 160, 0, 8, 42, 182, 0, 129, 77, 44, 29, 43, 83, 42, 29, 4, 96, 181, 0, 48, 177]
abbrev dktJ9_add_2_0 : List UInt8 := dkwJ9_add_2_0 ++ []
theorem dksJ9_add_2_0 : cJ9_add_2.data.toList.drop 0 = dktJ9_add_2_0 := by decide +kernel
theorem dJ9_add_2_0 : decode cJ9_add_2 0 = .ok (.iload_n 3, 1) := dk_29 (dk_at dksJ9_add_2_0 0 rfl rfl)
theorem dJ9_add_2_1 : decode cJ9_add_2 1 = .ok (.aload_n 2, 1) := dk_44 (dk_at dksJ9_add_2_0 1 rfl rfl)
theorem dJ9_add_2_2 : decode cJ9_add_2 2 = .ok (.arraylength, 1) := dk_190 (dk_at dksJ9_add_2_0 2 rfl rfl)
theorem dJ9_add_2_3 : decode cJ9_add_2 3 = .ok (.if_icmp .ne 8, 3) := dk_160 0 8 (dk_at dksJ9_add_2_0 3 rfl rfl)
theorem dJ9_add_2_6 : decode cJ9_add_2 6 = .ok (.aload_n 0, 1) := dk_42 (dk_at dksJ9_add_2_0 6 rfl rfl)
theorem dJ9_add_2_7 : decode cJ9_add_2 7 = .ok (.invokevirtual 129, 3) := dk_182 0 129 (dk_at dksJ9_add_2_0 7 rfl rfl)
theorem dJ9_add_2_10 : decode cJ9_add_2 10 = .ok (.astore_n 2, 1) := dk_77 (dk_at dksJ9_add_2_0 10 rfl rfl)
theorem dJ9_add_2_11 : decode cJ9_add_2 11 = .ok (.aload_n 2, 1) := dk_44 (dk_at dksJ9_add_2_0 11 rfl rfl)
theorem dJ9_add_2_12 : decode cJ9_add_2 12 = .ok (.iload_n 3, 1) := dk_29 (dk_at dksJ9_add_2_0 12 rfl rfl)
theorem dJ9_add_2_13 : decode cJ9_add_2 13 = .ok (.aload_n 1, 1) := dk_43 (dk_at dksJ9_add_2_0 13 rfl rfl)
theorem dJ9_add_2_14 : decode cJ9_add_2 14 = .ok (.aastore, 1) := dk_83 (dk_at dksJ9_add_2_0 14 rfl rfl)
theorem dJ9_add_2_15 : decode cJ9_add_2 15 = .ok (.aload_n 0, 1) := dk_42 (dk_at dksJ9_add_2_0 15 rfl rfl)
theorem dJ9_add_2_16 : decode cJ9_add_2 16 = .ok (.iload_n 3, 1) := dk_29 (dk_at dksJ9_add_2_0 16 rfl rfl)
theorem dJ9_add_2_17 : decode cJ9_add_2 17 = .ok (.iconst 1, 1) := dk_4 (dk_at dksJ9_add_2_0 17 rfl rfl)
theorem dJ9_add_2_18 : decode cJ9_add_2 18 = .ok (.iadd, 1) := dk_96 (dk_at dksJ9_add_2_0 18 rfl rfl)
theorem dJ9_add_2_19 : decode cJ9_add_2 19 = .ok (.putfield 48, 3) := dk_181 0 48 (dk_at dksJ9_add_2_0 19 rfl rfl)
theorem dJ9_add_2_22 : decode cJ9_add_2 22 = .ok (.return_, 1) := dk_177 (dk_at dksJ9_add_2_0 22 rfl rfl)
abbrev cJ9_grow : ByteArray := prog_51_method_7_code
def yJ9_grow : MethodName := ⟨RJ9, "grow", "()[Ljava/lang/Object;"⟩
def dkwJ9_grow_0 : List UInt8 := [42, 42, 180, 0, 48, 4, 96, 182, 0, 69, 176]
abbrev dktJ9_grow_0 : List UInt8 := dkwJ9_grow_0 ++ []
theorem dksJ9_grow_0 : cJ9_grow.data.toList.drop 0 = dktJ9_grow_0 := by decide +kernel
theorem dJ9_grow_0 : decode cJ9_grow 0 = .ok (.aload_n 0, 1) := dk_42 (dk_at dksJ9_grow_0 0 rfl rfl)
theorem dJ9_grow_1 : decode cJ9_grow 1 = .ok (.aload_n 0, 1) := dk_42 (dk_at dksJ9_grow_0 1 rfl rfl)
theorem dJ9_grow_2 : decode cJ9_grow 2 = .ok (.getfield 48, 3) := dk_180 0 48 (dk_at dksJ9_grow_0 2 rfl rfl)
theorem dJ9_grow_5 : decode cJ9_grow 5 = .ok (.iconst 1, 1) := dk_4 (dk_at dksJ9_grow_0 5 rfl rfl)
theorem dJ9_grow_6 : decode cJ9_grow 6 = .ok (.iadd, 1) := dk_96 (dk_at dksJ9_grow_0 6 rfl rfl)
theorem dJ9_grow_7 : decode cJ9_grow 7 = .ok (.invokevirtual 69, 3) := dk_182 0 69 (dk_at dksJ9_grow_0 7 rfl rfl)
theorem dJ9_grow_10 : decode cJ9_grow 10 = .ok (.areturn, 1) := dk_176 (dk_at dksJ9_grow_0 10 rfl rfl)
abbrev cJ9_grow_2 : ByteArray := prog_51_method_6_code
def yJ9_grow_2 : MethodName := ⟨RJ9, "grow", "(I)[Ljava/lang/Object;"⟩
def dkwJ9_grow_2_2 : List UInt8 := [27, 184, 0, 79, 189, 0, 7, 90, 181, 0, 9, 176]
abbrev dktJ9_grow_2_2 : List UInt8 := dkwJ9_grow_2_2 ++ []
def dkwJ9_grow_2_1 : List UInt8 := [28, 4, 122, 184, 0, 73, 62, 42, 42, 180, 0, 9, 29, 184, 0, 66, 90, 181, 0, 9, 176, 42, 16, 10]
abbrev dktJ9_grow_2_1 : List UInt8 := dkwJ9_grow_2_1 ++ dktJ9_grow_2_2
def dkwJ9_grow_2_0 : List UInt8 := [42, 180, 0, 9, 190, 61, 28, 157, 0, 13, 42, 180, 0, 9, 178, 0, 39, 165, 0, 28, 28, 27, 28, 100]
abbrev dktJ9_grow_2_0 : List UInt8 := dkwJ9_grow_2_0 ++ dktJ9_grow_2_1
theorem dksJ9_grow_2_0 : cJ9_grow_2.data.toList.drop 0 = dktJ9_grow_2_0 := by decide +kernel
theorem dksJ9_grow_2_1 : cJ9_grow_2.data.toList.drop 24 = dktJ9_grow_2_1 := dk_seg dksJ9_grow_2_0 24 rfl rfl
theorem dksJ9_grow_2_2 : cJ9_grow_2.data.toList.drop 48 = dktJ9_grow_2_2 := dk_seg dksJ9_grow_2_1 24 rfl rfl
theorem dJ9_grow_2_0 : decode cJ9_grow_2 0 = .ok (.aload_n 0, 1) := dk_42 (dk_at dksJ9_grow_2_0 0 rfl rfl)
theorem dJ9_grow_2_1 : decode cJ9_grow_2 1 = .ok (.getfield 9, 3) := dk_180 0 9 (dk_at dksJ9_grow_2_0 1 rfl rfl)
theorem dJ9_grow_2_4 : decode cJ9_grow_2 4 = .ok (.arraylength, 1) := dk_190 (dk_at dksJ9_grow_2_0 4 rfl rfl)
theorem dJ9_grow_2_5 : decode cJ9_grow_2 5 = .ok (.istore_n 2, 1) := dk_61 (dk_at dksJ9_grow_2_0 5 rfl rfl)
theorem dJ9_grow_2_6 : decode cJ9_grow_2 6 = .ok (.iload_n 2, 1) := dk_28 (dk_at dksJ9_grow_2_0 6 rfl rfl)
theorem dJ9_grow_2_7 : decode cJ9_grow_2 7 = .ok (.ifCond .gt 13, 3) := dk_157 0 13 (dk_at dksJ9_grow_2_0 7 rfl rfl)
theorem dJ9_grow_2_10 : decode cJ9_grow_2 10 = .ok (.aload_n 0, 1) := dk_42 (dk_at dksJ9_grow_2_0 10 rfl rfl)
theorem dJ9_grow_2_11 : decode cJ9_grow_2 11 = .ok (.getfield 9, 3) := dk_180 0 9 (dk_at dksJ9_grow_2_0 11 rfl rfl)
theorem dJ9_grow_2_14 : decode cJ9_grow_2 14 = .ok (.getstatic 39, 3) := dk_178 0 39 (dk_at dksJ9_grow_2_0 14 rfl rfl)
theorem dJ9_grow_2_17 : decode cJ9_grow_2 17 = .ok (.if_acmp .eq 28, 3) := dk_165 0 28 (dk_at dksJ9_grow_2_0 17 rfl rfl)
theorem dJ9_grow_2_20 : decode cJ9_grow_2 20 = .ok (.iload_n 2, 1) := dk_28 (dk_at dksJ9_grow_2_0 20 rfl rfl)
theorem dJ9_grow_2_21 : decode cJ9_grow_2 21 = .ok (.iload_n 1, 1) := dk_27 (dk_at dksJ9_grow_2_0 21 rfl rfl)
theorem dJ9_grow_2_22 : decode cJ9_grow_2 22 = .ok (.iload_n 2, 1) := dk_28 (dk_at dksJ9_grow_2_0 22 rfl rfl)
theorem dJ9_grow_2_23 : decode cJ9_grow_2 23 = .ok (.isub, 1) := dk_100 (dk_at dksJ9_grow_2_0 23 rfl rfl)
theorem dJ9_grow_2_24 : decode cJ9_grow_2 24 = .ok (.iload_n 2, 1) := dk_28 (dk_at dksJ9_grow_2_1 0 rfl rfl)
theorem dJ9_grow_2_25 : decode cJ9_grow_2 25 = .ok (.iconst 1, 1) := dk_4 (dk_at dksJ9_grow_2_1 1 rfl rfl)
theorem dJ9_grow_2_26 : decode cJ9_grow_2 26 = .ok (.ishr, 1) := dk_122 (dk_at dksJ9_grow_2_1 2 rfl rfl)
theorem dJ9_grow_2_27 : decode cJ9_grow_2 27 = .ok (.invokestatic 73, 3) := dk_184 0 73 (dk_at dksJ9_grow_2_1 3 rfl rfl)
theorem dJ9_grow_2_30 : decode cJ9_grow_2 30 = .ok (.istore_n 3, 1) := dk_62 (dk_at dksJ9_grow_2_1 6 rfl rfl)
theorem dJ9_grow_2_31 : decode cJ9_grow_2 31 = .ok (.aload_n 0, 1) := dk_42 (dk_at dksJ9_grow_2_1 7 rfl rfl)
theorem dJ9_grow_2_32 : decode cJ9_grow_2 32 = .ok (.aload_n 0, 1) := dk_42 (dk_at dksJ9_grow_2_1 8 rfl rfl)
theorem dJ9_grow_2_33 : decode cJ9_grow_2 33 = .ok (.getfield 9, 3) := dk_180 0 9 (dk_at dksJ9_grow_2_1 9 rfl rfl)
theorem dJ9_grow_2_36 : decode cJ9_grow_2 36 = .ok (.iload_n 3, 1) := dk_29 (dk_at dksJ9_grow_2_1 12 rfl rfl)
theorem dJ9_grow_2_37 : decode cJ9_grow_2 37 = .ok (.invokestatic 66, 3) := dk_184 0 66 (dk_at dksJ9_grow_2_1 13 rfl rfl)
theorem dJ9_grow_2_40 : decode cJ9_grow_2 40 = .ok (.dup_x1, 1) := dk_90 (dk_at dksJ9_grow_2_1 16 rfl rfl)
theorem dJ9_grow_2_41 : decode cJ9_grow_2 41 = .ok (.putfield 9, 3) := dk_181 0 9 (dk_at dksJ9_grow_2_1 17 rfl rfl)
theorem dJ9_grow_2_44 : decode cJ9_grow_2 44 = .ok (.areturn, 1) := dk_176 (dk_at dksJ9_grow_2_1 20 rfl rfl)
theorem dJ9_grow_2_45 : decode cJ9_grow_2 45 = .ok (.aload_n 0, 1) := dk_42 (dk_at dksJ9_grow_2_1 21 rfl rfl)
theorem dJ9_grow_2_46 : decode cJ9_grow_2 46 = .ok (.bipush 10, 2) := dk_16 10 (dk_at dksJ9_grow_2_1 22 rfl rfl)
theorem dJ9_grow_2_48 : decode cJ9_grow_2 48 = .ok (.iload_n 1, 1) := dk_27 (dk_at dksJ9_grow_2_2 0 rfl rfl)
theorem dJ9_grow_2_49 : decode cJ9_grow_2 49 = .ok (.invokestatic 79, 3) := dk_184 0 79 (dk_at dksJ9_grow_2_2 1 rfl rfl)
theorem dJ9_grow_2_52 : decode cJ9_grow_2 52 = .ok (.anewarray 7, 3) := dk_189 0 7 (dk_at dksJ9_grow_2_2 4 rfl rfl)
theorem dJ9_grow_2_55 : decode cJ9_grow_2 55 = .ok (.dup_x1, 1) := dk_90 (dk_at dksJ9_grow_2_2 7 rfl rfl)
theorem dJ9_grow_2_56 : decode cJ9_grow_2 56 = .ok (.putfield 9, 3) := dk_181 0 9 (dk_at dksJ9_grow_2_2 8 rfl rfl)
theorem dJ9_grow_2_59 : decode cJ9_grow_2 59 = .ok (.areturn, 1) := dk_176 (dk_at dksJ9_grow_2_2 11 rfl rfl)
abbrev cJ9_size : ByteArray := prog_51_method_8_code
def yJ9_size : MethodName := ⟨RJ9, "size", "()I"⟩
theorem dJ9_size_0 : decode cJ9_size 0 = .ok (.aload_n 0, 1) := by decide +kernel
theorem dJ9_size_1 : decode cJ9_size 1 = .ok (.getfield 48, 3) := by decide +kernel
theorem dJ9_size_4 : decode cJ9_size 4 = .ok (.ireturn, 1) := by decide +kernel
abbrev cJ9_get : ByteArray := prog_51_method_20_code
def yJ9_get : MethodName := ⟨RJ9, "get", "(I)Ljava/lang/Object;"⟩
def dkwJ9_get_0 : List UInt8 := [27, 42, 180, 0, 48, 184, 0, 118, 87, 42, 27, 182, 0, 123, 176]
abbrev dktJ9_get_0 : List UInt8 := dkwJ9_get_0 ++ []
theorem dksJ9_get_0 : cJ9_get.data.toList.drop 0 = dktJ9_get_0 := by decide +kernel
theorem dJ9_get_0 : decode cJ9_get 0 = .ok (.iload_n 1, 1) := dk_27 (dk_at dksJ9_get_0 0 rfl rfl)
theorem dJ9_get_1 : decode cJ9_get 1 = .ok (.aload_n 0, 1) := dk_42 (dk_at dksJ9_get_0 1 rfl rfl)
theorem dJ9_get_2 : decode cJ9_get 2 = .ok (.getfield 48, 3) := dk_180 0 48 (dk_at dksJ9_get_0 2 rfl rfl)
theorem dJ9_get_5 : decode cJ9_get 5 = .ok (.invokestatic 118, 3) := dk_184 0 118 (dk_at dksJ9_get_0 5 rfl rfl)
theorem dJ9_get_8 : decode cJ9_get 8 = .ok (.pop, 1) := dk_87 (dk_at dksJ9_get_0 8 rfl rfl)
theorem dJ9_get_9 : decode cJ9_get 9 = .ok (.aload_n 0, 1) := dk_42 (dk_at dksJ9_get_0 9 rfl rfl)
theorem dJ9_get_10 : decode cJ9_get 10 = .ok (.iload_n 1, 1) := dk_27 (dk_at dksJ9_get_0 10 rfl rfl)
theorem dJ9_get_11 : decode cJ9_get 11 = .ok (.invokevirtual 123, 3) := dk_182 0 123 (dk_at dksJ9_get_0 11 rfl rfl)
theorem dJ9_get_14 : decode cJ9_get 14 = .ok (.areturn, 1) := dk_176 (dk_at dksJ9_get_0 14 rfl rfl)
abbrev cJ9_elementData : ByteArray := prog_51_method_18_code
def yJ9_elementData : MethodName := ⟨RJ9, "elementData", "(I)Ljava/lang/Object;"⟩
def dkwJ9_elementData_0 : List UInt8 := [42, 180, 0, 9, 27, 50, 176]
abbrev dktJ9_elementData_0 : List UInt8 := dkwJ9_elementData_0 ++ []
theorem dksJ9_elementData_0 : cJ9_elementData.data.toList.drop 0 = dktJ9_elementData_0 := by decide +kernel
theorem dJ9_elementData_0 : decode cJ9_elementData 0 = .ok (.aload_n 0, 1) := dk_42 (dk_at dksJ9_elementData_0 0 rfl rfl)
theorem dJ9_elementData_1 : decode cJ9_elementData 1 = .ok (.getfield 9, 3) := dk_180 0 9 (dk_at dksJ9_elementData_0 1 rfl rfl)
theorem dJ9_elementData_4 : decode cJ9_elementData 4 = .ok (.iload_n 1, 1) := dk_27 (dk_at dksJ9_elementData_0 4 rfl rfl)
theorem dJ9_elementData_5 : decode cJ9_elementData 5 = .ok (.aaload, 1) := dk_50 (dk_at dksJ9_elementData_0 5 rfl rfl)
theorem dJ9_elementData_6 : decode cJ9_elementData 6 = .ok (.areturn, 1) := dk_176 (dk_at dksJ9_elementData_0 6 rfl rfl)
theorem q126 : (Jvm.Cond.initialized "java/util/ArrayList") ∈ lw_all := lw_g (lw_at lw_m1 27 rfl) rfl
theorem q876 : (Jvm.Cond.instantiable "java/util/ArrayList" (3 : Nat)) ∈ lw_all := lw_g (lw_at lw_m4 57 rfl) rfl
theorem q878 : (Jvm.Cond.instanceMethod ({ cls := "java/util/ArrayList", name := "<init>", desc := "()V" } : Jvm.MethodName)) ∈ lw_all := lw_g (lw_at lw_m4 59 rfl) rfl
theorem q879 : (Jvm.Cond.code ({ cls := "java/util/ArrayList", name := "<init>", desc := "()V" } : Jvm.MethodName) prog_51_method_2_code (1 : Nat) (Option.none : Option Jvm.ClassFile.FieldType)) ∈ lw_all := lw_g (lw_at lw_m4 60 rfl) rfl
theorem q880 : (Jvm.Cond.methodLink "java/util/ArrayList" (1 : Nat) ({ cls := "java/util/AbstractList", name := "<init>", desc := "()V" } : Jvm.MethodName)) ∈ lw_all := lw_g (lw_at lw_m4 61 rfl) rfl
theorem q887 : (Jvm.Cond.fieldLink "java/util/ArrayList" (39 : Nat) "java/util/ArrayList" "DEFAULTCAPACITY_EMPTY_ELEMENTDATA" "[Ljava/lang/Object;") ∈ lw_all := lw_g (lw_at lw_m4 68 rfl) rfl
theorem q888 : (Jvm.Cond.laysStatic "java/util/ArrayList" "DEFAULTCAPACITY_EMPTY_ELEMENTDATA" "[Ljava/lang/Object;") ∈ lw_tbl := lw_at lw_m4 69 rfl
theorem q889 : (Jvm.Cond.fieldLink "java/util/ArrayList" (9 : Nat) "java/util/ArrayList" "elementData" "[Ljava/lang/Object;") ∈ lw_all := lw_g (lw_at lw_m4 70 rfl) rfl
theorem q890 : (Jvm.Cond.fieldLink "java/util/ArrayList" (48 : Nat) "java/util/ArrayList" "size" "I") ∈ lw_all := lw_g (lw_at lw_m4 71 rfl) rfl
theorem q892 : (Jvm.Cond.fieldLink "java/util/ArrayList" (63 : Nat) "java/util/ArrayList" "modCount" "I") ∈ lw_all := lw_g (lw_at lw_m4 73 rfl) rfl
theorem q893 : (Jvm.Cond.sameField "java/util/ArrayList" "java/util/AbstractList" "modCount" "I") ∈ lw_all := lw_g (lw_at lw_m4 74 rfl) rfl
theorem q894 : (Jvm.Cond.lays "java/util/ArrayList" "java/util/ArrayList" "elementData" "[Ljava/lang/Object;") ∈ lw_all := lw_g (lw_at lw_m4 75 rfl) rfl
theorem q895 : (Jvm.Cond.soleField "java/util/ArrayList" "elementData") ∈ lw_all := lw_g (lw_at lw_m4 76 rfl) rfl
theorem q896 : (Jvm.Cond.lays "java/util/ArrayList" "java/util/ArrayList" "size" "I") ∈ lw_all := lw_g (lw_at lw_m4 77 rfl) rfl
theorem q897 : (Jvm.Cond.soleField "java/util/ArrayList" "size") ∈ lw_all := lw_g (lw_at lw_m4 78 rfl) rfl
theorem q898 : (Jvm.Cond.lays "java/util/ArrayList" "java/util/AbstractList" "modCount" "I") ∈ lw_all := lw_g (lw_at lw_m4 79 rfl) rfl
theorem q900 : (Jvm.Cond.superclass "java/util/ArrayList" "java/util/AbstractList") ∈ lw_all := lw_g (lw_at lw_m4 81 rfl) rfl
theorem q1102 : (Jvm.Cond.instanceMethod ({ cls := "java/util/ArrayList", name := "add", desc := "(Ljava/lang/Object;)Z" } : Jvm.MethodName)) ∈ lw_all := lw_g (lw_at lw_m5 43 rfl) rfl
theorem q1103 : (Jvm.Cond.selects "java/util/ArrayList" ({ cls := "java/util/ArrayList", name := "add", desc := "(Ljava/lang/Object;)Z" } : Jvm.MethodName) ({ cls := "java/util/ArrayList", name := "add", desc := "(Ljava/lang/Object;)Z" } : Jvm.MethodName)) ∈ lw_all := lw_g (lw_at lw_m5 44 rfl) rfl
theorem q1104 : (Jvm.Cond.code ({ cls := "java/util/ArrayList", name := "add", desc := "(Ljava/lang/Object;)Z" } : Jvm.MethodName) prog_51_method_25_code (2 : Nat) (Option.some Jvm.ClassFile.FieldType.boolean)) ∈ lw_all := lw_g (lw_at lw_m5 45 rfl) rfl
theorem q1105 : (Jvm.Cond.methodLink "java/util/ArrayList" (131 : Nat) ({ cls := "java/util/ArrayList", name := "add", desc := "(Ljava/lang/Object;[Ljava/lang/Object;I)V" } : Jvm.MethodName)) ∈ lw_all := lw_g (lw_at lw_m5 46 rfl) rfl
theorem q1106 : (Jvm.Cond.privateMethod ({ cls := "java/util/ArrayList", name := "add", desc := "(Ljava/lang/Object;[Ljava/lang/Object;I)V" } : Jvm.MethodName)) ∈ lw_tbl := lw_at lw_m5 47 rfl
theorem q1107 : (Jvm.Cond.instanceMethod ({ cls := "java/util/ArrayList", name := "add", desc := "(Ljava/lang/Object;[Ljava/lang/Object;I)V" } : Jvm.MethodName)) ∈ lw_all := lw_g (lw_at lw_m5 48 rfl) rfl
theorem q1108 : (Jvm.Cond.code ({ cls := "java/util/ArrayList", name := "add", desc := "(Ljava/lang/Object;[Ljava/lang/Object;I)V" } : Jvm.MethodName) prog_51_method_24_code (4 : Nat) (Option.none : Option Jvm.ClassFile.FieldType)) ∈ lw_all := lw_g (lw_at lw_m5 49 rfl) rfl
theorem q1109 : (Jvm.Cond.methodLink "java/util/ArrayList" (129 : Nat) ({ cls := "java/util/ArrayList", name := "grow", desc := "()[Ljava/lang/Object;" } : Jvm.MethodName)) ∈ lw_all := lw_g (lw_at lw_m5 50 rfl) rfl
theorem q1110 : (Jvm.Cond.privateMethod ({ cls := "java/util/ArrayList", name := "grow", desc := "()[Ljava/lang/Object;" } : Jvm.MethodName)) ∈ lw_tbl := lw_at lw_m5 51 rfl
theorem q1111 : (Jvm.Cond.instanceMethod ({ cls := "java/util/ArrayList", name := "grow", desc := "()[Ljava/lang/Object;" } : Jvm.MethodName)) ∈ lw_all := lw_g (lw_at lw_m5 52 rfl) rfl
theorem q1112 : (Jvm.Cond.code ({ cls := "java/util/ArrayList", name := "grow", desc := "()[Ljava/lang/Object;" } : Jvm.MethodName) prog_51_method_7_code (1 : Nat) (Option.some (Jvm.ClassFile.FieldType.array (Jvm.ClassFile.FieldType.object "java/lang/Object")))) ∈ lw_all := lw_g (lw_at lw_m5 53 rfl) rfl
theorem q1113 : (Jvm.Cond.methodLink "java/util/ArrayList" (69 : Nat) ({ cls := "java/util/ArrayList", name := "grow", desc := "(I)[Ljava/lang/Object;" } : Jvm.MethodName)) ∈ lw_all := lw_g (lw_at lw_m5 54 rfl) rfl
theorem q1114 : (Jvm.Cond.privateMethod ({ cls := "java/util/ArrayList", name := "grow", desc := "(I)[Ljava/lang/Object;" } : Jvm.MethodName)) ∈ lw_tbl := lw_at lw_m5 55 rfl
theorem q1115 : (Jvm.Cond.instanceMethod ({ cls := "java/util/ArrayList", name := "grow", desc := "(I)[Ljava/lang/Object;" } : Jvm.MethodName)) ∈ lw_all := lw_g (lw_at lw_m5 56 rfl) rfl
theorem q1116 : (Jvm.Cond.code ({ cls := "java/util/ArrayList", name := "grow", desc := "(I)[Ljava/lang/Object;" } : Jvm.MethodName) prog_51_method_6_code (4 : Nat) (Option.some (Jvm.ClassFile.FieldType.array (Jvm.ClassFile.FieldType.object "java/lang/Object")))) ∈ lw_all := lw_g (lw_at lw_m5 57 rfl) rfl
theorem q1117 : (Jvm.Cond.methodLink "java/util/ArrayList" (73 : Nat) ({ cls := "jdk/internal/util/ArraysSupport", name := "newLength", desc := "(III)I" } : Jvm.MethodName)) ∈ lw_all := lw_g (lw_at lw_m5 58 rfl) rfl
theorem q1127 : (Jvm.Cond.methodLink "java/util/ArrayList" (66 : Nat) ({ cls := "java/util/Arrays", name := "copyOf", desc := "([Ljava/lang/Object;I)[Ljava/lang/Object;" } : Jvm.MethodName)) ∈ lw_all := lw_g (lw_at lw_m5 68 rfl) rfl
theorem q1164 : (Jvm.Cond.selects "java/util/ArrayList" ({ cls := "java/lang/Object", name := "getClass", desc := "()Ljava/lang/Class;" } : Jvm.MethodName) ({ cls := "java/lang/Object", name := "getClass", desc := "()Ljava/lang/Class;" } : Jvm.MethodName)) ∈ lw_all := lw_g (lw_at lw_m5 105 rfl) rfl
theorem q1176 : (Jvm.Cond.methodLink "java/util/ArrayList" (79 : Nat) ({ cls := "java/lang/Math", name := "max", desc := "(II)I" } : Jvm.MethodName)) ∈ lw_all := lw_g (lw_at lw_m5 117 rfl) rfl
theorem q1177 : (Jvm.Cond.classLink "java/util/ArrayList" (7 : Nat) "java/lang/Object") ∈ lw_all := lw_g (lw_at lw_m5 118 rfl) rfl
theorem q1202 : (Jvm.Cond.instanceMethod ({ cls := "java/util/ArrayList", name := "size", desc := "()I" } : Jvm.MethodName)) ∈ lw_all := lw_g (lw_at lw_m5 143 rfl) rfl
theorem q1203 : (Jvm.Cond.selects "java/util/ArrayList" ({ cls := "java/util/ArrayList", name := "size", desc := "()I" } : Jvm.MethodName) ({ cls := "java/util/ArrayList", name := "size", desc := "()I" } : Jvm.MethodName)) ∈ lw_all := lw_g (lw_at lw_m5 144 rfl) rfl
theorem q1204 : (Jvm.Cond.code ({ cls := "java/util/ArrayList", name := "size", desc := "()I" } : Jvm.MethodName) prog_51_method_8_code (1 : Nat) (Option.some Jvm.ClassFile.FieldType.int)) ∈ lw_all := lw_g (lw_at lw_m5 145 rfl) rfl
theorem q1242 : (Jvm.Cond.instanceMethod ({ cls := "java/util/ArrayList", name := "get", desc := "(I)Ljava/lang/Object;" } : Jvm.MethodName)) ∈ lw_all := lw_g (lw_at lw_m5 183 rfl) rfl
theorem q1243 : (Jvm.Cond.selects "java/util/ArrayList" ({ cls := "java/util/ArrayList", name := "get", desc := "(I)Ljava/lang/Object;" } : Jvm.MethodName) ({ cls := "java/util/ArrayList", name := "get", desc := "(I)Ljava/lang/Object;" } : Jvm.MethodName)) ∈ lw_all := lw_g (lw_at lw_m5 184 rfl) rfl
theorem q1244 : (Jvm.Cond.code ({ cls := "java/util/ArrayList", name := "get", desc := "(I)Ljava/lang/Object;" } : Jvm.MethodName) prog_51_method_20_code (2 : Nat) (Option.some (Jvm.ClassFile.FieldType.object "java/lang/Object"))) ∈ lw_all := lw_g (lw_at lw_m5 185 rfl) rfl
theorem q1245 : (Jvm.Cond.methodLink "java/util/ArrayList" (118 : Nat) ({ cls := "java/util/Objects", name := "checkIndex", desc := "(II)I" } : Jvm.MethodName)) ∈ lw_all := lw_g (lw_at lw_m5 186 rfl) rfl
theorem q1249 : (Jvm.Cond.methodLink "java/util/ArrayList" (123 : Nat) ({ cls := "java/util/ArrayList", name := "elementData", desc := "(I)Ljava/lang/Object;" } : Jvm.MethodName)) ∈ lw_all := lw_g (lw_at lw_m5 190 rfl) rfl
theorem q1250 : (Jvm.Cond.instanceMethod ({ cls := "java/util/ArrayList", name := "elementData", desc := "(I)Ljava/lang/Object;" } : Jvm.MethodName)) ∈ lw_all := lw_g (lw_at lw_m5 191 rfl) rfl
theorem q1251 : (Jvm.Cond.selects "java/util/ArrayList" ({ cls := "java/util/ArrayList", name := "elementData", desc := "(I)Ljava/lang/Object;" } : Jvm.MethodName) ({ cls := "java/util/ArrayList", name := "elementData", desc := "(I)Ljava/lang/Object;" } : Jvm.MethodName)) ∈ lw_all := lw_g (lw_at lw_m5 192 rfl) rfl
theorem q1252 : (Jvm.Cond.code ({ cls := "java/util/ArrayList", name := "elementData", desc := "(I)Ljava/lang/Object;" } : Jvm.MethodName) prog_51_method_18_code (2 : Nat) (Option.some (Jvm.ClassFile.FieldType.object "java/lang/Object"))) ∈ lw_all := lw_g (lw_at lw_m5 193 rfl) rfl
theorem q2343 : (Jvm.Cond.castable "java/util/ArrayList" "java/lang/Object") ∈ lw_tbl := lw_at lw_m10 84 rfl
theorem in_J9 : ∀ w ∈ wsJ90, w ∈ lw_all := lw_in wsJ90 [898, 894, 896] (by decide +kernel) (by decide +kernel)

/-! java/lang/StringLatin1 -/
set_option maxRecDepth 100000
def RJ10 : String := "java/lang/StringLatin1"
abbrev cJ10_charAt : ByteArray := prog_45_method_2_code
def yJ10_charAt : MethodName := ⟨RJ10, "charAt", "([BI)C"⟩
def dkwJ10_charAt_0 : List UInt8 := [27, 42, 190, 184, 0, 9, 42, 27, 51, 17, 0, 255, 126, 146, 172]
abbrev dktJ10_charAt_0 : List UInt8 := dkwJ10_charAt_0 ++ []
theorem dksJ10_charAt_0 : cJ10_charAt.data.toList.drop 0 = dktJ10_charAt_0 := by decide +kernel
theorem dJ10_charAt_0 : decode cJ10_charAt 0 = .ok (.iload_n 1, 1) := dk_27 (dk_at dksJ10_charAt_0 0 rfl rfl)
theorem dJ10_charAt_1 : decode cJ10_charAt 1 = .ok (.aload_n 0, 1) := dk_42 (dk_at dksJ10_charAt_0 1 rfl rfl)
theorem dJ10_charAt_2 : decode cJ10_charAt 2 = .ok (.arraylength, 1) := dk_190 (dk_at dksJ10_charAt_0 2 rfl rfl)
theorem dJ10_charAt_3 : decode cJ10_charAt 3 = .ok (.invokestatic 9, 3) := dk_184 0 9 (dk_at dksJ10_charAt_0 3 rfl rfl)
theorem dJ10_charAt_6 : decode cJ10_charAt 6 = .ok (.aload_n 0, 1) := dk_42 (dk_at dksJ10_charAt_0 6 rfl rfl)
theorem dJ10_charAt_7 : decode cJ10_charAt 7 = .ok (.iload_n 1, 1) := dk_27 (dk_at dksJ10_charAt_0 7 rfl rfl)
theorem dJ10_charAt_8 : decode cJ10_charAt 8 = .ok (.baload, 1) := dk_51 (dk_at dksJ10_charAt_0 8 rfl rfl)
theorem dJ10_charAt_9 : decode cJ10_charAt 9 = .ok (.sipush 255, 3) := dk_17 0 255 (dk_at dksJ10_charAt_0 9 rfl rfl)
theorem dJ10_charAt_12 : decode cJ10_charAt 12 = .ok (.iand, 1) := dk_126 (dk_at dksJ10_charAt_0 12 rfl rfl)
theorem dJ10_charAt_13 : decode cJ10_charAt 13 = .ok (.i2c, 1) := dk_146 (dk_at dksJ10_charAt_0 13 rfl rfl)
theorem dJ10_charAt_14 : decode cJ10_charAt 14 = .ok (.ireturn, 1) := dk_172 (dk_at dksJ10_charAt_0 14 rfl rfl)
theorem q127 : (Jvm.Cond.initialized "java/lang/StringLatin1") ∈ lw_all := lw_g (lw_at lw_m1 28 rfl) rfl
theorem q946 : (Jvm.Cond.static ({ cls := "java/lang/StringLatin1", name := "charAt", desc := "([BI)C" } : Jvm.MethodName)) ∈ lw_all := lw_g (lw_at lw_m4 127 rfl) rfl
theorem q947 : (Jvm.Cond.code ({ cls := "java/lang/StringLatin1", name := "charAt", desc := "([BI)C" } : Jvm.MethodName) prog_45_method_2_code (2 : Nat) (Option.some Jvm.ClassFile.FieldType.char)) ∈ lw_all := lw_g (lw_at lw_m4 128 rfl) rfl
theorem q948 : (Jvm.Cond.methodLink "java/lang/StringLatin1" (9 : Nat) ({ cls := "java/lang/String", name := "checkIndex", desc := "(II)V" } : Jvm.MethodName)) ∈ lw_all := lw_g (lw_at lw_m4 129 rfl) rfl

/-! jdk/internal/util/Preconditions -/
set_option maxRecDepth 100000
def RJ11 : String := "jdk/internal/util/Preconditions"
abbrev cJ11_checkIndex : ByteArray := prog_59_method_11_code
def yJ11_checkIndex : MethodName := ⟨RJ11, "checkIndex", "(IILjava/util/function/BiFunction;)I"⟩
def dkwJ11_checkIndex_0 : List UInt8 := [26, 155, 0, 8, 26, 27, 161, 0, 10, 44, 26, 27, 184, 0, 95, 191, 26, 172]
abbrev dktJ11_checkIndex_0 : List UInt8 := dkwJ11_checkIndex_0 ++ []
theorem dksJ11_checkIndex_0 : cJ11_checkIndex.data.toList.drop 0 = dktJ11_checkIndex_0 := by decide +kernel
theorem dJ11_checkIndex_0 : decode cJ11_checkIndex 0 = .ok (.iload_n 0, 1) := dk_26 (dk_at dksJ11_checkIndex_0 0 rfl rfl)
theorem dJ11_checkIndex_1 : decode cJ11_checkIndex 1 = .ok (.ifCond .lt 8, 3) := dk_155 0 8 (dk_at dksJ11_checkIndex_0 1 rfl rfl)
theorem dJ11_checkIndex_4 : decode cJ11_checkIndex 4 = .ok (.iload_n 0, 1) := dk_26 (dk_at dksJ11_checkIndex_0 4 rfl rfl)
theorem dJ11_checkIndex_5 : decode cJ11_checkIndex 5 = .ok (.iload_n 1, 1) := dk_27 (dk_at dksJ11_checkIndex_0 5 rfl rfl)
theorem dJ11_checkIndex_6 : decode cJ11_checkIndex 6 = .ok (.if_icmp .lt 10, 3) := dk_161 0 10 (dk_at dksJ11_checkIndex_0 6 rfl rfl)
theorem dJ11_checkIndex_9 : decode cJ11_checkIndex 9 = .ok (.aload_n 2, 1) := dk_44 (dk_at dksJ11_checkIndex_0 9 rfl rfl)
theorem dJ11_checkIndex_10 : decode cJ11_checkIndex 10 = .ok (.iload_n 0, 1) := dk_26 (dk_at dksJ11_checkIndex_0 10 rfl rfl)
theorem dJ11_checkIndex_11 : decode cJ11_checkIndex 11 = .ok (.iload_n 1, 1) := dk_27 (dk_at dksJ11_checkIndex_0 11 rfl rfl)
theorem dJ11_checkIndex_12 : decode cJ11_checkIndex 12 = .ok (.invokestatic 95, 3) := dk_184 0 95 (dk_at dksJ11_checkIndex_0 12 rfl rfl)
theorem dJ11_checkIndex_15 : decode cJ11_checkIndex 15 = .ok (.athrow, 1) := dk_191 (dk_at dksJ11_checkIndex_0 15 rfl rfl)
theorem dJ11_checkIndex_16 : decode cJ11_checkIndex 16 = .ok (.iload_n 0, 1) := dk_26 (dk_at dksJ11_checkIndex_0 16 rfl rfl)
theorem dJ11_checkIndex_17 : decode cJ11_checkIndex 17 = .ok (.ireturn, 1) := dk_172 (dk_at dksJ11_checkIndex_0 17 rfl rfl)
theorem q128 : (Jvm.Cond.initialized "jdk/internal/util/Preconditions") ∈ lw_all := lw_g (lw_at lw_m1 29 rfl) rfl
theorem q952 : (Jvm.Cond.laysStatic "jdk/internal/util/Preconditions" "SIOOBE_FORMATTER" "Ljava/util/function/BiFunction;") ∈ lw_tbl := lw_at lw_m4 133 rfl
theorem q954 : (Jvm.Cond.static ({ cls := "jdk/internal/util/Preconditions", name := "checkIndex", desc := "(IILjava/util/function/BiFunction;)I" } : Jvm.MethodName)) ∈ lw_all := lw_g (lw_at lw_m4 135 rfl) rfl
theorem q955 : (Jvm.Cond.code ({ cls := "jdk/internal/util/Preconditions", name := "checkIndex", desc := "(IILjava/util/function/BiFunction;)I" } : Jvm.MethodName) prog_59_method_11_code (3 : Nat) (Option.some Jvm.ClassFile.FieldType.int)) ∈ lw_all := lw_g (lw_at lw_m4 136 rfl) rfl

/-! java/lang/StringUTF16 -/
set_option maxRecDepth 100000
def RJ12 : String := "java/lang/StringUTF16"
abbrev cJ12_charAt : ByteArray := prog_46_method_83_code
def yJ12_charAt : MethodName := ⟨RJ12, "charAt", "([BI)C"⟩
def dkwJ12_charAt_0 : List UInt8 := [27, 42, 184, 0, 67, 42, 27, 184, 0, 71, 172]
abbrev dktJ12_charAt_0 : List UInt8 := dkwJ12_charAt_0 ++ []
theorem dksJ12_charAt_0 : cJ12_charAt.data.toList.drop 0 = dktJ12_charAt_0 := by decide +kernel
theorem dJ12_charAt_0 : decode cJ12_charAt 0 = .ok (.iload_n 1, 1) := dk_27 (dk_at dksJ12_charAt_0 0 rfl rfl)
theorem dJ12_charAt_1 : decode cJ12_charAt 1 = .ok (.aload_n 0, 1) := dk_42 (dk_at dksJ12_charAt_0 1 rfl rfl)
theorem dJ12_charAt_2 : decode cJ12_charAt 2 = .ok (.invokestatic 67, 3) := dk_184 0 67 (dk_at dksJ12_charAt_0 2 rfl rfl)
theorem dJ12_charAt_5 : decode cJ12_charAt 5 = .ok (.aload_n 0, 1) := dk_42 (dk_at dksJ12_charAt_0 5 rfl rfl)
theorem dJ12_charAt_6 : decode cJ12_charAt 6 = .ok (.iload_n 1, 1) := dk_27 (dk_at dksJ12_charAt_0 6 rfl rfl)
theorem dJ12_charAt_7 : decode cJ12_charAt 7 = .ok (.invokestatic 71, 3) := dk_184 0 71 (dk_at dksJ12_charAt_0 7 rfl rfl)
theorem dJ12_charAt_10 : decode cJ12_charAt 10 = .ok (.ireturn, 1) := dk_172 (dk_at dksJ12_charAt_0 10 rfl rfl)
abbrev cJ12_checkIndex : ByteArray := prog_46_method_91_code
def yJ12_checkIndex : MethodName := ⟨RJ12, "checkIndex", "(I[B)V"⟩
def dkwJ12_checkIndex_0 : List UInt8 := [26, 43, 184, 0, 48, 184, 1, 158, 177]
abbrev dktJ12_checkIndex_0 : List UInt8 := dkwJ12_checkIndex_0 ++ []
theorem dksJ12_checkIndex_0 : cJ12_checkIndex.data.toList.drop 0 = dktJ12_checkIndex_0 := by decide +kernel
theorem dJ12_checkIndex_0 : decode cJ12_checkIndex 0 = .ok (.iload_n 0, 1) := dk_26 (dk_at dksJ12_checkIndex_0 0 rfl rfl)
theorem dJ12_checkIndex_1 : decode cJ12_checkIndex 1 = .ok (.aload_n 1, 1) := dk_43 (dk_at dksJ12_checkIndex_0 1 rfl rfl)
theorem dJ12_checkIndex_2 : decode cJ12_checkIndex 2 = .ok (.invokestatic 48, 3) := dk_184 0 48 (dk_at dksJ12_checkIndex_0 2 rfl rfl)
theorem dJ12_checkIndex_5 : decode cJ12_checkIndex 5 = .ok (.invokestatic 414, 3) := dk_184 1 158 (dk_at dksJ12_checkIndex_0 5 rfl rfl)
theorem dJ12_checkIndex_8 : decode cJ12_checkIndex 8 = .ok (.return_, 1) := dk_177 (dk_at dksJ12_checkIndex_0 8 rfl rfl)
abbrev cJ12_length : ByteArray := prog_46_method_6_code
def yJ12_length : MethodName := ⟨RJ12, "length", "([B)I"⟩
def dkwJ12_length_0 : List UInt8 := [42, 190, 4, 122, 172]
abbrev dktJ12_length_0 : List UInt8 := dkwJ12_length_0 ++ []
theorem dksJ12_length_0 : cJ12_length.data.toList.drop 0 = dktJ12_length_0 := by decide +kernel
theorem dJ12_length_0 : decode cJ12_length 0 = .ok (.aload_n 0, 1) := dk_42 (dk_at dksJ12_length_0 0 rfl rfl)
theorem dJ12_length_1 : decode cJ12_length 1 = .ok (.arraylength, 1) := dk_190 (dk_at dksJ12_length_0 1 rfl rfl)
theorem dJ12_length_2 : decode cJ12_length 2 = .ok (.iconst 1, 1) := dk_4 (dk_at dksJ12_length_0 2 rfl rfl)
theorem dJ12_length_3 : decode cJ12_length 3 = .ok (.ishr, 1) := dk_122 (dk_at dksJ12_length_0 3 rfl rfl)
theorem dJ12_length_4 : decode cJ12_length 4 = .ok (.ireturn, 1) := dk_172 (dk_at dksJ12_length_0 4 rfl rfl)
abbrev cJ12_getChar : ByteArray := prog_46_method_5_code
def yJ12_getChar : MethodName := ⟨RJ12, "getChar", "([BI)C"⟩
def dkwJ12_getChar_2 : List UInt8 := [51, 17, 0, 255, 126, 178, 0, 63, 120, 128, 146, 172]
abbrev dktJ12_getChar_2 : List UInt8 := dkwJ12_getChar_2 ++ []
def dkwJ12_getChar_1 : List UInt8 := [183, 0, 56, 191, 27, 4, 120, 60, 42, 27, 132, 1, 1, 51, 17, 0, 255, 126, 178, 0, 59, 120, 42, 27]
abbrev dktJ12_getChar_1 : List UInt8 := dkwJ12_getChar_1 ++ dktJ12_getChar_2
def dkwJ12_getChar_0 : List UInt8 := [178, 0, 44, 154, 0, 25, 27, 155, 0, 11, 27, 42, 184, 0, 48, 161, 0, 13, 187, 0, 52, 89, 18, 54]
abbrev dktJ12_getChar_0 : List UInt8 := dkwJ12_getChar_0 ++ dktJ12_getChar_1
theorem dksJ12_getChar_0 : cJ12_getChar.data.toList.drop 0 = dktJ12_getChar_0 := by decide +kernel
theorem dksJ12_getChar_1 : cJ12_getChar.data.toList.drop 24 = dktJ12_getChar_1 := dk_seg dksJ12_getChar_0 24 rfl rfl
theorem dksJ12_getChar_2 : cJ12_getChar.data.toList.drop 48 = dktJ12_getChar_2 := dk_seg dksJ12_getChar_1 24 rfl rfl
theorem dJ12_getChar_0 : decode cJ12_getChar 0 = .ok (.getstatic 44, 3) := dk_178 0 44 (dk_at dksJ12_getChar_0 0 rfl rfl)
theorem dJ12_getChar_3 : decode cJ12_getChar 3 = .ok (.ifCond .ne 25, 3) := dk_154 0 25 (dk_at dksJ12_getChar_0 3 rfl rfl)
theorem dJ12_getChar_6 : decode cJ12_getChar 6 = .ok (.iload_n 1, 1) := dk_27 (dk_at dksJ12_getChar_0 6 rfl rfl)
theorem dJ12_getChar_7 : decode cJ12_getChar 7 = .ok (.ifCond .lt 11, 3) := dk_155 0 11 (dk_at dksJ12_getChar_0 7 rfl rfl)
theorem dJ12_getChar_10 : decode cJ12_getChar 10 = .ok (.iload_n 1, 1) := dk_27 (dk_at dksJ12_getChar_0 10 rfl rfl)
theorem dJ12_getChar_11 : decode cJ12_getChar 11 = .ok (.aload_n 0, 1) := dk_42 (dk_at dksJ12_getChar_0 11 rfl rfl)
theorem dJ12_getChar_12 : decode cJ12_getChar 12 = .ok (.invokestatic 48, 3) := dk_184 0 48 (dk_at dksJ12_getChar_0 12 rfl rfl)
theorem dJ12_getChar_15 : decode cJ12_getChar 15 = .ok (.if_icmp .lt 13, 3) := dk_161 0 13 (dk_at dksJ12_getChar_0 15 rfl rfl)
theorem dJ12_getChar_18 : decode cJ12_getChar 18 = .ok (.new 52, 3) := dk_187 0 52 (dk_at dksJ12_getChar_0 18 rfl rfl)
theorem dJ12_getChar_21 : decode cJ12_getChar 21 = .ok (.dup, 1) := dk_89 (dk_at dksJ12_getChar_0 21 rfl rfl)
theorem dJ12_getChar_22 : decode cJ12_getChar 22 = .ok (.ldc 54, 2) := dk_18 54 (dk_at dksJ12_getChar_0 22 rfl rfl)
theorem dJ12_getChar_24 : decode cJ12_getChar 24 = .ok (.invokespecial 56, 3) := dk_183 0 56 (dk_at dksJ12_getChar_1 0 rfl rfl)
theorem dJ12_getChar_27 : decode cJ12_getChar 27 = .ok (.athrow, 1) := dk_191 (dk_at dksJ12_getChar_1 3 rfl rfl)
theorem dJ12_getChar_28 : decode cJ12_getChar 28 = .ok (.iload_n 1, 1) := dk_27 (dk_at dksJ12_getChar_1 4 rfl rfl)
theorem dJ12_getChar_29 : decode cJ12_getChar 29 = .ok (.iconst 1, 1) := dk_4 (dk_at dksJ12_getChar_1 5 rfl rfl)
theorem dJ12_getChar_30 : decode cJ12_getChar 30 = .ok (.ishl, 1) := dk_120 (dk_at dksJ12_getChar_1 6 rfl rfl)
theorem dJ12_getChar_31 : decode cJ12_getChar 31 = .ok (.istore_n 1, 1) := dk_60 (dk_at dksJ12_getChar_1 7 rfl rfl)
theorem dJ12_getChar_32 : decode cJ12_getChar 32 = .ok (.aload_n 0, 1) := dk_42 (dk_at dksJ12_getChar_1 8 rfl rfl)
theorem dJ12_getChar_33 : decode cJ12_getChar 33 = .ok (.iload_n 1, 1) := dk_27 (dk_at dksJ12_getChar_1 9 rfl rfl)
theorem dJ12_getChar_34 : decode cJ12_getChar 34 = .ok (.iinc 1 1, 3) := dk_132 1 1 (dk_at dksJ12_getChar_1 10 rfl rfl)
theorem dJ12_getChar_37 : decode cJ12_getChar 37 = .ok (.baload, 1) := dk_51 (dk_at dksJ12_getChar_1 13 rfl rfl)
theorem dJ12_getChar_38 : decode cJ12_getChar 38 = .ok (.sipush 255, 3) := dk_17 0 255 (dk_at dksJ12_getChar_1 14 rfl rfl)
theorem dJ12_getChar_41 : decode cJ12_getChar 41 = .ok (.iand, 1) := dk_126 (dk_at dksJ12_getChar_1 17 rfl rfl)
theorem dJ12_getChar_42 : decode cJ12_getChar 42 = .ok (.getstatic 59, 3) := dk_178 0 59 (dk_at dksJ12_getChar_1 18 rfl rfl)
theorem dJ12_getChar_45 : decode cJ12_getChar 45 = .ok (.ishl, 1) := dk_120 (dk_at dksJ12_getChar_1 21 rfl rfl)
theorem dJ12_getChar_46 : decode cJ12_getChar 46 = .ok (.aload_n 0, 1) := dk_42 (dk_at dksJ12_getChar_1 22 rfl rfl)
theorem dJ12_getChar_47 : decode cJ12_getChar 47 = .ok (.iload_n 1, 1) := dk_27 (dk_at dksJ12_getChar_1 23 rfl rfl)
theorem dJ12_getChar_48 : decode cJ12_getChar 48 = .ok (.baload, 1) := dk_51 (dk_at dksJ12_getChar_2 0 rfl rfl)
theorem dJ12_getChar_49 : decode cJ12_getChar 49 = .ok (.sipush 255, 3) := dk_17 0 255 (dk_at dksJ12_getChar_2 1 rfl rfl)
theorem dJ12_getChar_52 : decode cJ12_getChar 52 = .ok (.iand, 1) := dk_126 (dk_at dksJ12_getChar_2 4 rfl rfl)
theorem dJ12_getChar_53 : decode cJ12_getChar 53 = .ok (.getstatic 63, 3) := dk_178 0 63 (dk_at dksJ12_getChar_2 5 rfl rfl)
theorem dJ12_getChar_56 : decode cJ12_getChar 56 = .ok (.ishl, 1) := dk_120 (dk_at dksJ12_getChar_2 8 rfl rfl)
theorem dJ12_getChar_57 : decode cJ12_getChar 57 = .ok (.ior, 1) := dk_128 (dk_at dksJ12_getChar_2 9 rfl rfl)
theorem dJ12_getChar_58 : decode cJ12_getChar 58 = .ok (.i2c, 1) := dk_146 (dk_at dksJ12_getChar_2 10 rfl rfl)
theorem dJ12_getChar_59 : decode cJ12_getChar 59 = .ok (.ireturn, 1) := dk_172 (dk_at dksJ12_getChar_2 11 rfl rfl)
theorem q129 : (Jvm.Cond.initialized "java/lang/StringUTF16") ∈ lw_all := lw_g (lw_at lw_m1 30 rfl) rfl
theorem q957 : (Jvm.Cond.static ({ cls := "java/lang/StringUTF16", name := "charAt", desc := "([BI)C" } : Jvm.MethodName)) ∈ lw_all := lw_g (lw_at lw_m4 138 rfl) rfl
theorem q958 : (Jvm.Cond.code ({ cls := "java/lang/StringUTF16", name := "charAt", desc := "([BI)C" } : Jvm.MethodName) prog_46_method_83_code (2 : Nat) (Option.some Jvm.ClassFile.FieldType.char)) ∈ lw_all := lw_g (lw_at lw_m4 139 rfl) rfl
theorem q959 : (Jvm.Cond.methodLink "java/lang/StringUTF16" (67 : Nat) ({ cls := "java/lang/StringUTF16", name := "checkIndex", desc := "(I[B)V" } : Jvm.MethodName)) ∈ lw_all := lw_g (lw_at lw_m4 140 rfl) rfl
theorem q960 : (Jvm.Cond.static ({ cls := "java/lang/StringUTF16", name := "checkIndex", desc := "(I[B)V" } : Jvm.MethodName)) ∈ lw_all := lw_g (lw_at lw_m4 141 rfl) rfl
theorem q961 : (Jvm.Cond.code ({ cls := "java/lang/StringUTF16", name := "checkIndex", desc := "(I[B)V" } : Jvm.MethodName) prog_46_method_91_code (2 : Nat) (Option.none : Option Jvm.ClassFile.FieldType)) ∈ lw_all := lw_g (lw_at lw_m4 142 rfl) rfl
theorem q962 : (Jvm.Cond.methodLink "java/lang/StringUTF16" (48 : Nat) ({ cls := "java/lang/StringUTF16", name := "length", desc := "([B)I" } : Jvm.MethodName)) ∈ lw_all := lw_g (lw_at lw_m4 143 rfl) rfl
theorem q963 : (Jvm.Cond.static ({ cls := "java/lang/StringUTF16", name := "length", desc := "([B)I" } : Jvm.MethodName)) ∈ lw_all := lw_g (lw_at lw_m4 144 rfl) rfl
theorem q964 : (Jvm.Cond.code ({ cls := "java/lang/StringUTF16", name := "length", desc := "([B)I" } : Jvm.MethodName) prog_46_method_6_code (1 : Nat) (Option.some Jvm.ClassFile.FieldType.int)) ∈ lw_all := lw_g (lw_at lw_m4 145 rfl) rfl
theorem q965 : (Jvm.Cond.methodLink "java/lang/StringUTF16" (414 : Nat) ({ cls := "java/lang/String", name := "checkIndex", desc := "(II)V" } : Jvm.MethodName)) ∈ lw_all := lw_g (lw_at lw_m4 146 rfl) rfl
theorem q966 : (Jvm.Cond.methodLink "java/lang/StringUTF16" (71 : Nat) ({ cls := "java/lang/StringUTF16", name := "getChar", desc := "([BI)C" } : Jvm.MethodName)) ∈ lw_all := lw_g (lw_at lw_m4 147 rfl) rfl
theorem q967 : (Jvm.Cond.static ({ cls := "java/lang/StringUTF16", name := "getChar", desc := "([BI)C" } : Jvm.MethodName)) ∈ lw_all := lw_g (lw_at lw_m4 148 rfl) rfl
theorem q968 : (Jvm.Cond.code ({ cls := "java/lang/StringUTF16", name := "getChar", desc := "([BI)C" } : Jvm.MethodName) prog_46_method_5_code (2 : Nat) (Option.some Jvm.ClassFile.FieldType.char)) ∈ lw_all := lw_g (lw_at lw_m4 149 rfl) rfl
theorem q969 : (Jvm.Cond.fieldLink "java/lang/StringUTF16" (44 : Nat) "java/lang/StringUTF16" "$assertionsDisabled" "Z") ∈ lw_all := lw_g (lw_at lw_m4 150 rfl) rfl
theorem q970 : (Jvm.Cond.laysStatic "java/lang/StringUTF16" "$assertionsDisabled" "Z") ∈ lw_tbl := lw_at lw_m4 151 rfl
theorem q971 : (Jvm.Cond.fieldLink "java/lang/StringUTF16" (59 : Nat) "java/lang/StringUTF16" "HI_BYTE_SHIFT" "I") ∈ lw_all := lw_g (lw_at lw_m4 152 rfl) rfl
theorem q972 : (Jvm.Cond.laysStatic "java/lang/StringUTF16" "HI_BYTE_SHIFT" "I") ∈ lw_tbl := lw_at lw_m4 153 rfl
theorem q973 : (Jvm.Cond.fieldLink "java/lang/StringUTF16" (63 : Nat) "java/lang/StringUTF16" "LO_BYTE_SHIFT" "I") ∈ lw_all := lw_g (lw_at lw_m4 154 rfl) rfl
theorem q974 : (Jvm.Cond.laysStatic "java/lang/StringUTF16" "LO_BYTE_SHIFT" "I") ∈ lw_tbl := lw_at lw_m4 155 rfl

/-! jdk/internal/util/ArraysSupport -/
set_option maxRecDepth 100000
def RJ13 : String := "jdk/internal/util/ArraysSupport"
abbrev cJ13_newLength : ByteArray := prog_58_method_27_code
def yJ13_newLength : MethodName := ⟨RJ13, "newLength", "(III)I"⟩
def dkwJ13_newLength_1 : List UInt8 := [184, 0, 201, 172]
abbrev dktJ13_newLength_1 : List UInt8 := dkwJ13_newLength_1 ++ []
def dkwJ13_newLength_0 : List UInt8 := [26, 27, 28, 184, 0, 194, 96, 62, 3, 29, 162, 0, 11, 29, 18, 200, 163, 0, 5, 29, 172, 26, 27]
abbrev dktJ13_newLength_0 : List UInt8 := dkwJ13_newLength_0 ++ dktJ13_newLength_1
theorem dksJ13_newLength_0 : cJ13_newLength.data.toList.drop 0 = dktJ13_newLength_0 := by decide +kernel
theorem dksJ13_newLength_1 : cJ13_newLength.data.toList.drop 23 = dktJ13_newLength_1 := dk_seg dksJ13_newLength_0 23 rfl rfl
theorem dJ13_newLength_0 : decode cJ13_newLength 0 = .ok (.iload_n 0, 1) := dk_26 (dk_at dksJ13_newLength_0 0 rfl rfl)
theorem dJ13_newLength_1 : decode cJ13_newLength 1 = .ok (.iload_n 1, 1) := dk_27 (dk_at dksJ13_newLength_0 1 rfl rfl)
theorem dJ13_newLength_2 : decode cJ13_newLength 2 = .ok (.iload_n 2, 1) := dk_28 (dk_at dksJ13_newLength_0 2 rfl rfl)
theorem dJ13_newLength_3 : decode cJ13_newLength 3 = .ok (.invokestatic 194, 3) := dk_184 0 194 (dk_at dksJ13_newLength_0 3 rfl rfl)
theorem dJ13_newLength_6 : decode cJ13_newLength 6 = .ok (.iadd, 1) := dk_96 (dk_at dksJ13_newLength_0 6 rfl rfl)
theorem dJ13_newLength_7 : decode cJ13_newLength 7 = .ok (.istore_n 3, 1) := dk_62 (dk_at dksJ13_newLength_0 7 rfl rfl)
theorem dJ13_newLength_8 : decode cJ13_newLength 8 = .ok (.iconst 0, 1) := dk_3 (dk_at dksJ13_newLength_0 8 rfl rfl)
theorem dJ13_newLength_9 : decode cJ13_newLength 9 = .ok (.iload_n 3, 1) := dk_29 (dk_at dksJ13_newLength_0 9 rfl rfl)
theorem dJ13_newLength_10 : decode cJ13_newLength 10 = .ok (.if_icmp .ge 11, 3) := dk_162 0 11 (dk_at dksJ13_newLength_0 10 rfl rfl)
theorem dJ13_newLength_13 : decode cJ13_newLength 13 = .ok (.iload_n 3, 1) := dk_29 (dk_at dksJ13_newLength_0 13 rfl rfl)
theorem dJ13_newLength_14 : decode cJ13_newLength 14 = .ok (.ldc 200, 2) := dk_18 200 (dk_at dksJ13_newLength_0 14 rfl rfl)
theorem dJ13_newLength_16 : decode cJ13_newLength 16 = .ok (.if_icmp .gt 5, 3) := dk_163 0 5 (dk_at dksJ13_newLength_0 16 rfl rfl)
theorem dJ13_newLength_19 : decode cJ13_newLength 19 = .ok (.iload_n 3, 1) := dk_29 (dk_at dksJ13_newLength_0 19 rfl rfl)
theorem dJ13_newLength_20 : decode cJ13_newLength 20 = .ok (.ireturn, 1) := dk_172 (dk_at dksJ13_newLength_0 20 rfl rfl)
theorem dJ13_newLength_21 : decode cJ13_newLength 21 = .ok (.iload_n 0, 1) := dk_26 (dk_at dksJ13_newLength_0 21 rfl rfl)
theorem dJ13_newLength_22 : decode cJ13_newLength 22 = .ok (.iload_n 1, 1) := dk_27 (dk_at dksJ13_newLength_0 22 rfl rfl)
theorem dJ13_newLength_23 : decode cJ13_newLength 23 = .ok (.invokestatic 201, 3) := dk_184 0 201 (dk_at dksJ13_newLength_1 0 rfl rfl)
theorem dJ13_newLength_26 : decode cJ13_newLength 26 = .ok (.ireturn, 1) := dk_172 (dk_at dksJ13_newLength_1 3 rfl rfl)
abbrev cJ13_hugeLength : ByteArray := prog_58_method_28_code
def yJ13_hugeLength : MethodName := ⟨RJ13, "hugeLength", "(II)I"⟩
def dkwJ13_hugeLength_2 : List UInt8 := [191, 28, 18, 200, 163, 0, 6, 18, 200, 172, 28, 172]
abbrev dktJ13_hugeLength_2 : List UInt8 := dkwJ13_hugeLength_2 ++ []
def dkwJ13_hugeLength_1 : List UInt8 := [26, 182, 0, 98, 18, 208, 182, 0, 94, 27, 182, 0, 98, 18, 210, 182, 0, 94, 182, 0, 101, 183, 0, 212]
abbrev dktJ13_hugeLength_1 : List UInt8 := dkwJ13_hugeLength_1 ++ dktJ13_hugeLength_2
def dkwJ13_hugeLength_0 : List UInt8 := [26, 27, 96, 61, 28, 156, 0, 44, 187, 0, 204, 89, 187, 0, 89, 89, 183, 0, 91, 18, 206, 182, 0, 94]
abbrev dktJ13_hugeLength_0 : List UInt8 := dkwJ13_hugeLength_0 ++ dktJ13_hugeLength_1
theorem dksJ13_hugeLength_0 : cJ13_hugeLength.data.toList.drop 0 = dktJ13_hugeLength_0 := by decide +kernel
theorem dksJ13_hugeLength_1 : cJ13_hugeLength.data.toList.drop 24 = dktJ13_hugeLength_1 := dk_seg dksJ13_hugeLength_0 24 rfl rfl
theorem dksJ13_hugeLength_2 : cJ13_hugeLength.data.toList.drop 48 = dktJ13_hugeLength_2 := dk_seg dksJ13_hugeLength_1 24 rfl rfl
theorem dJ13_hugeLength_0 : decode cJ13_hugeLength 0 = .ok (.iload_n 0, 1) := dk_26 (dk_at dksJ13_hugeLength_0 0 rfl rfl)
theorem dJ13_hugeLength_1 : decode cJ13_hugeLength 1 = .ok (.iload_n 1, 1) := dk_27 (dk_at dksJ13_hugeLength_0 1 rfl rfl)
theorem dJ13_hugeLength_2 : decode cJ13_hugeLength 2 = .ok (.iadd, 1) := dk_96 (dk_at dksJ13_hugeLength_0 2 rfl rfl)
theorem dJ13_hugeLength_3 : decode cJ13_hugeLength 3 = .ok (.istore_n 2, 1) := dk_61 (dk_at dksJ13_hugeLength_0 3 rfl rfl)
theorem dJ13_hugeLength_4 : decode cJ13_hugeLength 4 = .ok (.iload_n 2, 1) := dk_28 (dk_at dksJ13_hugeLength_0 4 rfl rfl)
theorem dJ13_hugeLength_5 : decode cJ13_hugeLength 5 = .ok (.ifCond .ge 44, 3) := dk_156 0 44 (dk_at dksJ13_hugeLength_0 5 rfl rfl)
theorem dJ13_hugeLength_8 : decode cJ13_hugeLength 8 = .ok (.new 204, 3) := dk_187 0 204 (dk_at dksJ13_hugeLength_0 8 rfl rfl)
theorem dJ13_hugeLength_11 : decode cJ13_hugeLength 11 = .ok (.dup, 1) := dk_89 (dk_at dksJ13_hugeLength_0 11 rfl rfl)
theorem dJ13_hugeLength_12 : decode cJ13_hugeLength 12 = .ok (.new 89, 3) := dk_187 0 89 (dk_at dksJ13_hugeLength_0 12 rfl rfl)
theorem dJ13_hugeLength_15 : decode cJ13_hugeLength 15 = .ok (.dup, 1) := dk_89 (dk_at dksJ13_hugeLength_0 15 rfl rfl)
theorem dJ13_hugeLength_16 : decode cJ13_hugeLength 16 = .ok (.invokespecial 91, 3) := dk_183 0 91 (dk_at dksJ13_hugeLength_0 16 rfl rfl)
theorem dJ13_hugeLength_19 : decode cJ13_hugeLength 19 = .ok (.ldc 206, 2) := dk_18 206 (dk_at dksJ13_hugeLength_0 19 rfl rfl)
theorem dJ13_hugeLength_21 : decode cJ13_hugeLength 21 = .ok (.invokevirtual 94, 3) := dk_182 0 94 (dk_at dksJ13_hugeLength_0 21 rfl rfl)
theorem dJ13_hugeLength_24 : decode cJ13_hugeLength 24 = .ok (.iload_n 0, 1) := dk_26 (dk_at dksJ13_hugeLength_1 0 rfl rfl)
theorem dJ13_hugeLength_25 : decode cJ13_hugeLength 25 = .ok (.invokevirtual 98, 3) := dk_182 0 98 (dk_at dksJ13_hugeLength_1 1 rfl rfl)
theorem dJ13_hugeLength_28 : decode cJ13_hugeLength 28 = .ok (.ldc 208, 2) := dk_18 208 (dk_at dksJ13_hugeLength_1 4 rfl rfl)
theorem dJ13_hugeLength_30 : decode cJ13_hugeLength 30 = .ok (.invokevirtual 94, 3) := dk_182 0 94 (dk_at dksJ13_hugeLength_1 6 rfl rfl)
theorem dJ13_hugeLength_33 : decode cJ13_hugeLength 33 = .ok (.iload_n 1, 1) := dk_27 (dk_at dksJ13_hugeLength_1 9 rfl rfl)
theorem dJ13_hugeLength_34 : decode cJ13_hugeLength 34 = .ok (.invokevirtual 98, 3) := dk_182 0 98 (dk_at dksJ13_hugeLength_1 10 rfl rfl)
theorem dJ13_hugeLength_37 : decode cJ13_hugeLength 37 = .ok (.ldc 210, 2) := dk_18 210 (dk_at dksJ13_hugeLength_1 13 rfl rfl)
theorem dJ13_hugeLength_39 : decode cJ13_hugeLength 39 = .ok (.invokevirtual 94, 3) := dk_182 0 94 (dk_at dksJ13_hugeLength_1 15 rfl rfl)
theorem dJ13_hugeLength_42 : decode cJ13_hugeLength 42 = .ok (.invokevirtual 101, 3) := dk_182 0 101 (dk_at dksJ13_hugeLength_1 18 rfl rfl)
theorem dJ13_hugeLength_45 : decode cJ13_hugeLength 45 = .ok (.invokespecial 212, 3) := dk_183 0 212 (dk_at dksJ13_hugeLength_1 21 rfl rfl)
theorem dJ13_hugeLength_48 : decode cJ13_hugeLength 48 = .ok (.athrow, 1) := dk_191 (dk_at dksJ13_hugeLength_2 0 rfl rfl)
theorem dJ13_hugeLength_49 : decode cJ13_hugeLength 49 = .ok (.iload_n 2, 1) := dk_28 (dk_at dksJ13_hugeLength_2 1 rfl rfl)
theorem dJ13_hugeLength_50 : decode cJ13_hugeLength 50 = .ok (.ldc 200, 2) := dk_18 200 (dk_at dksJ13_hugeLength_2 2 rfl rfl)
theorem dJ13_hugeLength_52 : decode cJ13_hugeLength 52 = .ok (.if_icmp .gt 6, 3) := dk_163 0 6 (dk_at dksJ13_hugeLength_2 4 rfl rfl)
theorem dJ13_hugeLength_55 : decode cJ13_hugeLength 55 = .ok (.ldc 200, 2) := dk_18 200 (dk_at dksJ13_hugeLength_2 7 rfl rfl)
theorem dJ13_hugeLength_57 : decode cJ13_hugeLength 57 = .ok (.ireturn, 1) := dk_172 (dk_at dksJ13_hugeLength_2 9 rfl rfl)
theorem dJ13_hugeLength_58 : decode cJ13_hugeLength 58 = .ok (.iload_n 2, 1) := dk_28 (dk_at dksJ13_hugeLength_2 10 rfl rfl)
theorem dJ13_hugeLength_59 : decode cJ13_hugeLength 59 = .ok (.ireturn, 1) := dk_172 (dk_at dksJ13_hugeLength_2 11 rfl rfl)
theorem q139 : (Jvm.Cond.initialized "jdk/internal/util/ArraysSupport") ∈ lw_all := lw_g (lw_at lw_m1 40 rfl) rfl
theorem q1118 : (Jvm.Cond.static ({ cls := "jdk/internal/util/ArraysSupport", name := "newLength", desc := "(III)I" } : Jvm.MethodName)) ∈ lw_all := lw_g (lw_at lw_m5 59 rfl) rfl
theorem q1119 : (Jvm.Cond.code ({ cls := "jdk/internal/util/ArraysSupport", name := "newLength", desc := "(III)I" } : Jvm.MethodName) prog_58_method_27_code (4 : Nat) (Option.some Jvm.ClassFile.FieldType.int)) ∈ lw_all := lw_g (lw_at lw_m5 60 rfl) rfl
theorem q1120 : (Jvm.Cond.methodLink "jdk/internal/util/ArraysSupport" (194 : Nat) ({ cls := "java/lang/Math", name := "max", desc := "(II)I" } : Jvm.MethodName)) ∈ lw_all := lw_g (lw_at lw_m5 61 rfl) rfl
theorem q1123 : (Jvm.Cond.constant "jdk/internal/util/ArraysSupport" (200 : Nat) (2147483639 : Int32)) ∈ lw_all := lw_g (lw_at lw_m5 64 rfl) rfl
theorem q1124 : (Jvm.Cond.methodLink "jdk/internal/util/ArraysSupport" (201 : Nat) ({ cls := "jdk/internal/util/ArraysSupport", name := "hugeLength", desc := "(II)I" } : Jvm.MethodName)) ∈ lw_all := lw_g (lw_at lw_m5 65 rfl) rfl
theorem q1125 : (Jvm.Cond.static ({ cls := "jdk/internal/util/ArraysSupport", name := "hugeLength", desc := "(II)I" } : Jvm.MethodName)) ∈ lw_all := lw_g (lw_at lw_m5 66 rfl) rfl
theorem q1126 : (Jvm.Cond.code ({ cls := "jdk/internal/util/ArraysSupport", name := "hugeLength", desc := "(II)I" } : Jvm.MethodName) prog_58_method_28_code (3 : Nat) (Option.some Jvm.ClassFile.FieldType.int)) ∈ lw_all := lw_g (lw_at lw_m5 67 rfl) rfl

/-! java/util/Arrays -/
set_option maxRecDepth 100000
def RJ14 : String := "java/util/Arrays"
abbrev cJ14_copyOf : ByteArray := prog_52_method_119_code
def yJ14_copyOf : MethodName := ⟨RJ14, "copyOf", "([Ljava/lang/Object;I)[Ljava/lang/Object;"⟩
def dkwJ14_copyOf_0 : List UInt8 := [42, 27, 42, 182, 0, 86, 184, 1, 44, 176]
abbrev dktJ14_copyOf_0 : List UInt8 := dkwJ14_copyOf_0 ++ []
theorem dksJ14_copyOf_0 : cJ14_copyOf.data.toList.drop 0 = dktJ14_copyOf_0 := by decide +kernel
theorem dJ14_copyOf_0 : decode cJ14_copyOf 0 = .ok (.aload_n 0, 1) := dk_42 (dk_at dksJ14_copyOf_0 0 rfl rfl)
theorem dJ14_copyOf_1 : decode cJ14_copyOf 1 = .ok (.iload_n 1, 1) := dk_27 (dk_at dksJ14_copyOf_0 1 rfl rfl)
theorem dJ14_copyOf_2 : decode cJ14_copyOf 2 = .ok (.aload_n 0, 1) := dk_42 (dk_at dksJ14_copyOf_0 2 rfl rfl)
theorem dJ14_copyOf_3 : decode cJ14_copyOf 3 = .ok (.invokevirtual 86, 3) := dk_182 0 86 (dk_at dksJ14_copyOf_0 3 rfl rfl)
theorem dJ14_copyOf_6 : decode cJ14_copyOf 6 = .ok (.invokestatic 300, 3) := dk_184 1 44 (dk_at dksJ14_copyOf_0 6 rfl rfl)
theorem dJ14_copyOf_9 : decode cJ14_copyOf 9 = .ok (.areturn, 1) := dk_176 (dk_at dksJ14_copyOf_0 9 rfl rfl)
abbrev cJ14_copyOf_2 : ByteArray := prog_52_method_120_code
def yJ14_copyOf_2 : MethodName := ⟨RJ14, "copyOf", "([Ljava/lang/Object;ILjava/lang/Class;)[Ljava/lang/Object;"⟩
def dkwJ14_copyOf_2_1 : List UInt8 := [78, 42, 3, 45, 3, 42, 190, 27, 184, 1, 48, 184, 0, 150, 45, 176]
abbrev dktJ14_copyOf_2_1 : List UInt8 := dkwJ14_copyOf_2_1 ++ []
def dkwJ14_copyOf_2_0 : List UInt8 := [44, 18, 110, 166, 0, 10, 27, 189, 0, 2, 167, 0, 14, 44, 182, 0, 90, 27, 184, 0, 95, 192, 0, 110]
abbrev dktJ14_copyOf_2_0 : List UInt8 := dkwJ14_copyOf_2_0 ++ dktJ14_copyOf_2_1
theorem dksJ14_copyOf_2_0 : cJ14_copyOf_2.data.toList.drop 0 = dktJ14_copyOf_2_0 := by decide +kernel
theorem dksJ14_copyOf_2_1 : cJ14_copyOf_2.data.toList.drop 24 = dktJ14_copyOf_2_1 := dk_seg dksJ14_copyOf_2_0 24 rfl rfl
theorem dJ14_copyOf_2_0 : decode cJ14_copyOf_2 0 = .ok (.aload_n 2, 1) := dk_44 (dk_at dksJ14_copyOf_2_0 0 rfl rfl)
theorem dJ14_copyOf_2_1 : decode cJ14_copyOf_2 1 = .ok (.ldc 110, 2) := dk_18 110 (dk_at dksJ14_copyOf_2_0 1 rfl rfl)
theorem dJ14_copyOf_2_3 : decode cJ14_copyOf_2 3 = .ok (.if_acmp .ne 10, 3) := dk_166 0 10 (dk_at dksJ14_copyOf_2_0 3 rfl rfl)
theorem dJ14_copyOf_2_6 : decode cJ14_copyOf_2 6 = .ok (.iload_n 1, 1) := dk_27 (dk_at dksJ14_copyOf_2_0 6 rfl rfl)
theorem dJ14_copyOf_2_7 : decode cJ14_copyOf_2 7 = .ok (.anewarray 2, 3) := dk_189 0 2 (dk_at dksJ14_copyOf_2_0 7 rfl rfl)
theorem dJ14_copyOf_2_10 : decode cJ14_copyOf_2 10 = .ok (.goto 14, 3) := dk_167 0 14 (dk_at dksJ14_copyOf_2_0 10 rfl rfl)
theorem dJ14_copyOf_2_13 : decode cJ14_copyOf_2 13 = .ok (.aload_n 2, 1) := dk_44 (dk_at dksJ14_copyOf_2_0 13 rfl rfl)
theorem dJ14_copyOf_2_14 : decode cJ14_copyOf_2 14 = .ok (.invokevirtual 90, 3) := dk_182 0 90 (dk_at dksJ14_copyOf_2_0 14 rfl rfl)
theorem dJ14_copyOf_2_17 : decode cJ14_copyOf_2 17 = .ok (.iload_n 1, 1) := dk_27 (dk_at dksJ14_copyOf_2_0 17 rfl rfl)
theorem dJ14_copyOf_2_18 : decode cJ14_copyOf_2 18 = .ok (.invokestatic 95, 3) := dk_184 0 95 (dk_at dksJ14_copyOf_2_0 18 rfl rfl)
theorem dJ14_copyOf_2_21 : decode cJ14_copyOf_2 21 = .ok (.checkcast 110, 3) := dk_192 0 110 (dk_at dksJ14_copyOf_2_0 21 rfl rfl)
theorem dJ14_copyOf_2_24 : decode cJ14_copyOf_2 24 = .ok (.astore_n 3, 1) := dk_78 (dk_at dksJ14_copyOf_2_1 0 rfl rfl)
theorem dJ14_copyOf_2_25 : decode cJ14_copyOf_2 25 = .ok (.aload_n 0, 1) := dk_42 (dk_at dksJ14_copyOf_2_1 1 rfl rfl)
theorem dJ14_copyOf_2_26 : decode cJ14_copyOf_2 26 = .ok (.iconst 0, 1) := dk_3 (dk_at dksJ14_copyOf_2_1 2 rfl rfl)
theorem dJ14_copyOf_2_27 : decode cJ14_copyOf_2 27 = .ok (.aload_n 3, 1) := dk_45 (dk_at dksJ14_copyOf_2_1 3 rfl rfl)
theorem dJ14_copyOf_2_28 : decode cJ14_copyOf_2 28 = .ok (.iconst 0, 1) := dk_3 (dk_at dksJ14_copyOf_2_1 4 rfl rfl)
theorem dJ14_copyOf_2_29 : decode cJ14_copyOf_2 29 = .ok (.aload_n 0, 1) := dk_42 (dk_at dksJ14_copyOf_2_1 5 rfl rfl)
theorem dJ14_copyOf_2_30 : decode cJ14_copyOf_2 30 = .ok (.arraylength, 1) := dk_190 (dk_at dksJ14_copyOf_2_1 6 rfl rfl)
theorem dJ14_copyOf_2_31 : decode cJ14_copyOf_2 31 = .ok (.iload_n 1, 1) := dk_27 (dk_at dksJ14_copyOf_2_1 7 rfl rfl)
theorem dJ14_copyOf_2_32 : decode cJ14_copyOf_2 32 = .ok (.invokestatic 304, 3) := dk_184 1 48 (dk_at dksJ14_copyOf_2_1 8 rfl rfl)
theorem dJ14_copyOf_2_35 : decode cJ14_copyOf_2 35 = .ok (.invokestatic 150, 3) := dk_184 0 150 (dk_at dksJ14_copyOf_2_1 11 rfl rfl)
theorem dJ14_copyOf_2_38 : decode cJ14_copyOf_2 38 = .ok (.aload_n 3, 1) := dk_45 (dk_at dksJ14_copyOf_2_1 14 rfl rfl)
theorem dJ14_copyOf_2_39 : decode cJ14_copyOf_2 39 = .ok (.areturn, 1) := dk_176 (dk_at dksJ14_copyOf_2_1 15 rfl rfl)
theorem q140 : (Jvm.Cond.initialized "java/util/Arrays") ∈ lw_all := lw_g (lw_at lw_m1 41 rfl) rfl
theorem q1128 : (Jvm.Cond.static ({ cls := "java/util/Arrays", name := "copyOf", desc := "([Ljava/lang/Object;I)[Ljava/lang/Object;" } : Jvm.MethodName)) ∈ lw_all := lw_g (lw_at lw_m5 69 rfl) rfl
theorem q1129 : (Jvm.Cond.code ({ cls := "java/util/Arrays", name := "copyOf", desc := "([Ljava/lang/Object;I)[Ljava/lang/Object;" } : Jvm.MethodName) prog_52_method_119_code (2 : Nat) (Option.some (Jvm.ClassFile.FieldType.array (Jvm.ClassFile.FieldType.object "java/lang/Object")))) ∈ lw_all := lw_g (lw_at lw_m5 70 rfl) rfl
theorem q1130 : (Jvm.Cond.methodLink "java/util/Arrays" (86 : Nat) ({ cls := "java/lang/Object", name := "getClass", desc := "()Ljava/lang/Class;" } : Jvm.MethodName)) ∈ lw_all := lw_g (lw_at lw_m5 71 rfl) rfl
theorem q1166 : (Jvm.Cond.methodLink "java/util/Arrays" (300 : Nat) ({ cls := "java/util/Arrays", name := "copyOf", desc := "([Ljava/lang/Object;ILjava/lang/Class;)[Ljava/lang/Object;" } : Jvm.MethodName)) ∈ lw_all := lw_g (lw_at lw_m5 107 rfl) rfl
theorem q1167 : (Jvm.Cond.static ({ cls := "java/util/Arrays", name := "copyOf", desc := "([Ljava/lang/Object;ILjava/lang/Class;)[Ljava/lang/Object;" } : Jvm.MethodName)) ∈ lw_all := lw_g (lw_at lw_m5 108 rfl) rfl
theorem q1168 : (Jvm.Cond.code ({ cls := "java/util/Arrays", name := "copyOf", desc := "([Ljava/lang/Object;ILjava/lang/Class;)[Ljava/lang/Object;" } : Jvm.MethodName) prog_52_method_120_code (4 : Nat) (Option.some (Jvm.ClassFile.FieldType.array (Jvm.ClassFile.FieldType.object "java/lang/Object")))) ∈ lw_all := lw_g (lw_at lw_m5 109 rfl) rfl
theorem q1169 : (Jvm.Cond.classLink "java/util/Arrays" (110 : Nat) "[Ljava/lang/Object;") ∈ lw_all := lw_g (lw_at lw_m5 110 rfl) rfl
theorem q1171 : (Jvm.Cond.classLink "java/util/Arrays" (2 : Nat) "java/lang/Object") ∈ lw_all := lw_g (lw_at lw_m5 112 rfl) rfl
theorem q1172 : (Jvm.Cond.methodLink "java/util/Arrays" (304 : Nat) ({ cls := "java/lang/Math", name := "min", desc := "(II)I" } : Jvm.MethodName)) ∈ lw_all := lw_g (lw_at lw_m5 113 rfl) rfl
theorem q1173 : (Jvm.Cond.methodLink "java/util/Arrays" (150 : Nat) ({ cls := "java/lang/System", name := "arraycopy", desc := "(Ljava/lang/Object;ILjava/lang/Object;II)V" } : Jvm.MethodName)) ∈ lw_all := lw_g (lw_at lw_m5 114 rfl) rfl

/-! java/util/Objects -/
set_option maxRecDepth 100000
def RJ15 : String := "java/util/Objects"
abbrev cJ15_checkIndex : ByteArray := prog_55_method_17_code
def yJ15_checkIndex : MethodName := ⟨RJ15, "checkIndex", "(II)I"⟩
def dkwJ15_checkIndex_0 : List UInt8 := [26, 27, 1, 184, 0, 105, 172]
abbrev dktJ15_checkIndex_0 : List UInt8 := dkwJ15_checkIndex_0 ++ []
theorem dksJ15_checkIndex_0 : cJ15_checkIndex.data.toList.drop 0 = dktJ15_checkIndex_0 := by decide +kernel
theorem dJ15_checkIndex_0 : decode cJ15_checkIndex 0 = .ok (.iload_n 0, 1) := dk_26 (dk_at dksJ15_checkIndex_0 0 rfl rfl)
theorem dJ15_checkIndex_1 : decode cJ15_checkIndex 1 = .ok (.iload_n 1, 1) := dk_27 (dk_at dksJ15_checkIndex_0 1 rfl rfl)
theorem dJ15_checkIndex_2 : decode cJ15_checkIndex 2 = .ok (.aconst_null, 1) := dk_1 (dk_at dksJ15_checkIndex_0 2 rfl rfl)
theorem dJ15_checkIndex_3 : decode cJ15_checkIndex 3 = .ok (.invokestatic 105, 3) := dk_184 0 105 (dk_at dksJ15_checkIndex_0 3 rfl rfl)
theorem dJ15_checkIndex_6 : decode cJ15_checkIndex 6 = .ok (.ireturn, 1) := dk_172 (dk_at dksJ15_checkIndex_0 6 rfl rfl)
theorem q143 : (Jvm.Cond.initialized "java/util/Objects") ∈ lw_all := lw_g (lw_at lw_m1 44 rfl) rfl
theorem q1246 : (Jvm.Cond.static ({ cls := "java/util/Objects", name := "checkIndex", desc := "(II)I" } : Jvm.MethodName)) ∈ lw_all := lw_g (lw_at lw_m5 187 rfl) rfl
theorem q1247 : (Jvm.Cond.code ({ cls := "java/util/Objects", name := "checkIndex", desc := "(II)I" } : Jvm.MethodName) prog_55_method_17_code (2 : Nat) (Option.some Jvm.ClassFile.FieldType.int)) ∈ lw_all := lw_g (lw_at lw_m5 188 rfl) rfl
theorem q1248 : (Jvm.Cond.methodLink "java/util/Objects" (105 : Nat) ({ cls := "jdk/internal/util/Preconditions", name := "checkIndex", desc := "(IILjava/util/function/BiFunction;)I" } : Jvm.MethodName)) ∈ lw_all := lw_g (lw_at lw_m5 189 rfl) rfl

/-! java/lang/Integer -/
set_option maxRecDepth 100000
def RJ16 : String := "java/lang/Integer"
abbrev cJ16_bitCount : ByteArray := prog_38_method_49_code
def yJ16_bitCount : MethodName := ⟨RJ16, "bitCount", "(I)I"⟩
def dkwJ16_bitCount_2 : List UInt8 := [26, 16, 63, 126, 172]
abbrev dktJ16_bitCount_2 : List UInt8 := dkwJ16_bitCount_2 ++ []
def dkwJ16_bitCount_1 : List UInt8 := [26, 26, 7, 124, 96, 19, 1, 11, 126, 59, 26, 26, 16, 8, 124, 96, 59, 26, 26, 16, 16, 124, 96, 59]
abbrev dktJ16_bitCount_1 : List UInt8 := dkwJ16_bitCount_1 ++ dktJ16_bitCount_2
def dkwJ16_bitCount_0 : List UInt8 := [26, 26, 4, 124, 19, 1, 9, 126, 100, 59, 26, 19, 1, 10, 126, 26, 5, 124, 19, 1, 10, 126, 96, 59]
abbrev dktJ16_bitCount_0 : List UInt8 := dkwJ16_bitCount_0 ++ dktJ16_bitCount_1
theorem dksJ16_bitCount_0 : cJ16_bitCount.data.toList.drop 0 = dktJ16_bitCount_0 := by decide +kernel
theorem dksJ16_bitCount_1 : cJ16_bitCount.data.toList.drop 24 = dktJ16_bitCount_1 := dk_seg dksJ16_bitCount_0 24 rfl rfl
theorem dksJ16_bitCount_2 : cJ16_bitCount.data.toList.drop 48 = dktJ16_bitCount_2 := dk_seg dksJ16_bitCount_1 24 rfl rfl
theorem dJ16_bitCount_0 : decode cJ16_bitCount 0 = .ok (.iload_n 0, 1) := dk_26 (dk_at dksJ16_bitCount_0 0 rfl rfl)
theorem dJ16_bitCount_1 : decode cJ16_bitCount 1 = .ok (.iload_n 0, 1) := dk_26 (dk_at dksJ16_bitCount_0 1 rfl rfl)
theorem dJ16_bitCount_2 : decode cJ16_bitCount 2 = .ok (.iconst 1, 1) := dk_4 (dk_at dksJ16_bitCount_0 2 rfl rfl)
theorem dJ16_bitCount_3 : decode cJ16_bitCount 3 = .ok (.iushr, 1) := dk_124 (dk_at dksJ16_bitCount_0 3 rfl rfl)
theorem dJ16_bitCount_4 : decode cJ16_bitCount 4 = .ok (.ldc_w 265, 3) := dk_19 1 9 (dk_at dksJ16_bitCount_0 4 rfl rfl)
theorem dJ16_bitCount_7 : decode cJ16_bitCount 7 = .ok (.iand, 1) := dk_126 (dk_at dksJ16_bitCount_0 7 rfl rfl)
theorem dJ16_bitCount_8 : decode cJ16_bitCount 8 = .ok (.isub, 1) := dk_100 (dk_at dksJ16_bitCount_0 8 rfl rfl)
theorem dJ16_bitCount_9 : decode cJ16_bitCount 9 = .ok (.istore_n 0, 1) := dk_59 (dk_at dksJ16_bitCount_0 9 rfl rfl)
theorem dJ16_bitCount_10 : decode cJ16_bitCount 10 = .ok (.iload_n 0, 1) := dk_26 (dk_at dksJ16_bitCount_0 10 rfl rfl)
theorem dJ16_bitCount_11 : decode cJ16_bitCount 11 = .ok (.ldc_w 266, 3) := dk_19 1 10 (dk_at dksJ16_bitCount_0 11 rfl rfl)
theorem dJ16_bitCount_14 : decode cJ16_bitCount 14 = .ok (.iand, 1) := dk_126 (dk_at dksJ16_bitCount_0 14 rfl rfl)
theorem dJ16_bitCount_15 : decode cJ16_bitCount 15 = .ok (.iload_n 0, 1) := dk_26 (dk_at dksJ16_bitCount_0 15 rfl rfl)
theorem dJ16_bitCount_16 : decode cJ16_bitCount 16 = .ok (.iconst 2, 1) := dk_5 (dk_at dksJ16_bitCount_0 16 rfl rfl)
theorem dJ16_bitCount_17 : decode cJ16_bitCount 17 = .ok (.iushr, 1) := dk_124 (dk_at dksJ16_bitCount_0 17 rfl rfl)
theorem dJ16_bitCount_18 : decode cJ16_bitCount 18 = .ok (.ldc_w 266, 3) := dk_19 1 10 (dk_at dksJ16_bitCount_0 18 rfl rfl)
theorem dJ16_bitCount_21 : decode cJ16_bitCount 21 = .ok (.iand, 1) := dk_126 (dk_at dksJ16_bitCount_0 21 rfl rfl)
theorem dJ16_bitCount_22 : decode cJ16_bitCount 22 = .ok (.iadd, 1) := dk_96 (dk_at dksJ16_bitCount_0 22 rfl rfl)
theorem dJ16_bitCount_23 : decode cJ16_bitCount 23 = .ok (.istore_n 0, 1) := dk_59 (dk_at dksJ16_bitCount_0 23 rfl rfl)
theorem dJ16_bitCount_24 : decode cJ16_bitCount 24 = .ok (.iload_n 0, 1) := dk_26 (dk_at dksJ16_bitCount_1 0 rfl rfl)
theorem dJ16_bitCount_25 : decode cJ16_bitCount 25 = .ok (.iload_n 0, 1) := dk_26 (dk_at dksJ16_bitCount_1 1 rfl rfl)
theorem dJ16_bitCount_26 : decode cJ16_bitCount 26 = .ok (.iconst 4, 1) := dk_7 (dk_at dksJ16_bitCount_1 2 rfl rfl)
theorem dJ16_bitCount_27 : decode cJ16_bitCount 27 = .ok (.iushr, 1) := dk_124 (dk_at dksJ16_bitCount_1 3 rfl rfl)
theorem dJ16_bitCount_28 : decode cJ16_bitCount 28 = .ok (.iadd, 1) := dk_96 (dk_at dksJ16_bitCount_1 4 rfl rfl)
theorem dJ16_bitCount_29 : decode cJ16_bitCount 29 = .ok (.ldc_w 267, 3) := dk_19 1 11 (dk_at dksJ16_bitCount_1 5 rfl rfl)
theorem dJ16_bitCount_32 : decode cJ16_bitCount 32 = .ok (.iand, 1) := dk_126 (dk_at dksJ16_bitCount_1 8 rfl rfl)
theorem dJ16_bitCount_33 : decode cJ16_bitCount 33 = .ok (.istore_n 0, 1) := dk_59 (dk_at dksJ16_bitCount_1 9 rfl rfl)
theorem dJ16_bitCount_34 : decode cJ16_bitCount 34 = .ok (.iload_n 0, 1) := dk_26 (dk_at dksJ16_bitCount_1 10 rfl rfl)
theorem dJ16_bitCount_35 : decode cJ16_bitCount 35 = .ok (.iload_n 0, 1) := dk_26 (dk_at dksJ16_bitCount_1 11 rfl rfl)
theorem dJ16_bitCount_36 : decode cJ16_bitCount 36 = .ok (.bipush 8, 2) := dk_16 8 (dk_at dksJ16_bitCount_1 12 rfl rfl)
theorem dJ16_bitCount_38 : decode cJ16_bitCount 38 = .ok (.iushr, 1) := dk_124 (dk_at dksJ16_bitCount_1 14 rfl rfl)
theorem dJ16_bitCount_39 : decode cJ16_bitCount 39 = .ok (.iadd, 1) := dk_96 (dk_at dksJ16_bitCount_1 15 rfl rfl)
theorem dJ16_bitCount_40 : decode cJ16_bitCount 40 = .ok (.istore_n 0, 1) := dk_59 (dk_at dksJ16_bitCount_1 16 rfl rfl)
theorem dJ16_bitCount_41 : decode cJ16_bitCount 41 = .ok (.iload_n 0, 1) := dk_26 (dk_at dksJ16_bitCount_1 17 rfl rfl)
theorem dJ16_bitCount_42 : decode cJ16_bitCount 42 = .ok (.iload_n 0, 1) := dk_26 (dk_at dksJ16_bitCount_1 18 rfl rfl)
theorem dJ16_bitCount_43 : decode cJ16_bitCount 43 = .ok (.bipush 16, 2) := dk_16 16 (dk_at dksJ16_bitCount_1 19 rfl rfl)
theorem dJ16_bitCount_45 : decode cJ16_bitCount 45 = .ok (.iushr, 1) := dk_124 (dk_at dksJ16_bitCount_1 21 rfl rfl)
theorem dJ16_bitCount_46 : decode cJ16_bitCount 46 = .ok (.iadd, 1) := dk_96 (dk_at dksJ16_bitCount_1 22 rfl rfl)
theorem dJ16_bitCount_47 : decode cJ16_bitCount 47 = .ok (.istore_n 0, 1) := dk_59 (dk_at dksJ16_bitCount_1 23 rfl rfl)
theorem dJ16_bitCount_48 : decode cJ16_bitCount 48 = .ok (.iload_n 0, 1) := dk_26 (dk_at dksJ16_bitCount_2 0 rfl rfl)
theorem dJ16_bitCount_49 : decode cJ16_bitCount 49 = .ok (.bipush 63, 2) := dk_16 63 (dk_at dksJ16_bitCount_2 1 rfl rfl)
theorem dJ16_bitCount_51 : decode cJ16_bitCount 51 = .ok (.iand, 1) := dk_126 (dk_at dksJ16_bitCount_2 3 rfl rfl)
theorem dJ16_bitCount_52 : decode cJ16_bitCount 52 = .ok (.ireturn, 1) := dk_172 (dk_at dksJ16_bitCount_2 4 rfl rfl)
theorem q144 : (Jvm.Cond.initialized "java/lang/Integer") ∈ lw_all := lw_g (lw_at lw_m1 45 rfl) rfl
theorem q1315 : (Jvm.Cond.static ({ cls := "java/lang/Integer", name := "bitCount", desc := "(I)I" } : Jvm.MethodName)) ∈ lw_all := lw_g (lw_at lw_m6 16 rfl) rfl
theorem q1316 : (Jvm.Cond.code ({ cls := "java/lang/Integer", name := "bitCount", desc := "(I)I" } : Jvm.MethodName) prog_38_method_49_code (1 : Nat) (Option.some Jvm.ClassFile.FieldType.int)) ∈ lw_all := lw_g (lw_at lw_m6 17 rfl) rfl
theorem q1317 : (Jvm.Cond.constant "java/lang/Integer" (265 : Nat) (1431655765 : Int32)) ∈ lw_all := lw_g (lw_at lw_m6 18 rfl) rfl
theorem q1318 : (Jvm.Cond.constant "java/lang/Integer" (266 : Nat) (858993459 : Int32)) ∈ lw_all := lw_g (lw_at lw_m6 19 rfl) rfl
theorem q1319 : (Jvm.Cond.constant "java/lang/Integer" (267 : Nat) (252645135 : Int32)) ∈ lw_all := lw_g (lw_at lw_m6 20 rfl) rfl

/-! java/lang/NegativeArraySizeException -/
set_option maxRecDepth 100000
def RJ17 : String := "java/lang/NegativeArraySizeException"
def TJ17 : u_T := fun k => match k with
  | 0 => ("java/lang/Throwable", "backtrace", "Ljava/lang/Object;", false)
  | 1 => ("java/lang/Throwable", "detailMessage", "Ljava/lang/String;", false)
  | 2 => ("java/lang/Throwable", "cause", "Ljava/lang/Throwable;", false)
  | 3 => ("java/lang/Throwable", "stackTrace", "[Ljava/lang/StackTraceElement;", false)
  | 4 => ("java/lang/Throwable", "depth", "I", false)
  | _ => ("java/lang/Throwable", "suppressedExceptions", "Ljava/util/List;", false)
def tyJ17 : Nat → FieldType := fun k => match k with
  | 0 => .object "java/lang/Object"
  | 1 => .object "java/lang/String"
  | 2 => .object "java/lang/Throwable"
  | 3 => .array (.object "java/lang/StackTraceElement")
  | 4 => .int
  | _ => .object "java/util/List"
abbrev wsJ170 : List Cond := u_ws RJ17 TJ17 6
theorem nmJ17 : ∀ a, a < 6 → ∀ b, b < 6 → a ≠ b → (TJ17 a).2.1 ≠ (TJ17 b).2.1 := by decide +kernel
theorem tyJ17_ok : ∀ k, k < 6 → parseFieldDescriptor (TJ17 k).2.2.1 = some (tyJ17 k) := by decide +kernel
abbrev cJ17_init : ByteArray := prog_41_method_2_code
def yJ17_init : MethodName := ⟨RJ17, "<init>", "(Ljava/lang/String;)V"⟩
def dkwJ17_init_0 : List UInt8 := [42, 43, 183, 0, 7, 177]
abbrev dktJ17_init_0 : List UInt8 := dkwJ17_init_0 ++ []
theorem dksJ17_init_0 : cJ17_init.data.toList.drop 0 = dktJ17_init_0 := by decide +kernel
theorem dJ17_init_0 : decode cJ17_init 0 = .ok (.aload_n 0, 1) := dk_42 (dk_at dksJ17_init_0 0 rfl rfl)
theorem dJ17_init_1 : decode cJ17_init 1 = .ok (.aload_n 1, 1) := dk_43 (dk_at dksJ17_init_0 1 rfl rfl)
theorem dJ17_init_2 : decode cJ17_init 2 = .ok (.invokespecial 7, 3) := dk_183 0 7 (dk_at dksJ17_init_0 2 rfl rfl)
theorem dJ17_init_5 : decode cJ17_init 5 = .ok (.return_, 1) := dk_177 (dk_at dksJ17_init_0 5 rfl rfl)
theorem q146 : (Jvm.Cond.initialized "java/lang/NegativeArraySizeException") ∈ lw_all := lw_g (lw_at lw_m1 47 rfl) rfl
theorem q611 : (Jvm.Cond.selects "java/lang/NegativeArraySizeException" ({ cls := "java/lang/Throwable", name := "fillInStackTrace", desc := "()Ljava/lang/Throwable;" } : Jvm.MethodName) ({ cls := "java/lang/Throwable", name := "fillInStackTrace", desc := "()Ljava/lang/Throwable;" } : Jvm.MethodName)) ∈ lw_all := lw_g (lw_at lw_m3 32 rfl) rfl
theorem q1162 : (Jvm.Cond.selects "java/lang/NegativeArraySizeException" ({ cls := "java/lang/Object", name := "getClass", desc := "()Ljava/lang/Class;" } : Jvm.MethodName) ({ cls := "java/lang/Object", name := "getClass", desc := "()Ljava/lang/Class;" } : Jvm.MethodName)) ∈ lw_all := lw_g (lw_at lw_m5 103 rfl) rfl
theorem q1541 : (Jvm.Cond.instantiable "java/lang/NegativeArraySizeException" (6 : Nat)) ∈ lw_all := lw_g (lw_at lw_m7 2 rfl) rfl
theorem q1542 : (Jvm.Cond.instanceMethod ({ cls := "java/lang/NegativeArraySizeException", name := "<init>", desc := "(Ljava/lang/String;)V" } : Jvm.MethodName)) ∈ lw_all := lw_g (lw_at lw_m7 3 rfl) rfl
theorem q1543 : (Jvm.Cond.code ({ cls := "java/lang/NegativeArraySizeException", name := "<init>", desc := "(Ljava/lang/String;)V" } : Jvm.MethodName) prog_41_method_2_code (2 : Nat) (Option.none : Option Jvm.ClassFile.FieldType)) ∈ lw_all := lw_g (lw_at lw_m7 4 rfl) rfl
theorem q1544 : (Jvm.Cond.methodLink "java/lang/NegativeArraySizeException" (7 : Nat) ({ cls := "java/lang/RuntimeException", name := "<init>", desc := "(Ljava/lang/String;)V" } : Jvm.MethodName)) ∈ lw_all := lw_g (lw_at lw_m7 5 rfl) rfl
theorem q1545 : (Jvm.Cond.lays "java/lang/NegativeArraySizeException" "java/lang/Throwable" "backtrace" "Ljava/lang/Object;") ∈ lw_all := lw_g (lw_at lw_m7 6 rfl) rfl
theorem q1546 : (Jvm.Cond.lays "java/lang/NegativeArraySizeException" "java/lang/Throwable" "detailMessage" "Ljava/lang/String;") ∈ lw_all := lw_g (lw_at lw_m7 7 rfl) rfl
theorem q1547 : (Jvm.Cond.lays "java/lang/NegativeArraySizeException" "java/lang/Throwable" "cause" "Ljava/lang/Throwable;") ∈ lw_all := lw_g (lw_at lw_m7 8 rfl) rfl
theorem q1548 : (Jvm.Cond.lays "java/lang/NegativeArraySizeException" "java/lang/Throwable" "stackTrace" "[Ljava/lang/StackTraceElement;") ∈ lw_all := lw_g (lw_at lw_m7 9 rfl) rfl
theorem q1549 : (Jvm.Cond.lays "java/lang/NegativeArraySizeException" "java/lang/Throwable" "depth" "I") ∈ lw_all := lw_g (lw_at lw_m7 10 rfl) rfl
theorem q1550 : (Jvm.Cond.lays "java/lang/NegativeArraySizeException" "java/lang/Throwable" "suppressedExceptions" "Ljava/util/List;") ∈ lw_all := lw_g (lw_at lw_m7 11 rfl) rfl
theorem q1551 : (Jvm.Cond.superclass "java/lang/NegativeArraySizeException" "java/lang/RuntimeException") ∈ lw_all := lw_g (lw_at lw_m7 12 rfl) rfl
theorem q1552 : (Jvm.Cond.castable "java/lang/NegativeArraySizeException" "java/lang/NegativeArraySizeException") ∈ lw_tbl := lw_at lw_m7 13 rfl
theorem q1553 : (Jvm.Cond.selects "java/lang/NegativeArraySizeException" ({ cls := "java/lang/Throwable", name := "fillInStackTrace", desc := "(I)Ljava/lang/Throwable;" } : Jvm.MethodName) ({ cls := "java/lang/Throwable", name := "fillInStackTrace", desc := "(I)Ljava/lang/Throwable;" } : Jvm.MethodName)) ∈ lw_all := lw_g (lw_at lw_m7 14 rfl) rfl
theorem q2352 : (Jvm.Cond.castable "java/lang/NegativeArraySizeException" "java/lang/Object") ∈ lw_tbl := lw_at lw_m10 93 rfl
theorem in_J17 : ∀ w ∈ wsJ170, w ∈ lw_all := lw_in wsJ170 [1545, 1546, 1547, 1548, 1549, 1550] (by decide +kernel) (by decide +kernel)

/-! java/lang/ArrayStoreException -/
set_option maxRecDepth 100000
def RJ18 : String := "java/lang/ArrayStoreException"
def TJ18 : u_T := fun k => match k with
  | 0 => ("java/lang/Throwable", "backtrace", "Ljava/lang/Object;", false)
  | 1 => ("java/lang/Throwable", "detailMessage", "Ljava/lang/String;", false)
  | 2 => ("java/lang/Throwable", "cause", "Ljava/lang/Throwable;", false)
  | 3 => ("java/lang/Throwable", "stackTrace", "[Ljava/lang/StackTraceElement;", false)
  | 4 => ("java/lang/Throwable", "depth", "I", false)
  | _ => ("java/lang/Throwable", "suppressedExceptions", "Ljava/util/List;", false)
def tyJ18 : Nat → FieldType := fun k => match k with
  | 0 => .object "java/lang/Object"
  | 1 => .object "java/lang/String"
  | 2 => .object "java/lang/Throwable"
  | 3 => .array (.object "java/lang/StackTraceElement")
  | 4 => .int
  | _ => .object "java/util/List"
abbrev wsJ180 : List Cond := u_ws RJ18 TJ18 6
theorem nmJ18 : ∀ a, a < 6 → ∀ b, b < 6 → a ≠ b → (TJ18 a).2.1 ≠ (TJ18 b).2.1 := by decide +kernel
theorem tyJ18_ok : ∀ k, k < 6 → parseFieldDescriptor (TJ18 k).2.2.1 = some (tyJ18 k) := by decide +kernel
abbrev cJ18_init : ByteArray := prog_33_method_2_code
def yJ18_init : MethodName := ⟨RJ18, "<init>", "(Ljava/lang/String;)V"⟩
def dkwJ18_init_0 : List UInt8 := [42, 43, 183, 0, 7, 177]
abbrev dktJ18_init_0 : List UInt8 := dkwJ18_init_0 ++ []
theorem dksJ18_init_0 : cJ18_init.data.toList.drop 0 = dktJ18_init_0 := by decide +kernel
theorem dJ18_init_0 : decode cJ18_init 0 = .ok (.aload_n 0, 1) := dk_42 (dk_at dksJ18_init_0 0 rfl rfl)
theorem dJ18_init_1 : decode cJ18_init 1 = .ok (.aload_n 1, 1) := dk_43 (dk_at dksJ18_init_0 1 rfl rfl)
theorem dJ18_init_2 : decode cJ18_init 2 = .ok (.invokespecial 7, 3) := dk_183 0 7 (dk_at dksJ18_init_0 2 rfl rfl)
theorem dJ18_init_5 : decode cJ18_init 5 = .ok (.return_, 1) := dk_177 (dk_at dksJ18_init_0 5 rfl rfl)
theorem q147 : (Jvm.Cond.initialized "java/lang/ArrayStoreException") ∈ lw_all := lw_g (lw_at lw_m1 48 rfl) rfl
theorem q609 : (Jvm.Cond.selects "java/lang/ArrayStoreException" ({ cls := "java/lang/Throwable", name := "fillInStackTrace", desc := "()Ljava/lang/Throwable;" } : Jvm.MethodName) ({ cls := "java/lang/Throwable", name := "fillInStackTrace", desc := "()Ljava/lang/Throwable;" } : Jvm.MethodName)) ∈ lw_all := lw_g (lw_at lw_m3 30 rfl) rfl
theorem q1160 : (Jvm.Cond.selects "java/lang/ArrayStoreException" ({ cls := "java/lang/Object", name := "getClass", desc := "()Ljava/lang/Class;" } : Jvm.MethodName) ({ cls := "java/lang/Object", name := "getClass", desc := "()Ljava/lang/Class;" } : Jvm.MethodName)) ∈ lw_all := lw_g (lw_at lw_m5 101 rfl) rfl
theorem q1594 : (Jvm.Cond.instantiable "java/lang/ArrayStoreException" (6 : Nat)) ∈ lw_all := lw_g (lw_at lw_m7 55 rfl) rfl
theorem q1595 : (Jvm.Cond.instanceMethod ({ cls := "java/lang/ArrayStoreException", name := "<init>", desc := "(Ljava/lang/String;)V" } : Jvm.MethodName)) ∈ lw_all := lw_g (lw_at lw_m7 56 rfl) rfl
theorem q1596 : (Jvm.Cond.code ({ cls := "java/lang/ArrayStoreException", name := "<init>", desc := "(Ljava/lang/String;)V" } : Jvm.MethodName) prog_33_method_2_code (2 : Nat) (Option.none : Option Jvm.ClassFile.FieldType)) ∈ lw_all := lw_g (lw_at lw_m7 57 rfl) rfl
theorem q1597 : (Jvm.Cond.methodLink "java/lang/ArrayStoreException" (7 : Nat) ({ cls := "java/lang/RuntimeException", name := "<init>", desc := "(Ljava/lang/String;)V" } : Jvm.MethodName)) ∈ lw_all := lw_g (lw_at lw_m7 58 rfl) rfl
theorem q1598 : (Jvm.Cond.lays "java/lang/ArrayStoreException" "java/lang/Throwable" "backtrace" "Ljava/lang/Object;") ∈ lw_all := lw_g (lw_at lw_m7 59 rfl) rfl
theorem q1599 : (Jvm.Cond.lays "java/lang/ArrayStoreException" "java/lang/Throwable" "detailMessage" "Ljava/lang/String;") ∈ lw_all := lw_g (lw_at lw_m7 60 rfl) rfl
theorem q1600 : (Jvm.Cond.lays "java/lang/ArrayStoreException" "java/lang/Throwable" "cause" "Ljava/lang/Throwable;") ∈ lw_all := lw_g (lw_at lw_m7 61 rfl) rfl
theorem q1601 : (Jvm.Cond.lays "java/lang/ArrayStoreException" "java/lang/Throwable" "stackTrace" "[Ljava/lang/StackTraceElement;") ∈ lw_all := lw_g (lw_at lw_m7 62 rfl) rfl
theorem q1602 : (Jvm.Cond.lays "java/lang/ArrayStoreException" "java/lang/Throwable" "depth" "I") ∈ lw_all := lw_g (lw_at lw_m7 63 rfl) rfl
theorem q1603 : (Jvm.Cond.lays "java/lang/ArrayStoreException" "java/lang/Throwable" "suppressedExceptions" "Ljava/util/List;") ∈ lw_all := lw_g (lw_at lw_m7 64 rfl) rfl
theorem q1604 : (Jvm.Cond.superclass "java/lang/ArrayStoreException" "java/lang/RuntimeException") ∈ lw_all := lw_g (lw_at lw_m7 65 rfl) rfl
theorem q1605 : (Jvm.Cond.castable "java/lang/ArrayStoreException" "java/lang/ArrayStoreException") ∈ lw_tbl := lw_at lw_m7 66 rfl
theorem q1606 : (Jvm.Cond.selects "java/lang/ArrayStoreException" ({ cls := "java/lang/Throwable", name := "fillInStackTrace", desc := "(I)Ljava/lang/Throwable;" } : Jvm.MethodName) ({ cls := "java/lang/Throwable", name := "fillInStackTrace", desc := "(I)Ljava/lang/Throwable;" } : Jvm.MethodName)) ∈ lw_all := lw_g (lw_at lw_m7 67 rfl) rfl
theorem q2353 : (Jvm.Cond.castable "java/lang/ArrayStoreException" "java/lang/Object") ∈ lw_tbl := lw_at lw_m10 94 rfl
theorem in_J18 : ∀ w ∈ wsJ180, w ∈ lw_all := lw_in wsJ180 [1598, 1599, 1600, 1601, 1602, 1603] (by decide +kernel) (by decide +kernel)

/-! java/lang/IndexOutOfBoundsException -/
set_option maxRecDepth 100000
def RJ19 : String := "java/lang/IndexOutOfBoundsException"
abbrev cJ19_init : ByteArray := prog_37_method_2_code
def yJ19_init : MethodName := ⟨RJ19, "<init>", "(Ljava/lang/String;)V"⟩
def dkwJ19_init_0 : List UInt8 := [42, 43, 183, 0, 7, 177]
abbrev dktJ19_init_0 : List UInt8 := dkwJ19_init_0 ++ []
theorem dksJ19_init_0 : cJ19_init.data.toList.drop 0 = dktJ19_init_0 := by decide +kernel
theorem dJ19_init_0 : decode cJ19_init 0 = .ok (.aload_n 0, 1) := dk_42 (dk_at dksJ19_init_0 0 rfl rfl)
theorem dJ19_init_1 : decode cJ19_init 1 = .ok (.aload_n 1, 1) := dk_43 (dk_at dksJ19_init_0 1 rfl rfl)
theorem dJ19_init_2 : decode cJ19_init 2 = .ok (.invokespecial 7, 3) := dk_183 0 7 (dk_at dksJ19_init_0 2 rfl rfl)
theorem dJ19_init_5 : decode cJ19_init 5 = .ok (.return_, 1) := dk_177 (dk_at dksJ19_init_0 5 rfl rfl)
theorem q148 : (Jvm.Cond.initialized "java/lang/IndexOutOfBoundsException") ∈ lw_all := lw_g (lw_at lw_m1 49 rfl) rfl
theorem q1612 : (Jvm.Cond.instanceMethod ({ cls := "java/lang/IndexOutOfBoundsException", name := "<init>", desc := "(Ljava/lang/String;)V" } : Jvm.MethodName)) ∈ lw_all := lw_g (lw_at lw_m7 73 rfl) rfl
theorem q1613 : (Jvm.Cond.code ({ cls := "java/lang/IndexOutOfBoundsException", name := "<init>", desc := "(Ljava/lang/String;)V" } : Jvm.MethodName) prog_37_method_2_code (2 : Nat) (Option.none : Option Jvm.ClassFile.FieldType)) ∈ lw_all := lw_g (lw_at lw_m7 74 rfl) rfl
theorem q1614 : (Jvm.Cond.methodLink "java/lang/IndexOutOfBoundsException" (7 : Nat) ({ cls := "java/lang/RuntimeException", name := "<init>", desc := "(Ljava/lang/String;)V" } : Jvm.MethodName)) ∈ lw_all := lw_g (lw_at lw_m7 75 rfl) rfl
theorem q1623 : (Jvm.Cond.declares ({ cls := "java/lang/IndexOutOfBoundsException", name := "<init>", desc := "()V" } : Jvm.MethodName)) ∈ lw_tbl := lw_at lw_m7 84 rfl
theorem q1624 : (Jvm.Cond.declares ({ cls := "java/lang/IndexOutOfBoundsException", name := "<init>", desc := "(Ljava/lang/String;)V" } : Jvm.MethodName)) ∈ lw_tbl := lw_at lw_m7 85 rfl

/-! java/lang/ArrayIndexOutOfBoundsException -/
set_option maxRecDepth 100000
def RJ20 : String := "java/lang/ArrayIndexOutOfBoundsException"
def TJ20 : u_T := fun k => match k with
  | 0 => ("java/lang/Throwable", "backtrace", "Ljava/lang/Object;", false)
  | 1 => ("java/lang/Throwable", "detailMessage", "Ljava/lang/String;", false)
  | 2 => ("java/lang/Throwable", "cause", "Ljava/lang/Throwable;", false)
  | 3 => ("java/lang/Throwable", "stackTrace", "[Ljava/lang/StackTraceElement;", false)
  | 4 => ("java/lang/Throwable", "depth", "I", false)
  | _ => ("java/lang/Throwable", "suppressedExceptions", "Ljava/util/List;", false)
def tyJ20 : Nat → FieldType := fun k => match k with
  | 0 => .object "java/lang/Object"
  | 1 => .object "java/lang/String"
  | 2 => .object "java/lang/Throwable"
  | 3 => .array (.object "java/lang/StackTraceElement")
  | 4 => .int
  | _ => .object "java/util/List"
abbrev wsJ200 : List Cond := u_ws RJ20 TJ20 6
theorem nmJ20 : ∀ a, a < 6 → ∀ b, b < 6 → a ≠ b → (TJ20 a).2.1 ≠ (TJ20 b).2.1 := by decide +kernel
theorem tyJ20_ok : ∀ k, k < 6 → parseFieldDescriptor (TJ20 k).2.2.1 = some (tyJ20 k) := by decide +kernel
abbrev cJ20_init : ByteArray := prog_32_method_2_code
def yJ20_init : MethodName := ⟨RJ20, "<init>", "(Ljava/lang/String;)V"⟩
def dkwJ20_init_0 : List UInt8 := [42, 43, 183, 0, 7, 177]
abbrev dktJ20_init_0 : List UInt8 := dkwJ20_init_0 ++ []
theorem dksJ20_init_0 : cJ20_init.data.toList.drop 0 = dktJ20_init_0 := by decide +kernel
theorem dJ20_init_0 : decode cJ20_init 0 = .ok (.aload_n 0, 1) := dk_42 (dk_at dksJ20_init_0 0 rfl rfl)
theorem dJ20_init_1 : decode cJ20_init 1 = .ok (.aload_n 1, 1) := dk_43 (dk_at dksJ20_init_0 1 rfl rfl)
theorem dJ20_init_2 : decode cJ20_init 2 = .ok (.invokespecial 7, 3) := dk_183 0 7 (dk_at dksJ20_init_0 2 rfl rfl)
theorem dJ20_init_5 : decode cJ20_init 5 = .ok (.return_, 1) := dk_177 (dk_at dksJ20_init_0 5 rfl rfl)
theorem q149 : (Jvm.Cond.initialized "java/lang/ArrayIndexOutOfBoundsException") ∈ lw_all := lw_g (lw_at lw_m1 50 rfl) rfl
theorem q608 : (Jvm.Cond.selects "java/lang/ArrayIndexOutOfBoundsException" ({ cls := "java/lang/Throwable", name := "fillInStackTrace", desc := "()Ljava/lang/Throwable;" } : Jvm.MethodName) ({ cls := "java/lang/Throwable", name := "fillInStackTrace", desc := "()Ljava/lang/Throwable;" } : Jvm.MethodName)) ∈ lw_all := lw_g (lw_at lw_m3 29 rfl) rfl
theorem q1159 : (Jvm.Cond.selects "java/lang/ArrayIndexOutOfBoundsException" ({ cls := "java/lang/Object", name := "getClass", desc := "()Ljava/lang/Class;" } : Jvm.MethodName) ({ cls := "java/lang/Object", name := "getClass", desc := "()Ljava/lang/Class;" } : Jvm.MethodName)) ∈ lw_all := lw_g (lw_at lw_m5 100 rfl) rfl
theorem q1608 : (Jvm.Cond.instantiable "java/lang/ArrayIndexOutOfBoundsException" (6 : Nat)) ∈ lw_all := lw_g (lw_at lw_m7 69 rfl) rfl
theorem q1609 : (Jvm.Cond.instanceMethod ({ cls := "java/lang/ArrayIndexOutOfBoundsException", name := "<init>", desc := "(Ljava/lang/String;)V" } : Jvm.MethodName)) ∈ lw_all := lw_g (lw_at lw_m7 70 rfl) rfl
theorem q1610 : (Jvm.Cond.code ({ cls := "java/lang/ArrayIndexOutOfBoundsException", name := "<init>", desc := "(Ljava/lang/String;)V" } : Jvm.MethodName) prog_32_method_2_code (2 : Nat) (Option.none : Option Jvm.ClassFile.FieldType)) ∈ lw_all := lw_g (lw_at lw_m7 71 rfl) rfl
theorem q1611 : (Jvm.Cond.methodLink "java/lang/ArrayIndexOutOfBoundsException" (7 : Nat) ({ cls := "java/lang/IndexOutOfBoundsException", name := "<init>", desc := "(Ljava/lang/String;)V" } : Jvm.MethodName)) ∈ lw_all := lw_g (lw_at lw_m7 72 rfl) rfl
theorem q1615 : (Jvm.Cond.lays "java/lang/ArrayIndexOutOfBoundsException" "java/lang/Throwable" "backtrace" "Ljava/lang/Object;") ∈ lw_all := lw_g (lw_at lw_m7 76 rfl) rfl
theorem q1616 : (Jvm.Cond.lays "java/lang/ArrayIndexOutOfBoundsException" "java/lang/Throwable" "detailMessage" "Ljava/lang/String;") ∈ lw_all := lw_g (lw_at lw_m7 77 rfl) rfl
theorem q1617 : (Jvm.Cond.lays "java/lang/ArrayIndexOutOfBoundsException" "java/lang/Throwable" "cause" "Ljava/lang/Throwable;") ∈ lw_all := lw_g (lw_at lw_m7 78 rfl) rfl
theorem q1618 : (Jvm.Cond.lays "java/lang/ArrayIndexOutOfBoundsException" "java/lang/Throwable" "stackTrace" "[Ljava/lang/StackTraceElement;") ∈ lw_all := lw_g (lw_at lw_m7 79 rfl) rfl
theorem q1619 : (Jvm.Cond.lays "java/lang/ArrayIndexOutOfBoundsException" "java/lang/Throwable" "depth" "I") ∈ lw_all := lw_g (lw_at lw_m7 80 rfl) rfl
theorem q1620 : (Jvm.Cond.lays "java/lang/ArrayIndexOutOfBoundsException" "java/lang/Throwable" "suppressedExceptions" "Ljava/util/List;") ∈ lw_all := lw_g (lw_at lw_m7 81 rfl) rfl
theorem q1621 : (Jvm.Cond.superclass "java/lang/ArrayIndexOutOfBoundsException" "java/lang/IndexOutOfBoundsException") ∈ lw_all := lw_g (lw_at lw_m7 82 rfl) rfl
theorem q1622 : (Jvm.Cond.castable "java/lang/ArrayIndexOutOfBoundsException" "java/lang/ArrayIndexOutOfBoundsException") ∈ lw_tbl := lw_at lw_m7 83 rfl
theorem q1625 : (Jvm.Cond.selects "java/lang/ArrayIndexOutOfBoundsException" ({ cls := "java/lang/Throwable", name := "fillInStackTrace", desc := "(I)Ljava/lang/Throwable;" } : Jvm.MethodName) ({ cls := "java/lang/Throwable", name := "fillInStackTrace", desc := "(I)Ljava/lang/Throwable;" } : Jvm.MethodName)) ∈ lw_all := lw_g (lw_at lw_m7 86 rfl) rfl
theorem q2303 : (Jvm.Cond.castable "java/lang/ArrayIndexOutOfBoundsException" "java/lang/IndexOutOfBoundsException") ∈ lw_tbl := lw_at lw_m10 44 rfl
theorem q2354 : (Jvm.Cond.castable "java/lang/ArrayIndexOutOfBoundsException" "java/lang/Object") ∈ lw_tbl := lw_at lw_m10 95 rfl
theorem in_J20 : ∀ w ∈ wsJ200, w ∈ lw_all := lw_in wsJ200 [1615, 1616, 1617, 1618, 1619, 1620] (by decide +kernel) (by decide +kernel)

/-! java/lang/Object -/
set_option maxRecDepth 100000
def RJ21 : String := "java/lang/Object"
abbrev cJ21_init : ByteArray := object_method_1_code
def yJ21_init : MethodName := ⟨RJ21, "<init>", "()V"⟩
theorem dJ21_init_0 : decode cJ21_init 0 = .ok (.return_, 1) := by decide +kernel
theorem q156 : (Jvm.Cond.instanceMethod ({ cls := "java/lang/Object", name := "<init>", desc := "()V" } : Jvm.MethodName)) ∈ lw_all := lw_g (lw_at lw_m1 57 rfl) rfl
theorem q157 : (Jvm.Cond.code ({ cls := "java/lang/Object", name := "<init>", desc := "()V" } : Jvm.MethodName) object_method_1_code (1 : Nat) (Option.none : Option Jvm.ClassFile.FieldType)) ∈ lw_all := lw_g (lw_at lw_m1 58 rfl) rfl
theorem q1131 : (Jvm.Cond.instanceMethod ({ cls := "java/lang/Object", name := "getClass", desc := "()Ljava/lang/Class;" } : Jvm.MethodName)) ∈ lw_all := lw_g (lw_at lw_m5 72 rfl) rfl
theorem q1132 : (Jvm.Cond.sameMethod "java/lang/Object" "java/lang/Object" "getClass" "()Ljava/lang/Class;") ∈ lw_all := lw_g (lw_at lw_m5 73 rfl) rfl
theorem q1165 : (Jvm.Cond.native ({ cls := "java/lang/Object", name := "getClass", desc := "()Ljava/lang/Class;" } : Jvm.MethodName)) ∈ lw_all := lw_g (lw_at lw_m5 106 rfl) rfl
theorem q2359 : (Jvm.Cond.declares ({ cls := "java/lang/Object", name := "getClass", desc := "()Ljava/lang/Class;" } : Jvm.MethodName)) ∈ lw_tbl := lw_at lw_m10 100 rfl

theorem q2367 : (Jvm.Cond.castable "[B" "java/lang/Object") ∈ lw_tbl := lw_at lw_m10 108 rfl
set_option maxRecDepth 100000

theorem q2365 : (Jvm.Cond.castable "[I" "java/lang/Object") ∈ lw_tbl := lw_at lw_m10 106 rfl
set_option maxRecDepth 100000

theorem q2373 : (Jvm.Cond.castable "[J" "java/lang/Object") ∈ lw_tbl := lw_at lw_m10 114 rfl
set_option maxRecDepth 100000

theorem q2362 : (Jvm.Cond.castable "[LBarredBooks$Book;" "java/lang/Object") ∈ lw_tbl := lw_at lw_m10 103 rfl
set_option maxRecDepth 100000

theorem q2364 : (Jvm.Cond.castable "[LBarredBooks$Card;" "java/lang/Object") ∈ lw_tbl := lw_at lw_m10 105 rfl
set_option maxRecDepth 100000

theorem q2370 : (Jvm.Cond.castable "[LBarredBooks$Clause;" "java/lang/Object") ∈ lw_tbl := lw_at lw_m10 111 rfl
set_option maxRecDepth 100000

theorem q2366 : (Jvm.Cond.castable "[LBarredBooks$Decree;" "java/lang/Object") ∈ lw_tbl := lw_at lw_m10 107 rfl
set_option maxRecDepth 100000

theorem q2363 : (Jvm.Cond.castable "[LBarredBooks$Edition;" "java/lang/Object") ∈ lw_tbl := lw_at lw_m10 104 rfl
set_option maxRecDepth 100000

theorem q2361 : (Jvm.Cond.castable "[LBarredBooks$Person;" "java/lang/Object") ∈ lw_tbl := lw_at lw_m10 102 rfl
set_option maxRecDepth 100000

theorem q2369 : (Jvm.Cond.castable "[LBarredBooks$Slip;" "java/lang/Object") ∈ lw_tbl := lw_at lw_m10 110 rfl
set_option maxRecDepth 100000

theorem q2368 : (Jvm.Cond.castable "[LBarredBooks$Tape;" "java/lang/Object") ∈ lw_tbl := lw_at lw_m10 109 rfl
set_option maxRecDepth 100000

theorem q2357 : (Jvm.Cond.sameMethod "[Ljava/lang/Object;" "java/lang/Object" "getClass" "()Ljava/lang/Class;") ∈ lw_all := lw_g (lw_at lw_m10 98 rfl) rfl
set_option maxRecDepth 100000
theorem q2358 : (Jvm.Cond.selects "[Ljava/lang/Object;" ({ cls := "java/lang/Object", name := "getClass", desc := "()Ljava/lang/Class;" } : Jvm.MethodName) ({ cls := "java/lang/Object", name := "getClass", desc := "()Ljava/lang/Class;" } : Jvm.MethodName)) ∈ lw_all := lw_g (lw_at lw_m10 99 rfl) rfl
theorem q2371 : (Jvm.Cond.castable "[Ljava/lang/Object;" "java/lang/Object") ∈ lw_tbl := lw_at lw_m10 112 rfl

theorem q2372 : (Jvm.Cond.castable "[S" "java/lang/Object") ∈ lw_tbl := lw_at lw_m10 113 rfl
set_option maxRecDepth 100000

theorem q2374 : (Jvm.Cond.castable "[Z" "java/lang/Object") ∈ lw_tbl := lw_at lw_m10 115 rfl
set_option maxRecDepth 100000

theorem q2360 : (Jvm.Cond.castable "[[I" "java/lang/Object") ∈ lw_tbl := lw_at lw_m10 101 rfl
set_option maxRecDepth 100000

theorem q141 : (Jvm.Cond.initialized "java/lang/System") ∈ lw_all := lw_g (lw_at lw_m1 42 rfl) rfl
set_option maxRecDepth 100000
theorem q1174 : (Jvm.Cond.static ({ cls := "java/lang/System", name := "arraycopy", desc := "(Ljava/lang/Object;ILjava/lang/Object;II)V" } : Jvm.MethodName)) ∈ lw_all := lw_g (lw_at lw_m5 115 rfl) rfl
theorem q1175 : (Jvm.Cond.native ({ cls := "java/lang/System", name := "arraycopy", desc := "(Ljava/lang/Object;ILjava/lang/Object;II)V" } : Jvm.MethodName)) ∈ lw_all := lw_g (lw_at lw_m5 116 rfl) rfl

theorem q159 : (Jvm.Cond.arrayOver (Jvm.ClassFile.FieldType.array Jvm.ClassFile.FieldType.int)) ∈ lw_tbl := lw_at lw_m1 60 rfl
set_option maxRecDepth 100000
theorem q161 : (Jvm.Cond.arrayOver (Jvm.ClassFile.FieldType.object "BarredBooks$Person")) ∈ lw_tbl := lw_at lw_m1 62 rfl
theorem q163 : (Jvm.Cond.arrayOver (Jvm.ClassFile.FieldType.object "BarredBooks$Book")) ∈ lw_tbl := lw_at lw_m1 64 rfl
theorem q165 : (Jvm.Cond.arrayOver (Jvm.ClassFile.FieldType.object "BarredBooks$Edition")) ∈ lw_tbl := lw_at lw_m1 66 rfl
theorem q167 : (Jvm.Cond.arrayOver (Jvm.ClassFile.FieldType.object "BarredBooks$Card")) ∈ lw_tbl := lw_at lw_m1 68 rfl
theorem q183 : (Jvm.Cond.arrayClass Jvm.ClassFile.FieldType.int) ∈ lw_all := lw_g (lw_at lw_m1 84 rfl) rfl
theorem q185 : (Jvm.Cond.arrayOver (Jvm.ClassFile.FieldType.object "BarredBooks$Decree")) ∈ lw_tbl := lw_at lw_m1 86 rfl
theorem q202 : (Jvm.Cond.arrayClass Jvm.ClassFile.FieldType.byte) ∈ lw_all := lw_g (lw_at lw_m1 103 rfl) rfl
theorem q204 : (Jvm.Cond.arrayOver (Jvm.ClassFile.FieldType.object "BarredBooks$Tape")) ∈ lw_tbl := lw_at lw_m1 105 rfl
theorem q206 : (Jvm.Cond.arrayOver (Jvm.ClassFile.FieldType.object "BarredBooks$Slip")) ∈ lw_tbl := lw_at lw_m1 107 rfl
theorem q208 : (Jvm.Cond.arrayOver (Jvm.ClassFile.FieldType.object "BarredBooks$Clause")) ∈ lw_tbl := lw_at lw_m1 109 rfl
theorem q1170 : (Jvm.Cond.arrayOver (Jvm.ClassFile.FieldType.object "java/lang/Object")) ∈ lw_tbl := lw_at lw_m5 111 rfl
theorem q1557 : (Jvm.Cond.arrayClass Jvm.ClassFile.FieldType.short) ∈ lw_all := lw_g (lw_at lw_m7 18 rfl) rfl
theorem q1558 : (Jvm.Cond.arrayClass Jvm.ClassFile.FieldType.long) ∈ lw_all := lw_g (lw_at lw_m7 19 rfl) rfl
theorem q1559 : (Jvm.Cond.arrayClass Jvm.ClassFile.FieldType.boolean) ∈ lw_all := lw_g (lw_at lw_m7 20 rfl) rfl
