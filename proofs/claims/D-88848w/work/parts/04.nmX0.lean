/-! BarredBooks -/
set_option maxRecDepth 100000
def RX0 : String := "BarredBooks"
def TX0 : u_T := fun k => match k with
  | 0 => ("BarredBooks", "today", "I", false)
  | 1 => ("BarredBooks", "way", "[[I", true)
  | 2 => ("BarredBooks", "persons", "[LBarredBooks$Person;", true)
  | 3 => ("BarredBooks", "personMany", "I", false)
  | 4 => ("BarredBooks", "books", "[LBarredBooks$Book;", true)
  | 5 => ("BarredBooks", "bookMany", "I", false)
  | 6 => ("BarredBooks", "editions", "[LBarredBooks$Edition;", true)
  | 7 => ("BarredBooks", "editionMany", "I", false)
  | 8 => ("BarredBooks", "cards", "[LBarredBooks$Card;", true)
  | 9 => ("BarredBooks", "cardMany", "I", false)
  | 10 => ("BarredBooks", "trace", "LBarredBooks$Trace;", true)
  | 11 => ("BarredBooks", "text", "[B", true)
  | 12 => ("BarredBooks", "texted", "I", false)
  | 13 => ("BarredBooks", "decrees", "[LBarredBooks$Decree;", true)
  | 14 => ("BarredBooks", "decreeMany", "I", false)
  | 15 => ("BarredBooks", "look", "LBarredBooks$Look;", true)
  | 16 => ("BarredBooks", "tapes", "[LBarredBooks$Tape;", true)
  | 17 => ("BarredBooks", "leavePerson", "[I", true)
  | 18 => ("BarredBooks", "leaveBook", "[I", true)
  | 19 => ("BarredBooks", "leaveFrom", "[I", true)
  | 20 => ("BarredBooks", "leaveTo", "[I", true)
  | 21 => ("BarredBooks", "leaveMany", "I", false)
  | 22 => ("BarredBooks", "slips", "[LBarredBooks$Slip;", true)
  | 23 => ("BarredBooks", "slipMany", "I", false)
  | 24 => ("BarredBooks", "reader", "[I", true)
  | 25 => ("BarredBooks", "found", "[[I", true)
  | 26 => ("BarredBooks", "most", "[[I", true)
  | 27 => ("BarredBooks", "choices", "[LBarredBooks$Clause;", true)
  | 28 => ("BarredBooks", "choiceMany", "I", false)
  | 29 => ("BarredBooks", "aimEdition", "[I", true)
  | 30 => ("BarredBooks", "aimLine", "[I", true)
  | 31 => ("BarredBooks", "aimMany", "I", false)
  | 32 => ("BarredBooks", "metAims", "I", false)
  | 33 => ("BarredBooks", "loss", "I", false)
  | 34 => ("BarredBooks", "copies", "[LBarredBooks$Edition;", true)
  | 35 => ("BarredBooks", "copyMany", "I", false)
  | 36 => ("BarredBooks", "entryCopy", "[I", true)
  | 37 => ("BarredBooks", "entrySpot", "[I", true)
  | 38 => ("BarredBooks", "entryDay", "[I", true)
  | _ => ("BarredBooks", "entries", "I", false)
def tyX0 : Nat → FieldType := fun k => match k with
  | 0 => .int
  | 1 => .array (.array .int)
  | 2 => .array (.object "BarredBooks$Person")
  | 3 => .int
  | 4 => .array (.object "BarredBooks$Book")
  | 5 => .int
  | 6 => .array (.object "BarredBooks$Edition")
  | 7 => .int
  | 8 => .array (.object "BarredBooks$Card")
  | 9 => .int
  | 10 => .object "BarredBooks$Trace"
  | 11 => .array .byte
  | 12 => .int
  | 13 => .array (.object "BarredBooks$Decree")
  | 14 => .int
  | 15 => .object "BarredBooks$Look"
  | 16 => .array (.object "BarredBooks$Tape")
  | 17 => .array .int
  | 18 => .array .int
  | 19 => .array .int
  | 20 => .array .int
  | 21 => .int
  | 22 => .array (.object "BarredBooks$Slip")
  | 23 => .int
  | 24 => .array .int
  | 25 => .array (.array .int)
  | 26 => .array (.array .int)
  | 27 => .array (.object "BarredBooks$Clause")
  | 28 => .int
  | 29 => .array .int
  | 30 => .array .int
  | 31 => .int
  | 32 => .int
  | 33 => .int
  | 34 => .array (.object "BarredBooks$Edition")
  | 35 => .int
  | 36 => .array .int
  | 37 => .array .int
  | 38 => .array .int
  | _ => .int
abbrev wsX00 : List Cond := u_ws RX0 TX0 40
set_option maxRecDepth 100000 in
theorem nmX0 : ∀ a, a < 40 → ∀ b, b < 40 → a ≠ b → (TX0 a).2.1 ≠ (TX0 b).2.1 := by decide +kernel
set_option maxRecDepth 100000 in
theorem tyX0_ok : ∀ k, k < 40 → parseFieldDescriptor (TX0 k).2.2.1 = some (tyX0 k) := by decide +kernel
abbrev cX0_init : ByteArray := prog_1_method_2_code
def yX0_init : MethodName := ⟨RX0, "<init>", "()V"⟩
def dkwX0_init_13 : List UInt8 := [132, 1, 1, 167, 255, 234, 177]
abbrev dktX0_init_13 : List UInt8 := dkwX0_init_13 ++ []
def dkwX0_init_12 : List UInt8 := [167, 255, 213, 3, 60, 27, 16, 6, 162, 0, 22, 42, 180, 0, 66, 27, 187, 0, 64, 89, 183, 0, 122, 83]
abbrev dktX0_init_12 : List UInt8 := dkwX0_init_12 ++ dktX0_init_13
def dkwX0_init_11 : List UInt8 := [50, 28, 27, 28, 160, 0, 7, 3, 167, 0, 6, 17, 39, 15, 79, 132, 2, 1, 167, 255, 227, 132, 1, 1]
abbrev dktX0_init_11 : List UInt8 := dkwX0_init_11 ++ dktX0_init_12
def dkwX0_init_10 : List UInt8 := [181, 0, 119, 3, 60, 27, 16, 8, 162, 0, 43, 3, 61, 28, 16, 8, 162, 0, 29, 42, 180, 0, 13, 27]
abbrev dktX0_init_10 : List UInt8 := dkwX0_init_10 ++ dktX0_init_11
def dkwX0_init_9 : List UInt8 := [17, 0, 200, 188, 10, 181, 0, 113, 42, 17, 0, 200, 188, 10, 181, 0, 116, 42, 17, 0, 200, 188, 10]
abbrev dktX0_init_9 : List UInt8 := dkwX0_init_9 ++ dktX0_init_10
def dkwX0_init_8 : List UInt8 := [188, 10, 181, 0, 104, 42, 16, 20, 188, 10, 181, 0, 107, 42, 16, 60, 189, 0, 28, 181, 0, 110, 42]
abbrev dktX0_init_8 : List UInt8 := dkwX0_init_8 ++ dktX0_init_9
def dkwX0_init_7 : List UInt8 := [16, 9, 16, 31, 197, 0, 11, 2, 181, 0, 95, 42, 16, 8, 189, 0, 98, 181, 0, 100, 42, 16, 20]
abbrev dktX0_init_7 : List UInt8 := dkwX0_init_7 ++ dktX0_init_8
def dkwX0_init_6 : List UInt8 := [181, 0, 85, 42, 16, 16, 188, 10, 181, 0, 89, 42, 16, 8, 16, 7, 197, 0, 11, 2, 181, 0, 92, 42]
abbrev dktX0_init_6 : List UInt8 := dkwX0_init_6 ++ dktX0_init_7
def dkwX0_init_5 : List UInt8 := [42, 16, 30, 188, 10, 181, 0, 77, 42, 16, 30, 188, 10, 181, 0, 80, 42, 16, 40, 189, 0, 83]
abbrev dktX0_init_5 : List UInt8 := dkwX0_init_5 ++ dktX0_init_6
def dkwX0_init_4 : List UInt8 := [16, 6, 189, 0, 64, 181, 0, 66, 42, 16, 30, 188, 10, 181, 0, 70, 42, 16, 30, 188, 10, 181, 0, 74]
abbrev dktX0_init_4 : List UInt8 := dkwX0_init_4 ++ dktX0_init_5
def dkwX0_init_3 : List UInt8 := [181, 0, 47, 42, 16, 16, 189, 0, 51, 181, 0, 53, 42, 187, 0, 57, 89, 183, 0, 59, 181, 0, 60, 42]
abbrev dktX0_init_3 : List UInt8 := dkwX0_init_3 ++ dktX0_init_4
def dkwX0_init_2 : List UInt8 := [189, 0, 34, 181, 0, 36, 42, 187, 0, 40, 89, 183, 0, 42, 181, 0, 43, 42, 16, 120, 188, 8]
abbrev dktX0_init_2 : List UInt8 := dkwX0_init_2 ++ dktX0_init_3
def dkwX0_init_1 : List UInt8 := [181, 0, 18, 42, 16, 16, 189, 0, 22, 181, 0, 24, 42, 16, 24, 189, 0, 28, 181, 0, 30, 42, 16, 50]
abbrev dktX0_init_1 : List UInt8 := dkwX0_init_1 ++ dktX0_init_2
def dkwX0_init_0 : List UInt8 := [42, 183, 0, 3, 42, 16, 8, 16, 8, 197, 0, 11, 2, 181, 0, 13, 42, 16, 16, 189, 0, 16]
abbrev dktX0_init_0 : List UInt8 := dkwX0_init_0 ++ dktX0_init_1
theorem dksX0_init_0 : cX0_init.data.toList.drop 0 = dktX0_init_0 := by decide +kernel
theorem dksX0_init_1 : cX0_init.data.toList.drop 22 = dktX0_init_1 := dk_seg dksX0_init_0 22 rfl rfl
theorem dksX0_init_2 : cX0_init.data.toList.drop 46 = dktX0_init_2 := dk_seg dksX0_init_1 24 rfl rfl
theorem dksX0_init_3 : cX0_init.data.toList.drop 68 = dktX0_init_3 := dk_seg dksX0_init_2 22 rfl rfl
theorem dksX0_init_4 : cX0_init.data.toList.drop 92 = dktX0_init_4 := dk_seg dksX0_init_3 24 rfl rfl
theorem dksX0_init_5 : cX0_init.data.toList.drop 116 = dktX0_init_5 := dk_seg dksX0_init_4 24 rfl rfl
theorem dksX0_init_6 : cX0_init.data.toList.drop 138 = dktX0_init_6 := dk_seg dksX0_init_5 22 rfl rfl
theorem dksX0_init_7 : cX0_init.data.toList.drop 162 = dktX0_init_7 := dk_seg dksX0_init_6 24 rfl rfl
theorem dksX0_init_8 : cX0_init.data.toList.drop 185 = dktX0_init_8 := dk_seg dksX0_init_7 23 rfl rfl
theorem dksX0_init_9 : cX0_init.data.toList.drop 208 = dktX0_init_9 := dk_seg dksX0_init_8 23 rfl rfl
theorem dksX0_init_10 : cX0_init.data.toList.drop 231 = dktX0_init_10 := dk_seg dksX0_init_9 23 rfl rfl
theorem dksX0_init_11 : cX0_init.data.toList.drop 255 = dktX0_init_11 := dk_seg dksX0_init_10 24 rfl rfl
theorem dksX0_init_12 : cX0_init.data.toList.drop 279 = dktX0_init_12 := dk_seg dksX0_init_11 24 rfl rfl
theorem dksX0_init_13 : cX0_init.data.toList.drop 303 = dktX0_init_13 := dk_seg dksX0_init_12 24 rfl rfl
theorem dX0_init_0 : decode cX0_init 0 = .ok (.aload_n 0, 1) := dk_42 (dk_at dksX0_init_0 0 rfl rfl)
theorem dX0_init_1 : decode cX0_init 1 = .ok (.invokespecial 3, 3) := dk_183 0 3 (dk_at dksX0_init_0 1 rfl rfl)
theorem dX0_init_4 : decode cX0_init 4 = .ok (.aload_n 0, 1) := dk_42 (dk_at dksX0_init_0 4 rfl rfl)
theorem dX0_init_5 : decode cX0_init 5 = .ok (.bipush 8, 2) := dk_16 8 (dk_at dksX0_init_0 5 rfl rfl)
theorem dX0_init_7 : decode cX0_init 7 = .ok (.bipush 8, 2) := dk_16 8 (dk_at dksX0_init_0 7 rfl rfl)
theorem dX0_init_9 : decode cX0_init 9 = .ok (.multianewarray 11 2, 4) := by decide +kernel
theorem dX0_init_13 : decode cX0_init 13 = .ok (.putfield 13, 3) := dk_181 0 13 (dk_at dksX0_init_0 13 rfl rfl)
theorem dX0_init_16 : decode cX0_init 16 = .ok (.aload_n 0, 1) := dk_42 (dk_at dksX0_init_0 16 rfl rfl)
theorem dX0_init_17 : decode cX0_init 17 = .ok (.bipush 16, 2) := dk_16 16 (dk_at dksX0_init_0 17 rfl rfl)
theorem dX0_init_19 : decode cX0_init 19 = .ok (.anewarray 16, 3) := dk_189 0 16 (dk_at dksX0_init_0 19 rfl rfl)
theorem dX0_init_22 : decode cX0_init 22 = .ok (.putfield 18, 3) := dk_181 0 18 (dk_at dksX0_init_1 0 rfl rfl)
theorem dX0_init_25 : decode cX0_init 25 = .ok (.aload_n 0, 1) := dk_42 (dk_at dksX0_init_1 3 rfl rfl)
theorem dX0_init_26 : decode cX0_init 26 = .ok (.bipush 16, 2) := dk_16 16 (dk_at dksX0_init_1 4 rfl rfl)
theorem dX0_init_28 : decode cX0_init 28 = .ok (.anewarray 22, 3) := dk_189 0 22 (dk_at dksX0_init_1 6 rfl rfl)
theorem dX0_init_31 : decode cX0_init 31 = .ok (.putfield 24, 3) := dk_181 0 24 (dk_at dksX0_init_1 9 rfl rfl)
theorem dX0_init_34 : decode cX0_init 34 = .ok (.aload_n 0, 1) := dk_42 (dk_at dksX0_init_1 12 rfl rfl)
theorem dX0_init_35 : decode cX0_init 35 = .ok (.bipush 24, 2) := dk_16 24 (dk_at dksX0_init_1 13 rfl rfl)
theorem dX0_init_37 : decode cX0_init 37 = .ok (.anewarray 28, 3) := dk_189 0 28 (dk_at dksX0_init_1 15 rfl rfl)
theorem dX0_init_40 : decode cX0_init 40 = .ok (.putfield 30, 3) := dk_181 0 30 (dk_at dksX0_init_1 18 rfl rfl)
theorem dX0_init_43 : decode cX0_init 43 = .ok (.aload_n 0, 1) := dk_42 (dk_at dksX0_init_1 21 rfl rfl)
theorem dX0_init_44 : decode cX0_init 44 = .ok (.bipush 50, 2) := dk_16 50 (dk_at dksX0_init_1 22 rfl rfl)
theorem dX0_init_46 : decode cX0_init 46 = .ok (.anewarray 34, 3) := dk_189 0 34 (dk_at dksX0_init_2 0 rfl rfl)
theorem dX0_init_49 : decode cX0_init 49 = .ok (.putfield 36, 3) := dk_181 0 36 (dk_at dksX0_init_2 3 rfl rfl)
theorem dX0_init_52 : decode cX0_init 52 = .ok (.aload_n 0, 1) := dk_42 (dk_at dksX0_init_2 6 rfl rfl)
theorem dX0_init_53 : decode cX0_init 53 = .ok (.new 40, 3) := dk_187 0 40 (dk_at dksX0_init_2 7 rfl rfl)
theorem dX0_init_56 : decode cX0_init 56 = .ok (.dup, 1) := dk_89 (dk_at dksX0_init_2 10 rfl rfl)
theorem dX0_init_57 : decode cX0_init 57 = .ok (.invokespecial 42, 3) := dk_183 0 42 (dk_at dksX0_init_2 11 rfl rfl)
theorem dX0_init_60 : decode cX0_init 60 = .ok (.putfield 43, 3) := dk_181 0 43 (dk_at dksX0_init_2 14 rfl rfl)
theorem dX0_init_63 : decode cX0_init 63 = .ok (.aload_n 0, 1) := dk_42 (dk_at dksX0_init_2 17 rfl rfl)
theorem dX0_init_64 : decode cX0_init 64 = .ok (.bipush 120, 2) := dk_16 120 (dk_at dksX0_init_2 18 rfl rfl)
theorem dX0_init_66 : decode cX0_init 66 = .ok (.newarray .byte, 2) := dk_188_8 (dk_at dksX0_init_2 20 rfl rfl)
theorem dX0_init_68 : decode cX0_init 68 = .ok (.putfield 47, 3) := dk_181 0 47 (dk_at dksX0_init_3 0 rfl rfl)
theorem dX0_init_71 : decode cX0_init 71 = .ok (.aload_n 0, 1) := dk_42 (dk_at dksX0_init_3 3 rfl rfl)
theorem dX0_init_72 : decode cX0_init 72 = .ok (.bipush 16, 2) := dk_16 16 (dk_at dksX0_init_3 4 rfl rfl)
theorem dX0_init_74 : decode cX0_init 74 = .ok (.anewarray 51, 3) := dk_189 0 51 (dk_at dksX0_init_3 6 rfl rfl)
theorem dX0_init_77 : decode cX0_init 77 = .ok (.putfield 53, 3) := dk_181 0 53 (dk_at dksX0_init_3 9 rfl rfl)
theorem dX0_init_80 : decode cX0_init 80 = .ok (.aload_n 0, 1) := dk_42 (dk_at dksX0_init_3 12 rfl rfl)
theorem dX0_init_81 : decode cX0_init 81 = .ok (.new 57, 3) := dk_187 0 57 (dk_at dksX0_init_3 13 rfl rfl)
theorem dX0_init_84 : decode cX0_init 84 = .ok (.dup, 1) := dk_89 (dk_at dksX0_init_3 16 rfl rfl)
theorem dX0_init_85 : decode cX0_init 85 = .ok (.invokespecial 59, 3) := dk_183 0 59 (dk_at dksX0_init_3 17 rfl rfl)
theorem dX0_init_88 : decode cX0_init 88 = .ok (.putfield 60, 3) := dk_181 0 60 (dk_at dksX0_init_3 20 rfl rfl)
theorem dX0_init_91 : decode cX0_init 91 = .ok (.aload_n 0, 1) := dk_42 (dk_at dksX0_init_3 23 rfl rfl)
theorem dX0_init_92 : decode cX0_init 92 = .ok (.bipush 6, 2) := dk_16 6 (dk_at dksX0_init_4 0 rfl rfl)
theorem dX0_init_94 : decode cX0_init 94 = .ok (.anewarray 64, 3) := dk_189 0 64 (dk_at dksX0_init_4 2 rfl rfl)
theorem dX0_init_97 : decode cX0_init 97 = .ok (.putfield 66, 3) := dk_181 0 66 (dk_at dksX0_init_4 5 rfl rfl)
theorem dX0_init_100 : decode cX0_init 100 = .ok (.aload_n 0, 1) := dk_42 (dk_at dksX0_init_4 8 rfl rfl)
theorem dX0_init_101 : decode cX0_init 101 = .ok (.bipush 30, 2) := dk_16 30 (dk_at dksX0_init_4 9 rfl rfl)
theorem dX0_init_103 : decode cX0_init 103 = .ok (.newarray .int, 2) := dk_188_10 (dk_at dksX0_init_4 11 rfl rfl)
theorem dX0_init_105 : decode cX0_init 105 = .ok (.putfield 70, 3) := dk_181 0 70 (dk_at dksX0_init_4 13 rfl rfl)
theorem dX0_init_108 : decode cX0_init 108 = .ok (.aload_n 0, 1) := dk_42 (dk_at dksX0_init_4 16 rfl rfl)
theorem dX0_init_109 : decode cX0_init 109 = .ok (.bipush 30, 2) := dk_16 30 (dk_at dksX0_init_4 17 rfl rfl)
theorem dX0_init_111 : decode cX0_init 111 = .ok (.newarray .int, 2) := dk_188_10 (dk_at dksX0_init_4 19 rfl rfl)
theorem dX0_init_113 : decode cX0_init 113 = .ok (.putfield 74, 3) := dk_181 0 74 (dk_at dksX0_init_4 21 rfl rfl)
theorem dX0_init_116 : decode cX0_init 116 = .ok (.aload_n 0, 1) := dk_42 (dk_at dksX0_init_5 0 rfl rfl)
theorem dX0_init_117 : decode cX0_init 117 = .ok (.bipush 30, 2) := dk_16 30 (dk_at dksX0_init_5 1 rfl rfl)
theorem dX0_init_119 : decode cX0_init 119 = .ok (.newarray .int, 2) := dk_188_10 (dk_at dksX0_init_5 3 rfl rfl)
theorem dX0_init_121 : decode cX0_init 121 = .ok (.putfield 77, 3) := dk_181 0 77 (dk_at dksX0_init_5 5 rfl rfl)
theorem dX0_init_124 : decode cX0_init 124 = .ok (.aload_n 0, 1) := dk_42 (dk_at dksX0_init_5 8 rfl rfl)
theorem dX0_init_125 : decode cX0_init 125 = .ok (.bipush 30, 2) := dk_16 30 (dk_at dksX0_init_5 9 rfl rfl)
theorem dX0_init_127 : decode cX0_init 127 = .ok (.newarray .int, 2) := dk_188_10 (dk_at dksX0_init_5 11 rfl rfl)
theorem dX0_init_129 : decode cX0_init 129 = .ok (.putfield 80, 3) := dk_181 0 80 (dk_at dksX0_init_5 13 rfl rfl)
theorem dX0_init_132 : decode cX0_init 132 = .ok (.aload_n 0, 1) := dk_42 (dk_at dksX0_init_5 16 rfl rfl)
theorem dX0_init_133 : decode cX0_init 133 = .ok (.bipush 40, 2) := dk_16 40 (dk_at dksX0_init_5 17 rfl rfl)
theorem dX0_init_135 : decode cX0_init 135 = .ok (.anewarray 83, 3) := dk_189 0 83 (dk_at dksX0_init_5 19 rfl rfl)
theorem dX0_init_138 : decode cX0_init 138 = .ok (.putfield 85, 3) := dk_181 0 85 (dk_at dksX0_init_6 0 rfl rfl)
theorem dX0_init_141 : decode cX0_init 141 = .ok (.aload_n 0, 1) := dk_42 (dk_at dksX0_init_6 3 rfl rfl)
theorem dX0_init_142 : decode cX0_init 142 = .ok (.bipush 16, 2) := dk_16 16 (dk_at dksX0_init_6 4 rfl rfl)
theorem dX0_init_144 : decode cX0_init 144 = .ok (.newarray .int, 2) := dk_188_10 (dk_at dksX0_init_6 6 rfl rfl)
theorem dX0_init_146 : decode cX0_init 146 = .ok (.putfield 89, 3) := dk_181 0 89 (dk_at dksX0_init_6 8 rfl rfl)
theorem dX0_init_149 : decode cX0_init 149 = .ok (.aload_n 0, 1) := dk_42 (dk_at dksX0_init_6 11 rfl rfl)
theorem dX0_init_150 : decode cX0_init 150 = .ok (.bipush 8, 2) := dk_16 8 (dk_at dksX0_init_6 12 rfl rfl)
theorem dX0_init_152 : decode cX0_init 152 = .ok (.bipush 7, 2) := dk_16 7 (dk_at dksX0_init_6 14 rfl rfl)
theorem dX0_init_154 : decode cX0_init 154 = .ok (.multianewarray 11 2, 4) := by decide +kernel
theorem dX0_init_158 : decode cX0_init 158 = .ok (.putfield 92, 3) := dk_181 0 92 (dk_at dksX0_init_6 20 rfl rfl)
theorem dX0_init_161 : decode cX0_init 161 = .ok (.aload_n 0, 1) := dk_42 (dk_at dksX0_init_6 23 rfl rfl)
theorem dX0_init_162 : decode cX0_init 162 = .ok (.bipush 9, 2) := dk_16 9 (dk_at dksX0_init_7 0 rfl rfl)
theorem dX0_init_164 : decode cX0_init 164 = .ok (.bipush 31, 2) := dk_16 31 (dk_at dksX0_init_7 2 rfl rfl)
theorem dX0_init_166 : decode cX0_init 166 = .ok (.multianewarray 11 2, 4) := by decide +kernel
theorem dX0_init_170 : decode cX0_init 170 = .ok (.putfield 95, 3) := dk_181 0 95 (dk_at dksX0_init_7 8 rfl rfl)
theorem dX0_init_173 : decode cX0_init 173 = .ok (.aload_n 0, 1) := dk_42 (dk_at dksX0_init_7 11 rfl rfl)
theorem dX0_init_174 : decode cX0_init 174 = .ok (.bipush 8, 2) := dk_16 8 (dk_at dksX0_init_7 12 rfl rfl)
theorem dX0_init_176 : decode cX0_init 176 = .ok (.anewarray 98, 3) := dk_189 0 98 (dk_at dksX0_init_7 14 rfl rfl)
theorem dX0_init_179 : decode cX0_init 179 = .ok (.putfield 100, 3) := dk_181 0 100 (dk_at dksX0_init_7 17 rfl rfl)
theorem dX0_init_182 : decode cX0_init 182 = .ok (.aload_n 0, 1) := dk_42 (dk_at dksX0_init_7 20 rfl rfl)
theorem dX0_init_183 : decode cX0_init 183 = .ok (.bipush 20, 2) := dk_16 20 (dk_at dksX0_init_7 21 rfl rfl)
theorem dX0_init_185 : decode cX0_init 185 = .ok (.newarray .int, 2) := dk_188_10 (dk_at dksX0_init_8 0 rfl rfl)
theorem dX0_init_187 : decode cX0_init 187 = .ok (.putfield 104, 3) := dk_181 0 104 (dk_at dksX0_init_8 2 rfl rfl)
theorem dX0_init_190 : decode cX0_init 190 = .ok (.aload_n 0, 1) := dk_42 (dk_at dksX0_init_8 5 rfl rfl)
theorem dX0_init_191 : decode cX0_init 191 = .ok (.bipush 20, 2) := dk_16 20 (dk_at dksX0_init_8 6 rfl rfl)
theorem dX0_init_193 : decode cX0_init 193 = .ok (.newarray .int, 2) := dk_188_10 (dk_at dksX0_init_8 8 rfl rfl)
theorem dX0_init_195 : decode cX0_init 195 = .ok (.putfield 107, 3) := dk_181 0 107 (dk_at dksX0_init_8 10 rfl rfl)
theorem dX0_init_198 : decode cX0_init 198 = .ok (.aload_n 0, 1) := dk_42 (dk_at dksX0_init_8 13 rfl rfl)
theorem dX0_init_199 : decode cX0_init 199 = .ok (.bipush 60, 2) := dk_16 60 (dk_at dksX0_init_8 14 rfl rfl)
theorem dX0_init_201 : decode cX0_init 201 = .ok (.anewarray 28, 3) := dk_189 0 28 (dk_at dksX0_init_8 16 rfl rfl)
theorem dX0_init_204 : decode cX0_init 204 = .ok (.putfield 110, 3) := dk_181 0 110 (dk_at dksX0_init_8 19 rfl rfl)
theorem dX0_init_207 : decode cX0_init 207 = .ok (.aload_n 0, 1) := dk_42 (dk_at dksX0_init_8 22 rfl rfl)
theorem dX0_init_208 : decode cX0_init 208 = .ok (.sipush 200, 3) := dk_17 0 200 (dk_at dksX0_init_9 0 rfl rfl)
theorem dX0_init_211 : decode cX0_init 211 = .ok (.newarray .int, 2) := dk_188_10 (dk_at dksX0_init_9 3 rfl rfl)
theorem dX0_init_213 : decode cX0_init 213 = .ok (.putfield 113, 3) := dk_181 0 113 (dk_at dksX0_init_9 5 rfl rfl)
theorem dX0_init_216 : decode cX0_init 216 = .ok (.aload_n 0, 1) := dk_42 (dk_at dksX0_init_9 8 rfl rfl)
theorem dX0_init_217 : decode cX0_init 217 = .ok (.sipush 200, 3) := dk_17 0 200 (dk_at dksX0_init_9 9 rfl rfl)
theorem dX0_init_220 : decode cX0_init 220 = .ok (.newarray .int, 2) := dk_188_10 (dk_at dksX0_init_9 12 rfl rfl)
theorem dX0_init_222 : decode cX0_init 222 = .ok (.putfield 116, 3) := dk_181 0 116 (dk_at dksX0_init_9 14 rfl rfl)
theorem dX0_init_225 : decode cX0_init 225 = .ok (.aload_n 0, 1) := dk_42 (dk_at dksX0_init_9 17 rfl rfl)
theorem dX0_init_226 : decode cX0_init 226 = .ok (.sipush 200, 3) := dk_17 0 200 (dk_at dksX0_init_9 18 rfl rfl)
theorem dX0_init_229 : decode cX0_init 229 = .ok (.newarray .int, 2) := dk_188_10 (dk_at dksX0_init_9 21 rfl rfl)
theorem dX0_init_231 : decode cX0_init 231 = .ok (.putfield 119, 3) := dk_181 0 119 (dk_at dksX0_init_10 0 rfl rfl)
theorem dX0_init_234 : decode cX0_init 234 = .ok (.iconst 0, 1) := dk_3 (dk_at dksX0_init_10 3 rfl rfl)
theorem dX0_init_235 : decode cX0_init 235 = .ok (.istore_n 1, 1) := dk_60 (dk_at dksX0_init_10 4 rfl rfl)
theorem dX0_init_236 : decode cX0_init 236 = .ok (.iload_n 1, 1) := dk_27 (dk_at dksX0_init_10 5 rfl rfl)
theorem dX0_init_237 : decode cX0_init 237 = .ok (.bipush 8, 2) := dk_16 8 (dk_at dksX0_init_10 6 rfl rfl)
theorem dX0_init_239 : decode cX0_init 239 = .ok (.if_icmp .ge 43, 3) := dk_162 0 43 (dk_at dksX0_init_10 8 rfl rfl)
theorem dX0_init_242 : decode cX0_init 242 = .ok (.iconst 0, 1) := dk_3 (dk_at dksX0_init_10 11 rfl rfl)
theorem dX0_init_243 : decode cX0_init 243 = .ok (.istore_n 2, 1) := dk_61 (dk_at dksX0_init_10 12 rfl rfl)
theorem dX0_init_244 : decode cX0_init 244 = .ok (.iload_n 2, 1) := dk_28 (dk_at dksX0_init_10 13 rfl rfl)
theorem dX0_init_245 : decode cX0_init 245 = .ok (.bipush 8, 2) := dk_16 8 (dk_at dksX0_init_10 14 rfl rfl)
theorem dX0_init_247 : decode cX0_init 247 = .ok (.if_icmp .ge 29, 3) := dk_162 0 29 (dk_at dksX0_init_10 16 rfl rfl)
theorem dX0_init_250 : decode cX0_init 250 = .ok (.aload_n 0, 1) := dk_42 (dk_at dksX0_init_10 19 rfl rfl)
theorem dX0_init_251 : decode cX0_init 251 = .ok (.getfield 13, 3) := dk_180 0 13 (dk_at dksX0_init_10 20 rfl rfl)
theorem dX0_init_254 : decode cX0_init 254 = .ok (.iload_n 1, 1) := dk_27 (dk_at dksX0_init_10 23 rfl rfl)
theorem dX0_init_255 : decode cX0_init 255 = .ok (.aaload, 1) := dk_50 (dk_at dksX0_init_11 0 rfl rfl)
theorem dX0_init_256 : decode cX0_init 256 = .ok (.iload_n 2, 1) := dk_28 (dk_at dksX0_init_11 1 rfl rfl)
theorem dX0_init_257 : decode cX0_init 257 = .ok (.iload_n 1, 1) := dk_27 (dk_at dksX0_init_11 2 rfl rfl)
theorem dX0_init_258 : decode cX0_init 258 = .ok (.iload_n 2, 1) := dk_28 (dk_at dksX0_init_11 3 rfl rfl)
theorem dX0_init_259 : decode cX0_init 259 = .ok (.if_icmp .ne 7, 3) := dk_160 0 7 (dk_at dksX0_init_11 4 rfl rfl)
theorem dX0_init_262 : decode cX0_init 262 = .ok (.iconst 0, 1) := dk_3 (dk_at dksX0_init_11 7 rfl rfl)
theorem dX0_init_263 : decode cX0_init 263 = .ok (.goto 6, 3) := dk_167 0 6 (dk_at dksX0_init_11 8 rfl rfl)
theorem dX0_init_266 : decode cX0_init 266 = .ok (.sipush 9999, 3) := dk_17 39 15 (dk_at dksX0_init_11 11 rfl rfl)
theorem dX0_init_269 : decode cX0_init 269 = .ok (.iastore, 1) := dk_79 (dk_at dksX0_init_11 14 rfl rfl)
theorem dX0_init_270 : decode cX0_init 270 = .ok (.iinc 2 1, 3) := dk_132 2 1 (dk_at dksX0_init_11 15 rfl rfl)
theorem dX0_init_273 : decode cX0_init 273 = .ok (.goto (-29), 3) := dk_167 255 227 (dk_at dksX0_init_11 18 rfl rfl)
theorem dX0_init_276 : decode cX0_init 276 = .ok (.iinc 1 1, 3) := dk_132 1 1 (dk_at dksX0_init_11 21 rfl rfl)
theorem dX0_init_279 : decode cX0_init 279 = .ok (.goto (-43), 3) := dk_167 255 213 (dk_at dksX0_init_12 0 rfl rfl)
theorem dX0_init_282 : decode cX0_init 282 = .ok (.iconst 0, 1) := dk_3 (dk_at dksX0_init_12 3 rfl rfl)
theorem dX0_init_283 : decode cX0_init 283 = .ok (.istore_n 1, 1) := dk_60 (dk_at dksX0_init_12 4 rfl rfl)
theorem dX0_init_284 : decode cX0_init 284 = .ok (.iload_n 1, 1) := dk_27 (dk_at dksX0_init_12 5 rfl rfl)
theorem dX0_init_285 : decode cX0_init 285 = .ok (.bipush 6, 2) := dk_16 6 (dk_at dksX0_init_12 6 rfl rfl)
theorem dX0_init_287 : decode cX0_init 287 = .ok (.if_icmp .ge 22, 3) := dk_162 0 22 (dk_at dksX0_init_12 8 rfl rfl)
theorem dX0_init_290 : decode cX0_init 290 = .ok (.aload_n 0, 1) := dk_42 (dk_at dksX0_init_12 11 rfl rfl)
theorem dX0_init_291 : decode cX0_init 291 = .ok (.getfield 66, 3) := dk_180 0 66 (dk_at dksX0_init_12 12 rfl rfl)
theorem dX0_init_294 : decode cX0_init 294 = .ok (.iload_n 1, 1) := dk_27 (dk_at dksX0_init_12 15 rfl rfl)
theorem dX0_init_295 : decode cX0_init 295 = .ok (.new 64, 3) := dk_187 0 64 (dk_at dksX0_init_12 16 rfl rfl)
theorem dX0_init_298 : decode cX0_init 298 = .ok (.dup, 1) := dk_89 (dk_at dksX0_init_12 19 rfl rfl)
theorem dX0_init_299 : decode cX0_init 299 = .ok (.invokespecial 122, 3) := dk_183 0 122 (dk_at dksX0_init_12 20 rfl rfl)
theorem dX0_init_302 : decode cX0_init 302 = .ok (.aastore, 1) := dk_83 (dk_at dksX0_init_12 23 rfl rfl)
theorem dX0_init_303 : decode cX0_init 303 = .ok (.iinc 1 1, 3) := dk_132 1 1 (dk_at dksX0_init_13 0 rfl rfl)
theorem dX0_init_306 : decode cX0_init 306 = .ok (.goto (-22), 3) := dk_167 255 234 (dk_at dksX0_init_13 3 rfl rfl)
theorem dX0_init_309 : decode cX0_init 309 = .ok (.return_, 1) := dk_177 (dk_at dksX0_init_13 6 rfl rfl)
abbrev cX0_pass : ByteArray := prog_1_method_7_code
def yX0_pass : MethodName := ⟨RX0, "pass", "(I)I"⟩
def dkwX0_pass_1 : List UInt8 := [16, 254, 172, 42, 89, 180, 0, 134, 27, 96, 181, 0, 134, 42, 180, 0, 134, 172]
abbrev dktX0_pass_1 : List UInt8 := dkwX0_pass_1 ++ []
def dkwX0_pass_0 : List UInt8 := [27, 4, 17, 1, 144, 184, 0, 123, 153, 0, 15, 42, 180, 0, 134, 27, 96, 17, 39, 15, 164, 0, 6]
abbrev dktX0_pass_0 : List UInt8 := dkwX0_pass_0 ++ dktX0_pass_1
theorem dksX0_pass_0 : cX0_pass.data.toList.drop 0 = dktX0_pass_0 := by decide +kernel
theorem dksX0_pass_1 : cX0_pass.data.toList.drop 23 = dktX0_pass_1 := dk_seg dksX0_pass_0 23 rfl rfl
theorem dX0_pass_0 : decode cX0_pass 0 = .ok (.iload_n 1, 1) := dk_27 (dk_at dksX0_pass_0 0 rfl rfl)
theorem dX0_pass_1 : decode cX0_pass 1 = .ok (.iconst 1, 1) := dk_4 (dk_at dksX0_pass_0 1 rfl rfl)
theorem dX0_pass_2 : decode cX0_pass 2 = .ok (.sipush 400, 3) := dk_17 1 144 (dk_at dksX0_pass_0 2 rfl rfl)
theorem dX0_pass_5 : decode cX0_pass 5 = .ok (.invokestatic 123, 3) := dk_184 0 123 (dk_at dksX0_pass_0 5 rfl rfl)
theorem dX0_pass_8 : decode cX0_pass 8 = .ok (.ifCond .eq 15, 3) := dk_153 0 15 (dk_at dksX0_pass_0 8 rfl rfl)
theorem dX0_pass_11 : decode cX0_pass 11 = .ok (.aload_n 0, 1) := dk_42 (dk_at dksX0_pass_0 11 rfl rfl)
theorem dX0_pass_12 : decode cX0_pass 12 = .ok (.getfield 134, 3) := dk_180 0 134 (dk_at dksX0_pass_0 12 rfl rfl)
theorem dX0_pass_15 : decode cX0_pass 15 = .ok (.iload_n 1, 1) := dk_27 (dk_at dksX0_pass_0 15 rfl rfl)
theorem dX0_pass_16 : decode cX0_pass 16 = .ok (.iadd, 1) := dk_96 (dk_at dksX0_pass_0 16 rfl rfl)
theorem dX0_pass_17 : decode cX0_pass 17 = .ok (.sipush 9999, 3) := dk_17 39 15 (dk_at dksX0_pass_0 17 rfl rfl)
theorem dX0_pass_20 : decode cX0_pass 20 = .ok (.if_icmp .le 6, 3) := dk_164 0 6 (dk_at dksX0_pass_0 20 rfl rfl)
theorem dX0_pass_23 : decode cX0_pass 23 = .ok (.bipush (-2), 2) := dk_16 254 (dk_at dksX0_pass_1 0 rfl rfl)
theorem dX0_pass_25 : decode cX0_pass 25 = .ok (.ireturn, 1) := dk_172 (dk_at dksX0_pass_1 2 rfl rfl)
theorem dX0_pass_26 : decode cX0_pass 26 = .ok (.aload_n 0, 1) := dk_42 (dk_at dksX0_pass_1 3 rfl rfl)
theorem dX0_pass_27 : decode cX0_pass 27 = .ok (.dup, 1) := dk_89 (dk_at dksX0_pass_1 4 rfl rfl)
theorem dX0_pass_28 : decode cX0_pass 28 = .ok (.getfield 134, 3) := dk_180 0 134 (dk_at dksX0_pass_1 5 rfl rfl)
theorem dX0_pass_31 : decode cX0_pass 31 = .ok (.iload_n 1, 1) := dk_27 (dk_at dksX0_pass_1 8 rfl rfl)
theorem dX0_pass_32 : decode cX0_pass 32 = .ok (.iadd, 1) := dk_96 (dk_at dksX0_pass_1 9 rfl rfl)
theorem dX0_pass_33 : decode cX0_pass 33 = .ok (.putfield 134, 3) := dk_181 0 134 (dk_at dksX0_pass_1 10 rfl rfl)
theorem dX0_pass_36 : decode cX0_pass 36 = .ok (.aload_n 0, 1) := dk_42 (dk_at dksX0_pass_1 13 rfl rfl)
theorem dX0_pass_37 : decode cX0_pass 37 = .ok (.getfield 134, 3) := dk_180 0 134 (dk_at dksX0_pass_1 14 rfl rfl)
theorem dX0_pass_40 : decode cX0_pass 40 = .ok (.ireturn, 1) := dk_172 (dk_at dksX0_pass_1 17 rfl rfl)
abbrev cX0_in : ByteArray := prog_1_method_1_code
def yX0_in : MethodName := ⟨RX0, "in", "(III)Z"⟩
def dkwX0_in_0 : List UInt8 := [26, 27, 161, 0, 12, 26, 28, 163, 0, 7, 4, 167, 0, 4, 3, 172]
abbrev dktX0_in_0 : List UInt8 := dkwX0_in_0 ++ []
theorem dksX0_in_0 : cX0_in.data.toList.drop 0 = dktX0_in_0 := by decide +kernel
theorem dX0_in_0 : decode cX0_in 0 = .ok (.iload_n 0, 1) := dk_26 (dk_at dksX0_in_0 0 rfl rfl)
theorem dX0_in_1 : decode cX0_in 1 = .ok (.iload_n 1, 1) := dk_27 (dk_at dksX0_in_0 1 rfl rfl)
theorem dX0_in_2 : decode cX0_in 2 = .ok (.if_icmp .lt 12, 3) := dk_161 0 12 (dk_at dksX0_in_0 2 rfl rfl)
theorem dX0_in_5 : decode cX0_in 5 = .ok (.iload_n 0, 1) := dk_26 (dk_at dksX0_in_0 5 rfl rfl)
theorem dX0_in_6 : decode cX0_in 6 = .ok (.iload_n 2, 1) := dk_28 (dk_at dksX0_in_0 6 rfl rfl)
theorem dX0_in_7 : decode cX0_in 7 = .ok (.if_icmp .gt 7, 3) := dk_163 0 7 (dk_at dksX0_in_0 7 rfl rfl)
theorem dX0_in_10 : decode cX0_in 10 = .ok (.iconst 1, 1) := dk_4 (dk_at dksX0_in_0 10 rfl rfl)
theorem dX0_in_11 : decode cX0_in 11 = .ok (.goto 4, 3) := dk_167 0 4 (dk_at dksX0_in_0 11 rfl rfl)
theorem dX0_in_14 : decode cX0_in 14 = .ok (.iconst 0, 1) := dk_3 (dk_at dksX0_in_0 14 rfl rfl)
theorem dX0_in_15 : decode cX0_in 15 = .ok (.ireturn, 1) := dk_172 (dk_at dksX0_in_0 15 rfl rfl)
abbrev cX0_road : ByteArray := prog_1_method_8_code
def yX0_road : MethodName := ⟨RX0, "road", "(III)I"⟩
def dkwX0_road_6 : List UInt8 := [167, 255, 202, 132, 5, 1, 167, 255, 186, 132, 4, 1, 167, 255, 170, 4, 172]
abbrev dktX0_road_6 : List UInt8 := dkwX0_road_6 ++ []
def dkwX0_road_5 : List UInt8 := [50, 21, 4, 46, 42, 180, 0, 13, 21, 4, 50, 21, 6, 46, 96, 184, 0, 141, 79, 132, 6, 1]
abbrev dktX0_road_5 : List UInt8 := dkwX0_road_5 ++ dktX0_road_6
def dkwX0_road_4 : List UInt8 := [180, 0, 13, 21, 5, 50, 21, 6, 42, 180, 0, 13, 21, 5, 50, 21, 6, 46, 42, 180, 0, 13, 21, 5]
abbrev dktX0_road_4 : List UInt8 := dkwX0_road_4 ++ dktX0_road_5
def dkwX0_road_3 : List UInt8 := [162, 0, 85, 3, 54, 5, 21, 5, 16, 8, 162, 0, 69, 3, 54, 6, 21, 6, 16, 8, 162, 0, 53, 42]
abbrev dktX0_road_3 : List UInt8 := dkwX0_road_3 ++ dktX0_road_4
def dkwX0_road_2 : List UInt8 := [180, 0, 13, 27, 50, 28, 29, 79, 42, 180, 0, 13, 28, 50, 27, 29, 79, 3, 54, 4, 21, 4, 16, 8]
abbrev dktX0_road_2 : List UInt8 := dkwX0_road_2 ++ dktX0_road_3
def dkwX0_road_1 : List UInt8 := [16, 60, 184, 0, 123, 154, 0, 6, 16, 254, 172, 29, 42, 180, 0, 13, 27, 50, 28, 46, 162, 0, 113, 42]
abbrev dktX0_road_1 : List UInt8 := dkwX0_road_1 ++ dktX0_road_2
def dkwX0_road_0 : List UInt8 := [27, 184, 0, 137, 153, 0, 10, 28, 184, 0, 137, 154, 0, 5, 2, 172, 27, 28, 159, 0, 13, 29, 4]
abbrev dktX0_road_0 : List UInt8 := dkwX0_road_0 ++ dktX0_road_1
theorem dksX0_road_0 : cX0_road.data.toList.drop 0 = dktX0_road_0 := by decide +kernel
theorem dksX0_road_1 : cX0_road.data.toList.drop 23 = dktX0_road_1 := dk_seg dksX0_road_0 23 rfl rfl
theorem dksX0_road_2 : cX0_road.data.toList.drop 47 = dktX0_road_2 := dk_seg dksX0_road_1 24 rfl rfl
theorem dksX0_road_3 : cX0_road.data.toList.drop 71 = dktX0_road_3 := dk_seg dksX0_road_2 24 rfl rfl
theorem dksX0_road_4 : cX0_road.data.toList.drop 95 = dktX0_road_4 := dk_seg dksX0_road_3 24 rfl rfl
theorem dksX0_road_5 : cX0_road.data.toList.drop 119 = dktX0_road_5 := dk_seg dksX0_road_4 24 rfl rfl
theorem dksX0_road_6 : cX0_road.data.toList.drop 141 = dktX0_road_6 := dk_seg dksX0_road_5 22 rfl rfl
theorem dX0_road_0 : decode cX0_road 0 = .ok (.iload_n 1, 1) := dk_27 (dk_at dksX0_road_0 0 rfl rfl)
theorem dX0_road_1 : decode cX0_road 1 = .ok (.invokestatic 137, 3) := dk_184 0 137 (dk_at dksX0_road_0 1 rfl rfl)
theorem dX0_road_4 : decode cX0_road 4 = .ok (.ifCond .eq 10, 3) := dk_153 0 10 (dk_at dksX0_road_0 4 rfl rfl)
theorem dX0_road_7 : decode cX0_road 7 = .ok (.iload_n 2, 1) := dk_28 (dk_at dksX0_road_0 7 rfl rfl)
theorem dX0_road_8 : decode cX0_road 8 = .ok (.invokestatic 137, 3) := dk_184 0 137 (dk_at dksX0_road_0 8 rfl rfl)
theorem dX0_road_11 : decode cX0_road 11 = .ok (.ifCond .ne 5, 3) := dk_154 0 5 (dk_at dksX0_road_0 11 rfl rfl)
theorem dX0_road_14 : decode cX0_road 14 = .ok (.iconst (-1), 1) := dk_2 (dk_at dksX0_road_0 14 rfl rfl)
theorem dX0_road_15 : decode cX0_road 15 = .ok (.ireturn, 1) := dk_172 (dk_at dksX0_road_0 15 rfl rfl)
theorem dX0_road_16 : decode cX0_road 16 = .ok (.iload_n 1, 1) := dk_27 (dk_at dksX0_road_0 16 rfl rfl)
theorem dX0_road_17 : decode cX0_road 17 = .ok (.iload_n 2, 1) := dk_28 (dk_at dksX0_road_0 17 rfl rfl)
theorem dX0_road_18 : decode cX0_road 18 = .ok (.if_icmp .eq 13, 3) := dk_159 0 13 (dk_at dksX0_road_0 18 rfl rfl)
theorem dX0_road_21 : decode cX0_road 21 = .ok (.iload_n 3, 1) := dk_29 (dk_at dksX0_road_0 21 rfl rfl)
theorem dX0_road_22 : decode cX0_road 22 = .ok (.iconst 1, 1) := dk_4 (dk_at dksX0_road_0 22 rfl rfl)
theorem dX0_road_23 : decode cX0_road 23 = .ok (.bipush 60, 2) := dk_16 60 (dk_at dksX0_road_1 0 rfl rfl)
theorem dX0_road_25 : decode cX0_road 25 = .ok (.invokestatic 123, 3) := dk_184 0 123 (dk_at dksX0_road_1 2 rfl rfl)
theorem dX0_road_28 : decode cX0_road 28 = .ok (.ifCond .ne 6, 3) := dk_154 0 6 (dk_at dksX0_road_1 5 rfl rfl)
theorem dX0_road_31 : decode cX0_road 31 = .ok (.bipush (-2), 2) := dk_16 254 (dk_at dksX0_road_1 8 rfl rfl)
theorem dX0_road_33 : decode cX0_road 33 = .ok (.ireturn, 1) := dk_172 (dk_at dksX0_road_1 10 rfl rfl)
theorem dX0_road_34 : decode cX0_road 34 = .ok (.iload_n 3, 1) := dk_29 (dk_at dksX0_road_1 11 rfl rfl)
theorem dX0_road_35 : decode cX0_road 35 = .ok (.aload_n 0, 1) := dk_42 (dk_at dksX0_road_1 12 rfl rfl)
theorem dX0_road_36 : decode cX0_road 36 = .ok (.getfield 13, 3) := dk_180 0 13 (dk_at dksX0_road_1 13 rfl rfl)
theorem dX0_road_39 : decode cX0_road 39 = .ok (.iload_n 1, 1) := dk_27 (dk_at dksX0_road_1 16 rfl rfl)
theorem dX0_road_40 : decode cX0_road 40 = .ok (.aaload, 1) := dk_50 (dk_at dksX0_road_1 17 rfl rfl)
theorem dX0_road_41 : decode cX0_road 41 = .ok (.iload_n 2, 1) := dk_28 (dk_at dksX0_road_1 18 rfl rfl)
theorem dX0_road_42 : decode cX0_road 42 = .ok (.iaload, 1) := dk_46 (dk_at dksX0_road_1 19 rfl rfl)
theorem dX0_road_43 : decode cX0_road 43 = .ok (.if_icmp .ge 113, 3) := dk_162 0 113 (dk_at dksX0_road_1 20 rfl rfl)
theorem dX0_road_46 : decode cX0_road 46 = .ok (.aload_n 0, 1) := dk_42 (dk_at dksX0_road_1 23 rfl rfl)
theorem dX0_road_47 : decode cX0_road 47 = .ok (.getfield 13, 3) := dk_180 0 13 (dk_at dksX0_road_2 0 rfl rfl)
theorem dX0_road_50 : decode cX0_road 50 = .ok (.iload_n 1, 1) := dk_27 (dk_at dksX0_road_2 3 rfl rfl)
theorem dX0_road_51 : decode cX0_road 51 = .ok (.aaload, 1) := dk_50 (dk_at dksX0_road_2 4 rfl rfl)
theorem dX0_road_52 : decode cX0_road 52 = .ok (.iload_n 2, 1) := dk_28 (dk_at dksX0_road_2 5 rfl rfl)
theorem dX0_road_53 : decode cX0_road 53 = .ok (.iload_n 3, 1) := dk_29 (dk_at dksX0_road_2 6 rfl rfl)
theorem dX0_road_54 : decode cX0_road 54 = .ok (.iastore, 1) := dk_79 (dk_at dksX0_road_2 7 rfl rfl)
theorem dX0_road_55 : decode cX0_road 55 = .ok (.aload_n 0, 1) := dk_42 (dk_at dksX0_road_2 8 rfl rfl)
theorem dX0_road_56 : decode cX0_road 56 = .ok (.getfield 13, 3) := dk_180 0 13 (dk_at dksX0_road_2 9 rfl rfl)
theorem dX0_road_59 : decode cX0_road 59 = .ok (.iload_n 2, 1) := dk_28 (dk_at dksX0_road_2 12 rfl rfl)
theorem dX0_road_60 : decode cX0_road 60 = .ok (.aaload, 1) := dk_50 (dk_at dksX0_road_2 13 rfl rfl)
theorem dX0_road_61 : decode cX0_road 61 = .ok (.iload_n 1, 1) := dk_27 (dk_at dksX0_road_2 14 rfl rfl)
theorem dX0_road_62 : decode cX0_road 62 = .ok (.iload_n 3, 1) := dk_29 (dk_at dksX0_road_2 15 rfl rfl)
theorem dX0_road_63 : decode cX0_road 63 = .ok (.iastore, 1) := dk_79 (dk_at dksX0_road_2 16 rfl rfl)
theorem dX0_road_64 : decode cX0_road 64 = .ok (.iconst 0, 1) := dk_3 (dk_at dksX0_road_2 17 rfl rfl)
theorem dX0_road_65 : decode cX0_road 65 = .ok (.istore 4, 2) := dk_54 4 (dk_at dksX0_road_2 18 rfl rfl)
theorem dX0_road_67 : decode cX0_road 67 = .ok (.iload 4, 2) := dk_21 4 (dk_at dksX0_road_2 20 rfl rfl)
theorem dX0_road_69 : decode cX0_road 69 = .ok (.bipush 8, 2) := dk_16 8 (dk_at dksX0_road_2 22 rfl rfl)
theorem dX0_road_71 : decode cX0_road 71 = .ok (.if_icmp .ge 85, 3) := dk_162 0 85 (dk_at dksX0_road_3 0 rfl rfl)
theorem dX0_road_74 : decode cX0_road 74 = .ok (.iconst 0, 1) := dk_3 (dk_at dksX0_road_3 3 rfl rfl)
theorem dX0_road_75 : decode cX0_road 75 = .ok (.istore 5, 2) := dk_54 5 (dk_at dksX0_road_3 4 rfl rfl)
theorem dX0_road_77 : decode cX0_road 77 = .ok (.iload 5, 2) := dk_21 5 (dk_at dksX0_road_3 6 rfl rfl)
theorem dX0_road_79 : decode cX0_road 79 = .ok (.bipush 8, 2) := dk_16 8 (dk_at dksX0_road_3 8 rfl rfl)
theorem dX0_road_81 : decode cX0_road 81 = .ok (.if_icmp .ge 69, 3) := dk_162 0 69 (dk_at dksX0_road_3 10 rfl rfl)
theorem dX0_road_84 : decode cX0_road 84 = .ok (.iconst 0, 1) := dk_3 (dk_at dksX0_road_3 13 rfl rfl)
theorem dX0_road_85 : decode cX0_road 85 = .ok (.istore 6, 2) := dk_54 6 (dk_at dksX0_road_3 14 rfl rfl)
theorem dX0_road_87 : decode cX0_road 87 = .ok (.iload 6, 2) := dk_21 6 (dk_at dksX0_road_3 16 rfl rfl)
theorem dX0_road_89 : decode cX0_road 89 = .ok (.bipush 8, 2) := dk_16 8 (dk_at dksX0_road_3 18 rfl rfl)
theorem dX0_road_91 : decode cX0_road 91 = .ok (.if_icmp .ge 53, 3) := dk_162 0 53 (dk_at dksX0_road_3 20 rfl rfl)
theorem dX0_road_94 : decode cX0_road 94 = .ok (.aload_n 0, 1) := dk_42 (dk_at dksX0_road_3 23 rfl rfl)
theorem dX0_road_95 : decode cX0_road 95 = .ok (.getfield 13, 3) := dk_180 0 13 (dk_at dksX0_road_4 0 rfl rfl)
theorem dX0_road_98 : decode cX0_road 98 = .ok (.iload 5, 2) := dk_21 5 (dk_at dksX0_road_4 3 rfl rfl)
theorem dX0_road_100 : decode cX0_road 100 = .ok (.aaload, 1) := dk_50 (dk_at dksX0_road_4 5 rfl rfl)
theorem dX0_road_101 : decode cX0_road 101 = .ok (.iload 6, 2) := dk_21 6 (dk_at dksX0_road_4 6 rfl rfl)
theorem dX0_road_103 : decode cX0_road 103 = .ok (.aload_n 0, 1) := dk_42 (dk_at dksX0_road_4 8 rfl rfl)
theorem dX0_road_104 : decode cX0_road 104 = .ok (.getfield 13, 3) := dk_180 0 13 (dk_at dksX0_road_4 9 rfl rfl)
theorem dX0_road_107 : decode cX0_road 107 = .ok (.iload 5, 2) := dk_21 5 (dk_at dksX0_road_4 12 rfl rfl)
theorem dX0_road_109 : decode cX0_road 109 = .ok (.aaload, 1) := dk_50 (dk_at dksX0_road_4 14 rfl rfl)
theorem dX0_road_110 : decode cX0_road 110 = .ok (.iload 6, 2) := dk_21 6 (dk_at dksX0_road_4 15 rfl rfl)
theorem dX0_road_112 : decode cX0_road 112 = .ok (.iaload, 1) := dk_46 (dk_at dksX0_road_4 17 rfl rfl)
theorem dX0_road_113 : decode cX0_road 113 = .ok (.aload_n 0, 1) := dk_42 (dk_at dksX0_road_4 18 rfl rfl)
theorem dX0_road_114 : decode cX0_road 114 = .ok (.getfield 13, 3) := dk_180 0 13 (dk_at dksX0_road_4 19 rfl rfl)
theorem dX0_road_117 : decode cX0_road 117 = .ok (.iload 5, 2) := dk_21 5 (dk_at dksX0_road_4 22 rfl rfl)
theorem dX0_road_119 : decode cX0_road 119 = .ok (.aaload, 1) := dk_50 (dk_at dksX0_road_5 0 rfl rfl)
theorem dX0_road_120 : decode cX0_road 120 = .ok (.iload 4, 2) := dk_21 4 (dk_at dksX0_road_5 1 rfl rfl)
theorem dX0_road_122 : decode cX0_road 122 = .ok (.iaload, 1) := dk_46 (dk_at dksX0_road_5 3 rfl rfl)
theorem dX0_road_123 : decode cX0_road 123 = .ok (.aload_n 0, 1) := dk_42 (dk_at dksX0_road_5 4 rfl rfl)
theorem dX0_road_124 : decode cX0_road 124 = .ok (.getfield 13, 3) := dk_180 0 13 (dk_at dksX0_road_5 5 rfl rfl)
theorem dX0_road_127 : decode cX0_road 127 = .ok (.iload 4, 2) := dk_21 4 (dk_at dksX0_road_5 8 rfl rfl)
theorem dX0_road_129 : decode cX0_road 129 = .ok (.aaload, 1) := dk_50 (dk_at dksX0_road_5 10 rfl rfl)
theorem dX0_road_130 : decode cX0_road 130 = .ok (.iload 6, 2) := dk_21 6 (dk_at dksX0_road_5 11 rfl rfl)
theorem dX0_road_132 : decode cX0_road 132 = .ok (.iaload, 1) := dk_46 (dk_at dksX0_road_5 13 rfl rfl)
theorem dX0_road_133 : decode cX0_road 133 = .ok (.iadd, 1) := dk_96 (dk_at dksX0_road_5 14 rfl rfl)
theorem dX0_road_134 : decode cX0_road 134 = .ok (.invokestatic 141, 3) := dk_184 0 141 (dk_at dksX0_road_5 15 rfl rfl)
theorem dX0_road_137 : decode cX0_road 137 = .ok (.iastore, 1) := dk_79 (dk_at dksX0_road_5 18 rfl rfl)
theorem dX0_road_138 : decode cX0_road 138 = .ok (.iinc 6 1, 3) := dk_132 6 1 (dk_at dksX0_road_5 19 rfl rfl)
theorem dX0_road_141 : decode cX0_road 141 = .ok (.goto (-54), 3) := dk_167 255 202 (dk_at dksX0_road_6 0 rfl rfl)
theorem dX0_road_144 : decode cX0_road 144 = .ok (.iinc 5 1, 3) := dk_132 5 1 (dk_at dksX0_road_6 3 rfl rfl)
theorem dX0_road_147 : decode cX0_road 147 = .ok (.goto (-70), 3) := dk_167 255 186 (dk_at dksX0_road_6 6 rfl rfl)
theorem dX0_road_150 : decode cX0_road 150 = .ok (.iinc 4 1, 3) := dk_132 4 1 (dk_at dksX0_road_6 9 rfl rfl)
theorem dX0_road_153 : decode cX0_road 153 = .ok (.goto (-86), 3) := dk_167 255 170 (dk_at dksX0_road_6 12 rfl rfl)
theorem dX0_road_156 : decode cX0_road 156 = .ok (.iconst 1, 1) := dk_4 (dk_at dksX0_road_6 15 rfl rfl)
theorem dX0_road_157 : decode cX0_road 157 = .ok (.ireturn, 1) := dk_172 (dk_at dksX0_road_6 16 rfl rfl)
abbrev cX0_isTown : ByteArray := prog_1_method_4_code
def yX0_isTown : MethodName := ⟨RX0, "isTown", "(I)Z"⟩
def dkwX0_isTown_0 : List UInt8 := [26, 3, 16, 7, 184, 0, 123, 172]
abbrev dktX0_isTown_0 : List UInt8 := dkwX0_isTown_0 ++ []
theorem dksX0_isTown_0 : cX0_isTown.data.toList.drop 0 = dktX0_isTown_0 := by decide +kernel
theorem dX0_isTown_0 : decode cX0_isTown 0 = .ok (.iload_n 0, 1) := dk_26 (dk_at dksX0_isTown_0 0 rfl rfl)
theorem dX0_isTown_1 : decode cX0_isTown 1 = .ok (.iconst 0, 1) := dk_3 (dk_at dksX0_isTown_0 1 rfl rfl)
theorem dX0_isTown_2 : decode cX0_isTown 2 = .ok (.bipush 7, 2) := dk_16 7 (dk_at dksX0_isTown_0 2 rfl rfl)
theorem dX0_isTown_4 : decode cX0_isTown 4 = .ok (.invokestatic 123, 3) := dk_184 0 123 (dk_at dksX0_isTown_0 4 rfl rfl)
theorem dX0_isTown_7 : decode cX0_isTown 7 = .ok (.ireturn, 1) := dk_172 (dk_at dksX0_isTown_0 7 rfl rfl)
abbrev cX0_far : ByteArray := prog_1_method_9_code
def yX0_far : MethodName := ⟨RX0, "far", "(I)I"⟩
def dkwX0_far_0 : List UInt8 := [27, 184, 0, 137, 153, 0, 14, 42, 180, 0, 13, 3, 50, 27, 46, 167, 0, 4, 2, 172]
abbrev dktX0_far_0 : List UInt8 := dkwX0_far_0 ++ []
theorem dksX0_far_0 : cX0_far.data.toList.drop 0 = dktX0_far_0 := by decide +kernel
theorem dX0_far_0 : decode cX0_far 0 = .ok (.iload_n 1, 1) := dk_27 (dk_at dksX0_far_0 0 rfl rfl)
theorem dX0_far_1 : decode cX0_far 1 = .ok (.invokestatic 137, 3) := dk_184 0 137 (dk_at dksX0_far_0 1 rfl rfl)
theorem dX0_far_4 : decode cX0_far 4 = .ok (.ifCond .eq 14, 3) := dk_153 0 14 (dk_at dksX0_far_0 4 rfl rfl)
theorem dX0_far_7 : decode cX0_far 7 = .ok (.aload_n 0, 1) := dk_42 (dk_at dksX0_far_0 7 rfl rfl)
theorem dX0_far_8 : decode cX0_far 8 = .ok (.getfield 13, 3) := dk_180 0 13 (dk_at dksX0_far_0 8 rfl rfl)
theorem dX0_far_11 : decode cX0_far 11 = .ok (.iconst 0, 1) := dk_3 (dk_at dksX0_far_0 11 rfl rfl)
theorem dX0_far_12 : decode cX0_far 12 = .ok (.aaload, 1) := dk_50 (dk_at dksX0_far_0 12 rfl rfl)
theorem dX0_far_13 : decode cX0_far 13 = .ok (.iload_n 1, 1) := dk_27 (dk_at dksX0_far_0 13 rfl rfl)
theorem dX0_far_14 : decode cX0_far 14 = .ok (.iaload, 1) := dk_46 (dk_at dksX0_far_0 14 rfl rfl)
theorem dX0_far_15 : decode cX0_far 15 = .ok (.goto 4, 3) := dk_167 0 4 (dk_at dksX0_far_0 15 rfl rfl)
theorem dX0_far_18 : decode cX0_far 18 = .ok (.iconst (-1), 1) := dk_2 (dk_at dksX0_far_0 18 rfl rfl)
theorem dX0_far_19 : decode cX0_far 19 = .ok (.ireturn, 1) := dk_172 (dk_at dksX0_far_0 19 rfl rfl)
abbrev cX0_person : ByteArray := prog_1_method_10_code
def yX0_person : MethodName := ⟨RX0, "person", "(II)I"⟩
def dkwX0_person_2 : List UInt8 := [28, 183, 0, 150, 83, 42, 89, 180, 0, 147, 90, 4, 96, 181, 0, 147, 172]
abbrev dktX0_person_2 : List UInt8 := dkwX0_person_2 ++ []
def dkwX0_person_1 : List UInt8 := [180, 0, 147, 16, 16, 160, 0, 6, 16, 252, 172, 42, 180, 0, 18, 42, 180, 0, 147, 187, 0, 16, 89, 27]
abbrev dktX0_person_1 : List UInt8 := dkwX0_person_1 ++ dktX0_person_2
def dkwX0_person_0 : List UInt8 := [27, 184, 0, 137, 154, 0, 5, 2, 172, 28, 3, 8, 184, 0, 123, 154, 0, 6, 16, 254, 172, 42]
abbrev dktX0_person_0 : List UInt8 := dkwX0_person_0 ++ dktX0_person_1
theorem dksX0_person_0 : cX0_person.data.toList.drop 0 = dktX0_person_0 := by decide +kernel
theorem dksX0_person_1 : cX0_person.data.toList.drop 22 = dktX0_person_1 := dk_seg dksX0_person_0 22 rfl rfl
theorem dksX0_person_2 : cX0_person.data.toList.drop 46 = dktX0_person_2 := dk_seg dksX0_person_1 24 rfl rfl
theorem dX0_person_0 : decode cX0_person 0 = .ok (.iload_n 1, 1) := dk_27 (dk_at dksX0_person_0 0 rfl rfl)
theorem dX0_person_1 : decode cX0_person 1 = .ok (.invokestatic 137, 3) := dk_184 0 137 (dk_at dksX0_person_0 1 rfl rfl)
theorem dX0_person_4 : decode cX0_person 4 = .ok (.ifCond .ne 5, 3) := dk_154 0 5 (dk_at dksX0_person_0 4 rfl rfl)
theorem dX0_person_7 : decode cX0_person 7 = .ok (.iconst (-1), 1) := dk_2 (dk_at dksX0_person_0 7 rfl rfl)
theorem dX0_person_8 : decode cX0_person 8 = .ok (.ireturn, 1) := dk_172 (dk_at dksX0_person_0 8 rfl rfl)
theorem dX0_person_9 : decode cX0_person 9 = .ok (.iload_n 2, 1) := dk_28 (dk_at dksX0_person_0 9 rfl rfl)
theorem dX0_person_10 : decode cX0_person 10 = .ok (.iconst 0, 1) := dk_3 (dk_at dksX0_person_0 10 rfl rfl)
theorem dX0_person_11 : decode cX0_person 11 = .ok (.iconst 5, 1) := dk_8 (dk_at dksX0_person_0 11 rfl rfl)
theorem dX0_person_12 : decode cX0_person 12 = .ok (.invokestatic 123, 3) := dk_184 0 123 (dk_at dksX0_person_0 12 rfl rfl)
theorem dX0_person_15 : decode cX0_person 15 = .ok (.ifCond .ne 6, 3) := dk_154 0 6 (dk_at dksX0_person_0 15 rfl rfl)
theorem dX0_person_18 : decode cX0_person 18 = .ok (.bipush (-2), 2) := dk_16 254 (dk_at dksX0_person_0 18 rfl rfl)
theorem dX0_person_20 : decode cX0_person 20 = .ok (.ireturn, 1) := dk_172 (dk_at dksX0_person_0 20 rfl rfl)
theorem dX0_person_21 : decode cX0_person 21 = .ok (.aload_n 0, 1) := dk_42 (dk_at dksX0_person_0 21 rfl rfl)
theorem dX0_person_22 : decode cX0_person 22 = .ok (.getfield 147, 3) := dk_180 0 147 (dk_at dksX0_person_1 0 rfl rfl)
theorem dX0_person_25 : decode cX0_person 25 = .ok (.bipush 16, 2) := dk_16 16 (dk_at dksX0_person_1 3 rfl rfl)
theorem dX0_person_27 : decode cX0_person 27 = .ok (.if_icmp .ne 6, 3) := dk_160 0 6 (dk_at dksX0_person_1 5 rfl rfl)
theorem dX0_person_30 : decode cX0_person 30 = .ok (.bipush (-4), 2) := dk_16 252 (dk_at dksX0_person_1 8 rfl rfl)
theorem dX0_person_32 : decode cX0_person 32 = .ok (.ireturn, 1) := dk_172 (dk_at dksX0_person_1 10 rfl rfl)
theorem dX0_person_33 : decode cX0_person 33 = .ok (.aload_n 0, 1) := dk_42 (dk_at dksX0_person_1 11 rfl rfl)
theorem dX0_person_34 : decode cX0_person 34 = .ok (.getfield 18, 3) := dk_180 0 18 (dk_at dksX0_person_1 12 rfl rfl)
theorem dX0_person_37 : decode cX0_person 37 = .ok (.aload_n 0, 1) := dk_42 (dk_at dksX0_person_1 15 rfl rfl)
theorem dX0_person_38 : decode cX0_person 38 = .ok (.getfield 147, 3) := dk_180 0 147 (dk_at dksX0_person_1 16 rfl rfl)
theorem dX0_person_41 : decode cX0_person 41 = .ok (.new 16, 3) := dk_187 0 16 (dk_at dksX0_person_1 19 rfl rfl)
theorem dX0_person_44 : decode cX0_person 44 = .ok (.dup, 1) := dk_89 (dk_at dksX0_person_1 22 rfl rfl)
theorem dX0_person_45 : decode cX0_person 45 = .ok (.iload_n 1, 1) := dk_27 (dk_at dksX0_person_1 23 rfl rfl)
theorem dX0_person_46 : decode cX0_person 46 = .ok (.iload_n 2, 1) := dk_28 (dk_at dksX0_person_2 0 rfl rfl)
theorem dX0_person_47 : decode cX0_person 47 = .ok (.invokespecial 150, 3) := dk_183 0 150 (dk_at dksX0_person_2 1 rfl rfl)
theorem dX0_person_50 : decode cX0_person 50 = .ok (.aastore, 1) := dk_83 (dk_at dksX0_person_2 4 rfl rfl)
theorem dX0_person_51 : decode cX0_person 51 = .ok (.aload_n 0, 1) := dk_42 (dk_at dksX0_person_2 5 rfl rfl)
theorem dX0_person_52 : decode cX0_person 52 = .ok (.dup, 1) := dk_89 (dk_at dksX0_person_2 6 rfl rfl)
theorem dX0_person_53 : decode cX0_person 53 = .ok (.getfield 147, 3) := dk_180 0 147 (dk_at dksX0_person_2 7 rfl rfl)
theorem dX0_person_56 : decode cX0_person 56 = .ok (.dup_x1, 1) := dk_90 (dk_at dksX0_person_2 10 rfl rfl)
theorem dX0_person_57 : decode cX0_person 57 = .ok (.iconst 1, 1) := dk_4 (dk_at dksX0_person_2 11 rfl rfl)
theorem dX0_person_58 : decode cX0_person 58 = .ok (.iadd, 1) := dk_96 (dk_at dksX0_person_2 12 rfl rfl)
theorem dX0_person_59 : decode cX0_person 59 = .ok (.putfield 147, 3) := dk_181 0 147 (dk_at dksX0_person_2 13 rfl rfl)
theorem dX0_person_62 : decode cX0_person 62 = .ok (.ireturn, 1) := dk_172 (dk_at dksX0_person_2 16 rfl rfl)
abbrev cX0_book : ByteArray := prog_1_method_11_code
def yX0_book : MethodName := ⟨RX0, "book", "(III)I"⟩
def dkwX0_book_3 : List UInt8 := [89, 180, 0, 131, 90, 4, 96, 181, 0, 131, 172]
abbrev dktX0_book_3 : List UInt8 := dkwX0_book_3 ++ []
def dkwX0_book_2 : List UInt8 := [42, 180, 0, 24, 42, 180, 0, 131, 187, 0, 22, 89, 42, 180, 0, 131, 27, 28, 29, 183, 0, 153, 83, 42]
abbrev dktX0_book_2 : List UInt8 := dkwX0_book_2 ++ dktX0_book_3
def dkwX0_book_1 : List UInt8 := [17, 7, 208, 184, 0, 123, 154, 0, 6, 16, 254, 172, 42, 180, 0, 131, 16, 16, 160, 0, 6, 16, 252, 172]
abbrev dktX0_book_1 : List UInt8 := dkwX0_book_1 ++ dktX0_book_2
def dkwX0_book_0 : List UInt8 := [27, 3, 16, 99, 184, 0, 123, 153, 0, 24, 28, 3, 16, 19, 184, 0, 123, 153, 0, 14, 29, 3]
abbrev dktX0_book_0 : List UInt8 := dkwX0_book_0 ++ dktX0_book_1
theorem dksX0_book_0 : cX0_book.data.toList.drop 0 = dktX0_book_0 := by decide +kernel
theorem dksX0_book_1 : cX0_book.data.toList.drop 22 = dktX0_book_1 := dk_seg dksX0_book_0 22 rfl rfl
theorem dksX0_book_2 : cX0_book.data.toList.drop 46 = dktX0_book_2 := dk_seg dksX0_book_1 24 rfl rfl
theorem dksX0_book_3 : cX0_book.data.toList.drop 70 = dktX0_book_3 := dk_seg dksX0_book_2 24 rfl rfl
theorem dX0_book_0 : decode cX0_book 0 = .ok (.iload_n 1, 1) := dk_27 (dk_at dksX0_book_0 0 rfl rfl)
theorem dX0_book_1 : decode cX0_book 1 = .ok (.iconst 0, 1) := dk_3 (dk_at dksX0_book_0 1 rfl rfl)
theorem dX0_book_2 : decode cX0_book 2 = .ok (.bipush 99, 2) := dk_16 99 (dk_at dksX0_book_0 2 rfl rfl)
theorem dX0_book_4 : decode cX0_book 4 = .ok (.invokestatic 123, 3) := dk_184 0 123 (dk_at dksX0_book_0 4 rfl rfl)
theorem dX0_book_7 : decode cX0_book 7 = .ok (.ifCond .eq 24, 3) := dk_153 0 24 (dk_at dksX0_book_0 7 rfl rfl)
theorem dX0_book_10 : decode cX0_book 10 = .ok (.iload_n 2, 1) := dk_28 (dk_at dksX0_book_0 10 rfl rfl)
theorem dX0_book_11 : decode cX0_book 11 = .ok (.iconst 0, 1) := dk_3 (dk_at dksX0_book_0 11 rfl rfl)
theorem dX0_book_12 : decode cX0_book 12 = .ok (.bipush 19, 2) := dk_16 19 (dk_at dksX0_book_0 12 rfl rfl)
theorem dX0_book_14 : decode cX0_book 14 = .ok (.invokestatic 123, 3) := dk_184 0 123 (dk_at dksX0_book_0 14 rfl rfl)
theorem dX0_book_17 : decode cX0_book 17 = .ok (.ifCond .eq 14, 3) := dk_153 0 14 (dk_at dksX0_book_0 17 rfl rfl)
theorem dX0_book_20 : decode cX0_book 20 = .ok (.iload_n 3, 1) := dk_29 (dk_at dksX0_book_0 20 rfl rfl)
theorem dX0_book_21 : decode cX0_book 21 = .ok (.iconst 0, 1) := dk_3 (dk_at dksX0_book_0 21 rfl rfl)
theorem dX0_book_22 : decode cX0_book 22 = .ok (.sipush 2000, 3) := dk_17 7 208 (dk_at dksX0_book_1 0 rfl rfl)
theorem dX0_book_25 : decode cX0_book 25 = .ok (.invokestatic 123, 3) := dk_184 0 123 (dk_at dksX0_book_1 3 rfl rfl)
theorem dX0_book_28 : decode cX0_book 28 = .ok (.ifCond .ne 6, 3) := dk_154 0 6 (dk_at dksX0_book_1 6 rfl rfl)
theorem dX0_book_31 : decode cX0_book 31 = .ok (.bipush (-2), 2) := dk_16 254 (dk_at dksX0_book_1 9 rfl rfl)
theorem dX0_book_33 : decode cX0_book 33 = .ok (.ireturn, 1) := dk_172 (dk_at dksX0_book_1 11 rfl rfl)
theorem dX0_book_34 : decode cX0_book 34 = .ok (.aload_n 0, 1) := dk_42 (dk_at dksX0_book_1 12 rfl rfl)
theorem dX0_book_35 : decode cX0_book 35 = .ok (.getfield 131, 3) := dk_180 0 131 (dk_at dksX0_book_1 13 rfl rfl)
theorem dX0_book_38 : decode cX0_book 38 = .ok (.bipush 16, 2) := dk_16 16 (dk_at dksX0_book_1 16 rfl rfl)
theorem dX0_book_40 : decode cX0_book 40 = .ok (.if_icmp .ne 6, 3) := dk_160 0 6 (dk_at dksX0_book_1 18 rfl rfl)
theorem dX0_book_43 : decode cX0_book 43 = .ok (.bipush (-4), 2) := dk_16 252 (dk_at dksX0_book_1 21 rfl rfl)
theorem dX0_book_45 : decode cX0_book 45 = .ok (.ireturn, 1) := dk_172 (dk_at dksX0_book_1 23 rfl rfl)
theorem dX0_book_46 : decode cX0_book 46 = .ok (.aload_n 0, 1) := dk_42 (dk_at dksX0_book_2 0 rfl rfl)
theorem dX0_book_47 : decode cX0_book 47 = .ok (.getfield 24, 3) := dk_180 0 24 (dk_at dksX0_book_2 1 rfl rfl)
theorem dX0_book_50 : decode cX0_book 50 = .ok (.aload_n 0, 1) := dk_42 (dk_at dksX0_book_2 4 rfl rfl)
theorem dX0_book_51 : decode cX0_book 51 = .ok (.getfield 131, 3) := dk_180 0 131 (dk_at dksX0_book_2 5 rfl rfl)
theorem dX0_book_54 : decode cX0_book 54 = .ok (.new 22, 3) := dk_187 0 22 (dk_at dksX0_book_2 8 rfl rfl)
theorem dX0_book_57 : decode cX0_book 57 = .ok (.dup, 1) := dk_89 (dk_at dksX0_book_2 11 rfl rfl)
theorem dX0_book_58 : decode cX0_book 58 = .ok (.aload_n 0, 1) := dk_42 (dk_at dksX0_book_2 12 rfl rfl)
theorem dX0_book_59 : decode cX0_book 59 = .ok (.getfield 131, 3) := dk_180 0 131 (dk_at dksX0_book_2 13 rfl rfl)
theorem dX0_book_62 : decode cX0_book 62 = .ok (.iload_n 1, 1) := dk_27 (dk_at dksX0_book_2 16 rfl rfl)
theorem dX0_book_63 : decode cX0_book 63 = .ok (.iload_n 2, 1) := dk_28 (dk_at dksX0_book_2 17 rfl rfl)
theorem dX0_book_64 : decode cX0_book 64 = .ok (.iload_n 3, 1) := dk_29 (dk_at dksX0_book_2 18 rfl rfl)
theorem dX0_book_65 : decode cX0_book 65 = .ok (.invokespecial 153, 3) := dk_183 0 153 (dk_at dksX0_book_2 19 rfl rfl)
theorem dX0_book_68 : decode cX0_book 68 = .ok (.aastore, 1) := dk_83 (dk_at dksX0_book_2 22 rfl rfl)
theorem dX0_book_69 : decode cX0_book 69 = .ok (.aload_n 0, 1) := dk_42 (dk_at dksX0_book_2 23 rfl rfl)
theorem dX0_book_70 : decode cX0_book 70 = .ok (.dup, 1) := dk_89 (dk_at dksX0_book_3 0 rfl rfl)
theorem dX0_book_71 : decode cX0_book 71 = .ok (.getfield 131, 3) := dk_180 0 131 (dk_at dksX0_book_3 1 rfl rfl)
theorem dX0_book_74 : decode cX0_book 74 = .ok (.dup_x1, 1) := dk_90 (dk_at dksX0_book_3 4 rfl rfl)
theorem dX0_book_75 : decode cX0_book 75 = .ok (.iconst 1, 1) := dk_4 (dk_at dksX0_book_3 5 rfl rfl)
theorem dX0_book_76 : decode cX0_book 76 = .ok (.iadd, 1) := dk_96 (dk_at dksX0_book_3 6 rfl rfl)
theorem dX0_book_77 : decode cX0_book 77 = .ok (.putfield 131, 3) := dk_181 0 131 (dk_at dksX0_book_3 7 rfl rfl)
theorem dX0_book_80 : decode cX0_book 80 = .ok (.ireturn, 1) := dk_172 (dk_at dksX0_book_3 10 rfl rfl)
abbrev cX0_line : ByteArray := prog_1_method_12_code
def yX0_line : MethodName := ⟨RX0, "line", "(II)I"⟩
def dkwX0_line_2 : List UInt8 := [180, 0, 160, 28, 79, 45, 89, 180, 0, 160, 90, 4, 96, 181, 0, 160, 172]
abbrev dktX0_line_2 : List UInt8 := dkwX0_line_2 ++ []
def dkwX0_line_1 : List UInt8 := [180, 0, 24, 27, 50, 78, 45, 180, 0, 160, 16, 16, 160, 0, 6, 16, 252, 172, 45, 180, 0, 163, 45]
abbrev dktX0_line_1 : List UInt8 := dkwX0_line_1 ++ dktX0_line_2
def dkwX0_line_0 : List UInt8 := [42, 27, 182, 0, 156, 154, 0, 5, 2, 172, 28, 4, 18, 159, 184, 0, 123, 154, 0, 6, 16, 254, 172, 42]
abbrev dktX0_line_0 : List UInt8 := dkwX0_line_0 ++ dktX0_line_1
theorem dksX0_line_0 : cX0_line.data.toList.drop 0 = dktX0_line_0 := by decide +kernel
theorem dksX0_line_1 : cX0_line.data.toList.drop 24 = dktX0_line_1 := dk_seg dksX0_line_0 24 rfl rfl
theorem dksX0_line_2 : cX0_line.data.toList.drop 47 = dktX0_line_2 := dk_seg dksX0_line_1 23 rfl rfl
theorem dX0_line_0 : decode cX0_line 0 = .ok (.aload_n 0, 1) := dk_42 (dk_at dksX0_line_0 0 rfl rfl)
theorem dX0_line_1 : decode cX0_line 1 = .ok (.iload_n 1, 1) := dk_27 (dk_at dksX0_line_0 1 rfl rfl)
theorem dX0_line_2 : decode cX0_line 2 = .ok (.invokevirtual 156, 3) := dk_182 0 156 (dk_at dksX0_line_0 2 rfl rfl)
theorem dX0_line_5 : decode cX0_line 5 = .ok (.ifCond .ne 5, 3) := dk_154 0 5 (dk_at dksX0_line_0 5 rfl rfl)
theorem dX0_line_8 : decode cX0_line 8 = .ok (.iconst (-1), 1) := dk_2 (dk_at dksX0_line_0 8 rfl rfl)
theorem dX0_line_9 : decode cX0_line 9 = .ok (.ireturn, 1) := dk_172 (dk_at dksX0_line_0 9 rfl rfl)
theorem dX0_line_10 : decode cX0_line 10 = .ok (.iload_n 2, 1) := dk_28 (dk_at dksX0_line_0 10 rfl rfl)
theorem dX0_line_11 : decode cX0_line 11 = .ok (.iconst 1, 1) := dk_4 (dk_at dksX0_line_0 11 rfl rfl)
theorem dX0_line_12 : decode cX0_line 12 = .ok (.ldc 159, 2) := dk_18 159 (dk_at dksX0_line_0 12 rfl rfl)
theorem dX0_line_14 : decode cX0_line 14 = .ok (.invokestatic 123, 3) := dk_184 0 123 (dk_at dksX0_line_0 14 rfl rfl)
theorem dX0_line_17 : decode cX0_line 17 = .ok (.ifCond .ne 6, 3) := dk_154 0 6 (dk_at dksX0_line_0 17 rfl rfl)
theorem dX0_line_20 : decode cX0_line 20 = .ok (.bipush (-2), 2) := dk_16 254 (dk_at dksX0_line_0 20 rfl rfl)
theorem dX0_line_22 : decode cX0_line 22 = .ok (.ireturn, 1) := dk_172 (dk_at dksX0_line_0 22 rfl rfl)
theorem dX0_line_23 : decode cX0_line 23 = .ok (.aload_n 0, 1) := dk_42 (dk_at dksX0_line_0 23 rfl rfl)
theorem dX0_line_24 : decode cX0_line 24 = .ok (.getfield 24, 3) := dk_180 0 24 (dk_at dksX0_line_1 0 rfl rfl)
theorem dX0_line_27 : decode cX0_line 27 = .ok (.iload_n 1, 1) := dk_27 (dk_at dksX0_line_1 3 rfl rfl)
theorem dX0_line_28 : decode cX0_line 28 = .ok (.aaload, 1) := dk_50 (dk_at dksX0_line_1 4 rfl rfl)
theorem dX0_line_29 : decode cX0_line 29 = .ok (.astore_n 3, 1) := dk_78 (dk_at dksX0_line_1 5 rfl rfl)
theorem dX0_line_30 : decode cX0_line 30 = .ok (.aload_n 3, 1) := dk_45 (dk_at dksX0_line_1 6 rfl rfl)
theorem dX0_line_31 : decode cX0_line 31 = .ok (.getfield 160, 3) := dk_180 0 160 (dk_at dksX0_line_1 7 rfl rfl)
theorem dX0_line_34 : decode cX0_line 34 = .ok (.bipush 16, 2) := dk_16 16 (dk_at dksX0_line_1 10 rfl rfl)
theorem dX0_line_36 : decode cX0_line 36 = .ok (.if_icmp .ne 6, 3) := dk_160 0 6 (dk_at dksX0_line_1 12 rfl rfl)
theorem dX0_line_39 : decode cX0_line 39 = .ok (.bipush (-4), 2) := dk_16 252 (dk_at dksX0_line_1 15 rfl rfl)
theorem dX0_line_41 : decode cX0_line 41 = .ok (.ireturn, 1) := dk_172 (dk_at dksX0_line_1 17 rfl rfl)
theorem dX0_line_42 : decode cX0_line 42 = .ok (.aload_n 3, 1) := dk_45 (dk_at dksX0_line_1 18 rfl rfl)
theorem dX0_line_43 : decode cX0_line 43 = .ok (.getfield 163, 3) := dk_180 0 163 (dk_at dksX0_line_1 19 rfl rfl)
theorem dX0_line_46 : decode cX0_line 46 = .ok (.aload_n 3, 1) := dk_45 (dk_at dksX0_line_1 22 rfl rfl)
theorem dX0_line_47 : decode cX0_line 47 = .ok (.getfield 160, 3) := dk_180 0 160 (dk_at dksX0_line_2 0 rfl rfl)
theorem dX0_line_50 : decode cX0_line 50 = .ok (.iload_n 2, 1) := dk_28 (dk_at dksX0_line_2 3 rfl rfl)
theorem dX0_line_51 : decode cX0_line 51 = .ok (.iastore, 1) := dk_79 (dk_at dksX0_line_2 4 rfl rfl)
theorem dX0_line_52 : decode cX0_line 52 = .ok (.aload_n 3, 1) := dk_45 (dk_at dksX0_line_2 5 rfl rfl)
theorem dX0_line_53 : decode cX0_line 53 = .ok (.dup, 1) := dk_89 (dk_at dksX0_line_2 6 rfl rfl)
theorem dX0_line_54 : decode cX0_line 54 = .ok (.getfield 160, 3) := dk_180 0 160 (dk_at dksX0_line_2 7 rfl rfl)
theorem dX0_line_57 : decode cX0_line 57 = .ok (.dup_x1, 1) := dk_90 (dk_at dksX0_line_2 10 rfl rfl)
theorem dX0_line_58 : decode cX0_line 58 = .ok (.iconst 1, 1) := dk_4 (dk_at dksX0_line_2 11 rfl rfl)
theorem dX0_line_59 : decode cX0_line 59 = .ok (.iadd, 1) := dk_96 (dk_at dksX0_line_2 12 rfl rfl)
theorem dX0_line_60 : decode cX0_line 60 = .ok (.putfield 160, 3) := dk_181 0 160 (dk_at dksX0_line_2 13 rfl rfl)
theorem dX0_line_63 : decode cX0_line 63 = .ok (.ireturn, 1) := dk_172 (dk_at dksX0_line_2 16 rfl rfl)
abbrev cX0_isBook : ByteArray := prog_1_method_6_code
def yX0_isBook : MethodName := ⟨RX0, "isBook", "(I)Z"⟩
def dkwX0_isBook_0 : List UInt8 := [27, 3, 42, 180, 0, 131, 4, 100, 184, 0, 123, 172]
abbrev dktX0_isBook_0 : List UInt8 := dkwX0_isBook_0 ++ []
theorem dksX0_isBook_0 : cX0_isBook.data.toList.drop 0 = dktX0_isBook_0 := by decide +kernel
theorem dX0_isBook_0 : decode cX0_isBook 0 = .ok (.iload_n 1, 1) := dk_27 (dk_at dksX0_isBook_0 0 rfl rfl)
theorem dX0_isBook_1 : decode cX0_isBook 1 = .ok (.iconst 0, 1) := dk_3 (dk_at dksX0_isBook_0 1 rfl rfl)
theorem dX0_isBook_2 : decode cX0_isBook 2 = .ok (.aload_n 0, 1) := dk_42 (dk_at dksX0_isBook_0 2 rfl rfl)
theorem dX0_isBook_3 : decode cX0_isBook 3 = .ok (.getfield 131, 3) := dk_180 0 131 (dk_at dksX0_isBook_0 3 rfl rfl)
theorem dX0_isBook_6 : decode cX0_isBook 6 = .ok (.iconst 1, 1) := dk_4 (dk_at dksX0_isBook_0 6 rfl rfl)
theorem dX0_isBook_7 : decode cX0_isBook 7 = .ok (.isub, 1) := dk_100 (dk_at dksX0_isBook_0 7 rfl rfl)
theorem dX0_isBook_8 : decode cX0_isBook 8 = .ok (.invokestatic 123, 3) := dk_184 0 123 (dk_at dksX0_isBook_0 8 rfl rfl)
theorem dX0_isBook_11 : decode cX0_isBook 11 = .ok (.ireturn, 1) := dk_172 (dk_at dksX0_isBook_0 11 rfl rfl)
abbrev cX0_edition : ByteArray := prog_1_method_13_code
def yX0_edition : MethodName := ⟨RX0, "edition", "(IIII)I"⟩
def dkwX0_edition_5 : List UInt8 := [183, 0, 173, 83, 42, 89, 180, 0, 127, 90, 4, 96, 181, 0, 127, 172]
abbrev dktX0_edition_5 : List UInt8 := dkwX0_edition_5 ++ []
def dkwX0_edition_4 : List UInt8 := [42, 180, 0, 30, 42, 180, 0, 127, 187, 0, 28, 89, 42, 180, 0, 127, 25, 5, 28, 29, 21, 4]
abbrev dktX0_edition_4 : List UInt8 := dkwX0_edition_4 ++ dktX0_edition_5
def dkwX0_edition_3 : List UInt8 := [50, 180, 0, 169, 25, 5, 165, 0, 6, 16, 253, 172, 42, 180, 0, 127, 16, 24, 160, 0, 6, 16, 252, 172]
abbrev dktX0_edition_3 : List UInt8 := dkwX0_edition_3 ++ dktX0_edition_4
def dkwX0_edition_2 : List UInt8 := [120, 4, 100, 184, 0, 123, 154, 0, 6, 16, 254, 172, 21, 4, 2, 159, 0, 21, 42, 180, 0, 30, 21, 4]
abbrev dktX0_edition_2 : List UInt8 := dkwX0_edition_2 ++ dktX0_edition_3
def dkwX0_edition_1 : List UInt8 := [182, 0, 166, 154, 0, 5, 2, 172, 42, 180, 0, 24, 27, 50, 58, 5, 28, 4, 4, 25, 5, 180, 0, 160]
abbrev dktX0_edition_1 : List UInt8 := dkwX0_edition_1 ++ dktX0_edition_2
def dkwX0_edition_0 : List UInt8 := [42, 27, 182, 0, 156, 153, 0, 25, 29, 184, 0, 137, 153, 0, 18, 21, 4, 2, 159, 0, 14, 42, 21, 4]
abbrev dktX0_edition_0 : List UInt8 := dkwX0_edition_0 ++ dktX0_edition_1
theorem dksX0_edition_0 : cX0_edition.data.toList.drop 0 = dktX0_edition_0 := by decide +kernel
theorem dksX0_edition_1 : cX0_edition.data.toList.drop 24 = dktX0_edition_1 := dk_seg dksX0_edition_0 24 rfl rfl
theorem dksX0_edition_2 : cX0_edition.data.toList.drop 48 = dktX0_edition_2 := dk_seg dksX0_edition_1 24 rfl rfl
theorem dksX0_edition_3 : cX0_edition.data.toList.drop 72 = dktX0_edition_3 := dk_seg dksX0_edition_2 24 rfl rfl
theorem dksX0_edition_4 : cX0_edition.data.toList.drop 96 = dktX0_edition_4 := dk_seg dksX0_edition_3 24 rfl rfl
theorem dksX0_edition_5 : cX0_edition.data.toList.drop 118 = dktX0_edition_5 := dk_seg dksX0_edition_4 22 rfl rfl
theorem dX0_edition_0 : decode cX0_edition 0 = .ok (.aload_n 0, 1) := dk_42 (dk_at dksX0_edition_0 0 rfl rfl)
theorem dX0_edition_1 : decode cX0_edition 1 = .ok (.iload_n 1, 1) := dk_27 (dk_at dksX0_edition_0 1 rfl rfl)
theorem dX0_edition_2 : decode cX0_edition 2 = .ok (.invokevirtual 156, 3) := dk_182 0 156 (dk_at dksX0_edition_0 2 rfl rfl)
theorem dX0_edition_5 : decode cX0_edition 5 = .ok (.ifCond .eq 25, 3) := dk_153 0 25 (dk_at dksX0_edition_0 5 rfl rfl)
theorem dX0_edition_8 : decode cX0_edition 8 = .ok (.iload_n 3, 1) := dk_29 (dk_at dksX0_edition_0 8 rfl rfl)
theorem dX0_edition_9 : decode cX0_edition 9 = .ok (.invokestatic 137, 3) := dk_184 0 137 (dk_at dksX0_edition_0 9 rfl rfl)
theorem dX0_edition_12 : decode cX0_edition 12 = .ok (.ifCond .eq 18, 3) := dk_153 0 18 (dk_at dksX0_edition_0 12 rfl rfl)
theorem dX0_edition_15 : decode cX0_edition 15 = .ok (.iload 4, 2) := dk_21 4 (dk_at dksX0_edition_0 15 rfl rfl)
theorem dX0_edition_17 : decode cX0_edition 17 = .ok (.iconst (-1), 1) := dk_2 (dk_at dksX0_edition_0 17 rfl rfl)
theorem dX0_edition_18 : decode cX0_edition 18 = .ok (.if_icmp .eq 14, 3) := dk_159 0 14 (dk_at dksX0_edition_0 18 rfl rfl)
theorem dX0_edition_21 : decode cX0_edition 21 = .ok (.aload_n 0, 1) := dk_42 (dk_at dksX0_edition_0 21 rfl rfl)
theorem dX0_edition_22 : decode cX0_edition 22 = .ok (.iload 4, 2) := dk_21 4 (dk_at dksX0_edition_0 22 rfl rfl)
theorem dX0_edition_24 : decode cX0_edition 24 = .ok (.invokevirtual 166, 3) := dk_182 0 166 (dk_at dksX0_edition_1 0 rfl rfl)
theorem dX0_edition_27 : decode cX0_edition 27 = .ok (.ifCond .ne 5, 3) := dk_154 0 5 (dk_at dksX0_edition_1 3 rfl rfl)
theorem dX0_edition_30 : decode cX0_edition 30 = .ok (.iconst (-1), 1) := dk_2 (dk_at dksX0_edition_1 6 rfl rfl)
theorem dX0_edition_31 : decode cX0_edition 31 = .ok (.ireturn, 1) := dk_172 (dk_at dksX0_edition_1 7 rfl rfl)
theorem dX0_edition_32 : decode cX0_edition 32 = .ok (.aload_n 0, 1) := dk_42 (dk_at dksX0_edition_1 8 rfl rfl)
theorem dX0_edition_33 : decode cX0_edition 33 = .ok (.getfield 24, 3) := dk_180 0 24 (dk_at dksX0_edition_1 9 rfl rfl)
theorem dX0_edition_36 : decode cX0_edition 36 = .ok (.iload_n 1, 1) := dk_27 (dk_at dksX0_edition_1 12 rfl rfl)
theorem dX0_edition_37 : decode cX0_edition 37 = .ok (.aaload, 1) := dk_50 (dk_at dksX0_edition_1 13 rfl rfl)
theorem dX0_edition_38 : decode cX0_edition 38 = .ok (.astore 5, 2) := dk_58 5 (dk_at dksX0_edition_1 14 rfl rfl)
theorem dX0_edition_40 : decode cX0_edition 40 = .ok (.iload_n 2, 1) := dk_28 (dk_at dksX0_edition_1 16 rfl rfl)
theorem dX0_edition_41 : decode cX0_edition 41 = .ok (.iconst 1, 1) := dk_4 (dk_at dksX0_edition_1 17 rfl rfl)
theorem dX0_edition_42 : decode cX0_edition 42 = .ok (.iconst 1, 1) := dk_4 (dk_at dksX0_edition_1 18 rfl rfl)
theorem dX0_edition_43 : decode cX0_edition 43 = .ok (.aload 5, 2) := dk_25 5 (dk_at dksX0_edition_1 19 rfl rfl)
theorem dX0_edition_45 : decode cX0_edition 45 = .ok (.getfield 160, 3) := dk_180 0 160 (dk_at dksX0_edition_1 21 rfl rfl)
theorem dX0_edition_48 : decode cX0_edition 48 = .ok (.ishl, 1) := dk_120 (dk_at dksX0_edition_2 0 rfl rfl)
theorem dX0_edition_49 : decode cX0_edition 49 = .ok (.iconst 1, 1) := dk_4 (dk_at dksX0_edition_2 1 rfl rfl)
theorem dX0_edition_50 : decode cX0_edition 50 = .ok (.isub, 1) := dk_100 (dk_at dksX0_edition_2 2 rfl rfl)
theorem dX0_edition_51 : decode cX0_edition 51 = .ok (.invokestatic 123, 3) := dk_184 0 123 (dk_at dksX0_edition_2 3 rfl rfl)
theorem dX0_edition_54 : decode cX0_edition 54 = .ok (.ifCond .ne 6, 3) := dk_154 0 6 (dk_at dksX0_edition_2 6 rfl rfl)
theorem dX0_edition_57 : decode cX0_edition 57 = .ok (.bipush (-2), 2) := dk_16 254 (dk_at dksX0_edition_2 9 rfl rfl)
theorem dX0_edition_59 : decode cX0_edition 59 = .ok (.ireturn, 1) := dk_172 (dk_at dksX0_edition_2 11 rfl rfl)
theorem dX0_edition_60 : decode cX0_edition 60 = .ok (.iload 4, 2) := dk_21 4 (dk_at dksX0_edition_2 12 rfl rfl)
theorem dX0_edition_62 : decode cX0_edition 62 = .ok (.iconst (-1), 1) := dk_2 (dk_at dksX0_edition_2 14 rfl rfl)
theorem dX0_edition_63 : decode cX0_edition 63 = .ok (.if_icmp .eq 21, 3) := dk_159 0 21 (dk_at dksX0_edition_2 15 rfl rfl)
theorem dX0_edition_66 : decode cX0_edition 66 = .ok (.aload_n 0, 1) := dk_42 (dk_at dksX0_edition_2 18 rfl rfl)
theorem dX0_edition_67 : decode cX0_edition 67 = .ok (.getfield 30, 3) := dk_180 0 30 (dk_at dksX0_edition_2 19 rfl rfl)
theorem dX0_edition_70 : decode cX0_edition 70 = .ok (.iload 4, 2) := dk_21 4 (dk_at dksX0_edition_2 22 rfl rfl)
theorem dX0_edition_72 : decode cX0_edition 72 = .ok (.aaload, 1) := dk_50 (dk_at dksX0_edition_3 0 rfl rfl)
theorem dX0_edition_73 : decode cX0_edition 73 = .ok (.getfield 169, 3) := dk_180 0 169 (dk_at dksX0_edition_3 1 rfl rfl)
theorem dX0_edition_76 : decode cX0_edition 76 = .ok (.aload 5, 2) := dk_25 5 (dk_at dksX0_edition_3 4 rfl rfl)
theorem dX0_edition_78 : decode cX0_edition 78 = .ok (.if_acmp .eq 6, 3) := dk_165 0 6 (dk_at dksX0_edition_3 6 rfl rfl)
theorem dX0_edition_81 : decode cX0_edition 81 = .ok (.bipush (-3), 2) := dk_16 253 (dk_at dksX0_edition_3 9 rfl rfl)
theorem dX0_edition_83 : decode cX0_edition 83 = .ok (.ireturn, 1) := dk_172 (dk_at dksX0_edition_3 11 rfl rfl)
theorem dX0_edition_84 : decode cX0_edition 84 = .ok (.aload_n 0, 1) := dk_42 (dk_at dksX0_edition_3 12 rfl rfl)
theorem dX0_edition_85 : decode cX0_edition 85 = .ok (.getfield 127, 3) := dk_180 0 127 (dk_at dksX0_edition_3 13 rfl rfl)
theorem dX0_edition_88 : decode cX0_edition 88 = .ok (.bipush 24, 2) := dk_16 24 (dk_at dksX0_edition_3 16 rfl rfl)
theorem dX0_edition_90 : decode cX0_edition 90 = .ok (.if_icmp .ne 6, 3) := dk_160 0 6 (dk_at dksX0_edition_3 18 rfl rfl)
theorem dX0_edition_93 : decode cX0_edition 93 = .ok (.bipush (-4), 2) := dk_16 252 (dk_at dksX0_edition_3 21 rfl rfl)
theorem dX0_edition_95 : decode cX0_edition 95 = .ok (.ireturn, 1) := dk_172 (dk_at dksX0_edition_3 23 rfl rfl)
theorem dX0_edition_96 : decode cX0_edition 96 = .ok (.aload_n 0, 1) := dk_42 (dk_at dksX0_edition_4 0 rfl rfl)
theorem dX0_edition_97 : decode cX0_edition 97 = .ok (.getfield 30, 3) := dk_180 0 30 (dk_at dksX0_edition_4 1 rfl rfl)
theorem dX0_edition_100 : decode cX0_edition 100 = .ok (.aload_n 0, 1) := dk_42 (dk_at dksX0_edition_4 4 rfl rfl)
theorem dX0_edition_101 : decode cX0_edition 101 = .ok (.getfield 127, 3) := dk_180 0 127 (dk_at dksX0_edition_4 5 rfl rfl)
theorem dX0_edition_104 : decode cX0_edition 104 = .ok (.new 28, 3) := dk_187 0 28 (dk_at dksX0_edition_4 8 rfl rfl)
theorem dX0_edition_107 : decode cX0_edition 107 = .ok (.dup, 1) := dk_89 (dk_at dksX0_edition_4 11 rfl rfl)
theorem dX0_edition_108 : decode cX0_edition 108 = .ok (.aload_n 0, 1) := dk_42 (dk_at dksX0_edition_4 12 rfl rfl)
theorem dX0_edition_109 : decode cX0_edition 109 = .ok (.getfield 127, 3) := dk_180 0 127 (dk_at dksX0_edition_4 13 rfl rfl)
theorem dX0_edition_112 : decode cX0_edition 112 = .ok (.aload 5, 2) := dk_25 5 (dk_at dksX0_edition_4 16 rfl rfl)
theorem dX0_edition_114 : decode cX0_edition 114 = .ok (.iload_n 2, 1) := dk_28 (dk_at dksX0_edition_4 18 rfl rfl)
theorem dX0_edition_115 : decode cX0_edition 115 = .ok (.iload_n 3, 1) := dk_29 (dk_at dksX0_edition_4 19 rfl rfl)
theorem dX0_edition_116 : decode cX0_edition 116 = .ok (.iload 4, 2) := dk_21 4 (dk_at dksX0_edition_4 20 rfl rfl)
theorem dX0_edition_118 : decode cX0_edition 118 = .ok (.invokespecial 173, 3) := dk_183 0 173 (dk_at dksX0_edition_5 0 rfl rfl)
theorem dX0_edition_121 : decode cX0_edition 121 = .ok (.aastore, 1) := dk_83 (dk_at dksX0_edition_5 3 rfl rfl)
theorem dX0_edition_122 : decode cX0_edition 122 = .ok (.aload_n 0, 1) := dk_42 (dk_at dksX0_edition_5 4 rfl rfl)
theorem dX0_edition_123 : decode cX0_edition 123 = .ok (.dup, 1) := dk_89 (dk_at dksX0_edition_5 5 rfl rfl)
theorem dX0_edition_124 : decode cX0_edition 124 = .ok (.getfield 127, 3) := dk_180 0 127 (dk_at dksX0_edition_5 6 rfl rfl)
theorem dX0_edition_127 : decode cX0_edition 127 = .ok (.dup_x1, 1) := dk_90 (dk_at dksX0_edition_5 9 rfl rfl)
theorem dX0_edition_128 : decode cX0_edition 128 = .ok (.iconst 1, 1) := dk_4 (dk_at dksX0_edition_5 10 rfl rfl)
theorem dX0_edition_129 : decode cX0_edition 129 = .ok (.iadd, 1) := dk_96 (dk_at dksX0_edition_5 11 rfl rfl)
theorem dX0_edition_130 : decode cX0_edition 130 = .ok (.putfield 127, 3) := dk_181 0 127 (dk_at dksX0_edition_5 12 rfl rfl)
theorem dX0_edition_133 : decode cX0_edition 133 = .ok (.ireturn, 1) := dk_172 (dk_at dksX0_edition_5 15 rfl rfl)
abbrev cX0_isEdition : ByteArray := prog_1_method_5_code
def yX0_isEdition : MethodName := ⟨RX0, "isEdition", "(I)Z"⟩
def dkwX0_isEdition_0 : List UInt8 := [27, 3, 42, 180, 0, 127, 4, 100, 184, 0, 123, 172]
abbrev dktX0_isEdition_0 : List UInt8 := dkwX0_isEdition_0 ++ []
theorem dksX0_isEdition_0 : cX0_isEdition.data.toList.drop 0 = dktX0_isEdition_0 := by decide +kernel
theorem dX0_isEdition_0 : decode cX0_isEdition 0 = .ok (.iload_n 1, 1) := dk_27 (dk_at dksX0_isEdition_0 0 rfl rfl)
theorem dX0_isEdition_1 : decode cX0_isEdition 1 = .ok (.iconst 0, 1) := dk_3 (dk_at dksX0_isEdition_0 1 rfl rfl)
theorem dX0_isEdition_2 : decode cX0_isEdition 2 = .ok (.aload_n 0, 1) := dk_42 (dk_at dksX0_isEdition_0 2 rfl rfl)
theorem dX0_isEdition_3 : decode cX0_isEdition 3 = .ok (.getfield 127, 3) := dk_180 0 127 (dk_at dksX0_isEdition_0 3 rfl rfl)
theorem dX0_isEdition_6 : decode cX0_isEdition 6 = .ok (.iconst 1, 1) := dk_4 (dk_at dksX0_isEdition_0 6 rfl rfl)
theorem dX0_isEdition_7 : decode cX0_isEdition 7 = .ok (.isub, 1) := dk_100 (dk_at dksX0_isEdition_0 7 rfl rfl)
theorem dX0_isEdition_8 : decode cX0_isEdition 8 = .ok (.invokestatic 123, 3) := dk_184 0 123 (dk_at dksX0_isEdition_0 8 rfl rfl)
theorem dX0_isEdition_11 : decode cX0_isEdition 11 = .ok (.ireturn, 1) := dk_172 (dk_at dksX0_isEdition_0 11 rfl rfl)
abbrev cX0_of : ByteArray := prog_1_method_14_code
def yX0_of : MethodName := ⟨RX0, "of", "(II)I"⟩
def dkwX0_of_4 : List UInt8 := [172]
abbrev dktX0_of_4 : List UInt8 := dkwX0_of_4 ++ []
def dkwX0_of_3 : List UInt8 := [180, 0, 169, 180, 0, 186, 172, 45, 180, 0, 169, 180, 0, 189, 172, 45, 180, 0, 169, 180, 0, 192, 172, 2]
abbrev dktX0_of_3 : List UInt8 := dkwX0_of_3 ++ dktX0_of_4
def dkwX0_of_2 : List UInt8 := [45, 180, 0, 169, 180, 0, 176, 172, 45, 180, 0, 179, 172, 45, 180, 0, 180, 172, 45, 180, 0, 183, 172, 45]
abbrev dktX0_of_2 : List UInt8 := dkwX0_of_2 ++ dktX0_of_3
def dkwX0_of_1 : List UInt8 := [170, 0, 0, 0, 0, 89, 0, 0, 0, 0, 0, 0, 0, 6, 0, 0, 0, 42, 0, 0, 0, 50, 0, 0, 0, 55, 0, 0, 0, 60, 0, 0, 0, 65, 0, 0, 0, 73, 0, 0, 0, 81]
abbrev dktX0_of_1 : List UInt8 := dkwX0_of_1 ++ dktX0_of_2
def dkwX0_of_0 : List UInt8 := [42, 27, 182, 0, 166, 154, 0, 5, 2, 172, 42, 180, 0, 30, 27, 50, 78, 28]
abbrev dktX0_of_0 : List UInt8 := dkwX0_of_0 ++ dktX0_of_1
theorem dksX0_of_0 : cX0_of.data.toList.drop 0 = dktX0_of_0 := by decide +kernel
theorem dksX0_of_1 : cX0_of.data.toList.drop 18 = dktX0_of_1 := dk_seg dksX0_of_0 18 rfl rfl
theorem dksX0_of_2 : cX0_of.data.toList.drop 60 = dktX0_of_2 := dk_seg dksX0_of_1 42 rfl rfl
theorem dksX0_of_3 : cX0_of.data.toList.drop 84 = dktX0_of_3 := dk_seg dksX0_of_2 24 rfl rfl
theorem dksX0_of_4 : cX0_of.data.toList.drop 108 = dktX0_of_4 := dk_seg dksX0_of_3 24 rfl rfl
theorem dX0_of_0 : decode cX0_of 0 = .ok (.aload_n 0, 1) := dk_42 (dk_at dksX0_of_0 0 rfl rfl)
theorem dX0_of_1 : decode cX0_of 1 = .ok (.iload_n 1, 1) := dk_27 (dk_at dksX0_of_0 1 rfl rfl)
theorem dX0_of_2 : decode cX0_of 2 = .ok (.invokevirtual 166, 3) := dk_182 0 166 (dk_at dksX0_of_0 2 rfl rfl)
theorem dX0_of_5 : decode cX0_of 5 = .ok (.ifCond .ne 5, 3) := dk_154 0 5 (dk_at dksX0_of_0 5 rfl rfl)
theorem dX0_of_8 : decode cX0_of 8 = .ok (.iconst (-1), 1) := dk_2 (dk_at dksX0_of_0 8 rfl rfl)
theorem dX0_of_9 : decode cX0_of 9 = .ok (.ireturn, 1) := dk_172 (dk_at dksX0_of_0 9 rfl rfl)
theorem dX0_of_10 : decode cX0_of 10 = .ok (.aload_n 0, 1) := dk_42 (dk_at dksX0_of_0 10 rfl rfl)
theorem dX0_of_11 : decode cX0_of 11 = .ok (.getfield 30, 3) := dk_180 0 30 (dk_at dksX0_of_0 11 rfl rfl)
theorem dX0_of_14 : decode cX0_of 14 = .ok (.iload_n 1, 1) := dk_27 (dk_at dksX0_of_0 14 rfl rfl)
theorem dX0_of_15 : decode cX0_of 15 = .ok (.aaload, 1) := dk_50 (dk_at dksX0_of_0 15 rfl rfl)
theorem dX0_of_16 : decode cX0_of 16 = .ok (.astore_n 3, 1) := dk_78 (dk_at dksX0_of_0 16 rfl rfl)
theorem dX0_of_17 : decode cX0_of 17 = .ok (.iload_n 2, 1) := dk_28 (dk_at dksX0_of_0 17 rfl rfl)
theorem dX0_of_18 : decode cX0_of 18 = .ok (.tableswitch 89 0 6 #[42, 50, 55, 60, 65, 73, 81], 42) := by decide +kernel
theorem dX0_of_60 : decode cX0_of 60 = .ok (.aload_n 3, 1) := dk_45 (dk_at dksX0_of_2 0 rfl rfl)
theorem dX0_of_61 : decode cX0_of 61 = .ok (.getfield 169, 3) := dk_180 0 169 (dk_at dksX0_of_2 1 rfl rfl)
theorem dX0_of_64 : decode cX0_of 64 = .ok (.getfield 176, 3) := dk_180 0 176 (dk_at dksX0_of_2 4 rfl rfl)
theorem dX0_of_67 : decode cX0_of 67 = .ok (.ireturn, 1) := dk_172 (dk_at dksX0_of_2 7 rfl rfl)
theorem dX0_of_68 : decode cX0_of 68 = .ok (.aload_n 3, 1) := dk_45 (dk_at dksX0_of_2 8 rfl rfl)
theorem dX0_of_69 : decode cX0_of 69 = .ok (.getfield 179, 3) := dk_180 0 179 (dk_at dksX0_of_2 9 rfl rfl)
theorem dX0_of_72 : decode cX0_of 72 = .ok (.ireturn, 1) := dk_172 (dk_at dksX0_of_2 12 rfl rfl)
theorem dX0_of_73 : decode cX0_of 73 = .ok (.aload_n 3, 1) := dk_45 (dk_at dksX0_of_2 13 rfl rfl)
theorem dX0_of_74 : decode cX0_of 74 = .ok (.getfield 180, 3) := dk_180 0 180 (dk_at dksX0_of_2 14 rfl rfl)
theorem dX0_of_77 : decode cX0_of 77 = .ok (.ireturn, 1) := dk_172 (dk_at dksX0_of_2 17 rfl rfl)
theorem dX0_of_78 : decode cX0_of 78 = .ok (.aload_n 3, 1) := dk_45 (dk_at dksX0_of_2 18 rfl rfl)
theorem dX0_of_79 : decode cX0_of 79 = .ok (.getfield 183, 3) := dk_180 0 183 (dk_at dksX0_of_2 19 rfl rfl)
theorem dX0_of_82 : decode cX0_of 82 = .ok (.ireturn, 1) := dk_172 (dk_at dksX0_of_2 22 rfl rfl)
theorem dX0_of_83 : decode cX0_of 83 = .ok (.aload_n 3, 1) := dk_45 (dk_at dksX0_of_2 23 rfl rfl)
theorem dX0_of_84 : decode cX0_of 84 = .ok (.getfield 169, 3) := dk_180 0 169 (dk_at dksX0_of_3 0 rfl rfl)
theorem dX0_of_87 : decode cX0_of 87 = .ok (.getfield 186, 3) := dk_180 0 186 (dk_at dksX0_of_3 3 rfl rfl)
theorem dX0_of_90 : decode cX0_of 90 = .ok (.ireturn, 1) := dk_172 (dk_at dksX0_of_3 6 rfl rfl)
theorem dX0_of_91 : decode cX0_of 91 = .ok (.aload_n 3, 1) := dk_45 (dk_at dksX0_of_3 7 rfl rfl)
theorem dX0_of_92 : decode cX0_of 92 = .ok (.getfield 169, 3) := dk_180 0 169 (dk_at dksX0_of_3 8 rfl rfl)
theorem dX0_of_95 : decode cX0_of 95 = .ok (.getfield 189, 3) := dk_180 0 189 (dk_at dksX0_of_3 11 rfl rfl)
theorem dX0_of_98 : decode cX0_of 98 = .ok (.ireturn, 1) := dk_172 (dk_at dksX0_of_3 14 rfl rfl)
theorem dX0_of_99 : decode cX0_of 99 = .ok (.aload_n 3, 1) := dk_45 (dk_at dksX0_of_3 15 rfl rfl)
theorem dX0_of_100 : decode cX0_of 100 = .ok (.getfield 169, 3) := dk_180 0 169 (dk_at dksX0_of_3 16 rfl rfl)
theorem dX0_of_103 : decode cX0_of 103 = .ok (.getfield 192, 3) := dk_180 0 192 (dk_at dksX0_of_3 19 rfl rfl)
theorem dX0_of_106 : decode cX0_of 106 = .ok (.ireturn, 1) := dk_172 (dk_at dksX0_of_3 22 rfl rfl)
theorem dX0_of_107 : decode cX0_of 107 = .ok (.iconst (-1), 1) := dk_2 (dk_at dksX0_of_3 23 rfl rfl)
theorem dX0_of_108 : decode cX0_of 108 = .ok (.ireturn, 1) := dk_172 (dk_at dksX0_of_4 0 rfl rfl)
abbrev cX0_card : ByteArray := prog_1_method_17_code
def yX0_card : MethodName := ⟨RX0, "card", "(III)I"⟩
def dkwX0_card_3 : List UInt8 := [90, 4, 96, 181, 0, 195, 172]
abbrev dktX0_card_3 : List UInt8 := dkwX0_card_3 ++ []
def dkwX0_card_2 : List UInt8 := [16, 252, 172, 42, 180, 0, 36, 42, 180, 0, 195, 42, 27, 28, 29, 182, 0, 216, 83, 42, 89, 180, 0, 195]
abbrev dktX0_card_2 : List UInt8 := dkwX0_card_2 ++ dktX0_card_3
def dkwX0_card_1 : List UInt8 := [172, 29, 3, 17, 3, 231, 184, 0, 123, 154, 0, 6, 16, 254, 172, 42, 180, 0, 195, 16, 50, 160, 0, 6]
abbrev dktX0_card_1 : List UInt8 := dkwX0_card_1 ++ dktX0_card_2
def dkwX0_card_0 : List UInt8 := [27, 3, 16, 6, 184, 0, 123, 153, 0, 16, 27, 7, 159, 0, 11, 42, 28, 182, 0, 166, 154, 0, 5, 2]
abbrev dktX0_card_0 : List UInt8 := dkwX0_card_0 ++ dktX0_card_1
theorem dksX0_card_0 : cX0_card.data.toList.drop 0 = dktX0_card_0 := by decide +kernel
theorem dksX0_card_1 : cX0_card.data.toList.drop 24 = dktX0_card_1 := dk_seg dksX0_card_0 24 rfl rfl
theorem dksX0_card_2 : cX0_card.data.toList.drop 48 = dktX0_card_2 := dk_seg dksX0_card_1 24 rfl rfl
theorem dksX0_card_3 : cX0_card.data.toList.drop 72 = dktX0_card_3 := dk_seg dksX0_card_2 24 rfl rfl
theorem dX0_card_0 : decode cX0_card 0 = .ok (.iload_n 1, 1) := dk_27 (dk_at dksX0_card_0 0 rfl rfl)
theorem dX0_card_1 : decode cX0_card 1 = .ok (.iconst 0, 1) := dk_3 (dk_at dksX0_card_0 1 rfl rfl)
theorem dX0_card_2 : decode cX0_card 2 = .ok (.bipush 6, 2) := dk_16 6 (dk_at dksX0_card_0 2 rfl rfl)
theorem dX0_card_4 : decode cX0_card 4 = .ok (.invokestatic 123, 3) := dk_184 0 123 (dk_at dksX0_card_0 4 rfl rfl)
theorem dX0_card_7 : decode cX0_card 7 = .ok (.ifCond .eq 16, 3) := dk_153 0 16 (dk_at dksX0_card_0 7 rfl rfl)
theorem dX0_card_10 : decode cX0_card 10 = .ok (.iload_n 1, 1) := dk_27 (dk_at dksX0_card_0 10 rfl rfl)
theorem dX0_card_11 : decode cX0_card 11 = .ok (.iconst 4, 1) := dk_7 (dk_at dksX0_card_0 11 rfl rfl)
theorem dX0_card_12 : decode cX0_card 12 = .ok (.if_icmp .eq 11, 3) := dk_159 0 11 (dk_at dksX0_card_0 12 rfl rfl)
theorem dX0_card_15 : decode cX0_card 15 = .ok (.aload_n 0, 1) := dk_42 (dk_at dksX0_card_0 15 rfl rfl)
theorem dX0_card_16 : decode cX0_card 16 = .ok (.iload_n 2, 1) := dk_28 (dk_at dksX0_card_0 16 rfl rfl)
theorem dX0_card_17 : decode cX0_card 17 = .ok (.invokevirtual 166, 3) := dk_182 0 166 (dk_at dksX0_card_0 17 rfl rfl)
theorem dX0_card_20 : decode cX0_card 20 = .ok (.ifCond .ne 5, 3) := dk_154 0 5 (dk_at dksX0_card_0 20 rfl rfl)
theorem dX0_card_23 : decode cX0_card 23 = .ok (.iconst (-1), 1) := dk_2 (dk_at dksX0_card_0 23 rfl rfl)
theorem dX0_card_24 : decode cX0_card 24 = .ok (.ireturn, 1) := dk_172 (dk_at dksX0_card_1 0 rfl rfl)
theorem dX0_card_25 : decode cX0_card 25 = .ok (.iload_n 3, 1) := dk_29 (dk_at dksX0_card_1 1 rfl rfl)
theorem dX0_card_26 : decode cX0_card 26 = .ok (.iconst 0, 1) := dk_3 (dk_at dksX0_card_1 2 rfl rfl)
theorem dX0_card_27 : decode cX0_card 27 = .ok (.sipush 999, 3) := dk_17 3 231 (dk_at dksX0_card_1 3 rfl rfl)
theorem dX0_card_30 : decode cX0_card 30 = .ok (.invokestatic 123, 3) := dk_184 0 123 (dk_at dksX0_card_1 6 rfl rfl)
theorem dX0_card_33 : decode cX0_card 33 = .ok (.ifCond .ne 6, 3) := dk_154 0 6 (dk_at dksX0_card_1 9 rfl rfl)
theorem dX0_card_36 : decode cX0_card 36 = .ok (.bipush (-2), 2) := dk_16 254 (dk_at dksX0_card_1 12 rfl rfl)
theorem dX0_card_38 : decode cX0_card 38 = .ok (.ireturn, 1) := dk_172 (dk_at dksX0_card_1 14 rfl rfl)
theorem dX0_card_39 : decode cX0_card 39 = .ok (.aload_n 0, 1) := dk_42 (dk_at dksX0_card_1 15 rfl rfl)
theorem dX0_card_40 : decode cX0_card 40 = .ok (.getfield 195, 3) := dk_180 0 195 (dk_at dksX0_card_1 16 rfl rfl)
theorem dX0_card_43 : decode cX0_card 43 = .ok (.bipush 50, 2) := dk_16 50 (dk_at dksX0_card_1 19 rfl rfl)
theorem dX0_card_45 : decode cX0_card 45 = .ok (.if_icmp .ne 6, 3) := dk_160 0 6 (dk_at dksX0_card_1 21 rfl rfl)
theorem dX0_card_48 : decode cX0_card 48 = .ok (.bipush (-4), 2) := dk_16 252 (dk_at dksX0_card_2 0 rfl rfl)
theorem dX0_card_50 : decode cX0_card 50 = .ok (.ireturn, 1) := dk_172 (dk_at dksX0_card_2 2 rfl rfl)
theorem dX0_card_51 : decode cX0_card 51 = .ok (.aload_n 0, 1) := dk_42 (dk_at dksX0_card_2 3 rfl rfl)
theorem dX0_card_52 : decode cX0_card 52 = .ok (.getfield 36, 3) := dk_180 0 36 (dk_at dksX0_card_2 4 rfl rfl)
theorem dX0_card_55 : decode cX0_card 55 = .ok (.aload_n 0, 1) := dk_42 (dk_at dksX0_card_2 7 rfl rfl)
theorem dX0_card_56 : decode cX0_card 56 = .ok (.getfield 195, 3) := dk_180 0 195 (dk_at dksX0_card_2 8 rfl rfl)
theorem dX0_card_59 : decode cX0_card 59 = .ok (.aload_n 0, 1) := dk_42 (dk_at dksX0_card_2 11 rfl rfl)
theorem dX0_card_60 : decode cX0_card 60 = .ok (.iload_n 1, 1) := dk_27 (dk_at dksX0_card_2 12 rfl rfl)
theorem dX0_card_61 : decode cX0_card 61 = .ok (.iload_n 2, 1) := dk_28 (dk_at dksX0_card_2 13 rfl rfl)
theorem dX0_card_62 : decode cX0_card 62 = .ok (.iload_n 3, 1) := dk_29 (dk_at dksX0_card_2 14 rfl rfl)
theorem dX0_card_63 : decode cX0_card 63 = .ok (.invokevirtual 216, 3) := dk_182 0 216 (dk_at dksX0_card_2 15 rfl rfl)
theorem dX0_card_66 : decode cX0_card 66 = .ok (.aastore, 1) := dk_83 (dk_at dksX0_card_2 18 rfl rfl)
theorem dX0_card_67 : decode cX0_card 67 = .ok (.aload_n 0, 1) := dk_42 (dk_at dksX0_card_2 19 rfl rfl)
theorem dX0_card_68 : decode cX0_card 68 = .ok (.dup, 1) := dk_89 (dk_at dksX0_card_2 20 rfl rfl)
theorem dX0_card_69 : decode cX0_card 69 = .ok (.getfield 195, 3) := dk_180 0 195 (dk_at dksX0_card_2 21 rfl rfl)
theorem dX0_card_72 : decode cX0_card 72 = .ok (.dup_x1, 1) := dk_90 (dk_at dksX0_card_3 0 rfl rfl)
theorem dX0_card_73 : decode cX0_card 73 = .ok (.iconst 1, 1) := dk_4 (dk_at dksX0_card_3 1 rfl rfl)
theorem dX0_card_74 : decode cX0_card 74 = .ok (.iadd, 1) := dk_96 (dk_at dksX0_card_3 2 rfl rfl)
theorem dX0_card_75 : decode cX0_card 75 = .ok (.putfield 195, 3) := dk_181 0 195 (dk_at dksX0_card_3 3 rfl rfl)
theorem dX0_card_78 : decode cX0_card 78 = .ok (.ireturn, 1) := dk_172 (dk_at dksX0_card_3 6 rfl rfl)
abbrev cX0_made : ByteArray := prog_1_method_16_code
def yX0_made : MethodName := ⟨RX0, "made", "(III)LBarredBooks$Card;"⟩
def dkwX0_made_6 : List UInt8 := [187, 0, 213, 89, 42, 180, 0, 43, 42, 180, 0, 195, 28, 29, 183, 0, 215, 176]
abbrev dktX0_made_6 : List UInt8 := dkwX0_made_6 ++ []
def dkwX0_made_5 : List UInt8 := [183, 0, 209, 176, 187, 0, 210, 89, 42, 180, 0, 43, 42, 180, 0, 195, 28, 29, 183, 0, 212, 176]
abbrev dktX0_made_5 : List UInt8 := dkwX0_made_5 ++ dktX0_made_6
def dkwX0_made_4 : List UInt8 := [180, 0, 195, 28, 29, 183, 0, 206, 176, 187, 0, 207, 89, 42, 180, 0, 43, 42, 180, 0, 195, 28, 29]
abbrev dktX0_made_4 : List UInt8 := dkwX0_made_4 ++ dktX0_made_5
def dkwX0_made_3 : List UInt8 := [180, 0, 43, 42, 180, 0, 195, 28, 29, 183, 0, 203, 176, 187, 0, 204, 89, 42, 180, 0, 43, 42]
abbrev dktX0_made_3 : List UInt8 := dkwX0_made_3 ++ dktX0_made_4
def dkwX0_made_2 : List UInt8 := [187, 0, 34, 89, 42, 180, 0, 43, 42, 180, 0, 195, 28, 29, 183, 0, 198, 176, 187, 0, 201, 89, 42]
abbrev dktX0_made_2 : List UInt8 := dkwX0_made_2 ++ dktX0_made_3
def dkwX0_made_1 : List UInt8 := [170, 0, 0, 0, 0, 0, 129, 0, 0, 0, 0, 0, 0, 0, 5, 0, 0, 0, 39, 0, 0, 0, 57, 0, 0, 0, 75, 0, 0, 0, 93, 0, 0, 0, 129, 0, 0, 0, 111]
abbrev dktX0_made_1 : List UInt8 := dkwX0_made_1 ++ dktX0_made_2
def dkwX0_made_0 : List UInt8 := [27]
abbrev dktX0_made_0 : List UInt8 := dkwX0_made_0 ++ dktX0_made_1
theorem dksX0_made_0 : cX0_made.data.toList.drop 0 = dktX0_made_0 := by decide +kernel
theorem dksX0_made_1 : cX0_made.data.toList.drop 1 = dktX0_made_1 := dk_seg dksX0_made_0 1 rfl rfl
theorem dksX0_made_2 : cX0_made.data.toList.drop 40 = dktX0_made_2 := dk_seg dksX0_made_1 39 rfl rfl
theorem dksX0_made_3 : cX0_made.data.toList.drop 63 = dktX0_made_3 := dk_seg dksX0_made_2 23 rfl rfl
theorem dksX0_made_4 : cX0_made.data.toList.drop 85 = dktX0_made_4 := dk_seg dksX0_made_3 22 rfl rfl
theorem dksX0_made_5 : cX0_made.data.toList.drop 108 = dktX0_made_5 := dk_seg dksX0_made_4 23 rfl rfl
theorem dksX0_made_6 : cX0_made.data.toList.drop 130 = dktX0_made_6 := dk_seg dksX0_made_5 22 rfl rfl
theorem dX0_made_0 : decode cX0_made 0 = .ok (.iload_n 1, 1) := dk_27 (dk_at dksX0_made_0 0 rfl rfl)
theorem dX0_made_1 : decode cX0_made 1 = .ok (.tableswitch 129 0 5 #[39, 57, 75, 93, 129, 111], 39) := by decide +kernel
theorem dX0_made_40 : decode cX0_made 40 = .ok (.new 34, 3) := dk_187 0 34 (dk_at dksX0_made_2 0 rfl rfl)
theorem dX0_made_43 : decode cX0_made 43 = .ok (.dup, 1) := dk_89 (dk_at dksX0_made_2 3 rfl rfl)
theorem dX0_made_44 : decode cX0_made 44 = .ok (.aload_n 0, 1) := dk_42 (dk_at dksX0_made_2 4 rfl rfl)
theorem dX0_made_45 : decode cX0_made 45 = .ok (.getfield 43, 3) := dk_180 0 43 (dk_at dksX0_made_2 5 rfl rfl)
theorem dX0_made_48 : decode cX0_made 48 = .ok (.aload_n 0, 1) := dk_42 (dk_at dksX0_made_2 8 rfl rfl)
theorem dX0_made_49 : decode cX0_made 49 = .ok (.getfield 195, 3) := dk_180 0 195 (dk_at dksX0_made_2 9 rfl rfl)
theorem dX0_made_52 : decode cX0_made 52 = .ok (.iload_n 2, 1) := dk_28 (dk_at dksX0_made_2 12 rfl rfl)
theorem dX0_made_53 : decode cX0_made 53 = .ok (.iload_n 3, 1) := dk_29 (dk_at dksX0_made_2 13 rfl rfl)
theorem dX0_made_54 : decode cX0_made 54 = .ok (.invokespecial 198, 3) := dk_183 0 198 (dk_at dksX0_made_2 14 rfl rfl)
theorem dX0_made_57 : decode cX0_made 57 = .ok (.areturn, 1) := dk_176 (dk_at dksX0_made_2 17 rfl rfl)
theorem dX0_made_58 : decode cX0_made 58 = .ok (.new 201, 3) := dk_187 0 201 (dk_at dksX0_made_2 18 rfl rfl)
theorem dX0_made_61 : decode cX0_made 61 = .ok (.dup, 1) := dk_89 (dk_at dksX0_made_2 21 rfl rfl)
theorem dX0_made_62 : decode cX0_made 62 = .ok (.aload_n 0, 1) := dk_42 (dk_at dksX0_made_2 22 rfl rfl)
theorem dX0_made_63 : decode cX0_made 63 = .ok (.getfield 43, 3) := dk_180 0 43 (dk_at dksX0_made_3 0 rfl rfl)
theorem dX0_made_66 : decode cX0_made 66 = .ok (.aload_n 0, 1) := dk_42 (dk_at dksX0_made_3 3 rfl rfl)
theorem dX0_made_67 : decode cX0_made 67 = .ok (.getfield 195, 3) := dk_180 0 195 (dk_at dksX0_made_3 4 rfl rfl)
theorem dX0_made_70 : decode cX0_made 70 = .ok (.iload_n 2, 1) := dk_28 (dk_at dksX0_made_3 7 rfl rfl)
theorem dX0_made_71 : decode cX0_made 71 = .ok (.iload_n 3, 1) := dk_29 (dk_at dksX0_made_3 8 rfl rfl)
theorem dX0_made_72 : decode cX0_made 72 = .ok (.invokespecial 203, 3) := dk_183 0 203 (dk_at dksX0_made_3 9 rfl rfl)
theorem dX0_made_75 : decode cX0_made 75 = .ok (.areturn, 1) := dk_176 (dk_at dksX0_made_3 12 rfl rfl)
theorem dX0_made_76 : decode cX0_made 76 = .ok (.new 204, 3) := dk_187 0 204 (dk_at dksX0_made_3 13 rfl rfl)
theorem dX0_made_79 : decode cX0_made 79 = .ok (.dup, 1) := dk_89 (dk_at dksX0_made_3 16 rfl rfl)
theorem dX0_made_80 : decode cX0_made 80 = .ok (.aload_n 0, 1) := dk_42 (dk_at dksX0_made_3 17 rfl rfl)
theorem dX0_made_81 : decode cX0_made 81 = .ok (.getfield 43, 3) := dk_180 0 43 (dk_at dksX0_made_3 18 rfl rfl)
theorem dX0_made_84 : decode cX0_made 84 = .ok (.aload_n 0, 1) := dk_42 (dk_at dksX0_made_3 21 rfl rfl)
theorem dX0_made_85 : decode cX0_made 85 = .ok (.getfield 195, 3) := dk_180 0 195 (dk_at dksX0_made_4 0 rfl rfl)
theorem dX0_made_88 : decode cX0_made 88 = .ok (.iload_n 2, 1) := dk_28 (dk_at dksX0_made_4 3 rfl rfl)
theorem dX0_made_89 : decode cX0_made 89 = .ok (.iload_n 3, 1) := dk_29 (dk_at dksX0_made_4 4 rfl rfl)
theorem dX0_made_90 : decode cX0_made 90 = .ok (.invokespecial 206, 3) := dk_183 0 206 (dk_at dksX0_made_4 5 rfl rfl)
theorem dX0_made_93 : decode cX0_made 93 = .ok (.areturn, 1) := dk_176 (dk_at dksX0_made_4 8 rfl rfl)
theorem dX0_made_94 : decode cX0_made 94 = .ok (.new 207, 3) := dk_187 0 207 (dk_at dksX0_made_4 9 rfl rfl)
theorem dX0_made_97 : decode cX0_made 97 = .ok (.dup, 1) := dk_89 (dk_at dksX0_made_4 12 rfl rfl)
theorem dX0_made_98 : decode cX0_made 98 = .ok (.aload_n 0, 1) := dk_42 (dk_at dksX0_made_4 13 rfl rfl)
theorem dX0_made_99 : decode cX0_made 99 = .ok (.getfield 43, 3) := dk_180 0 43 (dk_at dksX0_made_4 14 rfl rfl)
theorem dX0_made_102 : decode cX0_made 102 = .ok (.aload_n 0, 1) := dk_42 (dk_at dksX0_made_4 17 rfl rfl)
theorem dX0_made_103 : decode cX0_made 103 = .ok (.getfield 195, 3) := dk_180 0 195 (dk_at dksX0_made_4 18 rfl rfl)
theorem dX0_made_106 : decode cX0_made 106 = .ok (.iload_n 2, 1) := dk_28 (dk_at dksX0_made_4 21 rfl rfl)
theorem dX0_made_107 : decode cX0_made 107 = .ok (.iload_n 3, 1) := dk_29 (dk_at dksX0_made_4 22 rfl rfl)
theorem dX0_made_108 : decode cX0_made 108 = .ok (.invokespecial 209, 3) := dk_183 0 209 (dk_at dksX0_made_5 0 rfl rfl)
theorem dX0_made_111 : decode cX0_made 111 = .ok (.areturn, 1) := dk_176 (dk_at dksX0_made_5 3 rfl rfl)
theorem dX0_made_112 : decode cX0_made 112 = .ok (.new 210, 3) := dk_187 0 210 (dk_at dksX0_made_5 4 rfl rfl)
theorem dX0_made_115 : decode cX0_made 115 = .ok (.dup, 1) := dk_89 (dk_at dksX0_made_5 7 rfl rfl)
theorem dX0_made_116 : decode cX0_made 116 = .ok (.aload_n 0, 1) := dk_42 (dk_at dksX0_made_5 8 rfl rfl)
theorem dX0_made_117 : decode cX0_made 117 = .ok (.getfield 43, 3) := dk_180 0 43 (dk_at dksX0_made_5 9 rfl rfl)
theorem dX0_made_120 : decode cX0_made 120 = .ok (.aload_n 0, 1) := dk_42 (dk_at dksX0_made_5 12 rfl rfl)
theorem dX0_made_121 : decode cX0_made 121 = .ok (.getfield 195, 3) := dk_180 0 195 (dk_at dksX0_made_5 13 rfl rfl)
theorem dX0_made_124 : decode cX0_made 124 = .ok (.iload_n 2, 1) := dk_28 (dk_at dksX0_made_5 16 rfl rfl)
theorem dX0_made_125 : decode cX0_made 125 = .ok (.iload_n 3, 1) := dk_29 (dk_at dksX0_made_5 17 rfl rfl)
theorem dX0_made_126 : decode cX0_made 126 = .ok (.invokespecial 212, 3) := dk_183 0 212 (dk_at dksX0_made_5 18 rfl rfl)
theorem dX0_made_129 : decode cX0_made 129 = .ok (.areturn, 1) := dk_176 (dk_at dksX0_made_5 21 rfl rfl)
theorem dX0_made_130 : decode cX0_made 130 = .ok (.new 213, 3) := dk_187 0 213 (dk_at dksX0_made_6 0 rfl rfl)
theorem dX0_made_133 : decode cX0_made 133 = .ok (.dup, 1) := dk_89 (dk_at dksX0_made_6 3 rfl rfl)
theorem dX0_made_134 : decode cX0_made 134 = .ok (.aload_n 0, 1) := dk_42 (dk_at dksX0_made_6 4 rfl rfl)
theorem dX0_made_135 : decode cX0_made 135 = .ok (.getfield 43, 3) := dk_180 0 43 (dk_at dksX0_made_6 5 rfl rfl)
theorem dX0_made_138 : decode cX0_made 138 = .ok (.aload_n 0, 1) := dk_42 (dk_at dksX0_made_6 8 rfl rfl)
theorem dX0_made_139 : decode cX0_made 139 = .ok (.getfield 195, 3) := dk_180 0 195 (dk_at dksX0_made_6 9 rfl rfl)
theorem dX0_made_142 : decode cX0_made 142 = .ok (.iload_n 2, 1) := dk_28 (dk_at dksX0_made_6 12 rfl rfl)
theorem dX0_made_143 : decode cX0_made 143 = .ok (.iload_n 3, 1) := dk_29 (dk_at dksX0_made_6 13 rfl rfl)
theorem dX0_made_144 : decode cX0_made 144 = .ok (.invokespecial 215, 3) := dk_183 0 215 (dk_at dksX0_made_6 14 rfl rfl)
theorem dX0_made_147 : decode cX0_made 147 = .ok (.areturn, 1) := dk_176 (dk_at dksX0_made_6 17 rfl rfl)
abbrev cX0_mend : ByteArray := prog_1_method_18_code
def yX0_mend : MethodName := ⟨RX0, "mend", "(II)I"⟩
def dkwX0_mend_4 : List UInt8 := [45, 180, 0, 225, 172, 78, 16, 244, 172]
abbrev dktX0_mend_4 : List UInt8 := dkwX0_mend_4 ++ []
def dkwX0_mend_3 : List UInt8 := [180, 0, 225, 45, 180, 0, 228, 160, 0, 17, 42, 180, 0, 36, 27, 187, 0, 223, 89, 45, 183, 0, 231, 83]
abbrev dktX0_mend_3 : List UInt8 := dkwX0_mend_3 ++ dktX0_mend_4
def dkwX0_mend_2 : List UInt8 := [96, 45, 180, 0, 228, 164, 0, 6, 16, 253, 172, 45, 89, 180, 0, 225, 28, 96, 181, 0, 225, 45]
abbrev dktX0_mend_2 : List UInt8 := dkwX0_mend_2 ++ dktX0_mend_3
def dkwX0_mend_1 : List UInt8 := [180, 0, 36, 27, 50, 192, 0, 207, 78, 45, 193, 0, 223, 153, 0, 6, 16, 244, 172, 45, 180, 0, 225, 28]
abbrev dktX0_mend_1 : List UInt8 := dkwX0_mend_1 ++ dktX0_mend_2
def dkwX0_mend_0 : List UInt8 := [42, 27, 182, 0, 220, 154, 0, 5, 2, 172, 28, 3, 16, 99, 184, 0, 123, 154, 0, 6, 16, 254, 172, 42]
abbrev dktX0_mend_0 : List UInt8 := dkwX0_mend_0 ++ dktX0_mend_1
theorem dksX0_mend_0 : cX0_mend.data.toList.drop 0 = dktX0_mend_0 := by decide +kernel
theorem dksX0_mend_1 : cX0_mend.data.toList.drop 24 = dktX0_mend_1 := dk_seg dksX0_mend_0 24 rfl rfl
theorem dksX0_mend_2 : cX0_mend.data.toList.drop 48 = dktX0_mend_2 := dk_seg dksX0_mend_1 24 rfl rfl
theorem dksX0_mend_3 : cX0_mend.data.toList.drop 70 = dktX0_mend_3 := dk_seg dksX0_mend_2 22 rfl rfl
theorem dksX0_mend_4 : cX0_mend.data.toList.drop 94 = dktX0_mend_4 := dk_seg dksX0_mend_3 24 rfl rfl
theorem dX0_mend_0 : decode cX0_mend 0 = .ok (.aload_n 0, 1) := dk_42 (dk_at dksX0_mend_0 0 rfl rfl)
theorem dX0_mend_1 : decode cX0_mend 1 = .ok (.iload_n 1, 1) := dk_27 (dk_at dksX0_mend_0 1 rfl rfl)
theorem dX0_mend_2 : decode cX0_mend 2 = .ok (.invokevirtual 220, 3) := dk_182 0 220 (dk_at dksX0_mend_0 2 rfl rfl)
theorem dX0_mend_5 : decode cX0_mend 5 = .ok (.ifCond .ne 5, 3) := dk_154 0 5 (dk_at dksX0_mend_0 5 rfl rfl)
theorem dX0_mend_8 : decode cX0_mend 8 = .ok (.iconst (-1), 1) := dk_2 (dk_at dksX0_mend_0 8 rfl rfl)
theorem dX0_mend_9 : decode cX0_mend 9 = .ok (.ireturn, 1) := dk_172 (dk_at dksX0_mend_0 9 rfl rfl)
theorem dX0_mend_10 : decode cX0_mend 10 = .ok (.iload_n 2, 1) := dk_28 (dk_at dksX0_mend_0 10 rfl rfl)
theorem dX0_mend_11 : decode cX0_mend 11 = .ok (.iconst 0, 1) := dk_3 (dk_at dksX0_mend_0 11 rfl rfl)
theorem dX0_mend_12 : decode cX0_mend 12 = .ok (.bipush 99, 2) := dk_16 99 (dk_at dksX0_mend_0 12 rfl rfl)
theorem dX0_mend_14 : decode cX0_mend 14 = .ok (.invokestatic 123, 3) := dk_184 0 123 (dk_at dksX0_mend_0 14 rfl rfl)
theorem dX0_mend_17 : decode cX0_mend 17 = .ok (.ifCond .ne 6, 3) := dk_154 0 6 (dk_at dksX0_mend_0 17 rfl rfl)
theorem dX0_mend_20 : decode cX0_mend 20 = .ok (.bipush (-2), 2) := dk_16 254 (dk_at dksX0_mend_0 20 rfl rfl)
theorem dX0_mend_22 : decode cX0_mend 22 = .ok (.ireturn, 1) := dk_172 (dk_at dksX0_mend_0 22 rfl rfl)
theorem dX0_mend_23 : decode cX0_mend 23 = .ok (.aload_n 0, 1) := dk_42 (dk_at dksX0_mend_0 23 rfl rfl)
theorem dX0_mend_24 : decode cX0_mend 24 = .ok (.getfield 36, 3) := dk_180 0 36 (dk_at dksX0_mend_1 0 rfl rfl)
theorem dX0_mend_27 : decode cX0_mend 27 = .ok (.iload_n 1, 1) := dk_27 (dk_at dksX0_mend_1 3 rfl rfl)
theorem dX0_mend_28 : decode cX0_mend 28 = .ok (.aaload, 1) := dk_50 (dk_at dksX0_mend_1 4 rfl rfl)
theorem dX0_mend_29 : decode cX0_mend 29 = .ok (.checkcast 207, 3) := dk_192 0 207 (dk_at dksX0_mend_1 5 rfl rfl)
theorem dX0_mend_32 : decode cX0_mend 32 = .ok (.astore_n 3, 1) := dk_78 (dk_at dksX0_mend_1 8 rfl rfl)
theorem dX0_mend_33 : decode cX0_mend 33 = .ok (.aload_n 3, 1) := dk_45 (dk_at dksX0_mend_1 9 rfl rfl)
theorem dX0_mend_34 : decode cX0_mend 34 = .ok (.instanceof 223, 3) := dk_193 0 223 (dk_at dksX0_mend_1 10 rfl rfl)
theorem dX0_mend_37 : decode cX0_mend 37 = .ok (.ifCond .eq 6, 3) := dk_153 0 6 (dk_at dksX0_mend_1 13 rfl rfl)
theorem dX0_mend_40 : decode cX0_mend 40 = .ok (.bipush (-12), 2) := dk_16 244 (dk_at dksX0_mend_1 16 rfl rfl)
theorem dX0_mend_42 : decode cX0_mend 42 = .ok (.ireturn, 1) := dk_172 (dk_at dksX0_mend_1 18 rfl rfl)
theorem dX0_mend_43 : decode cX0_mend 43 = .ok (.aload_n 3, 1) := dk_45 (dk_at dksX0_mend_1 19 rfl rfl)
theorem dX0_mend_44 : decode cX0_mend 44 = .ok (.getfield 225, 3) := dk_180 0 225 (dk_at dksX0_mend_1 20 rfl rfl)
theorem dX0_mend_47 : decode cX0_mend 47 = .ok (.iload_n 2, 1) := dk_28 (dk_at dksX0_mend_1 23 rfl rfl)
theorem dX0_mend_48 : decode cX0_mend 48 = .ok (.iadd, 1) := dk_96 (dk_at dksX0_mend_2 0 rfl rfl)
theorem dX0_mend_49 : decode cX0_mend 49 = .ok (.aload_n 3, 1) := dk_45 (dk_at dksX0_mend_2 1 rfl rfl)
theorem dX0_mend_50 : decode cX0_mend 50 = .ok (.getfield 228, 3) := dk_180 0 228 (dk_at dksX0_mend_2 2 rfl rfl)
theorem dX0_mend_53 : decode cX0_mend 53 = .ok (.if_icmp .le 6, 3) := dk_164 0 6 (dk_at dksX0_mend_2 5 rfl rfl)
theorem dX0_mend_56 : decode cX0_mend 56 = .ok (.bipush (-3), 2) := dk_16 253 (dk_at dksX0_mend_2 8 rfl rfl)
theorem dX0_mend_58 : decode cX0_mend 58 = .ok (.ireturn, 1) := dk_172 (dk_at dksX0_mend_2 10 rfl rfl)
theorem dX0_mend_59 : decode cX0_mend 59 = .ok (.aload_n 3, 1) := dk_45 (dk_at dksX0_mend_2 11 rfl rfl)
theorem dX0_mend_60 : decode cX0_mend 60 = .ok (.dup, 1) := dk_89 (dk_at dksX0_mend_2 12 rfl rfl)
theorem dX0_mend_61 : decode cX0_mend 61 = .ok (.getfield 225, 3) := dk_180 0 225 (dk_at dksX0_mend_2 13 rfl rfl)
theorem dX0_mend_64 : decode cX0_mend 64 = .ok (.iload_n 2, 1) := dk_28 (dk_at dksX0_mend_2 16 rfl rfl)
theorem dX0_mend_65 : decode cX0_mend 65 = .ok (.iadd, 1) := dk_96 (dk_at dksX0_mend_2 17 rfl rfl)
theorem dX0_mend_66 : decode cX0_mend 66 = .ok (.putfield 225, 3) := dk_181 0 225 (dk_at dksX0_mend_2 18 rfl rfl)
theorem dX0_mend_69 : decode cX0_mend 69 = .ok (.aload_n 3, 1) := dk_45 (dk_at dksX0_mend_2 21 rfl rfl)
theorem dX0_mend_70 : decode cX0_mend 70 = .ok (.getfield 225, 3) := dk_180 0 225 (dk_at dksX0_mend_3 0 rfl rfl)
theorem dX0_mend_73 : decode cX0_mend 73 = .ok (.aload_n 3, 1) := dk_45 (dk_at dksX0_mend_3 3 rfl rfl)
theorem dX0_mend_74 : decode cX0_mend 74 = .ok (.getfield 228, 3) := dk_180 0 228 (dk_at dksX0_mend_3 4 rfl rfl)
theorem dX0_mend_77 : decode cX0_mend 77 = .ok (.if_icmp .ne 17, 3) := dk_160 0 17 (dk_at dksX0_mend_3 7 rfl rfl)
theorem dX0_mend_80 : decode cX0_mend 80 = .ok (.aload_n 0, 1) := dk_42 (dk_at dksX0_mend_3 10 rfl rfl)
theorem dX0_mend_81 : decode cX0_mend 81 = .ok (.getfield 36, 3) := dk_180 0 36 (dk_at dksX0_mend_3 11 rfl rfl)
theorem dX0_mend_84 : decode cX0_mend 84 = .ok (.iload_n 1, 1) := dk_27 (dk_at dksX0_mend_3 14 rfl rfl)
theorem dX0_mend_85 : decode cX0_mend 85 = .ok (.new 223, 3) := dk_187 0 223 (dk_at dksX0_mend_3 15 rfl rfl)
theorem dX0_mend_88 : decode cX0_mend 88 = .ok (.dup, 1) := dk_89 (dk_at dksX0_mend_3 18 rfl rfl)
theorem dX0_mend_89 : decode cX0_mend 89 = .ok (.aload_n 3, 1) := dk_45 (dk_at dksX0_mend_3 19 rfl rfl)
theorem dX0_mend_90 : decode cX0_mend 90 = .ok (.invokespecial 231, 3) := dk_183 0 231 (dk_at dksX0_mend_3 20 rfl rfl)
theorem dX0_mend_93 : decode cX0_mend 93 = .ok (.aastore, 1) := dk_83 (dk_at dksX0_mend_3 23 rfl rfl)
theorem dX0_mend_94 : decode cX0_mend 94 = .ok (.aload_n 3, 1) := dk_45 (dk_at dksX0_mend_4 0 rfl rfl)
theorem dX0_mend_95 : decode cX0_mend 95 = .ok (.getfield 225, 3) := dk_180 0 225 (dk_at dksX0_mend_4 1 rfl rfl)
theorem dX0_mend_98 : decode cX0_mend 98 = .ok (.ireturn, 1) := dk_172 (dk_at dksX0_mend_4 4 rfl rfl)
theorem dX0_mend_99 : decode cX0_mend 99 = .ok (.astore_n 3, 1) := dk_78 (dk_at dksX0_mend_4 5 rfl rfl)
theorem dX0_mend_100 : decode cX0_mend 100 = .ok (.bipush (-12), 2) := dk_16 244 (dk_at dksX0_mend_4 6 rfl rfl)
theorem dX0_mend_102 : decode cX0_mend 102 = .ok (.ireturn, 1) := dk_172 (dk_at dksX0_mend_4 8 rfl rfl)
abbrev cX0_isCard : ByteArray := prog_1_method_15_code
def yX0_isCard : MethodName := ⟨RX0, "isCard", "(I)Z"⟩
def dkwX0_isCard_0 : List UInt8 := [27, 3, 42, 180, 0, 195, 4, 100, 184, 0, 123, 172]
abbrev dktX0_isCard_0 : List UInt8 := dkwX0_isCard_0 ++ []
theorem dksX0_isCard_0 : cX0_isCard.data.toList.drop 0 = dktX0_isCard_0 := by decide +kernel
theorem dX0_isCard_0 : decode cX0_isCard 0 = .ok (.iload_n 1, 1) := dk_27 (dk_at dksX0_isCard_0 0 rfl rfl)
theorem dX0_isCard_1 : decode cX0_isCard 1 = .ok (.iconst 0, 1) := dk_3 (dk_at dksX0_isCard_0 1 rfl rfl)
theorem dX0_isCard_2 : decode cX0_isCard 2 = .ok (.aload_n 0, 1) := dk_42 (dk_at dksX0_isCard_0 2 rfl rfl)
theorem dX0_isCard_3 : decode cX0_isCard 3 = .ok (.getfield 195, 3) := dk_180 0 195 (dk_at dksX0_isCard_0 3 rfl rfl)
theorem dX0_isCard_6 : decode cX0_isCard 6 = .ok (.iconst 1, 1) := dk_4 (dk_at dksX0_isCard_0 6 rfl rfl)
theorem dX0_isCard_7 : decode cX0_isCard 7 = .ok (.isub, 1) := dk_100 (dk_at dksX0_isCard_0 7 rfl rfl)
theorem dX0_isCard_8 : decode cX0_isCard 8 = .ok (.invokestatic 123, 3) := dk_184 0 123 (dk_at dksX0_isCard_0 8 rfl rfl)
theorem dX0_isCard_11 : decode cX0_isCard 11 = .ok (.ireturn, 1) := dk_172 (dk_at dksX0_isCard_0 11 rfl rfl)
abbrev cX0_kind : ByteArray := prog_1_method_19_code
def yX0_kind : MethodName := ⟨RX0, "kind", "(I)I"⟩
def dkwX0_kind_0 : List UInt8 := [42, 27, 182, 0, 220, 153, 0, 15, 42, 180, 0, 36, 27, 50, 182, 0, 236, 167, 0, 4, 2, 172]
abbrev dktX0_kind_0 : List UInt8 := dkwX0_kind_0 ++ []
theorem dksX0_kind_0 : cX0_kind.data.toList.drop 0 = dktX0_kind_0 := by decide +kernel
theorem dX0_kind_0 : decode cX0_kind 0 = .ok (.aload_n 0, 1) := dk_42 (dk_at dksX0_kind_0 0 rfl rfl)
theorem dX0_kind_1 : decode cX0_kind 1 = .ok (.iload_n 1, 1) := dk_27 (dk_at dksX0_kind_0 1 rfl rfl)
theorem dX0_kind_2 : decode cX0_kind 2 = .ok (.invokevirtual 220, 3) := dk_182 0 220 (dk_at dksX0_kind_0 2 rfl rfl)
theorem dX0_kind_5 : decode cX0_kind 5 = .ok (.ifCond .eq 15, 3) := dk_153 0 15 (dk_at dksX0_kind_0 5 rfl rfl)
theorem dX0_kind_8 : decode cX0_kind 8 = .ok (.aload_n 0, 1) := dk_42 (dk_at dksX0_kind_0 8 rfl rfl)
theorem dX0_kind_9 : decode cX0_kind 9 = .ok (.getfield 36, 3) := dk_180 0 36 (dk_at dksX0_kind_0 9 rfl rfl)
theorem dX0_kind_12 : decode cX0_kind 12 = .ok (.iload_n 1, 1) := dk_27 (dk_at dksX0_kind_0 12 rfl rfl)
theorem dX0_kind_13 : decode cX0_kind 13 = .ok (.aaload, 1) := dk_50 (dk_at dksX0_kind_0 13 rfl rfl)
theorem dX0_kind_14 : decode cX0_kind 14 = .ok (.invokevirtual 236, 3) := dk_182 0 236 (dk_at dksX0_kind_0 14 rfl rfl)
theorem dX0_kind_17 : decode cX0_kind 17 = .ok (.goto 4, 3) := dk_167 0 4 (dk_at dksX0_kind_0 17 rfl rfl)
theorem dX0_kind_20 : decode cX0_kind 20 = .ok (.iconst (-1), 1) := dk_2 (dk_at dksX0_kind_0 20 rfl rfl)
theorem dX0_kind_21 : decode cX0_kind 21 = .ok (.ireturn, 1) := dk_172 (dk_at dksX0_kind_0 21 rfl rfl)
abbrev cX0_act : ByteArray := prog_1_method_20_code
def yX0_act : MethodName := ⟨RX0, "act", "(III)I"⟩
def dkwX0_act_2 : List UInt8 := [167, 0, 23, 28, 4, 160, 0, 12, 25, 4, 29, 182, 0, 247, 167, 0, 9, 25, 4, 29, 182, 0, 250, 172]
abbrev dktX0_act_2 : List UInt8 := dkwX0_act_2 ++ []
def dkwX0_act_1 : List UInt8 := [154, 0, 5, 3, 172, 42, 180, 0, 36, 27, 50, 58, 4, 28, 154, 0, 12, 25, 4, 29, 182, 0, 243]
abbrev dktX0_act_1 : List UInt8 := dkwX0_act_1 ++ dktX0_act_2
def dkwX0_act_0 : List UInt8 := [42, 180, 0, 43, 3, 181, 0, 240, 42, 27, 182, 0, 220, 153, 0, 12, 28, 3, 5, 184, 0, 123]
abbrev dktX0_act_0 : List UInt8 := dkwX0_act_0 ++ dktX0_act_1
theorem dksX0_act_0 : cX0_act.data.toList.drop 0 = dktX0_act_0 := by decide +kernel
theorem dksX0_act_1 : cX0_act.data.toList.drop 22 = dktX0_act_1 := dk_seg dksX0_act_0 22 rfl rfl
theorem dksX0_act_2 : cX0_act.data.toList.drop 45 = dktX0_act_2 := dk_seg dksX0_act_1 23 rfl rfl
theorem dX0_act_0 : decode cX0_act 0 = .ok (.aload_n 0, 1) := dk_42 (dk_at dksX0_act_0 0 rfl rfl)
theorem dX0_act_1 : decode cX0_act 1 = .ok (.getfield 43, 3) := dk_180 0 43 (dk_at dksX0_act_0 1 rfl rfl)
theorem dX0_act_4 : decode cX0_act 4 = .ok (.iconst 0, 1) := dk_3 (dk_at dksX0_act_0 4 rfl rfl)
theorem dX0_act_5 : decode cX0_act 5 = .ok (.putfield 240, 3) := dk_181 0 240 (dk_at dksX0_act_0 5 rfl rfl)
theorem dX0_act_8 : decode cX0_act 8 = .ok (.aload_n 0, 1) := dk_42 (dk_at dksX0_act_0 8 rfl rfl)
theorem dX0_act_9 : decode cX0_act 9 = .ok (.iload_n 1, 1) := dk_27 (dk_at dksX0_act_0 9 rfl rfl)
theorem dX0_act_10 : decode cX0_act 10 = .ok (.invokevirtual 220, 3) := dk_182 0 220 (dk_at dksX0_act_0 10 rfl rfl)
theorem dX0_act_13 : decode cX0_act 13 = .ok (.ifCond .eq 12, 3) := dk_153 0 12 (dk_at dksX0_act_0 13 rfl rfl)
theorem dX0_act_16 : decode cX0_act 16 = .ok (.iload_n 2, 1) := dk_28 (dk_at dksX0_act_0 16 rfl rfl)
theorem dX0_act_17 : decode cX0_act 17 = .ok (.iconst 0, 1) := dk_3 (dk_at dksX0_act_0 17 rfl rfl)
theorem dX0_act_18 : decode cX0_act 18 = .ok (.iconst 2, 1) := dk_5 (dk_at dksX0_act_0 18 rfl rfl)
theorem dX0_act_19 : decode cX0_act 19 = .ok (.invokestatic 123, 3) := dk_184 0 123 (dk_at dksX0_act_0 19 rfl rfl)
theorem dX0_act_22 : decode cX0_act 22 = .ok (.ifCond .ne 5, 3) := dk_154 0 5 (dk_at dksX0_act_1 0 rfl rfl)
theorem dX0_act_25 : decode cX0_act 25 = .ok (.iconst 0, 1) := dk_3 (dk_at dksX0_act_1 3 rfl rfl)
theorem dX0_act_26 : decode cX0_act 26 = .ok (.ireturn, 1) := dk_172 (dk_at dksX0_act_1 4 rfl rfl)
theorem dX0_act_27 : decode cX0_act 27 = .ok (.aload_n 0, 1) := dk_42 (dk_at dksX0_act_1 5 rfl rfl)
theorem dX0_act_28 : decode cX0_act 28 = .ok (.getfield 36, 3) := dk_180 0 36 (dk_at dksX0_act_1 6 rfl rfl)
theorem dX0_act_31 : decode cX0_act 31 = .ok (.iload_n 1, 1) := dk_27 (dk_at dksX0_act_1 9 rfl rfl)
theorem dX0_act_32 : decode cX0_act 32 = .ok (.aaload, 1) := dk_50 (dk_at dksX0_act_1 10 rfl rfl)
theorem dX0_act_33 : decode cX0_act 33 = .ok (.astore 4, 2) := dk_58 4 (dk_at dksX0_act_1 11 rfl rfl)
theorem dX0_act_35 : decode cX0_act 35 = .ok (.iload_n 2, 1) := dk_28 (dk_at dksX0_act_1 13 rfl rfl)
theorem dX0_act_36 : decode cX0_act 36 = .ok (.ifCond .ne 12, 3) := dk_154 0 12 (dk_at dksX0_act_1 14 rfl rfl)
theorem dX0_act_39 : decode cX0_act 39 = .ok (.aload 4, 2) := dk_25 4 (dk_at dksX0_act_1 17 rfl rfl)
theorem dX0_act_41 : decode cX0_act 41 = .ok (.iload_n 3, 1) := dk_29 (dk_at dksX0_act_1 19 rfl rfl)
theorem dX0_act_42 : decode cX0_act 42 = .ok (.invokevirtual 243, 3) := dk_182 0 243 (dk_at dksX0_act_1 20 rfl rfl)
theorem dX0_act_45 : decode cX0_act 45 = .ok (.goto 23, 3) := dk_167 0 23 (dk_at dksX0_act_2 0 rfl rfl)
theorem dX0_act_48 : decode cX0_act 48 = .ok (.iload_n 2, 1) := dk_28 (dk_at dksX0_act_2 3 rfl rfl)
theorem dX0_act_49 : decode cX0_act 49 = .ok (.iconst 1, 1) := dk_4 (dk_at dksX0_act_2 4 rfl rfl)
theorem dX0_act_50 : decode cX0_act 50 = .ok (.if_icmp .ne 12, 3) := dk_160 0 12 (dk_at dksX0_act_2 5 rfl rfl)
theorem dX0_act_53 : decode cX0_act 53 = .ok (.aload 4, 2) := dk_25 4 (dk_at dksX0_act_2 8 rfl rfl)
theorem dX0_act_55 : decode cX0_act 55 = .ok (.iload_n 3, 1) := dk_29 (dk_at dksX0_act_2 10 rfl rfl)
theorem dX0_act_56 : decode cX0_act 56 = .ok (.invokevirtual 247, 3) := dk_182 0 247 (dk_at dksX0_act_2 11 rfl rfl)
theorem dX0_act_59 : decode cX0_act 59 = .ok (.goto 9, 3) := dk_167 0 9 (dk_at dksX0_act_2 14 rfl rfl)
theorem dX0_act_62 : decode cX0_act 62 = .ok (.aload 4, 2) := dk_25 4 (dk_at dksX0_act_2 17 rfl rfl)
theorem dX0_act_64 : decode cX0_act 64 = .ok (.iload_n 3, 1) := dk_29 (dk_at dksX0_act_2 19 rfl rfl)
theorem dX0_act_65 : decode cX0_act 65 = .ok (.invokevirtual 250, 3) := dk_182 0 250 (dk_at dksX0_act_2 20 rfl rfl)
theorem dX0_act_68 : decode cX0_act 68 = .ok (.ireturn, 1) := dk_172 (dk_at dksX0_act_2 23 rfl rfl)
abbrev cX0_trace : ByteArray := prog_1_method_21_code
def yX0_trace : MethodName := ⟨RX0, "trace", "(I)I"⟩
def dkwX0_trace_1 : List UInt8 := [180, 0, 43, 180, 0, 253, 27, 46, 167, 0, 4, 2, 172]
abbrev dktX0_trace_1 : List UInt8 := dkwX0_trace_1 ++ []
def dkwX0_trace_0 : List UInt8 := [27, 3, 42, 180, 0, 43, 180, 0, 240, 16, 20, 184, 0, 141, 4, 100, 184, 0, 123, 153, 0, 15, 42]
abbrev dktX0_trace_0 : List UInt8 := dkwX0_trace_0 ++ dktX0_trace_1
theorem dksX0_trace_0 : cX0_trace.data.toList.drop 0 = dktX0_trace_0 := by decide +kernel
theorem dksX0_trace_1 : cX0_trace.data.toList.drop 23 = dktX0_trace_1 := dk_seg dksX0_trace_0 23 rfl rfl
theorem dX0_trace_0 : decode cX0_trace 0 = .ok (.iload_n 1, 1) := dk_27 (dk_at dksX0_trace_0 0 rfl rfl)
theorem dX0_trace_1 : decode cX0_trace 1 = .ok (.iconst 0, 1) := dk_3 (dk_at dksX0_trace_0 1 rfl rfl)
theorem dX0_trace_2 : decode cX0_trace 2 = .ok (.aload_n 0, 1) := dk_42 (dk_at dksX0_trace_0 2 rfl rfl)
theorem dX0_trace_3 : decode cX0_trace 3 = .ok (.getfield 43, 3) := dk_180 0 43 (dk_at dksX0_trace_0 3 rfl rfl)
theorem dX0_trace_6 : decode cX0_trace 6 = .ok (.getfield 240, 3) := dk_180 0 240 (dk_at dksX0_trace_0 6 rfl rfl)
theorem dX0_trace_9 : decode cX0_trace 9 = .ok (.bipush 20, 2) := dk_16 20 (dk_at dksX0_trace_0 9 rfl rfl)
theorem dX0_trace_11 : decode cX0_trace 11 = .ok (.invokestatic 141, 3) := dk_184 0 141 (dk_at dksX0_trace_0 11 rfl rfl)
theorem dX0_trace_14 : decode cX0_trace 14 = .ok (.iconst 1, 1) := dk_4 (dk_at dksX0_trace_0 14 rfl rfl)
theorem dX0_trace_15 : decode cX0_trace 15 = .ok (.isub, 1) := dk_100 (dk_at dksX0_trace_0 15 rfl rfl)
theorem dX0_trace_16 : decode cX0_trace 16 = .ok (.invokestatic 123, 3) := dk_184 0 123 (dk_at dksX0_trace_0 16 rfl rfl)
theorem dX0_trace_19 : decode cX0_trace 19 = .ok (.ifCond .eq 15, 3) := dk_153 0 15 (dk_at dksX0_trace_0 19 rfl rfl)
theorem dX0_trace_22 : decode cX0_trace 22 = .ok (.aload_n 0, 1) := dk_42 (dk_at dksX0_trace_0 22 rfl rfl)
theorem dX0_trace_23 : decode cX0_trace 23 = .ok (.getfield 43, 3) := dk_180 0 43 (dk_at dksX0_trace_1 0 rfl rfl)
theorem dX0_trace_26 : decode cX0_trace 26 = .ok (.getfield 253, 3) := dk_180 0 253 (dk_at dksX0_trace_1 3 rfl rfl)
theorem dX0_trace_29 : decode cX0_trace 29 = .ok (.iload_n 1, 1) := dk_27 (dk_at dksX0_trace_1 6 rfl rfl)
theorem dX0_trace_30 : decode cX0_trace 30 = .ok (.iaload, 1) := dk_46 (dk_at dksX0_trace_1 7 rfl rfl)
theorem dX0_trace_31 : decode cX0_trace 31 = .ok (.goto 4, 3) := dk_167 0 4 (dk_at dksX0_trace_1 8 rfl rfl)
theorem dX0_trace_34 : decode cX0_trace 34 = .ok (.iconst (-1), 1) := dk_2 (dk_at dksX0_trace_1 11 rfl rfl)
theorem dX0_trace_35 : decode cX0_trace 35 = .ok (.ireturn, 1) := dk_172 (dk_at dksX0_trace_1 12 rfl rfl)
abbrev cX0_taken : ByteArray := prog_1_method_23_code
def yX0_taken : MethodName := ⟨RX0, "taken", "(II)I"⟩
def dkwX0_taken_2 : List UInt8 := [172]
abbrev dktX0_taken_2 : List UInt8 := dkwX0_taken_2 ++ []
def dkwX0_taken_1 : List UInt8 := [180, 0, 36, 27, 50, 167, 0, 4, 1, 28, 184, 1, 0, 182, 0, 236, 172, 78, 16, 245, 172, 78, 16, 244]
abbrev dktX0_taken_1 : List UInt8 := dkwX0_taken_1 ++ dktX0_taken_2
def dkwX0_taken_0 : List UInt8 := [28, 3, 16, 6, 184, 0, 123, 154, 0, 6, 16, 254, 172, 42, 27, 182, 0, 220, 153, 0, 12, 42]
abbrev dktX0_taken_0 : List UInt8 := dkwX0_taken_0 ++ dktX0_taken_1
theorem dksX0_taken_0 : cX0_taken.data.toList.drop 0 = dktX0_taken_0 := by decide +kernel
theorem dksX0_taken_1 : cX0_taken.data.toList.drop 22 = dktX0_taken_1 := dk_seg dksX0_taken_0 22 rfl rfl
theorem dksX0_taken_2 : cX0_taken.data.toList.drop 46 = dktX0_taken_2 := dk_seg dksX0_taken_1 24 rfl rfl
theorem dX0_taken_0 : decode cX0_taken 0 = .ok (.iload_n 2, 1) := dk_28 (dk_at dksX0_taken_0 0 rfl rfl)
theorem dX0_taken_1 : decode cX0_taken 1 = .ok (.iconst 0, 1) := dk_3 (dk_at dksX0_taken_0 1 rfl rfl)
theorem dX0_taken_2 : decode cX0_taken 2 = .ok (.bipush 6, 2) := dk_16 6 (dk_at dksX0_taken_0 2 rfl rfl)
theorem dX0_taken_4 : decode cX0_taken 4 = .ok (.invokestatic 123, 3) := dk_184 0 123 (dk_at dksX0_taken_0 4 rfl rfl)
theorem dX0_taken_7 : decode cX0_taken 7 = .ok (.ifCond .ne 6, 3) := dk_154 0 6 (dk_at dksX0_taken_0 7 rfl rfl)
theorem dX0_taken_10 : decode cX0_taken 10 = .ok (.bipush (-2), 2) := dk_16 254 (dk_at dksX0_taken_0 10 rfl rfl)
theorem dX0_taken_12 : decode cX0_taken 12 = .ok (.ireturn, 1) := dk_172 (dk_at dksX0_taken_0 12 rfl rfl)
theorem dX0_taken_13 : decode cX0_taken 13 = .ok (.aload_n 0, 1) := dk_42 (dk_at dksX0_taken_0 13 rfl rfl)
theorem dX0_taken_14 : decode cX0_taken 14 = .ok (.iload_n 1, 1) := dk_27 (dk_at dksX0_taken_0 14 rfl rfl)
theorem dX0_taken_15 : decode cX0_taken 15 = .ok (.invokevirtual 220, 3) := dk_182 0 220 (dk_at dksX0_taken_0 15 rfl rfl)
theorem dX0_taken_18 : decode cX0_taken 18 = .ok (.ifCond .eq 12, 3) := dk_153 0 12 (dk_at dksX0_taken_0 18 rfl rfl)
theorem dX0_taken_21 : decode cX0_taken 21 = .ok (.aload_n 0, 1) := dk_42 (dk_at dksX0_taken_0 21 rfl rfl)
theorem dX0_taken_22 : decode cX0_taken 22 = .ok (.getfield 36, 3) := dk_180 0 36 (dk_at dksX0_taken_1 0 rfl rfl)
theorem dX0_taken_25 : decode cX0_taken 25 = .ok (.iload_n 1, 1) := dk_27 (dk_at dksX0_taken_1 3 rfl rfl)
theorem dX0_taken_26 : decode cX0_taken 26 = .ok (.aaload, 1) := dk_50 (dk_at dksX0_taken_1 4 rfl rfl)
theorem dX0_taken_27 : decode cX0_taken 27 = .ok (.goto 4, 3) := dk_167 0 4 (dk_at dksX0_taken_1 5 rfl rfl)
theorem dX0_taken_30 : decode cX0_taken 30 = .ok (.aconst_null, 1) := dk_1 (dk_at dksX0_taken_1 8 rfl rfl)
theorem dX0_taken_31 : decode cX0_taken 31 = .ok (.iload_n 2, 1) := dk_28 (dk_at dksX0_taken_1 9 rfl rfl)
theorem dX0_taken_32 : decode cX0_taken 32 = .ok (.invokestatic 256, 3) := dk_184 1 0 (dk_at dksX0_taken_1 10 rfl rfl)
theorem dX0_taken_35 : decode cX0_taken 35 = .ok (.invokevirtual 236, 3) := dk_182 0 236 (dk_at dksX0_taken_1 13 rfl rfl)
theorem dX0_taken_38 : decode cX0_taken 38 = .ok (.ireturn, 1) := dk_172 (dk_at dksX0_taken_1 16 rfl rfl)
theorem dX0_taken_39 : decode cX0_taken 39 = .ok (.astore_n 3, 1) := dk_78 (dk_at dksX0_taken_1 17 rfl rfl)
theorem dX0_taken_40 : decode cX0_taken 40 = .ok (.bipush (-11), 2) := dk_16 245 (dk_at dksX0_taken_1 18 rfl rfl)
theorem dX0_taken_42 : decode cX0_taken 42 = .ok (.ireturn, 1) := dk_172 (dk_at dksX0_taken_1 20 rfl rfl)
theorem dX0_taken_43 : decode cX0_taken 43 = .ok (.astore_n 3, 1) := dk_78 (dk_at dksX0_taken_1 21 rfl rfl)
theorem dX0_taken_44 : decode cX0_taken 44 = .ok (.bipush (-12), 2) := dk_16 244 (dk_at dksX0_taken_1 22 rfl rfl)
theorem dX0_taken_46 : decode cX0_taken 46 = .ok (.ireturn, 1) := dk_172 (dk_at dksX0_taken_2 0 rfl rfl)
abbrev cX0_takenFor : ByteArray := prog_1_method_22_code
def yX0_takenFor : MethodName := ⟨RX0, "takenFor", "(LBarredBooks$Hangs;I)LBarredBooks$Card;"⟩
def dkwX0_takenFor_3 : List UInt8 := [176, 42, 192, 0, 210, 176, 42, 192, 0, 213, 176]
abbrev dktX0_takenFor_3 : List UInt8 := dkwX0_takenFor_3 ++ []
def dkwX0_takenFor_2 : List UInt8 := [42, 192, 0, 34, 176, 42, 192, 0, 201, 176, 42, 192, 0, 204, 176, 42, 192, 0, 207, 176, 42, 192, 0, 223]
abbrev dktX0_takenFor_2 : List UInt8 := dkwX0_takenFor_2 ++ dktX0_takenFor_3
def dkwX0_takenFor_1 : List UInt8 := [170, 0, 0, 0, 0, 0, 69, 0, 0, 0, 0, 0, 0, 0, 5, 0, 0, 0, 39, 0, 0, 0, 44, 0, 0, 0, 49, 0, 0, 0, 54, 0, 0, 0, 59, 0, 0, 0, 64]
abbrev dktX0_takenFor_1 : List UInt8 := dkwX0_takenFor_1 ++ dktX0_takenFor_2
def dkwX0_takenFor_0 : List UInt8 := [27]
abbrev dktX0_takenFor_0 : List UInt8 := dkwX0_takenFor_0 ++ dktX0_takenFor_1
theorem dksX0_takenFor_0 : cX0_takenFor.data.toList.drop 0 = dktX0_takenFor_0 := by decide +kernel
theorem dksX0_takenFor_1 : cX0_takenFor.data.toList.drop 1 = dktX0_takenFor_1 := dk_seg dksX0_takenFor_0 1 rfl rfl
theorem dksX0_takenFor_2 : cX0_takenFor.data.toList.drop 40 = dktX0_takenFor_2 := dk_seg dksX0_takenFor_1 39 rfl rfl
theorem dksX0_takenFor_3 : cX0_takenFor.data.toList.drop 64 = dktX0_takenFor_3 := dk_seg dksX0_takenFor_2 24 rfl rfl
theorem dX0_takenFor_0 : decode cX0_takenFor 0 = .ok (.iload_n 1, 1) := dk_27 (dk_at dksX0_takenFor_0 0 rfl rfl)
theorem dX0_takenFor_1 : decode cX0_takenFor 1 = .ok (.tableswitch 69 0 5 #[39, 44, 49, 54, 59, 64], 39) := by decide +kernel
theorem dX0_takenFor_40 : decode cX0_takenFor 40 = .ok (.aload_n 0, 1) := dk_42 (dk_at dksX0_takenFor_2 0 rfl rfl)
theorem dX0_takenFor_41 : decode cX0_takenFor 41 = .ok (.checkcast 34, 3) := dk_192 0 34 (dk_at dksX0_takenFor_2 1 rfl rfl)
theorem dX0_takenFor_44 : decode cX0_takenFor 44 = .ok (.areturn, 1) := dk_176 (dk_at dksX0_takenFor_2 4 rfl rfl)
theorem dX0_takenFor_45 : decode cX0_takenFor 45 = .ok (.aload_n 0, 1) := dk_42 (dk_at dksX0_takenFor_2 5 rfl rfl)
theorem dX0_takenFor_46 : decode cX0_takenFor 46 = .ok (.checkcast 201, 3) := dk_192 0 201 (dk_at dksX0_takenFor_2 6 rfl rfl)
theorem dX0_takenFor_49 : decode cX0_takenFor 49 = .ok (.areturn, 1) := dk_176 (dk_at dksX0_takenFor_2 9 rfl rfl)
theorem dX0_takenFor_50 : decode cX0_takenFor 50 = .ok (.aload_n 0, 1) := dk_42 (dk_at dksX0_takenFor_2 10 rfl rfl)
theorem dX0_takenFor_51 : decode cX0_takenFor 51 = .ok (.checkcast 204, 3) := dk_192 0 204 (dk_at dksX0_takenFor_2 11 rfl rfl)
theorem dX0_takenFor_54 : decode cX0_takenFor 54 = .ok (.areturn, 1) := dk_176 (dk_at dksX0_takenFor_2 14 rfl rfl)
theorem dX0_takenFor_55 : decode cX0_takenFor 55 = .ok (.aload_n 0, 1) := dk_42 (dk_at dksX0_takenFor_2 15 rfl rfl)
theorem dX0_takenFor_56 : decode cX0_takenFor 56 = .ok (.checkcast 207, 3) := dk_192 0 207 (dk_at dksX0_takenFor_2 16 rfl rfl)
theorem dX0_takenFor_59 : decode cX0_takenFor 59 = .ok (.areturn, 1) := dk_176 (dk_at dksX0_takenFor_2 19 rfl rfl)
theorem dX0_takenFor_60 : decode cX0_takenFor 60 = .ok (.aload_n 0, 1) := dk_42 (dk_at dksX0_takenFor_2 20 rfl rfl)
theorem dX0_takenFor_61 : decode cX0_takenFor 61 = .ok (.checkcast 223, 3) := dk_192 0 223 (dk_at dksX0_takenFor_2 21 rfl rfl)
theorem dX0_takenFor_64 : decode cX0_takenFor 64 = .ok (.areturn, 1) := dk_176 (dk_at dksX0_takenFor_3 0 rfl rfl)
theorem dX0_takenFor_65 : decode cX0_takenFor 65 = .ok (.aload_n 0, 1) := dk_42 (dk_at dksX0_takenFor_3 1 rfl rfl)
theorem dX0_takenFor_66 : decode cX0_takenFor 66 = .ok (.checkcast 210, 3) := dk_192 0 210 (dk_at dksX0_takenFor_3 2 rfl rfl)
theorem dX0_takenFor_69 : decode cX0_takenFor 69 = .ok (.areturn, 1) := dk_176 (dk_at dksX0_takenFor_3 5 rfl rfl)
theorem dX0_takenFor_70 : decode cX0_takenFor 70 = .ok (.aload_n 0, 1) := dk_42 (dk_at dksX0_takenFor_3 6 rfl rfl)
theorem dX0_takenFor_71 : decode cX0_takenFor 71 = .ok (.checkcast 213, 3) := dk_192 0 213 (dk_at dksX0_takenFor_3 7 rfl rfl)
theorem dX0_takenFor_74 : decode cX0_takenFor 74 = .ok (.areturn, 1) := dk_176 (dk_at dksX0_takenFor_3 10 rfl rfl)
abbrev cX0_feed : ByteArray := prog_1_method_24_code
def yX0_feed : MethodName := ⟨RX0, "feed", "(II)I"⟩
def dkwX0_feed_2 : List UInt8 := [181, 1, 6, 27, 16, 8, 29, 104, 122, 145, 84, 132, 3, 255, 167, 255, 226, 42, 180, 1, 6, 172]
abbrev dktX0_feed_2 : List UInt8 := dkwX0_feed_2 ++ []
def dkwX0_feed_1 : List UInt8 := [16, 252, 172, 28, 4, 100, 62, 29, 155, 0, 32, 42, 180, 0, 47, 42, 89, 180, 1, 6, 90, 4, 96]
abbrev dktX0_feed_1 : List UInt8 := dkwX0_feed_1 ++ dktX0_feed_2
def dkwX0_feed_0 : List UInt8 := [28, 3, 7, 184, 0, 123, 154, 0, 6, 16, 254, 172, 42, 180, 1, 6, 28, 96, 16, 120, 164, 0, 6]
abbrev dktX0_feed_0 : List UInt8 := dkwX0_feed_0 ++ dktX0_feed_1
theorem dksX0_feed_0 : cX0_feed.data.toList.drop 0 = dktX0_feed_0 := by decide +kernel
theorem dksX0_feed_1 : cX0_feed.data.toList.drop 23 = dktX0_feed_1 := dk_seg dksX0_feed_0 23 rfl rfl
theorem dksX0_feed_2 : cX0_feed.data.toList.drop 46 = dktX0_feed_2 := dk_seg dksX0_feed_1 23 rfl rfl
theorem dX0_feed_0 : decode cX0_feed 0 = .ok (.iload_n 2, 1) := dk_28 (dk_at dksX0_feed_0 0 rfl rfl)
theorem dX0_feed_1 : decode cX0_feed 1 = .ok (.iconst 0, 1) := dk_3 (dk_at dksX0_feed_0 1 rfl rfl)
theorem dX0_feed_2 : decode cX0_feed 2 = .ok (.iconst 4, 1) := dk_7 (dk_at dksX0_feed_0 2 rfl rfl)
theorem dX0_feed_3 : decode cX0_feed 3 = .ok (.invokestatic 123, 3) := dk_184 0 123 (dk_at dksX0_feed_0 3 rfl rfl)
theorem dX0_feed_6 : decode cX0_feed 6 = .ok (.ifCond .ne 6, 3) := dk_154 0 6 (dk_at dksX0_feed_0 6 rfl rfl)
theorem dX0_feed_9 : decode cX0_feed 9 = .ok (.bipush (-2), 2) := dk_16 254 (dk_at dksX0_feed_0 9 rfl rfl)
theorem dX0_feed_11 : decode cX0_feed 11 = .ok (.ireturn, 1) := dk_172 (dk_at dksX0_feed_0 11 rfl rfl)
theorem dX0_feed_12 : decode cX0_feed 12 = .ok (.aload_n 0, 1) := dk_42 (dk_at dksX0_feed_0 12 rfl rfl)
theorem dX0_feed_13 : decode cX0_feed 13 = .ok (.getfield 262, 3) := dk_180 1 6 (dk_at dksX0_feed_0 13 rfl rfl)
theorem dX0_feed_16 : decode cX0_feed 16 = .ok (.iload_n 2, 1) := dk_28 (dk_at dksX0_feed_0 16 rfl rfl)
theorem dX0_feed_17 : decode cX0_feed 17 = .ok (.iadd, 1) := dk_96 (dk_at dksX0_feed_0 17 rfl rfl)
theorem dX0_feed_18 : decode cX0_feed 18 = .ok (.bipush 120, 2) := dk_16 120 (dk_at dksX0_feed_0 18 rfl rfl)
theorem dX0_feed_20 : decode cX0_feed 20 = .ok (.if_icmp .le 6, 3) := dk_164 0 6 (dk_at dksX0_feed_0 20 rfl rfl)
theorem dX0_feed_23 : decode cX0_feed 23 = .ok (.bipush (-4), 2) := dk_16 252 (dk_at dksX0_feed_1 0 rfl rfl)
theorem dX0_feed_25 : decode cX0_feed 25 = .ok (.ireturn, 1) := dk_172 (dk_at dksX0_feed_1 2 rfl rfl)
theorem dX0_feed_26 : decode cX0_feed 26 = .ok (.iload_n 2, 1) := dk_28 (dk_at dksX0_feed_1 3 rfl rfl)
theorem dX0_feed_27 : decode cX0_feed 27 = .ok (.iconst 1, 1) := dk_4 (dk_at dksX0_feed_1 4 rfl rfl)
theorem dX0_feed_28 : decode cX0_feed 28 = .ok (.isub, 1) := dk_100 (dk_at dksX0_feed_1 5 rfl rfl)
theorem dX0_feed_29 : decode cX0_feed 29 = .ok (.istore_n 3, 1) := dk_62 (dk_at dksX0_feed_1 6 rfl rfl)
theorem dX0_feed_30 : decode cX0_feed 30 = .ok (.iload_n 3, 1) := dk_29 (dk_at dksX0_feed_1 7 rfl rfl)
theorem dX0_feed_31 : decode cX0_feed 31 = .ok (.ifCond .lt 32, 3) := dk_155 0 32 (dk_at dksX0_feed_1 8 rfl rfl)
theorem dX0_feed_34 : decode cX0_feed 34 = .ok (.aload_n 0, 1) := dk_42 (dk_at dksX0_feed_1 11 rfl rfl)
theorem dX0_feed_35 : decode cX0_feed 35 = .ok (.getfield 47, 3) := dk_180 0 47 (dk_at dksX0_feed_1 12 rfl rfl)
theorem dX0_feed_38 : decode cX0_feed 38 = .ok (.aload_n 0, 1) := dk_42 (dk_at dksX0_feed_1 15 rfl rfl)
theorem dX0_feed_39 : decode cX0_feed 39 = .ok (.dup, 1) := dk_89 (dk_at dksX0_feed_1 16 rfl rfl)
theorem dX0_feed_40 : decode cX0_feed 40 = .ok (.getfield 262, 3) := dk_180 1 6 (dk_at dksX0_feed_1 17 rfl rfl)
theorem dX0_feed_43 : decode cX0_feed 43 = .ok (.dup_x1, 1) := dk_90 (dk_at dksX0_feed_1 20 rfl rfl)
theorem dX0_feed_44 : decode cX0_feed 44 = .ok (.iconst 1, 1) := dk_4 (dk_at dksX0_feed_1 21 rfl rfl)
theorem dX0_feed_45 : decode cX0_feed 45 = .ok (.iadd, 1) := dk_96 (dk_at dksX0_feed_1 22 rfl rfl)
theorem dX0_feed_46 : decode cX0_feed 46 = .ok (.putfield 262, 3) := dk_181 1 6 (dk_at dksX0_feed_2 0 rfl rfl)
theorem dX0_feed_49 : decode cX0_feed 49 = .ok (.iload_n 1, 1) := dk_27 (dk_at dksX0_feed_2 3 rfl rfl)
theorem dX0_feed_50 : decode cX0_feed 50 = .ok (.bipush 8, 2) := dk_16 8 (dk_at dksX0_feed_2 4 rfl rfl)
theorem dX0_feed_52 : decode cX0_feed 52 = .ok (.iload_n 3, 1) := dk_29 (dk_at dksX0_feed_2 6 rfl rfl)
theorem dX0_feed_53 : decode cX0_feed 53 = .ok (.imul, 1) := dk_104 (dk_at dksX0_feed_2 7 rfl rfl)
theorem dX0_feed_54 : decode cX0_feed 54 = .ok (.ishr, 1) := dk_122 (dk_at dksX0_feed_2 8 rfl rfl)
theorem dX0_feed_55 : decode cX0_feed 55 = .ok (.i2b, 1) := dk_145 (dk_at dksX0_feed_2 9 rfl rfl)
theorem dX0_feed_56 : decode cX0_feed 56 = .ok (.bastore, 1) := dk_84 (dk_at dksX0_feed_2 10 rfl rfl)
theorem dX0_feed_57 : decode cX0_feed 57 = .ok (.iinc 3 (-1), 3) := dk_132 3 255 (dk_at dksX0_feed_2 11 rfl rfl)
theorem dX0_feed_60 : decode cX0_feed 60 = .ok (.goto (-30), 3) := dk_167 255 226 (dk_at dksX0_feed_2 14 rfl rfl)
theorem dX0_feed_63 : decode cX0_feed 63 = .ok (.aload_n 0, 1) := dk_42 (dk_at dksX0_feed_2 17 rfl rfl)
theorem dX0_feed_64 : decode cX0_feed 64 = .ok (.getfield 262, 3) := dk_180 1 6 (dk_at dksX0_feed_2 18 rfl rfl)
theorem dX0_feed_67 : decode cX0_feed 67 = .ok (.ireturn, 1) := dk_172 (dk_at dksX0_feed_2 21 rfl rfl)
abbrev cX0_decree : ByteArray := prog_1_method_26_code
def yX0_decree : MethodName := ⟨RX0, "decree", "()I"⟩
def dkwX0_decree_2 : List UInt8 := [172, 76, 16, 246, 43, 180, 1, 29, 100, 172]
abbrev dktX0_decree_2 : List UInt8 := dkwX0_decree_2 ++ []
def dkwX0_decree_1 : List UInt8 := [181, 1, 24, 42, 180, 0, 53, 42, 180, 1, 18, 43, 83, 42, 89, 180, 1, 18, 90, 4, 96, 181, 1, 18]
abbrev dktX0_decree_1 : List UInt8 := dkwX0_decree_1 ++ dktX0_decree_2
def dkwX0_decree_0 : List UInt8 := [42, 180, 1, 18, 16, 16, 160, 0, 6, 16, 252, 172, 42, 182, 1, 21, 76, 43, 42, 180, 0, 134]
abbrev dktX0_decree_0 : List UInt8 := dkwX0_decree_0 ++ dktX0_decree_1
theorem dksX0_decree_0 : cX0_decree.data.toList.drop 0 = dktX0_decree_0 := by decide +kernel
theorem dksX0_decree_1 : cX0_decree.data.toList.drop 22 = dktX0_decree_1 := dk_seg dksX0_decree_0 22 rfl rfl
theorem dksX0_decree_2 : cX0_decree.data.toList.drop 46 = dktX0_decree_2 := dk_seg dksX0_decree_1 24 rfl rfl
theorem dX0_decree_0 : decode cX0_decree 0 = .ok (.aload_n 0, 1) := dk_42 (dk_at dksX0_decree_0 0 rfl rfl)
theorem dX0_decree_1 : decode cX0_decree 1 = .ok (.getfield 274, 3) := dk_180 1 18 (dk_at dksX0_decree_0 1 rfl rfl)
theorem dX0_decree_4 : decode cX0_decree 4 = .ok (.bipush 16, 2) := dk_16 16 (dk_at dksX0_decree_0 4 rfl rfl)
theorem dX0_decree_6 : decode cX0_decree 6 = .ok (.if_icmp .ne 6, 3) := dk_160 0 6 (dk_at dksX0_decree_0 6 rfl rfl)
theorem dX0_decree_9 : decode cX0_decree 9 = .ok (.bipush (-4), 2) := dk_16 252 (dk_at dksX0_decree_0 9 rfl rfl)
theorem dX0_decree_11 : decode cX0_decree 11 = .ok (.ireturn, 1) := dk_172 (dk_at dksX0_decree_0 11 rfl rfl)
theorem dX0_decree_12 : decode cX0_decree 12 = .ok (.aload_n 0, 1) := dk_42 (dk_at dksX0_decree_0 12 rfl rfl)
theorem dX0_decree_13 : decode cX0_decree 13 = .ok (.invokevirtual 277, 3) := dk_182 1 21 (dk_at dksX0_decree_0 13 rfl rfl)
theorem dX0_decree_16 : decode cX0_decree 16 = .ok (.astore_n 1, 1) := dk_76 (dk_at dksX0_decree_0 16 rfl rfl)
theorem dX0_decree_17 : decode cX0_decree 17 = .ok (.aload_n 1, 1) := dk_43 (dk_at dksX0_decree_0 17 rfl rfl)
theorem dX0_decree_18 : decode cX0_decree 18 = .ok (.aload_n 0, 1) := dk_42 (dk_at dksX0_decree_0 18 rfl rfl)
theorem dX0_decree_19 : decode cX0_decree 19 = .ok (.getfield 134, 3) := dk_180 0 134 (dk_at dksX0_decree_0 19 rfl rfl)
theorem dX0_decree_22 : decode cX0_decree 22 = .ok (.putfield 280, 3) := dk_181 1 24 (dk_at dksX0_decree_1 0 rfl rfl)
theorem dX0_decree_25 : decode cX0_decree 25 = .ok (.aload_n 0, 1) := dk_42 (dk_at dksX0_decree_1 3 rfl rfl)
theorem dX0_decree_26 : decode cX0_decree 26 = .ok (.getfield 53, 3) := dk_180 0 53 (dk_at dksX0_decree_1 4 rfl rfl)
theorem dX0_decree_29 : decode cX0_decree 29 = .ok (.aload_n 0, 1) := dk_42 (dk_at dksX0_decree_1 7 rfl rfl)
theorem dX0_decree_30 : decode cX0_decree 30 = .ok (.getfield 274, 3) := dk_180 1 18 (dk_at dksX0_decree_1 8 rfl rfl)
theorem dX0_decree_33 : decode cX0_decree 33 = .ok (.aload_n 1, 1) := dk_43 (dk_at dksX0_decree_1 11 rfl rfl)
theorem dX0_decree_34 : decode cX0_decree 34 = .ok (.aastore, 1) := dk_83 (dk_at dksX0_decree_1 12 rfl rfl)
theorem dX0_decree_35 : decode cX0_decree 35 = .ok (.aload_n 0, 1) := dk_42 (dk_at dksX0_decree_1 13 rfl rfl)
theorem dX0_decree_36 : decode cX0_decree 36 = .ok (.dup, 1) := dk_89 (dk_at dksX0_decree_1 14 rfl rfl)
theorem dX0_decree_37 : decode cX0_decree 37 = .ok (.getfield 274, 3) := dk_180 1 18 (dk_at dksX0_decree_1 15 rfl rfl)
theorem dX0_decree_40 : decode cX0_decree 40 = .ok (.dup_x1, 1) := dk_90 (dk_at dksX0_decree_1 18 rfl rfl)
theorem dX0_decree_41 : decode cX0_decree 41 = .ok (.iconst 1, 1) := dk_4 (dk_at dksX0_decree_1 19 rfl rfl)
theorem dX0_decree_42 : decode cX0_decree 42 = .ok (.iadd, 1) := dk_96 (dk_at dksX0_decree_1 20 rfl rfl)
theorem dX0_decree_43 : decode cX0_decree 43 = .ok (.putfield 274, 3) := dk_181 1 18 (dk_at dksX0_decree_1 21 rfl rfl)
theorem dX0_decree_46 : decode cX0_decree 46 = .ok (.ireturn, 1) := dk_172 (dk_at dksX0_decree_2 0 rfl rfl)
theorem dX0_decree_47 : decode cX0_decree 47 = .ok (.astore_n 1, 1) := dk_76 (dk_at dksX0_decree_2 1 rfl rfl)
theorem dX0_decree_48 : decode cX0_decree 48 = .ok (.bipush (-10), 2) := dk_16 246 (dk_at dksX0_decree_2 2 rfl rfl)
theorem dX0_decree_50 : decode cX0_decree 50 = .ok (.aload_n 1, 1) := dk_43 (dk_at dksX0_decree_2 4 rfl rfl)
theorem dX0_decree_51 : decode cX0_decree 51 = .ok (.getfield 285, 3) := dk_180 1 29 (dk_at dksX0_decree_2 5 rfl rfl)
theorem dX0_decree_54 : decode cX0_decree 54 = .ok (.isub, 1) := dk_100 (dk_at dksX0_decree_2 8 rfl rfl)
theorem dX0_decree_55 : decode cX0_decree 55 = .ok (.ireturn, 1) := dk_172 (dk_at dksX0_decree_2 9 rfl rfl)
abbrev cX0_takesText : ByteArray := prog_1_method_25_code
def yX0_takesText : MethodName := ⟨RX0, "takesText", "()LBarredBooks$Decree;"⟩
def dkwX0_takesText_1 : List UInt8 := [182, 1, 14, 176]
abbrev dktX0_takesText_1 : List UInt8 := dkwX0_takesText_1 ++ []
def dkwX0_takesText_0 : List UInt8 := [42, 180, 1, 6, 60, 42, 3, 181, 1, 6, 187, 1, 9, 89, 42, 180, 0, 47, 27, 183, 1, 11]
abbrev dktX0_takesText_0 : List UInt8 := dkwX0_takesText_0 ++ dktX0_takesText_1
theorem dksX0_takesText_0 : cX0_takesText.data.toList.drop 0 = dktX0_takesText_0 := by decide +kernel
theorem dksX0_takesText_1 : cX0_takesText.data.toList.drop 22 = dktX0_takesText_1 := dk_seg dksX0_takesText_0 22 rfl rfl
theorem dX0_takesText_0 : decode cX0_takesText 0 = .ok (.aload_n 0, 1) := dk_42 (dk_at dksX0_takesText_0 0 rfl rfl)
theorem dX0_takesText_1 : decode cX0_takesText 1 = .ok (.getfield 262, 3) := dk_180 1 6 (dk_at dksX0_takesText_0 1 rfl rfl)
theorem dX0_takesText_4 : decode cX0_takesText 4 = .ok (.istore_n 1, 1) := dk_60 (dk_at dksX0_takesText_0 4 rfl rfl)
theorem dX0_takesText_5 : decode cX0_takesText 5 = .ok (.aload_n 0, 1) := dk_42 (dk_at dksX0_takesText_0 5 rfl rfl)
theorem dX0_takesText_6 : decode cX0_takesText 6 = .ok (.iconst 0, 1) := dk_3 (dk_at dksX0_takesText_0 6 rfl rfl)
theorem dX0_takesText_7 : decode cX0_takesText 7 = .ok (.putfield 262, 3) := dk_181 1 6 (dk_at dksX0_takesText_0 7 rfl rfl)
theorem dX0_takesText_10 : decode cX0_takesText 10 = .ok (.new 265, 3) := dk_187 1 9 (dk_at dksX0_takesText_0 10 rfl rfl)
theorem dX0_takesText_13 : decode cX0_takesText 13 = .ok (.dup, 1) := dk_89 (dk_at dksX0_takesText_0 13 rfl rfl)
theorem dX0_takesText_14 : decode cX0_takesText 14 = .ok (.aload_n 0, 1) := dk_42 (dk_at dksX0_takesText_0 14 rfl rfl)
theorem dX0_takesText_15 : decode cX0_takesText 15 = .ok (.getfield 47, 3) := dk_180 0 47 (dk_at dksX0_takesText_0 15 rfl rfl)
theorem dX0_takesText_18 : decode cX0_takesText 18 = .ok (.iload_n 1, 1) := dk_27 (dk_at dksX0_takesText_0 18 rfl rfl)
theorem dX0_takesText_19 : decode cX0_takesText 19 = .ok (.invokespecial 267, 3) := dk_183 1 11 (dk_at dksX0_takesText_0 19 rfl rfl)
theorem dX0_takesText_22 : decode cX0_takesText 22 = .ok (.invokevirtual 270, 3) := dk_182 1 14 (dk_at dksX0_takesText_1 0 rfl rfl)
theorem dX0_takesText_25 : decode cX0_takesText 25 = .ok (.areturn, 1) := dk_176 (dk_at dksX0_takesText_1 3 rfl rfl)
abbrev cX0_revoke : ByteArray := prog_1_method_28_code
def yX0_revoke : MethodName := ⟨RX0, "revoke", "(I)I"⟩
def dkwX0_revoke_1 : List UInt8 := [159, 0, 6, 16, 253, 172, 44, 42, 180, 0, 134, 181, 1, 35, 4, 172]
abbrev dktX0_revoke_1 : List UInt8 := dkwX0_revoke_1 ++ []
def dkwX0_revoke_0 : List UInt8 := [42, 27, 182, 1, 32, 154, 0, 5, 2, 172, 42, 180, 0, 53, 27, 50, 77, 44, 180, 1, 35, 2]
abbrev dktX0_revoke_0 : List UInt8 := dkwX0_revoke_0 ++ dktX0_revoke_1
theorem dksX0_revoke_0 : cX0_revoke.data.toList.drop 0 = dktX0_revoke_0 := by decide +kernel
theorem dksX0_revoke_1 : cX0_revoke.data.toList.drop 22 = dktX0_revoke_1 := dk_seg dksX0_revoke_0 22 rfl rfl
theorem dX0_revoke_0 : decode cX0_revoke 0 = .ok (.aload_n 0, 1) := dk_42 (dk_at dksX0_revoke_0 0 rfl rfl)
theorem dX0_revoke_1 : decode cX0_revoke 1 = .ok (.iload_n 1, 1) := dk_27 (dk_at dksX0_revoke_0 1 rfl rfl)
theorem dX0_revoke_2 : decode cX0_revoke 2 = .ok (.invokevirtual 288, 3) := dk_182 1 32 (dk_at dksX0_revoke_0 2 rfl rfl)
theorem dX0_revoke_5 : decode cX0_revoke 5 = .ok (.ifCond .ne 5, 3) := dk_154 0 5 (dk_at dksX0_revoke_0 5 rfl rfl)
theorem dX0_revoke_8 : decode cX0_revoke 8 = .ok (.iconst (-1), 1) := dk_2 (dk_at dksX0_revoke_0 8 rfl rfl)
theorem dX0_revoke_9 : decode cX0_revoke 9 = .ok (.ireturn, 1) := dk_172 (dk_at dksX0_revoke_0 9 rfl rfl)
theorem dX0_revoke_10 : decode cX0_revoke 10 = .ok (.aload_n 0, 1) := dk_42 (dk_at dksX0_revoke_0 10 rfl rfl)
theorem dX0_revoke_11 : decode cX0_revoke 11 = .ok (.getfield 53, 3) := dk_180 0 53 (dk_at dksX0_revoke_0 11 rfl rfl)
theorem dX0_revoke_14 : decode cX0_revoke 14 = .ok (.iload_n 1, 1) := dk_27 (dk_at dksX0_revoke_0 14 rfl rfl)
theorem dX0_revoke_15 : decode cX0_revoke 15 = .ok (.aaload, 1) := dk_50 (dk_at dksX0_revoke_0 15 rfl rfl)
theorem dX0_revoke_16 : decode cX0_revoke 16 = .ok (.astore_n 2, 1) := dk_77 (dk_at dksX0_revoke_0 16 rfl rfl)
theorem dX0_revoke_17 : decode cX0_revoke 17 = .ok (.aload_n 2, 1) := dk_44 (dk_at dksX0_revoke_0 17 rfl rfl)
theorem dX0_revoke_18 : decode cX0_revoke 18 = .ok (.getfield 291, 3) := dk_180 1 35 (dk_at dksX0_revoke_0 18 rfl rfl)
theorem dX0_revoke_21 : decode cX0_revoke 21 = .ok (.iconst (-1), 1) := dk_2 (dk_at dksX0_revoke_0 21 rfl rfl)
theorem dX0_revoke_22 : decode cX0_revoke 22 = .ok (.if_icmp .eq 6, 3) := dk_159 0 6 (dk_at dksX0_revoke_1 0 rfl rfl)
theorem dX0_revoke_25 : decode cX0_revoke 25 = .ok (.bipush (-3), 2) := dk_16 253 (dk_at dksX0_revoke_1 3 rfl rfl)
theorem dX0_revoke_27 : decode cX0_revoke 27 = .ok (.ireturn, 1) := dk_172 (dk_at dksX0_revoke_1 5 rfl rfl)
theorem dX0_revoke_28 : decode cX0_revoke 28 = .ok (.aload_n 2, 1) := dk_44 (dk_at dksX0_revoke_1 6 rfl rfl)
theorem dX0_revoke_29 : decode cX0_revoke 29 = .ok (.aload_n 0, 1) := dk_42 (dk_at dksX0_revoke_1 7 rfl rfl)
theorem dX0_revoke_30 : decode cX0_revoke 30 = .ok (.getfield 134, 3) := dk_180 0 134 (dk_at dksX0_revoke_1 8 rfl rfl)
theorem dX0_revoke_33 : decode cX0_revoke 33 = .ok (.putfield 291, 3) := dk_181 1 35 (dk_at dksX0_revoke_1 11 rfl rfl)
theorem dX0_revoke_36 : decode cX0_revoke 36 = .ok (.iconst 1, 1) := dk_4 (dk_at dksX0_revoke_1 14 rfl rfl)
theorem dX0_revoke_37 : decode cX0_revoke 37 = .ok (.ireturn, 1) := dk_172 (dk_at dksX0_revoke_1 15 rfl rfl)
abbrev cX0_isDecree : ByteArray := prog_1_method_27_code
def yX0_isDecree : MethodName := ⟨RX0, "isDecree", "(I)Z"⟩
def dkwX0_isDecree_0 : List UInt8 := [27, 3, 42, 180, 1, 18, 4, 100, 184, 0, 123, 172]
abbrev dktX0_isDecree_0 : List UInt8 := dkwX0_isDecree_0 ++ []
theorem dksX0_isDecree_0 : cX0_isDecree.data.toList.drop 0 = dktX0_isDecree_0 := by decide +kernel
theorem dX0_isDecree_0 : decode cX0_isDecree 0 = .ok (.iload_n 1, 1) := dk_27 (dk_at dksX0_isDecree_0 0 rfl rfl)
theorem dX0_isDecree_1 : decode cX0_isDecree 1 = .ok (.iconst 0, 1) := dk_3 (dk_at dksX0_isDecree_0 1 rfl rfl)
theorem dX0_isDecree_2 : decode cX0_isDecree 2 = .ok (.aload_n 0, 1) := dk_42 (dk_at dksX0_isDecree_0 2 rfl rfl)
theorem dX0_isDecree_3 : decode cX0_isDecree 3 = .ok (.getfield 274, 3) := dk_180 1 18 (dk_at dksX0_isDecree_0 3 rfl rfl)
theorem dX0_isDecree_6 : decode cX0_isDecree 6 = .ok (.iconst 1, 1) := dk_4 (dk_at dksX0_isDecree_0 6 rfl rfl)
theorem dX0_isDecree_7 : decode cX0_isDecree 7 = .ok (.isub, 1) := dk_100 (dk_at dksX0_isDecree_0 7 rfl rfl)
theorem dX0_isDecree_8 : decode cX0_isDecree 8 = .ok (.invokestatic 123, 3) := dk_184 0 123 (dk_at dksX0_isDecree_0 8 rfl rfl)
theorem dX0_isDecree_11 : decode cX0_isDecree 11 = .ok (.ireturn, 1) := dk_172 (dk_at dksX0_isDecree_0 11 rfl rfl)
abbrev cX0_known : ByteArray := prog_1_method_30_code
def yX0_known : MethodName := ⟨RX0, "known", "(III)I"⟩
def dkwX0_known_2 : List UInt8 := [3, 172]
abbrev dktX0_known_2 : List UInt8 := dkwX0_known_2 ++ []
def dkwX0_known_1 : List UInt8 := [16, 254, 167, 0, 23, 42, 42, 180, 0, 53, 27, 50, 28, 29, 182, 1, 41, 153, 0, 7, 4, 167, 0, 4]
abbrev dktX0_known_1 : List UInt8 := dkwX0_known_1 ++ dktX0_known_2
def dkwX0_known_0 : List UInt8 := [42, 27, 182, 1, 32, 153, 0, 10, 28, 184, 0, 137, 154, 0, 5, 2, 172, 29, 184, 1, 38, 154, 0, 8]
abbrev dktX0_known_0 : List UInt8 := dkwX0_known_0 ++ dktX0_known_1
theorem dksX0_known_0 : cX0_known.data.toList.drop 0 = dktX0_known_0 := by decide +kernel
theorem dksX0_known_1 : cX0_known.data.toList.drop 24 = dktX0_known_1 := dk_seg dksX0_known_0 24 rfl rfl
theorem dksX0_known_2 : cX0_known.data.toList.drop 48 = dktX0_known_2 := dk_seg dksX0_known_1 24 rfl rfl
theorem dX0_known_0 : decode cX0_known 0 = .ok (.aload_n 0, 1) := dk_42 (dk_at dksX0_known_0 0 rfl rfl)
theorem dX0_known_1 : decode cX0_known 1 = .ok (.iload_n 1, 1) := dk_27 (dk_at dksX0_known_0 1 rfl rfl)
theorem dX0_known_2 : decode cX0_known 2 = .ok (.invokevirtual 288, 3) := dk_182 1 32 (dk_at dksX0_known_0 2 rfl rfl)
theorem dX0_known_5 : decode cX0_known 5 = .ok (.ifCond .eq 10, 3) := dk_153 0 10 (dk_at dksX0_known_0 5 rfl rfl)
theorem dX0_known_8 : decode cX0_known 8 = .ok (.iload_n 2, 1) := dk_28 (dk_at dksX0_known_0 8 rfl rfl)
theorem dX0_known_9 : decode cX0_known 9 = .ok (.invokestatic 137, 3) := dk_184 0 137 (dk_at dksX0_known_0 9 rfl rfl)
theorem dX0_known_12 : decode cX0_known 12 = .ok (.ifCond .ne 5, 3) := dk_154 0 5 (dk_at dksX0_known_0 12 rfl rfl)
theorem dX0_known_15 : decode cX0_known 15 = .ok (.iconst (-1), 1) := dk_2 (dk_at dksX0_known_0 15 rfl rfl)
theorem dX0_known_16 : decode cX0_known 16 = .ok (.ireturn, 1) := dk_172 (dk_at dksX0_known_0 16 rfl rfl)
theorem dX0_known_17 : decode cX0_known 17 = .ok (.iload_n 3, 1) := dk_29 (dk_at dksX0_known_0 17 rfl rfl)
theorem dX0_known_18 : decode cX0_known 18 = .ok (.invokestatic 294, 3) := dk_184 1 38 (dk_at dksX0_known_0 18 rfl rfl)
theorem dX0_known_21 : decode cX0_known 21 = .ok (.ifCond .ne 8, 3) := dk_154 0 8 (dk_at dksX0_known_0 21 rfl rfl)
theorem dX0_known_24 : decode cX0_known 24 = .ok (.bipush (-2), 2) := dk_16 254 (dk_at dksX0_known_1 0 rfl rfl)
theorem dX0_known_26 : decode cX0_known 26 = .ok (.goto 23, 3) := dk_167 0 23 (dk_at dksX0_known_1 2 rfl rfl)
theorem dX0_known_29 : decode cX0_known 29 = .ok (.aload_n 0, 1) := dk_42 (dk_at dksX0_known_1 5 rfl rfl)
theorem dX0_known_30 : decode cX0_known 30 = .ok (.aload_n 0, 1) := dk_42 (dk_at dksX0_known_1 6 rfl rfl)
theorem dX0_known_31 : decode cX0_known 31 = .ok (.getfield 53, 3) := dk_180 0 53 (dk_at dksX0_known_1 7 rfl rfl)
theorem dX0_known_34 : decode cX0_known 34 = .ok (.iload_n 1, 1) := dk_27 (dk_at dksX0_known_1 10 rfl rfl)
theorem dX0_known_35 : decode cX0_known 35 = .ok (.aaload, 1) := dk_50 (dk_at dksX0_known_1 11 rfl rfl)
theorem dX0_known_36 : decode cX0_known 36 = .ok (.iload_n 2, 1) := dk_28 (dk_at dksX0_known_1 12 rfl rfl)
theorem dX0_known_37 : decode cX0_known 37 = .ok (.iload_n 3, 1) := dk_29 (dk_at dksX0_known_1 13 rfl rfl)
theorem dX0_known_38 : decode cX0_known 38 = .ok (.invokevirtual 297, 3) := dk_182 1 41 (dk_at dksX0_known_1 14 rfl rfl)
theorem dX0_known_41 : decode cX0_known 41 = .ok (.ifCond .eq 7, 3) := dk_153 0 7 (dk_at dksX0_known_1 17 rfl rfl)
theorem dX0_known_44 : decode cX0_known 44 = .ok (.iconst 1, 1) := dk_4 (dk_at dksX0_known_1 20 rfl rfl)
theorem dX0_known_45 : decode cX0_known 45 = .ok (.goto 4, 3) := dk_167 0 4 (dk_at dksX0_known_1 21 rfl rfl)
theorem dX0_known_48 : decode cX0_known 48 = .ok (.iconst 0, 1) := dk_3 (dk_at dksX0_known_2 0 rfl rfl)
theorem dX0_known_49 : decode cX0_known 49 = .ok (.ireturn, 1) := dk_172 (dk_at dksX0_known_2 1 rfl rfl)
abbrev cX0_isDay : ByteArray := prog_1_method_3_code
def yX0_isDay : MethodName := ⟨RX0, "isDay", "(I)Z"⟩
def dkwX0_isDay_0 : List UInt8 := [26, 3, 17, 39, 15, 184, 0, 123, 172]
abbrev dktX0_isDay_0 : List UInt8 := dkwX0_isDay_0 ++ []
theorem dksX0_isDay_0 : cX0_isDay.data.toList.drop 0 = dktX0_isDay_0 := by decide +kernel
theorem dX0_isDay_0 : decode cX0_isDay 0 = .ok (.iload_n 0, 1) := dk_26 (dk_at dksX0_isDay_0 0 rfl rfl)
theorem dX0_isDay_1 : decode cX0_isDay 1 = .ok (.iconst 0, 1) := dk_3 (dk_at dksX0_isDay_0 1 rfl rfl)
theorem dX0_isDay_2 : decode cX0_isDay 2 = .ok (.sipush 9999, 3) := dk_17 39 15 (dk_at dksX0_isDay_0 2 rfl rfl)
theorem dX0_isDay_5 : decode cX0_isDay 5 = .ok (.invokestatic 123, 3) := dk_184 0 123 (dk_at dksX0_isDay_0 5 rfl rfl)
theorem dX0_isDay_8 : decode cX0_isDay 8 = .ok (.ireturn, 1) := dk_172 (dk_at dksX0_isDay_0 8 rfl rfl)
abbrev cX0_isKnown : ByteArray := prog_1_method_29_code
def yX0_isKnown : MethodName := ⟨RX0, "isKnown", "(LBarredBooks$Decree;II)Z"⟩
def dkwX0_isKnown_2 : List UInt8 := [162, 0, 7, 4, 167, 0, 4, 3, 172]
abbrev dktX0_isKnown_2 : List UInt8 := dkwX0_isKnown_2 ++ []
def dkwX0_isKnown_1 : List UInt8 := [21, 4, 96, 161, 0, 26, 43, 180, 1, 35, 2, 159, 0, 14, 29, 43, 180, 1, 35, 21, 4, 96]
abbrev dktX0_isKnown_1 : List UInt8 := dkwX0_isKnown_1 ++ dktX0_isKnown_2
def dkwX0_isKnown_0 : List UInt8 := [42, 180, 0, 13, 3, 50, 28, 46, 54, 4, 21, 4, 17, 39, 15, 162, 0, 37, 29, 43, 180, 1, 24]
abbrev dktX0_isKnown_0 : List UInt8 := dkwX0_isKnown_0 ++ dktX0_isKnown_1
theorem dksX0_isKnown_0 : cX0_isKnown.data.toList.drop 0 = dktX0_isKnown_0 := by decide +kernel
theorem dksX0_isKnown_1 : cX0_isKnown.data.toList.drop 23 = dktX0_isKnown_1 := dk_seg dksX0_isKnown_0 23 rfl rfl
theorem dksX0_isKnown_2 : cX0_isKnown.data.toList.drop 45 = dktX0_isKnown_2 := dk_seg dksX0_isKnown_1 22 rfl rfl
theorem dX0_isKnown_0 : decode cX0_isKnown 0 = .ok (.aload_n 0, 1) := dk_42 (dk_at dksX0_isKnown_0 0 rfl rfl)
theorem dX0_isKnown_1 : decode cX0_isKnown 1 = .ok (.getfield 13, 3) := dk_180 0 13 (dk_at dksX0_isKnown_0 1 rfl rfl)
theorem dX0_isKnown_4 : decode cX0_isKnown 4 = .ok (.iconst 0, 1) := dk_3 (dk_at dksX0_isKnown_0 4 rfl rfl)
theorem dX0_isKnown_5 : decode cX0_isKnown 5 = .ok (.aaload, 1) := dk_50 (dk_at dksX0_isKnown_0 5 rfl rfl)
theorem dX0_isKnown_6 : decode cX0_isKnown 6 = .ok (.iload_n 2, 1) := dk_28 (dk_at dksX0_isKnown_0 6 rfl rfl)
theorem dX0_isKnown_7 : decode cX0_isKnown 7 = .ok (.iaload, 1) := dk_46 (dk_at dksX0_isKnown_0 7 rfl rfl)
theorem dX0_isKnown_8 : decode cX0_isKnown 8 = .ok (.istore 4, 2) := dk_54 4 (dk_at dksX0_isKnown_0 8 rfl rfl)
theorem dX0_isKnown_10 : decode cX0_isKnown 10 = .ok (.iload 4, 2) := dk_21 4 (dk_at dksX0_isKnown_0 10 rfl rfl)
theorem dX0_isKnown_12 : decode cX0_isKnown 12 = .ok (.sipush 9999, 3) := dk_17 39 15 (dk_at dksX0_isKnown_0 12 rfl rfl)
theorem dX0_isKnown_15 : decode cX0_isKnown 15 = .ok (.if_icmp .ge 37, 3) := dk_162 0 37 (dk_at dksX0_isKnown_0 15 rfl rfl)
theorem dX0_isKnown_18 : decode cX0_isKnown 18 = .ok (.iload_n 3, 1) := dk_29 (dk_at dksX0_isKnown_0 18 rfl rfl)
theorem dX0_isKnown_19 : decode cX0_isKnown 19 = .ok (.aload_n 1, 1) := dk_43 (dk_at dksX0_isKnown_0 19 rfl rfl)
theorem dX0_isKnown_20 : decode cX0_isKnown 20 = .ok (.getfield 280, 3) := dk_180 1 24 (dk_at dksX0_isKnown_0 20 rfl rfl)
theorem dX0_isKnown_23 : decode cX0_isKnown 23 = .ok (.iload 4, 2) := dk_21 4 (dk_at dksX0_isKnown_1 0 rfl rfl)
theorem dX0_isKnown_25 : decode cX0_isKnown 25 = .ok (.iadd, 1) := dk_96 (dk_at dksX0_isKnown_1 2 rfl rfl)
theorem dX0_isKnown_26 : decode cX0_isKnown 26 = .ok (.if_icmp .lt 26, 3) := dk_161 0 26 (dk_at dksX0_isKnown_1 3 rfl rfl)
theorem dX0_isKnown_29 : decode cX0_isKnown 29 = .ok (.aload_n 1, 1) := dk_43 (dk_at dksX0_isKnown_1 6 rfl rfl)
theorem dX0_isKnown_30 : decode cX0_isKnown 30 = .ok (.getfield 291, 3) := dk_180 1 35 (dk_at dksX0_isKnown_1 7 rfl rfl)
theorem dX0_isKnown_33 : decode cX0_isKnown 33 = .ok (.iconst (-1), 1) := dk_2 (dk_at dksX0_isKnown_1 10 rfl rfl)
theorem dX0_isKnown_34 : decode cX0_isKnown 34 = .ok (.if_icmp .eq 14, 3) := dk_159 0 14 (dk_at dksX0_isKnown_1 11 rfl rfl)
theorem dX0_isKnown_37 : decode cX0_isKnown 37 = .ok (.iload_n 3, 1) := dk_29 (dk_at dksX0_isKnown_1 14 rfl rfl)
theorem dX0_isKnown_38 : decode cX0_isKnown 38 = .ok (.aload_n 1, 1) := dk_43 (dk_at dksX0_isKnown_1 15 rfl rfl)
theorem dX0_isKnown_39 : decode cX0_isKnown 39 = .ok (.getfield 291, 3) := dk_180 1 35 (dk_at dksX0_isKnown_1 16 rfl rfl)
theorem dX0_isKnown_42 : decode cX0_isKnown 42 = .ok (.iload 4, 2) := dk_21 4 (dk_at dksX0_isKnown_1 19 rfl rfl)
theorem dX0_isKnown_44 : decode cX0_isKnown 44 = .ok (.iadd, 1) := dk_96 (dk_at dksX0_isKnown_1 21 rfl rfl)
theorem dX0_isKnown_45 : decode cX0_isKnown 45 = .ok (.if_icmp .ge 7, 3) := dk_162 0 7 (dk_at dksX0_isKnown_2 0 rfl rfl)
theorem dX0_isKnown_48 : decode cX0_isKnown 48 = .ok (.iconst 1, 1) := dk_4 (dk_at dksX0_isKnown_2 3 rfl rfl)
theorem dX0_isKnown_49 : decode cX0_isKnown 49 = .ok (.goto 4, 3) := dk_167 0 4 (dk_at dksX0_isKnown_2 4 rfl rfl)
theorem dX0_isKnown_52 : decode cX0_isKnown 52 = .ok (.iconst 0, 1) := dk_3 (dk_at dksX0_isKnown_2 7 rfl rfl)
theorem dX0_isKnown_53 : decode cX0_isKnown 53 = .ok (.ireturn, 1) := dk_172 (dk_at dksX0_isKnown_2 8 rfl rfl)
abbrev cX0_holds : ByteArray := prog_1_method_35_code
def yX0_holds : MethodName := ⟨RX0, "holds", "(IIII)I"⟩
def dkwX0_holds_6 : List UInt8 := [153, 0, 7, 3, 167, 0, 19, 25, 5, 180, 0, 179, 42, 25, 5, 28, 29, 182, 1, 73, 2, 130, 126, 172]
abbrev dktX0_holds_6 : List UInt8 := dkwX0_holds_6 ++ []
def dkwX0_holds_5 : List UInt8 := [160, 0, 8, 16, 251, 167, 0, 5, 21, 7, 172, 42, 25, 5, 28, 29, 182, 1, 73, 172, 21, 6]
abbrev dktX0_holds_5 : List UInt8 := dkwX0_holds_5 ++ dktX0_holds_6
def dkwX0_holds_4 : List UInt8 := [21, 6, 153, 0, 7, 4, 167, 0, 4, 3, 172, 42, 25, 5, 28, 29, 182, 1, 48, 54, 7, 21, 7, 2]
abbrev dktX0_holds_4 : List UInt8 := dkwX0_holds_4 ++ dktX0_holds_5
def dkwX0_holds_3 : List UInt8 := [170, 0, 0, 0, 0, 0, 71, 0, 0, 0, 0, 0, 0, 0, 2, 0, 0, 0, 27, 0, 0, 0, 38, 0, 0, 0, 62]
abbrev dktX0_holds_3 : List UInt8 := dkwX0_holds_3 ++ dktX0_holds_4
def dkwX0_holds_2 : List UInt8 := [25, 5, 28, 29, 182, 1, 69, 54, 6, 21, 4]
abbrev dktX0_holds_2 : List UInt8 := dkwX0_holds_2 ++ dktX0_holds_3
def dkwX0_holds_1 : List UInt8 := [154, 0, 5, 2, 172, 29, 184, 1, 38, 154, 0, 6, 16, 254, 172, 42, 180, 0, 30, 27, 50, 58, 5, 42]
abbrev dktX0_holds_1 : List UInt8 := dkwX0_holds_1 ++ dktX0_holds_2
def dkwX0_holds_0 : List UInt8 := [42, 27, 182, 0, 166, 153, 0, 20, 28, 184, 0, 137, 153, 0, 13, 21, 4, 3, 6, 184, 0, 123]
abbrev dktX0_holds_0 : List UInt8 := dkwX0_holds_0 ++ dktX0_holds_1
theorem dksX0_holds_0 : cX0_holds.data.toList.drop 0 = dktX0_holds_0 := by decide +kernel
theorem dksX0_holds_1 : cX0_holds.data.toList.drop 22 = dktX0_holds_1 := dk_seg dksX0_holds_0 22 rfl rfl
theorem dksX0_holds_2 : cX0_holds.data.toList.drop 46 = dktX0_holds_2 := dk_seg dksX0_holds_1 24 rfl rfl
theorem dksX0_holds_3 : cX0_holds.data.toList.drop 57 = dktX0_holds_3 := dk_seg dksX0_holds_2 11 rfl rfl
theorem dksX0_holds_4 : cX0_holds.data.toList.drop 84 = dktX0_holds_4 := dk_seg dksX0_holds_3 27 rfl rfl
theorem dksX0_holds_5 : cX0_holds.data.toList.drop 108 = dktX0_holds_5 := dk_seg dksX0_holds_4 24 rfl rfl
theorem dksX0_holds_6 : cX0_holds.data.toList.drop 130 = dktX0_holds_6 := dk_seg dksX0_holds_5 22 rfl rfl
theorem dX0_holds_0 : decode cX0_holds 0 = .ok (.aload_n 0, 1) := dk_42 (dk_at dksX0_holds_0 0 rfl rfl)
theorem dX0_holds_1 : decode cX0_holds 1 = .ok (.iload_n 1, 1) := dk_27 (dk_at dksX0_holds_0 1 rfl rfl)
theorem dX0_holds_2 : decode cX0_holds 2 = .ok (.invokevirtual 166, 3) := dk_182 0 166 (dk_at dksX0_holds_0 2 rfl rfl)
theorem dX0_holds_5 : decode cX0_holds 5 = .ok (.ifCond .eq 20, 3) := dk_153 0 20 (dk_at dksX0_holds_0 5 rfl rfl)
theorem dX0_holds_8 : decode cX0_holds 8 = .ok (.iload_n 2, 1) := dk_28 (dk_at dksX0_holds_0 8 rfl rfl)
theorem dX0_holds_9 : decode cX0_holds 9 = .ok (.invokestatic 137, 3) := dk_184 0 137 (dk_at dksX0_holds_0 9 rfl rfl)
theorem dX0_holds_12 : decode cX0_holds 12 = .ok (.ifCond .eq 13, 3) := dk_153 0 13 (dk_at dksX0_holds_0 12 rfl rfl)
theorem dX0_holds_15 : decode cX0_holds 15 = .ok (.iload 4, 2) := dk_21 4 (dk_at dksX0_holds_0 15 rfl rfl)
theorem dX0_holds_17 : decode cX0_holds 17 = .ok (.iconst 0, 1) := dk_3 (dk_at dksX0_holds_0 17 rfl rfl)
theorem dX0_holds_18 : decode cX0_holds 18 = .ok (.iconst 3, 1) := dk_6 (dk_at dksX0_holds_0 18 rfl rfl)
theorem dX0_holds_19 : decode cX0_holds 19 = .ok (.invokestatic 123, 3) := dk_184 0 123 (dk_at dksX0_holds_0 19 rfl rfl)
theorem dX0_holds_22 : decode cX0_holds 22 = .ok (.ifCond .ne 5, 3) := dk_154 0 5 (dk_at dksX0_holds_1 0 rfl rfl)
theorem dX0_holds_25 : decode cX0_holds 25 = .ok (.iconst (-1), 1) := dk_2 (dk_at dksX0_holds_1 3 rfl rfl)
theorem dX0_holds_26 : decode cX0_holds 26 = .ok (.ireturn, 1) := dk_172 (dk_at dksX0_holds_1 4 rfl rfl)
theorem dX0_holds_27 : decode cX0_holds 27 = .ok (.iload_n 3, 1) := dk_29 (dk_at dksX0_holds_1 5 rfl rfl)
theorem dX0_holds_28 : decode cX0_holds 28 = .ok (.invokestatic 294, 3) := dk_184 1 38 (dk_at dksX0_holds_1 6 rfl rfl)
theorem dX0_holds_31 : decode cX0_holds 31 = .ok (.ifCond .ne 6, 3) := dk_154 0 6 (dk_at dksX0_holds_1 9 rfl rfl)
theorem dX0_holds_34 : decode cX0_holds 34 = .ok (.bipush (-2), 2) := dk_16 254 (dk_at dksX0_holds_1 12 rfl rfl)
theorem dX0_holds_36 : decode cX0_holds 36 = .ok (.ireturn, 1) := dk_172 (dk_at dksX0_holds_1 14 rfl rfl)
theorem dX0_holds_37 : decode cX0_holds 37 = .ok (.aload_n 0, 1) := dk_42 (dk_at dksX0_holds_1 15 rfl rfl)
theorem dX0_holds_38 : decode cX0_holds 38 = .ok (.getfield 30, 3) := dk_180 0 30 (dk_at dksX0_holds_1 16 rfl rfl)
theorem dX0_holds_41 : decode cX0_holds 41 = .ok (.iload_n 1, 1) := dk_27 (dk_at dksX0_holds_1 19 rfl rfl)
theorem dX0_holds_42 : decode cX0_holds 42 = .ok (.aaload, 1) := dk_50 (dk_at dksX0_holds_1 20 rfl rfl)
theorem dX0_holds_43 : decode cX0_holds 43 = .ok (.astore 5, 2) := dk_58 5 (dk_at dksX0_holds_1 21 rfl rfl)
theorem dX0_holds_45 : decode cX0_holds 45 = .ok (.aload_n 0, 1) := dk_42 (dk_at dksX0_holds_1 23 rfl rfl)
theorem dX0_holds_46 : decode cX0_holds 46 = .ok (.aload 5, 2) := dk_25 5 (dk_at dksX0_holds_2 0 rfl rfl)
theorem dX0_holds_48 : decode cX0_holds 48 = .ok (.iload_n 2, 1) := dk_28 (dk_at dksX0_holds_2 2 rfl rfl)
theorem dX0_holds_49 : decode cX0_holds 49 = .ok (.iload_n 3, 1) := dk_29 (dk_at dksX0_holds_2 3 rfl rfl)
theorem dX0_holds_50 : decode cX0_holds 50 = .ok (.invokevirtual 325, 3) := dk_182 1 69 (dk_at dksX0_holds_2 4 rfl rfl)
theorem dX0_holds_53 : decode cX0_holds 53 = .ok (.istore 6, 2) := dk_54 6 (dk_at dksX0_holds_2 7 rfl rfl)
theorem dX0_holds_55 : decode cX0_holds 55 = .ok (.iload 4, 2) := dk_21 4 (dk_at dksX0_holds_2 9 rfl rfl)
theorem dX0_holds_57 : decode cX0_holds 57 = .ok (.tableswitch 71 0 2 #[27, 38, 62], 27) := by decide +kernel
theorem dX0_holds_84 : decode cX0_holds 84 = .ok (.iload 6, 2) := dk_21 6 (dk_at dksX0_holds_4 0 rfl rfl)
theorem dX0_holds_86 : decode cX0_holds 86 = .ok (.ifCond .eq 7, 3) := dk_153 0 7 (dk_at dksX0_holds_4 2 rfl rfl)
theorem dX0_holds_89 : decode cX0_holds 89 = .ok (.iconst 1, 1) := dk_4 (dk_at dksX0_holds_4 5 rfl rfl)
theorem dX0_holds_90 : decode cX0_holds 90 = .ok (.goto 4, 3) := dk_167 0 4 (dk_at dksX0_holds_4 6 rfl rfl)
theorem dX0_holds_93 : decode cX0_holds 93 = .ok (.iconst 0, 1) := dk_3 (dk_at dksX0_holds_4 9 rfl rfl)
theorem dX0_holds_94 : decode cX0_holds 94 = .ok (.ireturn, 1) := dk_172 (dk_at dksX0_holds_4 10 rfl rfl)
theorem dX0_holds_95 : decode cX0_holds 95 = .ok (.aload_n 0, 1) := dk_42 (dk_at dksX0_holds_4 11 rfl rfl)
theorem dX0_holds_96 : decode cX0_holds 96 = .ok (.aload 5, 2) := dk_25 5 (dk_at dksX0_holds_4 12 rfl rfl)
theorem dX0_holds_98 : decode cX0_holds 98 = .ok (.iload_n 2, 1) := dk_28 (dk_at dksX0_holds_4 14 rfl rfl)
theorem dX0_holds_99 : decode cX0_holds 99 = .ok (.iload_n 3, 1) := dk_29 (dk_at dksX0_holds_4 15 rfl rfl)
theorem dX0_holds_100 : decode cX0_holds 100 = .ok (.invokevirtual 304, 3) := dk_182 1 48 (dk_at dksX0_holds_4 16 rfl rfl)
theorem dX0_holds_103 : decode cX0_holds 103 = .ok (.istore 7, 2) := dk_54 7 (dk_at dksX0_holds_4 19 rfl rfl)
theorem dX0_holds_105 : decode cX0_holds 105 = .ok (.iload 7, 2) := dk_21 7 (dk_at dksX0_holds_4 21 rfl rfl)
theorem dX0_holds_107 : decode cX0_holds 107 = .ok (.iconst (-1), 1) := dk_2 (dk_at dksX0_holds_4 23 rfl rfl)
theorem dX0_holds_108 : decode cX0_holds 108 = .ok (.if_icmp .ne 8, 3) := dk_160 0 8 (dk_at dksX0_holds_5 0 rfl rfl)
theorem dX0_holds_111 : decode cX0_holds 111 = .ok (.bipush (-5), 2) := dk_16 251 (dk_at dksX0_holds_5 3 rfl rfl)
theorem dX0_holds_113 : decode cX0_holds 113 = .ok (.goto 5, 3) := dk_167 0 5 (dk_at dksX0_holds_5 5 rfl rfl)
theorem dX0_holds_116 : decode cX0_holds 116 = .ok (.iload 7, 2) := dk_21 7 (dk_at dksX0_holds_5 8 rfl rfl)
theorem dX0_holds_118 : decode cX0_holds 118 = .ok (.ireturn, 1) := dk_172 (dk_at dksX0_holds_5 10 rfl rfl)
theorem dX0_holds_119 : decode cX0_holds 119 = .ok (.aload_n 0, 1) := dk_42 (dk_at dksX0_holds_5 11 rfl rfl)
theorem dX0_holds_120 : decode cX0_holds 120 = .ok (.aload 5, 2) := dk_25 5 (dk_at dksX0_holds_5 12 rfl rfl)
theorem dX0_holds_122 : decode cX0_holds 122 = .ok (.iload_n 2, 1) := dk_28 (dk_at dksX0_holds_5 14 rfl rfl)
theorem dX0_holds_123 : decode cX0_holds 123 = .ok (.iload_n 3, 1) := dk_29 (dk_at dksX0_holds_5 15 rfl rfl)
theorem dX0_holds_124 : decode cX0_holds 124 = .ok (.invokevirtual 329, 3) := dk_182 1 73 (dk_at dksX0_holds_5 16 rfl rfl)
theorem dX0_holds_127 : decode cX0_holds 127 = .ok (.ireturn, 1) := dk_172 (dk_at dksX0_holds_5 19 rfl rfl)
theorem dX0_holds_128 : decode cX0_holds 128 = .ok (.iload 6, 2) := dk_21 6 (dk_at dksX0_holds_5 20 rfl rfl)
theorem dX0_holds_130 : decode cX0_holds 130 = .ok (.ifCond .eq 7, 3) := dk_153 0 7 (dk_at dksX0_holds_6 0 rfl rfl)
theorem dX0_holds_133 : decode cX0_holds 133 = .ok (.iconst 0, 1) := dk_3 (dk_at dksX0_holds_6 3 rfl rfl)
theorem dX0_holds_134 : decode cX0_holds 134 = .ok (.goto 19, 3) := dk_167 0 19 (dk_at dksX0_holds_6 4 rfl rfl)
theorem dX0_holds_137 : decode cX0_holds 137 = .ok (.aload 5, 2) := dk_25 5 (dk_at dksX0_holds_6 7 rfl rfl)
theorem dX0_holds_139 : decode cX0_holds 139 = .ok (.getfield 179, 3) := dk_180 0 179 (dk_at dksX0_holds_6 9 rfl rfl)
theorem dX0_holds_142 : decode cX0_holds 142 = .ok (.aload_n 0, 1) := dk_42 (dk_at dksX0_holds_6 12 rfl rfl)
theorem dX0_holds_143 : decode cX0_holds 143 = .ok (.aload 5, 2) := dk_25 5 (dk_at dksX0_holds_6 13 rfl rfl)
theorem dX0_holds_145 : decode cX0_holds 145 = .ok (.iload_n 2, 1) := dk_28 (dk_at dksX0_holds_6 15 rfl rfl)
theorem dX0_holds_146 : decode cX0_holds 146 = .ok (.iload_n 3, 1) := dk_29 (dk_at dksX0_holds_6 16 rfl rfl)
theorem dX0_holds_147 : decode cX0_holds 147 = .ok (.invokevirtual 329, 3) := dk_182 1 73 (dk_at dksX0_holds_6 17 rfl rfl)
theorem dX0_holds_150 : decode cX0_holds 150 = .ok (.iconst (-1), 1) := dk_2 (dk_at dksX0_holds_6 20 rfl rfl)
theorem dX0_holds_151 : decode cX0_holds 151 = .ok (.ixor, 1) := dk_130 (dk_at dksX0_holds_6 21 rfl rfl)
theorem dX0_holds_152 : decode cX0_holds 152 = .ok (.iand, 1) := dk_126 (dk_at dksX0_holds_6 22 rfl rfl)
theorem dX0_holds_153 : decode cX0_holds 153 = .ok (.ireturn, 1) := dk_172 (dk_at dksX0_holds_6 23 rfl rfl)
abbrev cX0_isBarred : ByteArray := prog_1_method_32_code
def yX0_isBarred : MethodName := ⟨RX0, "isBarred", "(LBarredBooks$Edition;II)Z"⟩
def dkwX0_isBarred_1 : List UInt8 := [182, 1, 45, 4, 160, 0, 7, 4, 167, 0, 4, 3, 172]
abbrev dktX0_isBarred_1 : List UInt8 := dkwX0_isBarred_1 ++ []
def dkwX0_isBarred_0 : List UInt8 := [42, 43, 28, 29, 182, 1, 48, 54, 4, 21, 4, 2, 159, 0, 22, 42, 180, 0, 53, 21, 4, 50, 43]
abbrev dktX0_isBarred_0 : List UInt8 := dkwX0_isBarred_0 ++ dktX0_isBarred_1
theorem dksX0_isBarred_0 : cX0_isBarred.data.toList.drop 0 = dktX0_isBarred_0 := by decide +kernel
theorem dksX0_isBarred_1 : cX0_isBarred.data.toList.drop 23 = dktX0_isBarred_1 := dk_seg dksX0_isBarred_0 23 rfl rfl
theorem dX0_isBarred_0 : decode cX0_isBarred 0 = .ok (.aload_n 0, 1) := dk_42 (dk_at dksX0_isBarred_0 0 rfl rfl)
theorem dX0_isBarred_1 : decode cX0_isBarred 1 = .ok (.aload_n 1, 1) := dk_43 (dk_at dksX0_isBarred_0 1 rfl rfl)
theorem dX0_isBarred_2 : decode cX0_isBarred 2 = .ok (.iload_n 2, 1) := dk_28 (dk_at dksX0_isBarred_0 2 rfl rfl)
theorem dX0_isBarred_3 : decode cX0_isBarred 3 = .ok (.iload_n 3, 1) := dk_29 (dk_at dksX0_isBarred_0 3 rfl rfl)
theorem dX0_isBarred_4 : decode cX0_isBarred 4 = .ok (.invokevirtual 304, 3) := dk_182 1 48 (dk_at dksX0_isBarred_0 4 rfl rfl)
theorem dX0_isBarred_7 : decode cX0_isBarred 7 = .ok (.istore 4, 2) := dk_54 4 (dk_at dksX0_isBarred_0 7 rfl rfl)
theorem dX0_isBarred_9 : decode cX0_isBarred 9 = .ok (.iload 4, 2) := dk_21 4 (dk_at dksX0_isBarred_0 9 rfl rfl)
theorem dX0_isBarred_11 : decode cX0_isBarred 11 = .ok (.iconst (-1), 1) := dk_2 (dk_at dksX0_isBarred_0 11 rfl rfl)
theorem dX0_isBarred_12 : decode cX0_isBarred 12 = .ok (.if_icmp .eq 22, 3) := dk_159 0 22 (dk_at dksX0_isBarred_0 12 rfl rfl)
theorem dX0_isBarred_15 : decode cX0_isBarred 15 = .ok (.aload_n 0, 1) := dk_42 (dk_at dksX0_isBarred_0 15 rfl rfl)
theorem dX0_isBarred_16 : decode cX0_isBarred 16 = .ok (.getfield 53, 3) := dk_180 0 53 (dk_at dksX0_isBarred_0 16 rfl rfl)
theorem dX0_isBarred_19 : decode cX0_isBarred 19 = .ok (.iload 4, 2) := dk_21 4 (dk_at dksX0_isBarred_0 19 rfl rfl)
theorem dX0_isBarred_21 : decode cX0_isBarred 21 = .ok (.aaload, 1) := dk_50 (dk_at dksX0_isBarred_0 21 rfl rfl)
theorem dX0_isBarred_22 : decode cX0_isBarred 22 = .ok (.aload_n 1, 1) := dk_43 (dk_at dksX0_isBarred_0 22 rfl rfl)
theorem dX0_isBarred_23 : decode cX0_isBarred 23 = .ok (.invokevirtual 301, 3) := dk_182 1 45 (dk_at dksX0_isBarred_1 0 rfl rfl)
theorem dX0_isBarred_26 : decode cX0_isBarred 26 = .ok (.iconst 1, 1) := dk_4 (dk_at dksX0_isBarred_1 3 rfl rfl)
theorem dX0_isBarred_27 : decode cX0_isBarred 27 = .ok (.if_icmp .ne 7, 3) := dk_160 0 7 (dk_at dksX0_isBarred_1 4 rfl rfl)
theorem dX0_isBarred_30 : decode cX0_isBarred 30 = .ok (.iconst 1, 1) := dk_4 (dk_at dksX0_isBarred_1 7 rfl rfl)
theorem dX0_isBarred_31 : decode cX0_isBarred 31 = .ok (.goto 4, 3) := dk_167 0 4 (dk_at dksX0_isBarred_1 8 rfl rfl)
theorem dX0_isBarred_34 : decode cX0_isBarred 34 = .ok (.iconst 0, 1) := dk_3 (dk_at dksX0_isBarred_1 11 rfl rfl)
theorem dX0_isBarred_35 : decode cX0_isBarred 35 = .ok (.ireturn, 1) := dk_172 (dk_at dksX0_isBarred_1 12 rfl rfl)
abbrev cX0_saysOf : ByteArray := prog_1_method_31_code
def yX0_saysOf : MethodName := ⟨RX0, "saysOf", "(LBarredBooks$Edition;II)I"⟩
def dkwX0_saysOf_2 : List UInt8 := [54, 4, 132, 5, 1, 167, 255, 209, 21, 4, 172]
abbrev dktX0_saysOf_2 : List UInt8 := dkwX0_saysOf_2 ++ []
def dkwX0_saysOf_1 : List UInt8 := [29, 182, 1, 41, 153, 0, 22, 42, 180, 0, 53, 21, 5, 50, 43, 182, 1, 45, 2, 159, 0, 7, 21, 5]
abbrev dktX0_saysOf_1 : List UInt8 := dkwX0_saysOf_1 ++ dktX0_saysOf_2
def dkwX0_saysOf_0 : List UInt8 := [2, 54, 4, 3, 54, 5, 21, 5, 42, 180, 1, 18, 162, 0, 44, 42, 42, 180, 0, 53, 21, 5, 50, 28]
abbrev dktX0_saysOf_0 : List UInt8 := dkwX0_saysOf_0 ++ dktX0_saysOf_1
theorem dksX0_saysOf_0 : cX0_saysOf.data.toList.drop 0 = dktX0_saysOf_0 := by decide +kernel
theorem dksX0_saysOf_1 : cX0_saysOf.data.toList.drop 24 = dktX0_saysOf_1 := dk_seg dksX0_saysOf_0 24 rfl rfl
theorem dksX0_saysOf_2 : cX0_saysOf.data.toList.drop 48 = dktX0_saysOf_2 := dk_seg dksX0_saysOf_1 24 rfl rfl
theorem dX0_saysOf_0 : decode cX0_saysOf 0 = .ok (.iconst (-1), 1) := dk_2 (dk_at dksX0_saysOf_0 0 rfl rfl)
theorem dX0_saysOf_1 : decode cX0_saysOf 1 = .ok (.istore 4, 2) := dk_54 4 (dk_at dksX0_saysOf_0 1 rfl rfl)
theorem dX0_saysOf_3 : decode cX0_saysOf 3 = .ok (.iconst 0, 1) := dk_3 (dk_at dksX0_saysOf_0 3 rfl rfl)
theorem dX0_saysOf_4 : decode cX0_saysOf 4 = .ok (.istore 5, 2) := dk_54 5 (dk_at dksX0_saysOf_0 4 rfl rfl)
theorem dX0_saysOf_6 : decode cX0_saysOf 6 = .ok (.iload 5, 2) := dk_21 5 (dk_at dksX0_saysOf_0 6 rfl rfl)
theorem dX0_saysOf_8 : decode cX0_saysOf 8 = .ok (.aload_n 0, 1) := dk_42 (dk_at dksX0_saysOf_0 8 rfl rfl)
theorem dX0_saysOf_9 : decode cX0_saysOf 9 = .ok (.getfield 274, 3) := dk_180 1 18 (dk_at dksX0_saysOf_0 9 rfl rfl)
theorem dX0_saysOf_12 : decode cX0_saysOf 12 = .ok (.if_icmp .ge 44, 3) := dk_162 0 44 (dk_at dksX0_saysOf_0 12 rfl rfl)
theorem dX0_saysOf_15 : decode cX0_saysOf 15 = .ok (.aload_n 0, 1) := dk_42 (dk_at dksX0_saysOf_0 15 rfl rfl)
theorem dX0_saysOf_16 : decode cX0_saysOf 16 = .ok (.aload_n 0, 1) := dk_42 (dk_at dksX0_saysOf_0 16 rfl rfl)
theorem dX0_saysOf_17 : decode cX0_saysOf 17 = .ok (.getfield 53, 3) := dk_180 0 53 (dk_at dksX0_saysOf_0 17 rfl rfl)
theorem dX0_saysOf_20 : decode cX0_saysOf 20 = .ok (.iload 5, 2) := dk_21 5 (dk_at dksX0_saysOf_0 20 rfl rfl)
theorem dX0_saysOf_22 : decode cX0_saysOf 22 = .ok (.aaload, 1) := dk_50 (dk_at dksX0_saysOf_0 22 rfl rfl)
theorem dX0_saysOf_23 : decode cX0_saysOf 23 = .ok (.iload_n 2, 1) := dk_28 (dk_at dksX0_saysOf_0 23 rfl rfl)
theorem dX0_saysOf_24 : decode cX0_saysOf 24 = .ok (.iload_n 3, 1) := dk_29 (dk_at dksX0_saysOf_1 0 rfl rfl)
theorem dX0_saysOf_25 : decode cX0_saysOf 25 = .ok (.invokevirtual 297, 3) := dk_182 1 41 (dk_at dksX0_saysOf_1 1 rfl rfl)
theorem dX0_saysOf_28 : decode cX0_saysOf 28 = .ok (.ifCond .eq 22, 3) := dk_153 0 22 (dk_at dksX0_saysOf_1 4 rfl rfl)
theorem dX0_saysOf_31 : decode cX0_saysOf 31 = .ok (.aload_n 0, 1) := dk_42 (dk_at dksX0_saysOf_1 7 rfl rfl)
theorem dX0_saysOf_32 : decode cX0_saysOf 32 = .ok (.getfield 53, 3) := dk_180 0 53 (dk_at dksX0_saysOf_1 8 rfl rfl)
theorem dX0_saysOf_35 : decode cX0_saysOf 35 = .ok (.iload 5, 2) := dk_21 5 (dk_at dksX0_saysOf_1 11 rfl rfl)
theorem dX0_saysOf_37 : decode cX0_saysOf 37 = .ok (.aaload, 1) := dk_50 (dk_at dksX0_saysOf_1 13 rfl rfl)
theorem dX0_saysOf_38 : decode cX0_saysOf 38 = .ok (.aload_n 1, 1) := dk_43 (dk_at dksX0_saysOf_1 14 rfl rfl)
theorem dX0_saysOf_39 : decode cX0_saysOf 39 = .ok (.invokevirtual 301, 3) := dk_182 1 45 (dk_at dksX0_saysOf_1 15 rfl rfl)
theorem dX0_saysOf_42 : decode cX0_saysOf 42 = .ok (.iconst (-1), 1) := dk_2 (dk_at dksX0_saysOf_1 18 rfl rfl)
theorem dX0_saysOf_43 : decode cX0_saysOf 43 = .ok (.if_icmp .eq 7, 3) := dk_159 0 7 (dk_at dksX0_saysOf_1 19 rfl rfl)
theorem dX0_saysOf_46 : decode cX0_saysOf 46 = .ok (.iload 5, 2) := dk_21 5 (dk_at dksX0_saysOf_1 22 rfl rfl)
theorem dX0_saysOf_48 : decode cX0_saysOf 48 = .ok (.istore 4, 2) := dk_54 4 (dk_at dksX0_saysOf_2 0 rfl rfl)
theorem dX0_saysOf_50 : decode cX0_saysOf 50 = .ok (.iinc 5 1, 3) := dk_132 5 1 (dk_at dksX0_saysOf_2 2 rfl rfl)
theorem dX0_saysOf_53 : decode cX0_saysOf 53 = .ok (.goto (-47), 3) := dk_167 255 209 (dk_at dksX0_saysOf_2 5 rfl rfl)
theorem dX0_saysOf_56 : decode cX0_saysOf 56 = .ok (.iload 4, 2) := dk_21 4 (dk_at dksX0_saysOf_2 8 rfl rfl)
theorem dX0_saysOf_58 : decode cX0_saysOf 58 = .ok (.ireturn, 1) := dk_172 (dk_at dksX0_saysOf_2 10 rfl rfl)
abbrev cX0_struckOf : ByteArray := prog_1_method_34_code
def yX0_struckOf : MethodName := ⟨RX0, "struckOf", "(LBarredBooks$Edition;II)I"⟩
def dkwX0_struckOf_2 : List UInt8 := [167, 255, 215, 21, 4, 172]
abbrev dktX0_struckOf_2 : List UInt8 := dkwX0_struckOf_2 ++ []
def dkwX0_struckOf_1 : List UInt8 := [21, 5, 28, 29, 182, 1, 66, 2, 159, 0, 12, 21, 4, 4, 21, 5, 120, 128, 54, 4, 132, 5, 1]
abbrev dktX0_struckOf_1 : List UInt8 := dkwX0_struckOf_1 ++ dktX0_struckOf_2
def dkwX0_struckOf_0 : List UInt8 := [3, 54, 4, 3, 54, 5, 21, 5, 16, 16, 162, 0, 40, 43, 21, 5, 182, 1, 63, 153, 0, 25, 42, 43]
abbrev dktX0_struckOf_0 : List UInt8 := dkwX0_struckOf_0 ++ dktX0_struckOf_1
theorem dksX0_struckOf_0 : cX0_struckOf.data.toList.drop 0 = dktX0_struckOf_0 := by decide +kernel
theorem dksX0_struckOf_1 : cX0_struckOf.data.toList.drop 24 = dktX0_struckOf_1 := dk_seg dksX0_struckOf_0 24 rfl rfl
theorem dksX0_struckOf_2 : cX0_struckOf.data.toList.drop 47 = dktX0_struckOf_2 := dk_seg dksX0_struckOf_1 23 rfl rfl
theorem dX0_struckOf_0 : decode cX0_struckOf 0 = .ok (.iconst 0, 1) := dk_3 (dk_at dksX0_struckOf_0 0 rfl rfl)
theorem dX0_struckOf_1 : decode cX0_struckOf 1 = .ok (.istore 4, 2) := dk_54 4 (dk_at dksX0_struckOf_0 1 rfl rfl)
theorem dX0_struckOf_3 : decode cX0_struckOf 3 = .ok (.iconst 0, 1) := dk_3 (dk_at dksX0_struckOf_0 3 rfl rfl)
theorem dX0_struckOf_4 : decode cX0_struckOf 4 = .ok (.istore 5, 2) := dk_54 5 (dk_at dksX0_struckOf_0 4 rfl rfl)
theorem dX0_struckOf_6 : decode cX0_struckOf 6 = .ok (.iload 5, 2) := dk_21 5 (dk_at dksX0_struckOf_0 6 rfl rfl)
theorem dX0_struckOf_8 : decode cX0_struckOf 8 = .ok (.bipush 16, 2) := dk_16 16 (dk_at dksX0_struckOf_0 8 rfl rfl)
theorem dX0_struckOf_10 : decode cX0_struckOf 10 = .ok (.if_icmp .ge 40, 3) := dk_162 0 40 (dk_at dksX0_struckOf_0 10 rfl rfl)
theorem dX0_struckOf_13 : decode cX0_struckOf 13 = .ok (.aload_n 1, 1) := dk_43 (dk_at dksX0_struckOf_0 13 rfl rfl)
theorem dX0_struckOf_14 : decode cX0_struckOf 14 = .ok (.iload 5, 2) := dk_21 5 (dk_at dksX0_struckOf_0 14 rfl rfl)
theorem dX0_struckOf_16 : decode cX0_struckOf 16 = .ok (.invokevirtual 319, 3) := dk_182 1 63 (dk_at dksX0_struckOf_0 16 rfl rfl)
theorem dX0_struckOf_19 : decode cX0_struckOf 19 = .ok (.ifCond .eq 25, 3) := dk_153 0 25 (dk_at dksX0_struckOf_0 19 rfl rfl)
theorem dX0_struckOf_22 : decode cX0_struckOf 22 = .ok (.aload_n 0, 1) := dk_42 (dk_at dksX0_struckOf_0 22 rfl rfl)
theorem dX0_struckOf_23 : decode cX0_struckOf 23 = .ok (.aload_n 1, 1) := dk_43 (dk_at dksX0_struckOf_0 23 rfl rfl)
theorem dX0_struckOf_24 : decode cX0_struckOf 24 = .ok (.iload 5, 2) := dk_21 5 (dk_at dksX0_struckOf_1 0 rfl rfl)
theorem dX0_struckOf_26 : decode cX0_struckOf 26 = .ok (.iload_n 2, 1) := dk_28 (dk_at dksX0_struckOf_1 2 rfl rfl)
theorem dX0_struckOf_27 : decode cX0_struckOf 27 = .ok (.iload_n 3, 1) := dk_29 (dk_at dksX0_struckOf_1 3 rfl rfl)
theorem dX0_struckOf_28 : decode cX0_struckOf 28 = .ok (.invokevirtual 322, 3) := dk_182 1 66 (dk_at dksX0_struckOf_1 4 rfl rfl)
theorem dX0_struckOf_31 : decode cX0_struckOf 31 = .ok (.iconst (-1), 1) := dk_2 (dk_at dksX0_struckOf_1 7 rfl rfl)
theorem dX0_struckOf_32 : decode cX0_struckOf 32 = .ok (.if_icmp .eq 12, 3) := dk_159 0 12 (dk_at dksX0_struckOf_1 8 rfl rfl)
theorem dX0_struckOf_35 : decode cX0_struckOf 35 = .ok (.iload 4, 2) := dk_21 4 (dk_at dksX0_struckOf_1 11 rfl rfl)
theorem dX0_struckOf_37 : decode cX0_struckOf 37 = .ok (.iconst 1, 1) := dk_4 (dk_at dksX0_struckOf_1 13 rfl rfl)
theorem dX0_struckOf_38 : decode cX0_struckOf 38 = .ok (.iload 5, 2) := dk_21 5 (dk_at dksX0_struckOf_1 14 rfl rfl)
theorem dX0_struckOf_40 : decode cX0_struckOf 40 = .ok (.ishl, 1) := dk_120 (dk_at dksX0_struckOf_1 16 rfl rfl)
theorem dX0_struckOf_41 : decode cX0_struckOf 41 = .ok (.ior, 1) := dk_128 (dk_at dksX0_struckOf_1 17 rfl rfl)
theorem dX0_struckOf_42 : decode cX0_struckOf 42 = .ok (.istore 4, 2) := dk_54 4 (dk_at dksX0_struckOf_1 18 rfl rfl)
theorem dX0_struckOf_44 : decode cX0_struckOf 44 = .ok (.iinc 5 1, 3) := dk_132 5 1 (dk_at dksX0_struckOf_1 20 rfl rfl)
theorem dX0_struckOf_47 : decode cX0_struckOf 47 = .ok (.goto (-41), 3) := dk_167 255 215 (dk_at dksX0_struckOf_2 0 rfl rfl)
theorem dX0_struckOf_50 : decode cX0_struckOf 50 = .ok (.iload 4, 2) := dk_21 4 (dk_at dksX0_struckOf_2 3 rfl rfl)
theorem dX0_struckOf_52 : decode cX0_struckOf 52 = .ok (.ireturn, 1) := dk_172 (dk_at dksX0_struckOf_2 5 rfl rfl)
abbrev cX0_strikes : ByteArray := prog_1_method_33_code
def yX0_strikes : MethodName := ⟨RX0, "strikes", "(LBarredBooks$Edition;III)I"⟩
def dkwX0_strikes_3 : List UInt8 := [167, 255, 207, 2, 172]
abbrev dktX0_strikes_3 : List UInt8 := dkwX0_strikes_3 ++ []
def dkwX0_strikes_2 : List UInt8 := [180, 0, 53, 21, 5, 50, 42, 180, 0, 60, 182, 1, 59, 153, 0, 6, 21, 5, 172, 132, 5, 1]
abbrev dktX0_strikes_2 : List UInt8 := dkwX0_strikes_2 ++ dktX0_strikes_3
def dkwX0_strikes_1 : List UInt8 := [180, 1, 18, 162, 0, 46, 42, 42, 180, 0, 53, 21, 5, 50, 29, 21, 4, 182, 1, 41, 153, 0, 23, 42]
abbrev dktX0_strikes_1 : List UInt8 := dkwX0_strikes_1 ++ dktX0_strikes_2
def dkwX0_strikes_0 : List UInt8 := [42, 180, 0, 60, 43, 181, 1, 52, 42, 180, 0, 60, 28, 181, 1, 56, 3, 54, 5, 21, 5, 42]
abbrev dktX0_strikes_0 : List UInt8 := dkwX0_strikes_0 ++ dktX0_strikes_1
theorem dksX0_strikes_0 : cX0_strikes.data.toList.drop 0 = dktX0_strikes_0 := by decide +kernel
theorem dksX0_strikes_1 : cX0_strikes.data.toList.drop 22 = dktX0_strikes_1 := dk_seg dksX0_strikes_0 22 rfl rfl
theorem dksX0_strikes_2 : cX0_strikes.data.toList.drop 46 = dktX0_strikes_2 := dk_seg dksX0_strikes_1 24 rfl rfl
theorem dksX0_strikes_3 : cX0_strikes.data.toList.drop 68 = dktX0_strikes_3 := dk_seg dksX0_strikes_2 22 rfl rfl
theorem dX0_strikes_0 : decode cX0_strikes 0 = .ok (.aload_n 0, 1) := dk_42 (dk_at dksX0_strikes_0 0 rfl rfl)
theorem dX0_strikes_1 : decode cX0_strikes 1 = .ok (.getfield 60, 3) := dk_180 0 60 (dk_at dksX0_strikes_0 1 rfl rfl)
theorem dX0_strikes_4 : decode cX0_strikes 4 = .ok (.aload_n 1, 1) := dk_43 (dk_at dksX0_strikes_0 4 rfl rfl)
theorem dX0_strikes_5 : decode cX0_strikes 5 = .ok (.putfield 308, 3) := dk_181 1 52 (dk_at dksX0_strikes_0 5 rfl rfl)
theorem dX0_strikes_8 : decode cX0_strikes 8 = .ok (.aload_n 0, 1) := dk_42 (dk_at dksX0_strikes_0 8 rfl rfl)
theorem dX0_strikes_9 : decode cX0_strikes 9 = .ok (.getfield 60, 3) := dk_180 0 60 (dk_at dksX0_strikes_0 9 rfl rfl)
theorem dX0_strikes_12 : decode cX0_strikes 12 = .ok (.iload_n 2, 1) := dk_28 (dk_at dksX0_strikes_0 12 rfl rfl)
theorem dX0_strikes_13 : decode cX0_strikes 13 = .ok (.putfield 312, 3) := dk_181 1 56 (dk_at dksX0_strikes_0 13 rfl rfl)
theorem dX0_strikes_16 : decode cX0_strikes 16 = .ok (.iconst 0, 1) := dk_3 (dk_at dksX0_strikes_0 16 rfl rfl)
theorem dX0_strikes_17 : decode cX0_strikes 17 = .ok (.istore 5, 2) := dk_54 5 (dk_at dksX0_strikes_0 17 rfl rfl)
theorem dX0_strikes_19 : decode cX0_strikes 19 = .ok (.iload 5, 2) := dk_21 5 (dk_at dksX0_strikes_0 19 rfl rfl)
theorem dX0_strikes_21 : decode cX0_strikes 21 = .ok (.aload_n 0, 1) := dk_42 (dk_at dksX0_strikes_0 21 rfl rfl)
theorem dX0_strikes_22 : decode cX0_strikes 22 = .ok (.getfield 274, 3) := dk_180 1 18 (dk_at dksX0_strikes_1 0 rfl rfl)
theorem dX0_strikes_25 : decode cX0_strikes 25 = .ok (.if_icmp .ge 46, 3) := dk_162 0 46 (dk_at dksX0_strikes_1 3 rfl rfl)
theorem dX0_strikes_28 : decode cX0_strikes 28 = .ok (.aload_n 0, 1) := dk_42 (dk_at dksX0_strikes_1 6 rfl rfl)
theorem dX0_strikes_29 : decode cX0_strikes 29 = .ok (.aload_n 0, 1) := dk_42 (dk_at dksX0_strikes_1 7 rfl rfl)
theorem dX0_strikes_30 : decode cX0_strikes 30 = .ok (.getfield 53, 3) := dk_180 0 53 (dk_at dksX0_strikes_1 8 rfl rfl)
theorem dX0_strikes_33 : decode cX0_strikes 33 = .ok (.iload 5, 2) := dk_21 5 (dk_at dksX0_strikes_1 11 rfl rfl)
theorem dX0_strikes_35 : decode cX0_strikes 35 = .ok (.aaload, 1) := dk_50 (dk_at dksX0_strikes_1 13 rfl rfl)
theorem dX0_strikes_36 : decode cX0_strikes 36 = .ok (.iload_n 3, 1) := dk_29 (dk_at dksX0_strikes_1 14 rfl rfl)
theorem dX0_strikes_37 : decode cX0_strikes 37 = .ok (.iload 4, 2) := dk_21 4 (dk_at dksX0_strikes_1 15 rfl rfl)
theorem dX0_strikes_39 : decode cX0_strikes 39 = .ok (.invokevirtual 297, 3) := dk_182 1 41 (dk_at dksX0_strikes_1 17 rfl rfl)
theorem dX0_strikes_42 : decode cX0_strikes 42 = .ok (.ifCond .eq 23, 3) := dk_153 0 23 (dk_at dksX0_strikes_1 20 rfl rfl)
theorem dX0_strikes_45 : decode cX0_strikes 45 = .ok (.aload_n 0, 1) := dk_42 (dk_at dksX0_strikes_1 23 rfl rfl)
theorem dX0_strikes_46 : decode cX0_strikes 46 = .ok (.getfield 53, 3) := dk_180 0 53 (dk_at dksX0_strikes_2 0 rfl rfl)
theorem dX0_strikes_49 : decode cX0_strikes 49 = .ok (.iload 5, 2) := dk_21 5 (dk_at dksX0_strikes_2 3 rfl rfl)
theorem dX0_strikes_51 : decode cX0_strikes 51 = .ok (.aaload, 1) := dk_50 (dk_at dksX0_strikes_2 5 rfl rfl)
theorem dX0_strikes_52 : decode cX0_strikes 52 = .ok (.aload_n 0, 1) := dk_42 (dk_at dksX0_strikes_2 6 rfl rfl)
theorem dX0_strikes_53 : decode cX0_strikes 53 = .ok (.getfield 60, 3) := dk_180 0 60 (dk_at dksX0_strikes_2 7 rfl rfl)
theorem dX0_strikes_56 : decode cX0_strikes 56 = .ok (.invokevirtual 315, 3) := dk_182 1 59 (dk_at dksX0_strikes_2 10 rfl rfl)
theorem dX0_strikes_59 : decode cX0_strikes 59 = .ok (.ifCond .eq 6, 3) := dk_153 0 6 (dk_at dksX0_strikes_2 13 rfl rfl)
theorem dX0_strikes_62 : decode cX0_strikes 62 = .ok (.iload 5, 2) := dk_21 5 (dk_at dksX0_strikes_2 16 rfl rfl)
theorem dX0_strikes_64 : decode cX0_strikes 64 = .ok (.ireturn, 1) := dk_172 (dk_at dksX0_strikes_2 18 rfl rfl)
theorem dX0_strikes_65 : decode cX0_strikes 65 = .ok (.iinc 5 1, 3) := dk_132 5 1 (dk_at dksX0_strikes_2 19 rfl rfl)
theorem dX0_strikes_68 : decode cX0_strikes 68 = .ok (.goto (-49), 3) := dk_167 255 207 (dk_at dksX0_strikes_3 0 rfl rfl)
theorem dX0_strikes_71 : decode cX0_strikes 71 = .ok (.iconst (-1), 1) := dk_2 (dk_at dksX0_strikes_3 3 rfl rfl)
theorem dX0_strikes_72 : decode cX0_strikes 72 = .ok (.ireturn, 1) := dk_172 (dk_at dksX0_strikes_3 4 rfl rfl)
abbrev cX0_why : ByteArray := prog_1_method_36_code
def yX0_why : MethodName := ⟨RX0, "why", "(IIII)I"⟩
def dkwX0_why_3 : List UInt8 := [172]
abbrev dktX0_why_3 : List UInt8 := dkwX0_why_3 ++ []
def dkwX0_why_2 : List UInt8 := [27, 50, 28, 29, 21, 4, 182, 1, 66, 54, 5, 21, 5, 2, 160, 0, 8, 16, 251, 167, 0, 5, 21, 5]
abbrev dktX0_why_2 : List UInt8 := dkwX0_why_2 ++ dktX0_why_3
def dkwX0_why_1 : List UInt8 := [184, 0, 137, 154, 0, 5, 2, 172, 21, 4, 184, 1, 38, 154, 0, 6, 16, 254, 172, 42, 42, 180, 0, 30]
abbrev dktX0_why_1 : List UInt8 := dkwX0_why_1 ++ dktX0_why_2
def dkwX0_why_0 : List UInt8 := [42, 27, 182, 0, 166, 153, 0, 23, 42, 180, 0, 30, 27, 50, 28, 182, 1, 63, 153, 0, 10, 29]
abbrev dktX0_why_0 : List UInt8 := dkwX0_why_0 ++ dktX0_why_1
theorem dksX0_why_0 : cX0_why.data.toList.drop 0 = dktX0_why_0 := by decide +kernel
theorem dksX0_why_1 : cX0_why.data.toList.drop 22 = dktX0_why_1 := dk_seg dksX0_why_0 22 rfl rfl
theorem dksX0_why_2 : cX0_why.data.toList.drop 46 = dktX0_why_2 := dk_seg dksX0_why_1 24 rfl rfl
theorem dksX0_why_3 : cX0_why.data.toList.drop 70 = dktX0_why_3 := dk_seg dksX0_why_2 24 rfl rfl
theorem dX0_why_0 : decode cX0_why 0 = .ok (.aload_n 0, 1) := dk_42 (dk_at dksX0_why_0 0 rfl rfl)
theorem dX0_why_1 : decode cX0_why 1 = .ok (.iload_n 1, 1) := dk_27 (dk_at dksX0_why_0 1 rfl rfl)
theorem dX0_why_2 : decode cX0_why 2 = .ok (.invokevirtual 166, 3) := dk_182 0 166 (dk_at dksX0_why_0 2 rfl rfl)
theorem dX0_why_5 : decode cX0_why 5 = .ok (.ifCond .eq 23, 3) := dk_153 0 23 (dk_at dksX0_why_0 5 rfl rfl)
theorem dX0_why_8 : decode cX0_why 8 = .ok (.aload_n 0, 1) := dk_42 (dk_at dksX0_why_0 8 rfl rfl)
theorem dX0_why_9 : decode cX0_why 9 = .ok (.getfield 30, 3) := dk_180 0 30 (dk_at dksX0_why_0 9 rfl rfl)
theorem dX0_why_12 : decode cX0_why 12 = .ok (.iload_n 1, 1) := dk_27 (dk_at dksX0_why_0 12 rfl rfl)
theorem dX0_why_13 : decode cX0_why 13 = .ok (.aaload, 1) := dk_50 (dk_at dksX0_why_0 13 rfl rfl)
theorem dX0_why_14 : decode cX0_why 14 = .ok (.iload_n 2, 1) := dk_28 (dk_at dksX0_why_0 14 rfl rfl)
theorem dX0_why_15 : decode cX0_why 15 = .ok (.invokevirtual 319, 3) := dk_182 1 63 (dk_at dksX0_why_0 15 rfl rfl)
theorem dX0_why_18 : decode cX0_why 18 = .ok (.ifCond .eq 10, 3) := dk_153 0 10 (dk_at dksX0_why_0 18 rfl rfl)
theorem dX0_why_21 : decode cX0_why 21 = .ok (.iload_n 3, 1) := dk_29 (dk_at dksX0_why_0 21 rfl rfl)
theorem dX0_why_22 : decode cX0_why 22 = .ok (.invokestatic 137, 3) := dk_184 0 137 (dk_at dksX0_why_1 0 rfl rfl)
theorem dX0_why_25 : decode cX0_why 25 = .ok (.ifCond .ne 5, 3) := dk_154 0 5 (dk_at dksX0_why_1 3 rfl rfl)
theorem dX0_why_28 : decode cX0_why 28 = .ok (.iconst (-1), 1) := dk_2 (dk_at dksX0_why_1 6 rfl rfl)
theorem dX0_why_29 : decode cX0_why 29 = .ok (.ireturn, 1) := dk_172 (dk_at dksX0_why_1 7 rfl rfl)
theorem dX0_why_30 : decode cX0_why 30 = .ok (.iload 4, 2) := dk_21 4 (dk_at dksX0_why_1 8 rfl rfl)
theorem dX0_why_32 : decode cX0_why 32 = .ok (.invokestatic 294, 3) := dk_184 1 38 (dk_at dksX0_why_1 10 rfl rfl)
theorem dX0_why_35 : decode cX0_why 35 = .ok (.ifCond .ne 6, 3) := dk_154 0 6 (dk_at dksX0_why_1 13 rfl rfl)
theorem dX0_why_38 : decode cX0_why 38 = .ok (.bipush (-2), 2) := dk_16 254 (dk_at dksX0_why_1 16 rfl rfl)
theorem dX0_why_40 : decode cX0_why 40 = .ok (.ireturn, 1) := dk_172 (dk_at dksX0_why_1 18 rfl rfl)
theorem dX0_why_41 : decode cX0_why 41 = .ok (.aload_n 0, 1) := dk_42 (dk_at dksX0_why_1 19 rfl rfl)
theorem dX0_why_42 : decode cX0_why 42 = .ok (.aload_n 0, 1) := dk_42 (dk_at dksX0_why_1 20 rfl rfl)
theorem dX0_why_43 : decode cX0_why 43 = .ok (.getfield 30, 3) := dk_180 0 30 (dk_at dksX0_why_1 21 rfl rfl)
theorem dX0_why_46 : decode cX0_why 46 = .ok (.iload_n 1, 1) := dk_27 (dk_at dksX0_why_2 0 rfl rfl)
theorem dX0_why_47 : decode cX0_why 47 = .ok (.aaload, 1) := dk_50 (dk_at dksX0_why_2 1 rfl rfl)
theorem dX0_why_48 : decode cX0_why 48 = .ok (.iload_n 2, 1) := dk_28 (dk_at dksX0_why_2 2 rfl rfl)
theorem dX0_why_49 : decode cX0_why 49 = .ok (.iload_n 3, 1) := dk_29 (dk_at dksX0_why_2 3 rfl rfl)
theorem dX0_why_50 : decode cX0_why 50 = .ok (.iload 4, 2) := dk_21 4 (dk_at dksX0_why_2 4 rfl rfl)
theorem dX0_why_52 : decode cX0_why 52 = .ok (.invokevirtual 322, 3) := dk_182 1 66 (dk_at dksX0_why_2 6 rfl rfl)
theorem dX0_why_55 : decode cX0_why 55 = .ok (.istore 5, 2) := dk_54 5 (dk_at dksX0_why_2 9 rfl rfl)
theorem dX0_why_57 : decode cX0_why 57 = .ok (.iload 5, 2) := dk_21 5 (dk_at dksX0_why_2 11 rfl rfl)
theorem dX0_why_59 : decode cX0_why 59 = .ok (.iconst (-1), 1) := dk_2 (dk_at dksX0_why_2 13 rfl rfl)
theorem dX0_why_60 : decode cX0_why 60 = .ok (.if_icmp .ne 8, 3) := dk_160 0 8 (dk_at dksX0_why_2 14 rfl rfl)
theorem dX0_why_63 : decode cX0_why 63 = .ok (.bipush (-5), 2) := dk_16 251 (dk_at dksX0_why_2 17 rfl rfl)
theorem dX0_why_65 : decode cX0_why 65 = .ok (.goto 5, 3) := dk_167 0 5 (dk_at dksX0_why_2 19 rfl rfl)
theorem dX0_why_68 : decode cX0_why 68 = .ok (.iload 5, 2) := dk_21 5 (dk_at dksX0_why_2 22 rfl rfl)
theorem dX0_why_70 : decode cX0_why 70 = .ok (.ireturn, 1) := dk_172 (dk_at dksX0_why_3 0 rfl rfl)
abbrev cX0_leave : ByteArray := prog_1_method_38_code
def yX0_leave : MethodName := ⟨RX0, "leave", "(IIII)I"⟩
def dkwX0_leave_4 : List UInt8 := [89, 180, 1, 79, 90, 4, 96, 181, 1, 79, 172]
abbrev dktX0_leave_4 : List UInt8 := dkwX0_leave_4 ++ []
def dkwX0_leave_3 : List UInt8 := [28, 79, 42, 180, 0, 77, 42, 180, 1, 79, 29, 79, 42, 180, 0, 80, 42, 180, 1, 79, 21, 4, 79, 42]
abbrev dktX0_leave_3 : List UInt8 := dkwX0_leave_3 ++ dktX0_leave_4
def dkwX0_leave_2 : List UInt8 := [160, 0, 6, 16, 252, 172, 42, 180, 0, 70, 42, 180, 1, 79, 27, 79, 42, 180, 0, 74, 42, 180, 1, 79]
abbrev dktX0_leave_2 : List UInt8 := dkwX0_leave_2 ++ dktX0_leave_3
def dkwX0_leave_1 : List UInt8 := [153, 0, 15, 21, 4, 29, 17, 39, 15, 184, 0, 123, 154, 0, 6, 16, 254, 172, 42, 180, 1, 79, 16, 30]
abbrev dktX0_leave_1 : List UInt8 := dkwX0_leave_1 ++ dktX0_leave_2
def dkwX0_leave_0 : List UInt8 := [42, 27, 182, 1, 76, 153, 0, 11, 42, 28, 182, 0, 156, 154, 0, 5, 2, 172, 29, 184, 1, 38]
abbrev dktX0_leave_0 : List UInt8 := dkwX0_leave_0 ++ dktX0_leave_1
theorem dksX0_leave_0 : cX0_leave.data.toList.drop 0 = dktX0_leave_0 := by decide +kernel
theorem dksX0_leave_1 : cX0_leave.data.toList.drop 22 = dktX0_leave_1 := dk_seg dksX0_leave_0 22 rfl rfl
theorem dksX0_leave_2 : cX0_leave.data.toList.drop 46 = dktX0_leave_2 := dk_seg dksX0_leave_1 24 rfl rfl
theorem dksX0_leave_3 : cX0_leave.data.toList.drop 70 = dktX0_leave_3 := dk_seg dksX0_leave_2 24 rfl rfl
theorem dksX0_leave_4 : cX0_leave.data.toList.drop 94 = dktX0_leave_4 := dk_seg dksX0_leave_3 24 rfl rfl
theorem dX0_leave_0 : decode cX0_leave 0 = .ok (.aload_n 0, 1) := dk_42 (dk_at dksX0_leave_0 0 rfl rfl)
theorem dX0_leave_1 : decode cX0_leave 1 = .ok (.iload_n 1, 1) := dk_27 (dk_at dksX0_leave_0 1 rfl rfl)
theorem dX0_leave_2 : decode cX0_leave 2 = .ok (.invokevirtual 332, 3) := dk_182 1 76 (dk_at dksX0_leave_0 2 rfl rfl)
theorem dX0_leave_5 : decode cX0_leave 5 = .ok (.ifCond .eq 11, 3) := dk_153 0 11 (dk_at dksX0_leave_0 5 rfl rfl)
theorem dX0_leave_8 : decode cX0_leave 8 = .ok (.aload_n 0, 1) := dk_42 (dk_at dksX0_leave_0 8 rfl rfl)
theorem dX0_leave_9 : decode cX0_leave 9 = .ok (.iload_n 2, 1) := dk_28 (dk_at dksX0_leave_0 9 rfl rfl)
theorem dX0_leave_10 : decode cX0_leave 10 = .ok (.invokevirtual 156, 3) := dk_182 0 156 (dk_at dksX0_leave_0 10 rfl rfl)
theorem dX0_leave_13 : decode cX0_leave 13 = .ok (.ifCond .ne 5, 3) := dk_154 0 5 (dk_at dksX0_leave_0 13 rfl rfl)
theorem dX0_leave_16 : decode cX0_leave 16 = .ok (.iconst (-1), 1) := dk_2 (dk_at dksX0_leave_0 16 rfl rfl)
theorem dX0_leave_17 : decode cX0_leave 17 = .ok (.ireturn, 1) := dk_172 (dk_at dksX0_leave_0 17 rfl rfl)
theorem dX0_leave_18 : decode cX0_leave 18 = .ok (.iload_n 3, 1) := dk_29 (dk_at dksX0_leave_0 18 rfl rfl)
theorem dX0_leave_19 : decode cX0_leave 19 = .ok (.invokestatic 294, 3) := dk_184 1 38 (dk_at dksX0_leave_0 19 rfl rfl)
theorem dX0_leave_22 : decode cX0_leave 22 = .ok (.ifCond .eq 15, 3) := dk_153 0 15 (dk_at dksX0_leave_1 0 rfl rfl)
theorem dX0_leave_25 : decode cX0_leave 25 = .ok (.iload 4, 2) := dk_21 4 (dk_at dksX0_leave_1 3 rfl rfl)
theorem dX0_leave_27 : decode cX0_leave 27 = .ok (.iload_n 3, 1) := dk_29 (dk_at dksX0_leave_1 5 rfl rfl)
theorem dX0_leave_28 : decode cX0_leave 28 = .ok (.sipush 9999, 3) := dk_17 39 15 (dk_at dksX0_leave_1 6 rfl rfl)
theorem dX0_leave_31 : decode cX0_leave 31 = .ok (.invokestatic 123, 3) := dk_184 0 123 (dk_at dksX0_leave_1 9 rfl rfl)
theorem dX0_leave_34 : decode cX0_leave 34 = .ok (.ifCond .ne 6, 3) := dk_154 0 6 (dk_at dksX0_leave_1 12 rfl rfl)
theorem dX0_leave_37 : decode cX0_leave 37 = .ok (.bipush (-2), 2) := dk_16 254 (dk_at dksX0_leave_1 15 rfl rfl)
theorem dX0_leave_39 : decode cX0_leave 39 = .ok (.ireturn, 1) := dk_172 (dk_at dksX0_leave_1 17 rfl rfl)
theorem dX0_leave_40 : decode cX0_leave 40 = .ok (.aload_n 0, 1) := dk_42 (dk_at dksX0_leave_1 18 rfl rfl)
theorem dX0_leave_41 : decode cX0_leave 41 = .ok (.getfield 335, 3) := dk_180 1 79 (dk_at dksX0_leave_1 19 rfl rfl)
theorem dX0_leave_44 : decode cX0_leave 44 = .ok (.bipush 30, 2) := dk_16 30 (dk_at dksX0_leave_1 22 rfl rfl)
theorem dX0_leave_46 : decode cX0_leave 46 = .ok (.if_icmp .ne 6, 3) := dk_160 0 6 (dk_at dksX0_leave_2 0 rfl rfl)
theorem dX0_leave_49 : decode cX0_leave 49 = .ok (.bipush (-4), 2) := dk_16 252 (dk_at dksX0_leave_2 3 rfl rfl)
theorem dX0_leave_51 : decode cX0_leave 51 = .ok (.ireturn, 1) := dk_172 (dk_at dksX0_leave_2 5 rfl rfl)
theorem dX0_leave_52 : decode cX0_leave 52 = .ok (.aload_n 0, 1) := dk_42 (dk_at dksX0_leave_2 6 rfl rfl)
theorem dX0_leave_53 : decode cX0_leave 53 = .ok (.getfield 70, 3) := dk_180 0 70 (dk_at dksX0_leave_2 7 rfl rfl)
theorem dX0_leave_56 : decode cX0_leave 56 = .ok (.aload_n 0, 1) := dk_42 (dk_at dksX0_leave_2 10 rfl rfl)
theorem dX0_leave_57 : decode cX0_leave 57 = .ok (.getfield 335, 3) := dk_180 1 79 (dk_at dksX0_leave_2 11 rfl rfl)
theorem dX0_leave_60 : decode cX0_leave 60 = .ok (.iload_n 1, 1) := dk_27 (dk_at dksX0_leave_2 14 rfl rfl)
theorem dX0_leave_61 : decode cX0_leave 61 = .ok (.iastore, 1) := dk_79 (dk_at dksX0_leave_2 15 rfl rfl)
theorem dX0_leave_62 : decode cX0_leave 62 = .ok (.aload_n 0, 1) := dk_42 (dk_at dksX0_leave_2 16 rfl rfl)
theorem dX0_leave_63 : decode cX0_leave 63 = .ok (.getfield 74, 3) := dk_180 0 74 (dk_at dksX0_leave_2 17 rfl rfl)
theorem dX0_leave_66 : decode cX0_leave 66 = .ok (.aload_n 0, 1) := dk_42 (dk_at dksX0_leave_2 20 rfl rfl)
theorem dX0_leave_67 : decode cX0_leave 67 = .ok (.getfield 335, 3) := dk_180 1 79 (dk_at dksX0_leave_2 21 rfl rfl)
theorem dX0_leave_70 : decode cX0_leave 70 = .ok (.iload_n 2, 1) := dk_28 (dk_at dksX0_leave_3 0 rfl rfl)
theorem dX0_leave_71 : decode cX0_leave 71 = .ok (.iastore, 1) := dk_79 (dk_at dksX0_leave_3 1 rfl rfl)
theorem dX0_leave_72 : decode cX0_leave 72 = .ok (.aload_n 0, 1) := dk_42 (dk_at dksX0_leave_3 2 rfl rfl)
theorem dX0_leave_73 : decode cX0_leave 73 = .ok (.getfield 77, 3) := dk_180 0 77 (dk_at dksX0_leave_3 3 rfl rfl)
theorem dX0_leave_76 : decode cX0_leave 76 = .ok (.aload_n 0, 1) := dk_42 (dk_at dksX0_leave_3 6 rfl rfl)
theorem dX0_leave_77 : decode cX0_leave 77 = .ok (.getfield 335, 3) := dk_180 1 79 (dk_at dksX0_leave_3 7 rfl rfl)
theorem dX0_leave_80 : decode cX0_leave 80 = .ok (.iload_n 3, 1) := dk_29 (dk_at dksX0_leave_3 10 rfl rfl)
theorem dX0_leave_81 : decode cX0_leave 81 = .ok (.iastore, 1) := dk_79 (dk_at dksX0_leave_3 11 rfl rfl)
theorem dX0_leave_82 : decode cX0_leave 82 = .ok (.aload_n 0, 1) := dk_42 (dk_at dksX0_leave_3 12 rfl rfl)
theorem dX0_leave_83 : decode cX0_leave 83 = .ok (.getfield 80, 3) := dk_180 0 80 (dk_at dksX0_leave_3 13 rfl rfl)
theorem dX0_leave_86 : decode cX0_leave 86 = .ok (.aload_n 0, 1) := dk_42 (dk_at dksX0_leave_3 16 rfl rfl)
theorem dX0_leave_87 : decode cX0_leave 87 = .ok (.getfield 335, 3) := dk_180 1 79 (dk_at dksX0_leave_3 17 rfl rfl)
theorem dX0_leave_90 : decode cX0_leave 90 = .ok (.iload 4, 2) := dk_21 4 (dk_at dksX0_leave_3 20 rfl rfl)
theorem dX0_leave_92 : decode cX0_leave 92 = .ok (.iastore, 1) := dk_79 (dk_at dksX0_leave_3 22 rfl rfl)
theorem dX0_leave_93 : decode cX0_leave 93 = .ok (.aload_n 0, 1) := dk_42 (dk_at dksX0_leave_3 23 rfl rfl)
theorem dX0_leave_94 : decode cX0_leave 94 = .ok (.dup, 1) := dk_89 (dk_at dksX0_leave_4 0 rfl rfl)
theorem dX0_leave_95 : decode cX0_leave 95 = .ok (.getfield 335, 3) := dk_180 1 79 (dk_at dksX0_leave_4 1 rfl rfl)
theorem dX0_leave_98 : decode cX0_leave 98 = .ok (.dup_x1, 1) := dk_90 (dk_at dksX0_leave_4 4 rfl rfl)
theorem dX0_leave_99 : decode cX0_leave 99 = .ok (.iconst 1, 1) := dk_4 (dk_at dksX0_leave_4 5 rfl rfl)
theorem dX0_leave_100 : decode cX0_leave 100 = .ok (.iadd, 1) := dk_96 (dk_at dksX0_leave_4 6 rfl rfl)
theorem dX0_leave_101 : decode cX0_leave 101 = .ok (.putfield 335, 3) := dk_181 1 79 (dk_at dksX0_leave_4 7 rfl rfl)
theorem dX0_leave_104 : decode cX0_leave 104 = .ok (.ireturn, 1) := dk_172 (dk_at dksX0_leave_4 10 rfl rfl)
abbrev cX0_isPerson : ByteArray := prog_1_method_37_code
def yX0_isPerson : MethodName := ⟨RX0, "isPerson", "(I)Z"⟩
def dkwX0_isPerson_0 : List UInt8 := [27, 3, 42, 180, 0, 147, 4, 100, 184, 0, 123, 172]
abbrev dktX0_isPerson_0 : List UInt8 := dkwX0_isPerson_0 ++ []
theorem dksX0_isPerson_0 : cX0_isPerson.data.toList.drop 0 = dktX0_isPerson_0 := by decide +kernel
theorem dX0_isPerson_0 : decode cX0_isPerson 0 = .ok (.iload_n 1, 1) := dk_27 (dk_at dksX0_isPerson_0 0 rfl rfl)
theorem dX0_isPerson_1 : decode cX0_isPerson 1 = .ok (.iconst 0, 1) := dk_3 (dk_at dksX0_isPerson_0 1 rfl rfl)
theorem dX0_isPerson_2 : decode cX0_isPerson 2 = .ok (.aload_n 0, 1) := dk_42 (dk_at dksX0_isPerson_0 2 rfl rfl)
theorem dX0_isPerson_3 : decode cX0_isPerson 3 = .ok (.getfield 147, 3) := dk_180 0 147 (dk_at dksX0_isPerson_0 3 rfl rfl)
theorem dX0_isPerson_6 : decode cX0_isPerson 6 = .ok (.iconst 1, 1) := dk_4 (dk_at dksX0_isPerson_0 6 rfl rfl)
theorem dX0_isPerson_7 : decode cX0_isPerson 7 = .ok (.isub, 1) := dk_100 (dk_at dksX0_isPerson_0 7 rfl rfl)
theorem dX0_isPerson_8 : decode cX0_isPerson 8 = .ok (.invokestatic 123, 3) := dk_184 0 123 (dk_at dksX0_isPerson_0 8 rfl rfl)
theorem dX0_isPerson_11 : decode cX0_isPerson 11 = .ok (.ireturn, 1) := dk_172 (dk_at dksX0_isPerson_0 11 rfl rfl)
abbrev cX0_reads : ByteArray := prog_1_method_40_code
def yX0_reads : MethodName := ⟨RX0, "reads", "(III)I"⟩
def dkwX0_reads_7 : List UInt8 := [29, 182, 1, 102, 153, 0, 5, 6, 172, 132, 6, 1, 167, 255, 217, 3, 172]
abbrev dktX0_reads_7 : List UInt8 := dkwX0_reads_7 ++ []
def dkwX0_reads_6 : List UInt8 := [180, 1, 18, 162, 0, 36, 42, 42, 180, 0, 53, 21, 6, 50, 25, 4, 180, 1, 99, 25, 4, 180, 1, 98]
abbrev dktX0_reads_6 : List UInt8 := dkwX0_reads_6 ++ dktX0_reads_7
def dkwX0_reads_5 : List UInt8 := [21, 6, 46, 184, 0, 123, 153, 0, 5, 5, 172, 132, 6, 1, 167, 255, 192, 3, 54, 6, 21, 6, 42]
abbrev dktX0_reads_5 : List UInt8 := dkwX0_reads_5 ++ dktX0_reads_6
def dkwX0_reads_4 : List UInt8 := [25, 5, 180, 0, 169, 180, 0, 176, 160, 0, 26, 29, 42, 180, 0, 77, 21, 6, 46, 42, 180, 0, 80]
abbrev dktX0_reads_4 : List UInt8 := dkwX0_reads_4 ++ dktX0_reads_5
def dkwX0_reads_3 : List UInt8 := [180, 1, 79, 162, 0, 61, 42, 180, 0, 70, 21, 6, 46, 27, 160, 0, 44, 42, 180, 0, 74, 21, 6, 46]
abbrev dktX0_reads_3 : List UInt8 := dkwX0_reads_3 ++ dktX0_reads_4
def dkwX0_reads_2 : List UInt8 := [25, 5, 25, 4, 180, 1, 98, 29, 182, 1, 69, 154, 0, 5, 4, 172, 3, 54, 6, 21, 6, 42]
abbrev dktX0_reads_2 : List UInt8 := dkwX0_reads_2 ++ dktX0_reads_3
def dkwX0_reads_1 : List UInt8 := [154, 0, 6, 16, 254, 172, 42, 180, 0, 18, 27, 50, 58, 4, 42, 180, 0, 30, 28, 50, 58, 5, 42]
abbrev dktX0_reads_1 : List UInt8 := dkwX0_reads_1 ++ dktX0_reads_2
def dkwX0_reads_0 : List UInt8 := [42, 27, 182, 1, 76, 153, 0, 11, 42, 28, 182, 0, 166, 154, 0, 5, 2, 172, 29, 184, 1, 38]
abbrev dktX0_reads_0 : List UInt8 := dkwX0_reads_0 ++ dktX0_reads_1
theorem dksX0_reads_0 : cX0_reads.data.toList.drop 0 = dktX0_reads_0 := by decide +kernel
theorem dksX0_reads_1 : cX0_reads.data.toList.drop 22 = dktX0_reads_1 := dk_seg dksX0_reads_0 22 rfl rfl
theorem dksX0_reads_2 : cX0_reads.data.toList.drop 45 = dktX0_reads_2 := dk_seg dksX0_reads_1 23 rfl rfl
theorem dksX0_reads_3 : cX0_reads.data.toList.drop 67 = dktX0_reads_3 := dk_seg dksX0_reads_2 22 rfl rfl
theorem dksX0_reads_4 : cX0_reads.data.toList.drop 91 = dktX0_reads_4 := dk_seg dksX0_reads_3 24 rfl rfl
theorem dksX0_reads_5 : cX0_reads.data.toList.drop 114 = dktX0_reads_5 := dk_seg dksX0_reads_4 23 rfl rfl
theorem dksX0_reads_6 : cX0_reads.data.toList.drop 137 = dktX0_reads_6 := dk_seg dksX0_reads_5 23 rfl rfl
theorem dksX0_reads_7 : cX0_reads.data.toList.drop 161 = dktX0_reads_7 := dk_seg dksX0_reads_6 24 rfl rfl
theorem dX0_reads_0 : decode cX0_reads 0 = .ok (.aload_n 0, 1) := dk_42 (dk_at dksX0_reads_0 0 rfl rfl)
theorem dX0_reads_1 : decode cX0_reads 1 = .ok (.iload_n 1, 1) := dk_27 (dk_at dksX0_reads_0 1 rfl rfl)
theorem dX0_reads_2 : decode cX0_reads 2 = .ok (.invokevirtual 332, 3) := dk_182 1 76 (dk_at dksX0_reads_0 2 rfl rfl)
theorem dX0_reads_5 : decode cX0_reads 5 = .ok (.ifCond .eq 11, 3) := dk_153 0 11 (dk_at dksX0_reads_0 5 rfl rfl)
theorem dX0_reads_8 : decode cX0_reads 8 = .ok (.aload_n 0, 1) := dk_42 (dk_at dksX0_reads_0 8 rfl rfl)
theorem dX0_reads_9 : decode cX0_reads 9 = .ok (.iload_n 2, 1) := dk_28 (dk_at dksX0_reads_0 9 rfl rfl)
theorem dX0_reads_10 : decode cX0_reads 10 = .ok (.invokevirtual 166, 3) := dk_182 0 166 (dk_at dksX0_reads_0 10 rfl rfl)
theorem dX0_reads_13 : decode cX0_reads 13 = .ok (.ifCond .ne 5, 3) := dk_154 0 5 (dk_at dksX0_reads_0 13 rfl rfl)
theorem dX0_reads_16 : decode cX0_reads 16 = .ok (.iconst (-1), 1) := dk_2 (dk_at dksX0_reads_0 16 rfl rfl)
theorem dX0_reads_17 : decode cX0_reads 17 = .ok (.ireturn, 1) := dk_172 (dk_at dksX0_reads_0 17 rfl rfl)
theorem dX0_reads_18 : decode cX0_reads 18 = .ok (.iload_n 3, 1) := dk_29 (dk_at dksX0_reads_0 18 rfl rfl)
theorem dX0_reads_19 : decode cX0_reads 19 = .ok (.invokestatic 294, 3) := dk_184 1 38 (dk_at dksX0_reads_0 19 rfl rfl)
theorem dX0_reads_22 : decode cX0_reads 22 = .ok (.ifCond .ne 6, 3) := dk_154 0 6 (dk_at dksX0_reads_1 0 rfl rfl)
theorem dX0_reads_25 : decode cX0_reads 25 = .ok (.bipush (-2), 2) := dk_16 254 (dk_at dksX0_reads_1 3 rfl rfl)
theorem dX0_reads_27 : decode cX0_reads 27 = .ok (.ireturn, 1) := dk_172 (dk_at dksX0_reads_1 5 rfl rfl)
theorem dX0_reads_28 : decode cX0_reads 28 = .ok (.aload_n 0, 1) := dk_42 (dk_at dksX0_reads_1 6 rfl rfl)
theorem dX0_reads_29 : decode cX0_reads 29 = .ok (.getfield 18, 3) := dk_180 0 18 (dk_at dksX0_reads_1 7 rfl rfl)
theorem dX0_reads_32 : decode cX0_reads 32 = .ok (.iload_n 1, 1) := dk_27 (dk_at dksX0_reads_1 10 rfl rfl)
theorem dX0_reads_33 : decode cX0_reads 33 = .ok (.aaload, 1) := dk_50 (dk_at dksX0_reads_1 11 rfl rfl)
theorem dX0_reads_34 : decode cX0_reads 34 = .ok (.astore 4, 2) := dk_58 4 (dk_at dksX0_reads_1 12 rfl rfl)
theorem dX0_reads_36 : decode cX0_reads 36 = .ok (.aload_n 0, 1) := dk_42 (dk_at dksX0_reads_1 14 rfl rfl)
theorem dX0_reads_37 : decode cX0_reads 37 = .ok (.getfield 30, 3) := dk_180 0 30 (dk_at dksX0_reads_1 15 rfl rfl)
theorem dX0_reads_40 : decode cX0_reads 40 = .ok (.iload_n 2, 1) := dk_28 (dk_at dksX0_reads_1 18 rfl rfl)
theorem dX0_reads_41 : decode cX0_reads 41 = .ok (.aaload, 1) := dk_50 (dk_at dksX0_reads_1 19 rfl rfl)
theorem dX0_reads_42 : decode cX0_reads 42 = .ok (.astore 5, 2) := dk_58 5 (dk_at dksX0_reads_1 20 rfl rfl)
theorem dX0_reads_44 : decode cX0_reads 44 = .ok (.aload_n 0, 1) := dk_42 (dk_at dksX0_reads_1 22 rfl rfl)
theorem dX0_reads_45 : decode cX0_reads 45 = .ok (.aload 5, 2) := dk_25 5 (dk_at dksX0_reads_2 0 rfl rfl)
theorem dX0_reads_47 : decode cX0_reads 47 = .ok (.aload 4, 2) := dk_25 4 (dk_at dksX0_reads_2 2 rfl rfl)
theorem dX0_reads_49 : decode cX0_reads 49 = .ok (.getfield 354, 3) := dk_180 1 98 (dk_at dksX0_reads_2 4 rfl rfl)
theorem dX0_reads_52 : decode cX0_reads 52 = .ok (.iload_n 3, 1) := dk_29 (dk_at dksX0_reads_2 7 rfl rfl)
theorem dX0_reads_53 : decode cX0_reads 53 = .ok (.invokevirtual 325, 3) := dk_182 1 69 (dk_at dksX0_reads_2 8 rfl rfl)
theorem dX0_reads_56 : decode cX0_reads 56 = .ok (.ifCond .ne 5, 3) := dk_154 0 5 (dk_at dksX0_reads_2 11 rfl rfl)
theorem dX0_reads_59 : decode cX0_reads 59 = .ok (.iconst 1, 1) := dk_4 (dk_at dksX0_reads_2 14 rfl rfl)
theorem dX0_reads_60 : decode cX0_reads 60 = .ok (.ireturn, 1) := dk_172 (dk_at dksX0_reads_2 15 rfl rfl)
theorem dX0_reads_61 : decode cX0_reads 61 = .ok (.iconst 0, 1) := dk_3 (dk_at dksX0_reads_2 16 rfl rfl)
theorem dX0_reads_62 : decode cX0_reads 62 = .ok (.istore 6, 2) := dk_54 6 (dk_at dksX0_reads_2 17 rfl rfl)
theorem dX0_reads_64 : decode cX0_reads 64 = .ok (.iload 6, 2) := dk_21 6 (dk_at dksX0_reads_2 19 rfl rfl)
theorem dX0_reads_66 : decode cX0_reads 66 = .ok (.aload_n 0, 1) := dk_42 (dk_at dksX0_reads_2 21 rfl rfl)
theorem dX0_reads_67 : decode cX0_reads 67 = .ok (.getfield 335, 3) := dk_180 1 79 (dk_at dksX0_reads_3 0 rfl rfl)
theorem dX0_reads_70 : decode cX0_reads 70 = .ok (.if_icmp .ge 61, 3) := dk_162 0 61 (dk_at dksX0_reads_3 3 rfl rfl)
theorem dX0_reads_73 : decode cX0_reads 73 = .ok (.aload_n 0, 1) := dk_42 (dk_at dksX0_reads_3 6 rfl rfl)
theorem dX0_reads_74 : decode cX0_reads 74 = .ok (.getfield 70, 3) := dk_180 0 70 (dk_at dksX0_reads_3 7 rfl rfl)
theorem dX0_reads_77 : decode cX0_reads 77 = .ok (.iload 6, 2) := dk_21 6 (dk_at dksX0_reads_3 10 rfl rfl)
theorem dX0_reads_79 : decode cX0_reads 79 = .ok (.iaload, 1) := dk_46 (dk_at dksX0_reads_3 12 rfl rfl)
theorem dX0_reads_80 : decode cX0_reads 80 = .ok (.iload_n 1, 1) := dk_27 (dk_at dksX0_reads_3 13 rfl rfl)
theorem dX0_reads_81 : decode cX0_reads 81 = .ok (.if_icmp .ne 44, 3) := dk_160 0 44 (dk_at dksX0_reads_3 14 rfl rfl)
theorem dX0_reads_84 : decode cX0_reads 84 = .ok (.aload_n 0, 1) := dk_42 (dk_at dksX0_reads_3 17 rfl rfl)
theorem dX0_reads_85 : decode cX0_reads 85 = .ok (.getfield 74, 3) := dk_180 0 74 (dk_at dksX0_reads_3 18 rfl rfl)
theorem dX0_reads_88 : decode cX0_reads 88 = .ok (.iload 6, 2) := dk_21 6 (dk_at dksX0_reads_3 21 rfl rfl)
theorem dX0_reads_90 : decode cX0_reads 90 = .ok (.iaload, 1) := dk_46 (dk_at dksX0_reads_3 23 rfl rfl)
theorem dX0_reads_91 : decode cX0_reads 91 = .ok (.aload 5, 2) := dk_25 5 (dk_at dksX0_reads_4 0 rfl rfl)
theorem dX0_reads_93 : decode cX0_reads 93 = .ok (.getfield 169, 3) := dk_180 0 169 (dk_at dksX0_reads_4 2 rfl rfl)
theorem dX0_reads_96 : decode cX0_reads 96 = .ok (.getfield 176, 3) := dk_180 0 176 (dk_at dksX0_reads_4 5 rfl rfl)
theorem dX0_reads_99 : decode cX0_reads 99 = .ok (.if_icmp .ne 26, 3) := dk_160 0 26 (dk_at dksX0_reads_4 8 rfl rfl)
theorem dX0_reads_102 : decode cX0_reads 102 = .ok (.iload_n 3, 1) := dk_29 (dk_at dksX0_reads_4 11 rfl rfl)
theorem dX0_reads_103 : decode cX0_reads 103 = .ok (.aload_n 0, 1) := dk_42 (dk_at dksX0_reads_4 12 rfl rfl)
theorem dX0_reads_104 : decode cX0_reads 104 = .ok (.getfield 77, 3) := dk_180 0 77 (dk_at dksX0_reads_4 13 rfl rfl)
theorem dX0_reads_107 : decode cX0_reads 107 = .ok (.iload 6, 2) := dk_21 6 (dk_at dksX0_reads_4 16 rfl rfl)
theorem dX0_reads_109 : decode cX0_reads 109 = .ok (.iaload, 1) := dk_46 (dk_at dksX0_reads_4 18 rfl rfl)
theorem dX0_reads_110 : decode cX0_reads 110 = .ok (.aload_n 0, 1) := dk_42 (dk_at dksX0_reads_4 19 rfl rfl)
theorem dX0_reads_111 : decode cX0_reads 111 = .ok (.getfield 80, 3) := dk_180 0 80 (dk_at dksX0_reads_4 20 rfl rfl)
theorem dX0_reads_114 : decode cX0_reads 114 = .ok (.iload 6, 2) := dk_21 6 (dk_at dksX0_reads_5 0 rfl rfl)
theorem dX0_reads_116 : decode cX0_reads 116 = .ok (.iaload, 1) := dk_46 (dk_at dksX0_reads_5 2 rfl rfl)
theorem dX0_reads_117 : decode cX0_reads 117 = .ok (.invokestatic 123, 3) := dk_184 0 123 (dk_at dksX0_reads_5 3 rfl rfl)
theorem dX0_reads_120 : decode cX0_reads 120 = .ok (.ifCond .eq 5, 3) := dk_153 0 5 (dk_at dksX0_reads_5 6 rfl rfl)
theorem dX0_reads_123 : decode cX0_reads 123 = .ok (.iconst 2, 1) := dk_5 (dk_at dksX0_reads_5 9 rfl rfl)
theorem dX0_reads_124 : decode cX0_reads 124 = .ok (.ireturn, 1) := dk_172 (dk_at dksX0_reads_5 10 rfl rfl)
theorem dX0_reads_125 : decode cX0_reads 125 = .ok (.iinc 6 1, 3) := dk_132 6 1 (dk_at dksX0_reads_5 11 rfl rfl)
theorem dX0_reads_128 : decode cX0_reads 128 = .ok (.goto (-64), 3) := dk_167 255 192 (dk_at dksX0_reads_5 14 rfl rfl)
theorem dX0_reads_131 : decode cX0_reads 131 = .ok (.iconst 0, 1) := dk_3 (dk_at dksX0_reads_5 17 rfl rfl)
theorem dX0_reads_132 : decode cX0_reads 132 = .ok (.istore 6, 2) := dk_54 6 (dk_at dksX0_reads_5 18 rfl rfl)
theorem dX0_reads_134 : decode cX0_reads 134 = .ok (.iload 6, 2) := dk_21 6 (dk_at dksX0_reads_5 20 rfl rfl)
theorem dX0_reads_136 : decode cX0_reads 136 = .ok (.aload_n 0, 1) := dk_42 (dk_at dksX0_reads_5 22 rfl rfl)
theorem dX0_reads_137 : decode cX0_reads 137 = .ok (.getfield 274, 3) := dk_180 1 18 (dk_at dksX0_reads_6 0 rfl rfl)
theorem dX0_reads_140 : decode cX0_reads 140 = .ok (.if_icmp .ge 36, 3) := dk_162 0 36 (dk_at dksX0_reads_6 3 rfl rfl)
theorem dX0_reads_143 : decode cX0_reads 143 = .ok (.aload_n 0, 1) := dk_42 (dk_at dksX0_reads_6 6 rfl rfl)
theorem dX0_reads_144 : decode cX0_reads 144 = .ok (.aload_n 0, 1) := dk_42 (dk_at dksX0_reads_6 7 rfl rfl)
theorem dX0_reads_145 : decode cX0_reads 145 = .ok (.getfield 53, 3) := dk_180 0 53 (dk_at dksX0_reads_6 8 rfl rfl)
theorem dX0_reads_148 : decode cX0_reads 148 = .ok (.iload 6, 2) := dk_21 6 (dk_at dksX0_reads_6 11 rfl rfl)
theorem dX0_reads_150 : decode cX0_reads 150 = .ok (.aaload, 1) := dk_50 (dk_at dksX0_reads_6 13 rfl rfl)
theorem dX0_reads_151 : decode cX0_reads 151 = .ok (.aload 4, 2) := dk_25 4 (dk_at dksX0_reads_6 14 rfl rfl)
theorem dX0_reads_153 : decode cX0_reads 153 = .ok (.getfield 355, 3) := dk_180 1 99 (dk_at dksX0_reads_6 16 rfl rfl)
theorem dX0_reads_156 : decode cX0_reads 156 = .ok (.aload 4, 2) := dk_25 4 (dk_at dksX0_reads_6 19 rfl rfl)
theorem dX0_reads_158 : decode cX0_reads 158 = .ok (.getfield 354, 3) := dk_180 1 98 (dk_at dksX0_reads_6 21 rfl rfl)
theorem dX0_reads_161 : decode cX0_reads 161 = .ok (.iload_n 3, 1) := dk_29 (dk_at dksX0_reads_7 0 rfl rfl)
theorem dX0_reads_162 : decode cX0_reads 162 = .ok (.invokevirtual 358, 3) := dk_182 1 102 (dk_at dksX0_reads_7 1 rfl rfl)
theorem dX0_reads_165 : decode cX0_reads 165 = .ok (.ifCond .eq 5, 3) := dk_153 0 5 (dk_at dksX0_reads_7 4 rfl rfl)
theorem dX0_reads_168 : decode cX0_reads 168 = .ok (.iconst 3, 1) := dk_6 (dk_at dksX0_reads_7 7 rfl rfl)
theorem dX0_reads_169 : decode cX0_reads 169 = .ok (.ireturn, 1) := dk_172 (dk_at dksX0_reads_7 8 rfl rfl)
theorem dX0_reads_170 : decode cX0_reads 170 = .ok (.iinc 6 1, 3) := dk_132 6 1 (dk_at dksX0_reads_7 9 rfl rfl)
theorem dX0_reads_173 : decode cX0_reads 173 = .ok (.goto (-39), 3) := dk_167 255 217 (dk_at dksX0_reads_7 12 rfl rfl)
theorem dX0_reads_176 : decode cX0_reads 176 = .ok (.iconst 0, 1) := dk_3 (dk_at dksX0_reads_7 15 rfl rfl)
theorem dX0_reads_177 : decode cX0_reads 177 = .ok (.ireturn, 1) := dk_172 (dk_at dksX0_reads_7 16 rfl rfl)
abbrev cX0_lets : ByteArray := prog_1_method_39_code
def yX0_lets : MethodName := ⟨RX0, "lets", "(LBarredBooks$Decree;III)Z"⟩
def dkwX0_lets_3 : List UInt8 := [162, 0, 5, 4, 172, 132, 5, 1, 167, 255, 194, 3, 172]
abbrev dktX0_lets_3 : List UInt8 := dkwX0_lets_3 ++ []
def dkwX0_lets_2 : List UInt8 := [21, 6, 2, 159, 0, 26, 21, 4, 43, 180, 1, 24, 42, 180, 0, 13, 3, 50, 29, 46, 96, 21, 6, 96]
abbrev dktX0_lets_2 : List UInt8 := dkwX0_lets_2 ++ dktX0_lets_3
def dkwX0_lets_1 : List UInt8 := [182, 1, 86, 162, 0, 56, 43, 180, 1, 82, 21, 5, 182, 1, 91, 192, 0, 98, 28, 182, 1, 95, 54, 6]
abbrev dktX0_lets_1 : List UInt8 := dkwX0_lets_1 ++ dktX0_lets_2
def dkwX0_lets_0 : List UInt8 := [42, 43, 29, 21, 4, 182, 1, 41, 154, 0, 5, 3, 172, 3, 54, 5, 21, 5, 43, 180, 1, 82]
abbrev dktX0_lets_0 : List UInt8 := dkwX0_lets_0 ++ dktX0_lets_1
theorem dksX0_lets_0 : cX0_lets.data.toList.drop 0 = dktX0_lets_0 := by decide +kernel
theorem dksX0_lets_1 : cX0_lets.data.toList.drop 22 = dktX0_lets_1 := dk_seg dksX0_lets_0 22 rfl rfl
theorem dksX0_lets_2 : cX0_lets.data.toList.drop 46 = dktX0_lets_2 := dk_seg dksX0_lets_1 24 rfl rfl
theorem dksX0_lets_3 : cX0_lets.data.toList.drop 70 = dktX0_lets_3 := dk_seg dksX0_lets_2 24 rfl rfl
theorem dX0_lets_0 : decode cX0_lets 0 = .ok (.aload_n 0, 1) := dk_42 (dk_at dksX0_lets_0 0 rfl rfl)
theorem dX0_lets_1 : decode cX0_lets 1 = .ok (.aload_n 1, 1) := dk_43 (dk_at dksX0_lets_0 1 rfl rfl)
theorem dX0_lets_2 : decode cX0_lets 2 = .ok (.iload_n 3, 1) := dk_29 (dk_at dksX0_lets_0 2 rfl rfl)
theorem dX0_lets_3 : decode cX0_lets 3 = .ok (.iload 4, 2) := dk_21 4 (dk_at dksX0_lets_0 3 rfl rfl)
theorem dX0_lets_5 : decode cX0_lets 5 = .ok (.invokevirtual 297, 3) := dk_182 1 41 (dk_at dksX0_lets_0 5 rfl rfl)
theorem dX0_lets_8 : decode cX0_lets 8 = .ok (.ifCond .ne 5, 3) := dk_154 0 5 (dk_at dksX0_lets_0 8 rfl rfl)
theorem dX0_lets_11 : decode cX0_lets 11 = .ok (.iconst 0, 1) := dk_3 (dk_at dksX0_lets_0 11 rfl rfl)
theorem dX0_lets_12 : decode cX0_lets 12 = .ok (.ireturn, 1) := dk_172 (dk_at dksX0_lets_0 12 rfl rfl)
theorem dX0_lets_13 : decode cX0_lets 13 = .ok (.iconst 0, 1) := dk_3 (dk_at dksX0_lets_0 13 rfl rfl)
theorem dX0_lets_14 : decode cX0_lets 14 = .ok (.istore 5, 2) := dk_54 5 (dk_at dksX0_lets_0 14 rfl rfl)
theorem dX0_lets_16 : decode cX0_lets 16 = .ok (.iload 5, 2) := dk_21 5 (dk_at dksX0_lets_0 16 rfl rfl)
theorem dX0_lets_18 : decode cX0_lets 18 = .ok (.aload_n 1, 1) := dk_43 (dk_at dksX0_lets_0 18 rfl rfl)
theorem dX0_lets_19 : decode cX0_lets 19 = .ok (.getfield 338, 3) := dk_180 1 82 (dk_at dksX0_lets_0 19 rfl rfl)
theorem dX0_lets_22 : decode cX0_lets 22 = .ok (.invokevirtual 342, 3) := dk_182 1 86 (dk_at dksX0_lets_1 0 rfl rfl)
theorem dX0_lets_25 : decode cX0_lets 25 = .ok (.if_icmp .ge 56, 3) := dk_162 0 56 (dk_at dksX0_lets_1 3 rfl rfl)
theorem dX0_lets_28 : decode cX0_lets 28 = .ok (.aload_n 1, 1) := dk_43 (dk_at dksX0_lets_1 6 rfl rfl)
theorem dX0_lets_29 : decode cX0_lets 29 = .ok (.getfield 338, 3) := dk_180 1 82 (dk_at dksX0_lets_1 7 rfl rfl)
theorem dX0_lets_32 : decode cX0_lets 32 = .ok (.iload 5, 2) := dk_21 5 (dk_at dksX0_lets_1 10 rfl rfl)
theorem dX0_lets_34 : decode cX0_lets 34 = .ok (.invokevirtual 347, 3) := dk_182 1 91 (dk_at dksX0_lets_1 12 rfl rfl)
theorem dX0_lets_37 : decode cX0_lets 37 = .ok (.checkcast 98, 3) := dk_192 0 98 (dk_at dksX0_lets_1 15 rfl rfl)
theorem dX0_lets_40 : decode cX0_lets 40 = .ok (.iload_n 2, 1) := dk_28 (dk_at dksX0_lets_1 18 rfl rfl)
theorem dX0_lets_41 : decode cX0_lets 41 = .ok (.invokevirtual 351, 3) := dk_182 1 95 (dk_at dksX0_lets_1 19 rfl rfl)
theorem dX0_lets_44 : decode cX0_lets 44 = .ok (.istore 6, 2) := dk_54 6 (dk_at dksX0_lets_1 22 rfl rfl)
theorem dX0_lets_46 : decode cX0_lets 46 = .ok (.iload 6, 2) := dk_21 6 (dk_at dksX0_lets_2 0 rfl rfl)
theorem dX0_lets_48 : decode cX0_lets 48 = .ok (.iconst (-1), 1) := dk_2 (dk_at dksX0_lets_2 2 rfl rfl)
theorem dX0_lets_49 : decode cX0_lets 49 = .ok (.if_icmp .eq 26, 3) := dk_159 0 26 (dk_at dksX0_lets_2 3 rfl rfl)
theorem dX0_lets_52 : decode cX0_lets 52 = .ok (.iload 4, 2) := dk_21 4 (dk_at dksX0_lets_2 6 rfl rfl)
theorem dX0_lets_54 : decode cX0_lets 54 = .ok (.aload_n 1, 1) := dk_43 (dk_at dksX0_lets_2 8 rfl rfl)
theorem dX0_lets_55 : decode cX0_lets 55 = .ok (.getfield 280, 3) := dk_180 1 24 (dk_at dksX0_lets_2 9 rfl rfl)
theorem dX0_lets_58 : decode cX0_lets 58 = .ok (.aload_n 0, 1) := dk_42 (dk_at dksX0_lets_2 12 rfl rfl)
theorem dX0_lets_59 : decode cX0_lets 59 = .ok (.getfield 13, 3) := dk_180 0 13 (dk_at dksX0_lets_2 13 rfl rfl)
theorem dX0_lets_62 : decode cX0_lets 62 = .ok (.iconst 0, 1) := dk_3 (dk_at dksX0_lets_2 16 rfl rfl)
theorem dX0_lets_63 : decode cX0_lets 63 = .ok (.aaload, 1) := dk_50 (dk_at dksX0_lets_2 17 rfl rfl)
theorem dX0_lets_64 : decode cX0_lets 64 = .ok (.iload_n 3, 1) := dk_29 (dk_at dksX0_lets_2 18 rfl rfl)
theorem dX0_lets_65 : decode cX0_lets 65 = .ok (.iaload, 1) := dk_46 (dk_at dksX0_lets_2 19 rfl rfl)
theorem dX0_lets_66 : decode cX0_lets 66 = .ok (.iadd, 1) := dk_96 (dk_at dksX0_lets_2 20 rfl rfl)
theorem dX0_lets_67 : decode cX0_lets 67 = .ok (.iload 6, 2) := dk_21 6 (dk_at dksX0_lets_2 21 rfl rfl)
theorem dX0_lets_69 : decode cX0_lets 69 = .ok (.iadd, 1) := dk_96 (dk_at dksX0_lets_2 23 rfl rfl)
theorem dX0_lets_70 : decode cX0_lets 70 = .ok (.if_icmp .ge 5, 3) := dk_162 0 5 (dk_at dksX0_lets_3 0 rfl rfl)
theorem dX0_lets_73 : decode cX0_lets 73 = .ok (.iconst 1, 1) := dk_4 (dk_at dksX0_lets_3 3 rfl rfl)
theorem dX0_lets_74 : decode cX0_lets 74 = .ok (.ireturn, 1) := dk_172 (dk_at dksX0_lets_3 4 rfl rfl)
theorem dX0_lets_75 : decode cX0_lets 75 = .ok (.iinc 5 1, 3) := dk_132 5 1 (dk_at dksX0_lets_3 5 rfl rfl)
theorem dX0_lets_78 : decode cX0_lets 78 = .ok (.goto (-62), 3) := dk_167 255 194 (dk_at dksX0_lets_3 8 rfl rfl)
theorem dX0_lets_81 : decode cX0_lets 81 = .ok (.iconst 0, 1) := dk_3 (dk_at dksX0_lets_3 11 rfl rfl)
theorem dX0_lets_82 : decode cX0_lets 82 = .ok (.ireturn, 1) := dk_172 (dk_at dksX0_lets_3 12 rfl rfl)
abbrev cX0_slip : ByteArray := prog_1_method_41_code
def yX0_slip : MethodName := ⟨RX0, "slip", "(IIII)I"⟩
def dkwX0_slip_4 : List UInt8 := [180, 0, 85, 21, 4, 50, 183, 1, 108, 83, 42, 89, 180, 1, 105, 90, 4, 96, 181, 1, 105, 172]
abbrev dktX0_slip_4 : List UInt8 := dkwX0_slip_4 ++ []
def dkwX0_slip_3 : List UInt8 := [187, 0, 83, 89, 42, 180, 1, 105, 27, 28, 29, 21, 4, 2, 160, 0, 7, 1, 167, 0, 10, 42]
abbrev dktX0_slip_3 : List UInt8 := dkwX0_slip_3 ++ dktX0_slip_4
def dkwX0_slip_2 : List UInt8 := [16, 254, 172, 42, 180, 1, 105, 16, 40, 160, 0, 6, 16, 252, 172, 42, 180, 0, 85, 42, 180, 1, 105]
abbrev dktX0_slip_2 : List UInt8 := dkwX0_slip_2 ++ dktX0_slip_3
def dkwX0_slip_1 : List UInt8 := [153, 0, 24, 28, 2, 16, 19, 184, 0, 123, 153, 0, 14, 29, 2, 17, 7, 208, 184, 0, 123, 154, 0, 6]
abbrev dktX0_slip_1 : List UInt8 := dkwX0_slip_1 ++ dktX0_slip_2
def dkwX0_slip_0 : List UInt8 := [21, 4, 2, 42, 180, 1, 105, 4, 100, 184, 0, 123, 154, 0, 5, 2, 172, 27, 2, 16, 99, 184, 0, 123]
abbrev dktX0_slip_0 : List UInt8 := dkwX0_slip_0 ++ dktX0_slip_1
theorem dksX0_slip_0 : cX0_slip.data.toList.drop 0 = dktX0_slip_0 := by decide +kernel
theorem dksX0_slip_1 : cX0_slip.data.toList.drop 24 = dktX0_slip_1 := dk_seg dksX0_slip_0 24 rfl rfl
theorem dksX0_slip_2 : cX0_slip.data.toList.drop 48 = dktX0_slip_2 := dk_seg dksX0_slip_1 24 rfl rfl
theorem dksX0_slip_3 : cX0_slip.data.toList.drop 71 = dktX0_slip_3 := dk_seg dksX0_slip_2 23 rfl rfl
theorem dksX0_slip_4 : cX0_slip.data.toList.drop 93 = dktX0_slip_4 := dk_seg dksX0_slip_3 22 rfl rfl
theorem dX0_slip_0 : decode cX0_slip 0 = .ok (.iload 4, 2) := dk_21 4 (dk_at dksX0_slip_0 0 rfl rfl)
theorem dX0_slip_2 : decode cX0_slip 2 = .ok (.iconst (-1), 1) := dk_2 (dk_at dksX0_slip_0 2 rfl rfl)
theorem dX0_slip_3 : decode cX0_slip 3 = .ok (.aload_n 0, 1) := dk_42 (dk_at dksX0_slip_0 3 rfl rfl)
theorem dX0_slip_4 : decode cX0_slip 4 = .ok (.getfield 361, 3) := dk_180 1 105 (dk_at dksX0_slip_0 4 rfl rfl)
theorem dX0_slip_7 : decode cX0_slip 7 = .ok (.iconst 1, 1) := dk_4 (dk_at dksX0_slip_0 7 rfl rfl)
theorem dX0_slip_8 : decode cX0_slip 8 = .ok (.isub, 1) := dk_100 (dk_at dksX0_slip_0 8 rfl rfl)
theorem dX0_slip_9 : decode cX0_slip 9 = .ok (.invokestatic 123, 3) := dk_184 0 123 (dk_at dksX0_slip_0 9 rfl rfl)
theorem dX0_slip_12 : decode cX0_slip 12 = .ok (.ifCond .ne 5, 3) := dk_154 0 5 (dk_at dksX0_slip_0 12 rfl rfl)
theorem dX0_slip_15 : decode cX0_slip 15 = .ok (.iconst (-1), 1) := dk_2 (dk_at dksX0_slip_0 15 rfl rfl)
theorem dX0_slip_16 : decode cX0_slip 16 = .ok (.ireturn, 1) := dk_172 (dk_at dksX0_slip_0 16 rfl rfl)
theorem dX0_slip_17 : decode cX0_slip 17 = .ok (.iload_n 1, 1) := dk_27 (dk_at dksX0_slip_0 17 rfl rfl)
theorem dX0_slip_18 : decode cX0_slip 18 = .ok (.iconst (-1), 1) := dk_2 (dk_at dksX0_slip_0 18 rfl rfl)
theorem dX0_slip_19 : decode cX0_slip 19 = .ok (.bipush 99, 2) := dk_16 99 (dk_at dksX0_slip_0 19 rfl rfl)
theorem dX0_slip_21 : decode cX0_slip 21 = .ok (.invokestatic 123, 3) := dk_184 0 123 (dk_at dksX0_slip_0 21 rfl rfl)
theorem dX0_slip_24 : decode cX0_slip 24 = .ok (.ifCond .eq 24, 3) := dk_153 0 24 (dk_at dksX0_slip_1 0 rfl rfl)
theorem dX0_slip_27 : decode cX0_slip 27 = .ok (.iload_n 2, 1) := dk_28 (dk_at dksX0_slip_1 3 rfl rfl)
theorem dX0_slip_28 : decode cX0_slip 28 = .ok (.iconst (-1), 1) := dk_2 (dk_at dksX0_slip_1 4 rfl rfl)
theorem dX0_slip_29 : decode cX0_slip 29 = .ok (.bipush 19, 2) := dk_16 19 (dk_at dksX0_slip_1 5 rfl rfl)
theorem dX0_slip_31 : decode cX0_slip 31 = .ok (.invokestatic 123, 3) := dk_184 0 123 (dk_at dksX0_slip_1 7 rfl rfl)
theorem dX0_slip_34 : decode cX0_slip 34 = .ok (.ifCond .eq 14, 3) := dk_153 0 14 (dk_at dksX0_slip_1 10 rfl rfl)
theorem dX0_slip_37 : decode cX0_slip 37 = .ok (.iload_n 3, 1) := dk_29 (dk_at dksX0_slip_1 13 rfl rfl)
theorem dX0_slip_38 : decode cX0_slip 38 = .ok (.iconst (-1), 1) := dk_2 (dk_at dksX0_slip_1 14 rfl rfl)
theorem dX0_slip_39 : decode cX0_slip 39 = .ok (.sipush 2000, 3) := dk_17 7 208 (dk_at dksX0_slip_1 15 rfl rfl)
theorem dX0_slip_42 : decode cX0_slip 42 = .ok (.invokestatic 123, 3) := dk_184 0 123 (dk_at dksX0_slip_1 18 rfl rfl)
theorem dX0_slip_45 : decode cX0_slip 45 = .ok (.ifCond .ne 6, 3) := dk_154 0 6 (dk_at dksX0_slip_1 21 rfl rfl)
theorem dX0_slip_48 : decode cX0_slip 48 = .ok (.bipush (-2), 2) := dk_16 254 (dk_at dksX0_slip_2 0 rfl rfl)
theorem dX0_slip_50 : decode cX0_slip 50 = .ok (.ireturn, 1) := dk_172 (dk_at dksX0_slip_2 2 rfl rfl)
theorem dX0_slip_51 : decode cX0_slip 51 = .ok (.aload_n 0, 1) := dk_42 (dk_at dksX0_slip_2 3 rfl rfl)
theorem dX0_slip_52 : decode cX0_slip 52 = .ok (.getfield 361, 3) := dk_180 1 105 (dk_at dksX0_slip_2 4 rfl rfl)
theorem dX0_slip_55 : decode cX0_slip 55 = .ok (.bipush 40, 2) := dk_16 40 (dk_at dksX0_slip_2 7 rfl rfl)
theorem dX0_slip_57 : decode cX0_slip 57 = .ok (.if_icmp .ne 6, 3) := dk_160 0 6 (dk_at dksX0_slip_2 9 rfl rfl)
theorem dX0_slip_60 : decode cX0_slip 60 = .ok (.bipush (-4), 2) := dk_16 252 (dk_at dksX0_slip_2 12 rfl rfl)
theorem dX0_slip_62 : decode cX0_slip 62 = .ok (.ireturn, 1) := dk_172 (dk_at dksX0_slip_2 14 rfl rfl)
theorem dX0_slip_63 : decode cX0_slip 63 = .ok (.aload_n 0, 1) := dk_42 (dk_at dksX0_slip_2 15 rfl rfl)
theorem dX0_slip_64 : decode cX0_slip 64 = .ok (.getfield 85, 3) := dk_180 0 85 (dk_at dksX0_slip_2 16 rfl rfl)
theorem dX0_slip_67 : decode cX0_slip 67 = .ok (.aload_n 0, 1) := dk_42 (dk_at dksX0_slip_2 19 rfl rfl)
theorem dX0_slip_68 : decode cX0_slip 68 = .ok (.getfield 361, 3) := dk_180 1 105 (dk_at dksX0_slip_2 20 rfl rfl)
theorem dX0_slip_71 : decode cX0_slip 71 = .ok (.new 83, 3) := dk_187 0 83 (dk_at dksX0_slip_3 0 rfl rfl)
theorem dX0_slip_74 : decode cX0_slip 74 = .ok (.dup, 1) := dk_89 (dk_at dksX0_slip_3 3 rfl rfl)
theorem dX0_slip_75 : decode cX0_slip 75 = .ok (.aload_n 0, 1) := dk_42 (dk_at dksX0_slip_3 4 rfl rfl)
theorem dX0_slip_76 : decode cX0_slip 76 = .ok (.getfield 361, 3) := dk_180 1 105 (dk_at dksX0_slip_3 5 rfl rfl)
theorem dX0_slip_79 : decode cX0_slip 79 = .ok (.iload_n 1, 1) := dk_27 (dk_at dksX0_slip_3 8 rfl rfl)
theorem dX0_slip_80 : decode cX0_slip 80 = .ok (.iload_n 2, 1) := dk_28 (dk_at dksX0_slip_3 9 rfl rfl)
theorem dX0_slip_81 : decode cX0_slip 81 = .ok (.iload_n 3, 1) := dk_29 (dk_at dksX0_slip_3 10 rfl rfl)
theorem dX0_slip_82 : decode cX0_slip 82 = .ok (.iload 4, 2) := dk_21 4 (dk_at dksX0_slip_3 11 rfl rfl)
theorem dX0_slip_84 : decode cX0_slip 84 = .ok (.iconst (-1), 1) := dk_2 (dk_at dksX0_slip_3 13 rfl rfl)
theorem dX0_slip_85 : decode cX0_slip 85 = .ok (.if_icmp .ne 7, 3) := dk_160 0 7 (dk_at dksX0_slip_3 14 rfl rfl)
theorem dX0_slip_88 : decode cX0_slip 88 = .ok (.aconst_null, 1) := dk_1 (dk_at dksX0_slip_3 17 rfl rfl)
theorem dX0_slip_89 : decode cX0_slip 89 = .ok (.goto 10, 3) := dk_167 0 10 (dk_at dksX0_slip_3 18 rfl rfl)
theorem dX0_slip_92 : decode cX0_slip 92 = .ok (.aload_n 0, 1) := dk_42 (dk_at dksX0_slip_3 21 rfl rfl)
theorem dX0_slip_93 : decode cX0_slip 93 = .ok (.getfield 85, 3) := dk_180 0 85 (dk_at dksX0_slip_4 0 rfl rfl)
theorem dX0_slip_96 : decode cX0_slip 96 = .ok (.iload 4, 2) := dk_21 4 (dk_at dksX0_slip_4 3 rfl rfl)
theorem dX0_slip_98 : decode cX0_slip 98 = .ok (.aaload, 1) := dk_50 (dk_at dksX0_slip_4 5 rfl rfl)
theorem dX0_slip_99 : decode cX0_slip 99 = .ok (.invokespecial 364, 3) := dk_183 1 108 (dk_at dksX0_slip_4 6 rfl rfl)
theorem dX0_slip_102 : decode cX0_slip 102 = .ok (.aastore, 1) := dk_83 (dk_at dksX0_slip_4 9 rfl rfl)
theorem dX0_slip_103 : decode cX0_slip 103 = .ok (.aload_n 0, 1) := dk_42 (dk_at dksX0_slip_4 10 rfl rfl)
theorem dX0_slip_104 : decode cX0_slip 104 = .ok (.dup, 1) := dk_89 (dk_at dksX0_slip_4 11 rfl rfl)
theorem dX0_slip_105 : decode cX0_slip 105 = .ok (.getfield 361, 3) := dk_180 1 105 (dk_at dksX0_slip_4 12 rfl rfl)
theorem dX0_slip_108 : decode cX0_slip 108 = .ok (.dup_x1, 1) := dk_90 (dk_at dksX0_slip_4 15 rfl rfl)
theorem dX0_slip_109 : decode cX0_slip 109 = .ok (.iconst 1, 1) := dk_4 (dk_at dksX0_slip_4 16 rfl rfl)
theorem dX0_slip_110 : decode cX0_slip 110 = .ok (.iadd, 1) := dk_96 (dk_at dksX0_slip_4 17 rfl rfl)
theorem dX0_slip_111 : decode cX0_slip 111 = .ok (.putfield 361, 3) := dk_181 1 105 (dk_at dksX0_slip_4 18 rfl rfl)
theorem dX0_slip_114 : decode cX0_slip 114 = .ok (.ireturn, 1) := dk_172 (dk_at dksX0_slip_4 21 rfl rfl)
abbrev cX0_means : ByteArray := prog_1_method_42_code
def yX0_means : MethodName := ⟨RX0, "means", "(II)I"⟩
def dkwX0_means_8 : List UInt8 := [182, 1, 128, 180, 1, 127, 172, 2, 172]
abbrev dktX0_means_8 : List UInt8 := dkwX0_means_8 ++ []
def dkwX0_means_7 : List UInt8 := [21, 4, 172, 45, 182, 1, 123, 180, 1, 127, 172, 45, 182, 1, 128, 199, 0, 8, 16, 251, 167, 0, 10, 45]
abbrev dktX0_means_7 : List UInt8 := dkwX0_means_7 ++ dktX0_means_8
def dkwX0_means_6 : List UInt8 := [42, 180, 0, 85, 21, 5, 50, 45, 182, 1, 119, 153, 0, 6, 132, 4, 1, 132, 5, 1, 167, 255, 227]
abbrev dktX0_means_6 : List UInt8 := dkwX0_means_6 ++ dktX0_means_7
def dkwX0_means_5 : List UInt8 := [182, 1, 115, 153, 0, 7, 4, 167, 0, 4, 3, 172, 3, 54, 5, 21, 5, 42, 180, 1, 105, 162, 0, 26]
abbrev dktX0_means_5 : List UInt8 := dkwX0_means_5 ++ dktX0_means_6
def dkwX0_means_4 : List UInt8 := [153, 0, 12, 21, 4, 4, 21, 5, 120, 128, 54, 4, 132, 5, 1, 167, 255, 221, 21, 4, 172, 45]
abbrev dktX0_means_4 : List UInt8 := dkwX0_means_4 ++ dktX0_means_5
def dkwX0_means_3 : List UInt8 := [3, 54, 5, 21, 5, 42, 180, 0, 131, 162, 0, 32, 45, 42, 180, 0, 24, 21, 5, 50, 182, 1, 111]
abbrev dktX0_means_3 : List UInt8 := dkwX0_means_3 ++ dktX0_means_4
def dkwX0_means_2 : List UInt8 := [170, 0, 0, 0, 156, 0, 0, 0, 0, 0, 0, 0, 4, 0, 0, 0, 33, 0, 0, 0, 77, 0, 0, 0, 90, 0, 0, 0, 128, 0, 0, 0, 136]
abbrev dktX0_means_2 : List UInt8 := dkwX0_means_2 ++ dktX0_means_3
def dkwX0_means_1 : List UInt8 := [54, 4, 28]
abbrev dktX0_means_1 : List UInt8 := dkwX0_means_1 ++ dktX0_means_2
def dkwX0_means_0 : List UInt8 := [27, 3, 42, 180, 1, 105, 4, 100, 184, 0, 123, 154, 0, 5, 2, 172, 42, 180, 0, 85, 27, 50, 78, 3]
abbrev dktX0_means_0 : List UInt8 := dkwX0_means_0 ++ dktX0_means_1
theorem dksX0_means_0 : cX0_means.data.toList.drop 0 = dktX0_means_0 := by decide +kernel
theorem dksX0_means_1 : cX0_means.data.toList.drop 24 = dktX0_means_1 := dk_seg dksX0_means_0 24 rfl rfl
theorem dksX0_means_2 : cX0_means.data.toList.drop 27 = dktX0_means_2 := dk_seg dksX0_means_1 3 rfl rfl
theorem dksX0_means_3 : cX0_means.data.toList.drop 60 = dktX0_means_3 := dk_seg dksX0_means_2 33 rfl rfl
theorem dksX0_means_4 : cX0_means.data.toList.drop 83 = dktX0_means_4 := dk_seg dksX0_means_3 23 rfl rfl
theorem dksX0_means_5 : cX0_means.data.toList.drop 105 = dktX0_means_5 := dk_seg dksX0_means_4 22 rfl rfl
theorem dksX0_means_6 : cX0_means.data.toList.drop 129 = dktX0_means_6 := dk_seg dksX0_means_5 24 rfl rfl
theorem dksX0_means_7 : cX0_means.data.toList.drop 152 = dktX0_means_7 := dk_seg dksX0_means_6 23 rfl rfl
theorem dksX0_means_8 : cX0_means.data.toList.drop 176 = dktX0_means_8 := dk_seg dksX0_means_7 24 rfl rfl
theorem dX0_means_0 : decode cX0_means 0 = .ok (.iload_n 1, 1) := dk_27 (dk_at dksX0_means_0 0 rfl rfl)
theorem dX0_means_1 : decode cX0_means 1 = .ok (.iconst 0, 1) := dk_3 (dk_at dksX0_means_0 1 rfl rfl)
theorem dX0_means_2 : decode cX0_means 2 = .ok (.aload_n 0, 1) := dk_42 (dk_at dksX0_means_0 2 rfl rfl)
theorem dX0_means_3 : decode cX0_means 3 = .ok (.getfield 361, 3) := dk_180 1 105 (dk_at dksX0_means_0 3 rfl rfl)
theorem dX0_means_6 : decode cX0_means 6 = .ok (.iconst 1, 1) := dk_4 (dk_at dksX0_means_0 6 rfl rfl)
theorem dX0_means_7 : decode cX0_means 7 = .ok (.isub, 1) := dk_100 (dk_at dksX0_means_0 7 rfl rfl)
theorem dX0_means_8 : decode cX0_means 8 = .ok (.invokestatic 123, 3) := dk_184 0 123 (dk_at dksX0_means_0 8 rfl rfl)
theorem dX0_means_11 : decode cX0_means 11 = .ok (.ifCond .ne 5, 3) := dk_154 0 5 (dk_at dksX0_means_0 11 rfl rfl)
theorem dX0_means_14 : decode cX0_means 14 = .ok (.iconst (-1), 1) := dk_2 (dk_at dksX0_means_0 14 rfl rfl)
theorem dX0_means_15 : decode cX0_means 15 = .ok (.ireturn, 1) := dk_172 (dk_at dksX0_means_0 15 rfl rfl)
theorem dX0_means_16 : decode cX0_means 16 = .ok (.aload_n 0, 1) := dk_42 (dk_at dksX0_means_0 16 rfl rfl)
theorem dX0_means_17 : decode cX0_means 17 = .ok (.getfield 85, 3) := dk_180 0 85 (dk_at dksX0_means_0 17 rfl rfl)
theorem dX0_means_20 : decode cX0_means 20 = .ok (.iload_n 1, 1) := dk_27 (dk_at dksX0_means_0 20 rfl rfl)
theorem dX0_means_21 : decode cX0_means 21 = .ok (.aaload, 1) := dk_50 (dk_at dksX0_means_0 21 rfl rfl)
theorem dX0_means_22 : decode cX0_means 22 = .ok (.astore_n 3, 1) := dk_78 (dk_at dksX0_means_0 22 rfl rfl)
theorem dX0_means_23 : decode cX0_means 23 = .ok (.iconst 0, 1) := dk_3 (dk_at dksX0_means_0 23 rfl rfl)
theorem dX0_means_24 : decode cX0_means 24 = .ok (.istore 4, 2) := dk_54 4 (dk_at dksX0_means_1 0 rfl rfl)
theorem dX0_means_26 : decode cX0_means 26 = .ok (.iload_n 2, 1) := dk_28 (dk_at dksX0_means_1 2 rfl rfl)
theorem dX0_means_27 : decode cX0_means 27 = .ok (.tableswitch 156 0 4 #[33, 77, 90, 128, 136], 33) := by decide +kernel
theorem dX0_means_60 : decode cX0_means 60 = .ok (.iconst 0, 1) := dk_3 (dk_at dksX0_means_3 0 rfl rfl)
theorem dX0_means_61 : decode cX0_means 61 = .ok (.istore 5, 2) := dk_54 5 (dk_at dksX0_means_3 1 rfl rfl)
theorem dX0_means_63 : decode cX0_means 63 = .ok (.iload 5, 2) := dk_21 5 (dk_at dksX0_means_3 3 rfl rfl)
theorem dX0_means_65 : decode cX0_means 65 = .ok (.aload_n 0, 1) := dk_42 (dk_at dksX0_means_3 5 rfl rfl)
theorem dX0_means_66 : decode cX0_means 66 = .ok (.getfield 131, 3) := dk_180 0 131 (dk_at dksX0_means_3 6 rfl rfl)
theorem dX0_means_69 : decode cX0_means 69 = .ok (.if_icmp .ge 32, 3) := dk_162 0 32 (dk_at dksX0_means_3 9 rfl rfl)
theorem dX0_means_72 : decode cX0_means 72 = .ok (.aload_n 3, 1) := dk_45 (dk_at dksX0_means_3 12 rfl rfl)
theorem dX0_means_73 : decode cX0_means 73 = .ok (.aload_n 0, 1) := dk_42 (dk_at dksX0_means_3 13 rfl rfl)
theorem dX0_means_74 : decode cX0_means 74 = .ok (.getfield 24, 3) := dk_180 0 24 (dk_at dksX0_means_3 14 rfl rfl)
theorem dX0_means_77 : decode cX0_means 77 = .ok (.iload 5, 2) := dk_21 5 (dk_at dksX0_means_3 17 rfl rfl)
theorem dX0_means_79 : decode cX0_means 79 = .ok (.aaload, 1) := dk_50 (dk_at dksX0_means_3 19 rfl rfl)
theorem dX0_means_80 : decode cX0_means 80 = .ok (.invokevirtual 367, 3) := dk_182 1 111 (dk_at dksX0_means_3 20 rfl rfl)
theorem dX0_means_83 : decode cX0_means 83 = .ok (.ifCond .eq 12, 3) := dk_153 0 12 (dk_at dksX0_means_4 0 rfl rfl)
theorem dX0_means_86 : decode cX0_means 86 = .ok (.iload 4, 2) := dk_21 4 (dk_at dksX0_means_4 3 rfl rfl)
theorem dX0_means_88 : decode cX0_means 88 = .ok (.iconst 1, 1) := dk_4 (dk_at dksX0_means_4 5 rfl rfl)
theorem dX0_means_89 : decode cX0_means 89 = .ok (.iload 5, 2) := dk_21 5 (dk_at dksX0_means_4 6 rfl rfl)
theorem dX0_means_91 : decode cX0_means 91 = .ok (.ishl, 1) := dk_120 (dk_at dksX0_means_4 8 rfl rfl)
theorem dX0_means_92 : decode cX0_means 92 = .ok (.ior, 1) := dk_128 (dk_at dksX0_means_4 9 rfl rfl)
theorem dX0_means_93 : decode cX0_means 93 = .ok (.istore 4, 2) := dk_54 4 (dk_at dksX0_means_4 10 rfl rfl)
theorem dX0_means_95 : decode cX0_means 95 = .ok (.iinc 5 1, 3) := dk_132 5 1 (dk_at dksX0_means_4 12 rfl rfl)
theorem dX0_means_98 : decode cX0_means 98 = .ok (.goto (-35), 3) := dk_167 255 221 (dk_at dksX0_means_4 15 rfl rfl)
theorem dX0_means_101 : decode cX0_means 101 = .ok (.iload 4, 2) := dk_21 4 (dk_at dksX0_means_4 18 rfl rfl)
theorem dX0_means_103 : decode cX0_means 103 = .ok (.ireturn, 1) := dk_172 (dk_at dksX0_means_4 20 rfl rfl)
theorem dX0_means_104 : decode cX0_means 104 = .ok (.aload_n 3, 1) := dk_45 (dk_at dksX0_means_4 21 rfl rfl)
theorem dX0_means_105 : decode cX0_means 105 = .ok (.invokevirtual 371, 3) := dk_182 1 115 (dk_at dksX0_means_5 0 rfl rfl)
theorem dX0_means_108 : decode cX0_means 108 = .ok (.ifCond .eq 7, 3) := dk_153 0 7 (dk_at dksX0_means_5 3 rfl rfl)
theorem dX0_means_111 : decode cX0_means 111 = .ok (.iconst 1, 1) := dk_4 (dk_at dksX0_means_5 6 rfl rfl)
theorem dX0_means_112 : decode cX0_means 112 = .ok (.goto 4, 3) := dk_167 0 4 (dk_at dksX0_means_5 7 rfl rfl)
theorem dX0_means_115 : decode cX0_means 115 = .ok (.iconst 0, 1) := dk_3 (dk_at dksX0_means_5 10 rfl rfl)
theorem dX0_means_116 : decode cX0_means 116 = .ok (.ireturn, 1) := dk_172 (dk_at dksX0_means_5 11 rfl rfl)
theorem dX0_means_117 : decode cX0_means 117 = .ok (.iconst 0, 1) := dk_3 (dk_at dksX0_means_5 12 rfl rfl)
theorem dX0_means_118 : decode cX0_means 118 = .ok (.istore 5, 2) := dk_54 5 (dk_at dksX0_means_5 13 rfl rfl)
theorem dX0_means_120 : decode cX0_means 120 = .ok (.iload 5, 2) := dk_21 5 (dk_at dksX0_means_5 15 rfl rfl)
theorem dX0_means_122 : decode cX0_means 122 = .ok (.aload_n 0, 1) := dk_42 (dk_at dksX0_means_5 17 rfl rfl)
theorem dX0_means_123 : decode cX0_means 123 = .ok (.getfield 361, 3) := dk_180 1 105 (dk_at dksX0_means_5 18 rfl rfl)
theorem dX0_means_126 : decode cX0_means 126 = .ok (.if_icmp .ge 26, 3) := dk_162 0 26 (dk_at dksX0_means_5 21 rfl rfl)
theorem dX0_means_129 : decode cX0_means 129 = .ok (.aload_n 0, 1) := dk_42 (dk_at dksX0_means_6 0 rfl rfl)
theorem dX0_means_130 : decode cX0_means 130 = .ok (.getfield 85, 3) := dk_180 0 85 (dk_at dksX0_means_6 1 rfl rfl)
theorem dX0_means_133 : decode cX0_means 133 = .ok (.iload 5, 2) := dk_21 5 (dk_at dksX0_means_6 4 rfl rfl)
theorem dX0_means_135 : decode cX0_means 135 = .ok (.aaload, 1) := dk_50 (dk_at dksX0_means_6 6 rfl rfl)
theorem dX0_means_136 : decode cX0_means 136 = .ok (.aload_n 3, 1) := dk_45 (dk_at dksX0_means_6 7 rfl rfl)
theorem dX0_means_137 : decode cX0_means 137 = .ok (.invokevirtual 375, 3) := dk_182 1 119 (dk_at dksX0_means_6 8 rfl rfl)
theorem dX0_means_140 : decode cX0_means 140 = .ok (.ifCond .eq 6, 3) := dk_153 0 6 (dk_at dksX0_means_6 11 rfl rfl)
theorem dX0_means_143 : decode cX0_means 143 = .ok (.iinc 4 1, 3) := dk_132 4 1 (dk_at dksX0_means_6 14 rfl rfl)
theorem dX0_means_146 : decode cX0_means 146 = .ok (.iinc 5 1, 3) := dk_132 5 1 (dk_at dksX0_means_6 17 rfl rfl)
theorem dX0_means_149 : decode cX0_means 149 = .ok (.goto (-29), 3) := dk_167 255 227 (dk_at dksX0_means_6 20 rfl rfl)
theorem dX0_means_152 : decode cX0_means 152 = .ok (.iload 4, 2) := dk_21 4 (dk_at dksX0_means_7 0 rfl rfl)
theorem dX0_means_154 : decode cX0_means 154 = .ok (.ireturn, 1) := dk_172 (dk_at dksX0_means_7 2 rfl rfl)
theorem dX0_means_155 : decode cX0_means 155 = .ok (.aload_n 3, 1) := dk_45 (dk_at dksX0_means_7 3 rfl rfl)
theorem dX0_means_156 : decode cX0_means 156 = .ok (.invokevirtual 379, 3) := dk_182 1 123 (dk_at dksX0_means_7 4 rfl rfl)
theorem dX0_means_159 : decode cX0_means 159 = .ok (.getfield 383, 3) := dk_180 1 127 (dk_at dksX0_means_7 7 rfl rfl)
theorem dX0_means_162 : decode cX0_means 162 = .ok (.ireturn, 1) := dk_172 (dk_at dksX0_means_7 10 rfl rfl)
theorem dX0_means_163 : decode cX0_means 163 = .ok (.aload_n 3, 1) := dk_45 (dk_at dksX0_means_7 11 rfl rfl)
theorem dX0_means_164 : decode cX0_means 164 = .ok (.invokevirtual 384, 3) := dk_182 1 128 (dk_at dksX0_means_7 12 rfl rfl)
theorem dX0_means_167 : decode cX0_means 167 = .ok (.ifnonnull 8, 3) := dk_199 0 8 (dk_at dksX0_means_7 15 rfl rfl)
theorem dX0_means_170 : decode cX0_means 170 = .ok (.bipush (-5), 2) := dk_16 251 (dk_at dksX0_means_7 18 rfl rfl)
theorem dX0_means_172 : decode cX0_means 172 = .ok (.goto 10, 3) := dk_167 0 10 (dk_at dksX0_means_7 20 rfl rfl)
theorem dX0_means_175 : decode cX0_means 175 = .ok (.aload_n 3, 1) := dk_45 (dk_at dksX0_means_7 23 rfl rfl)
theorem dX0_means_176 : decode cX0_means 176 = .ok (.invokevirtual 384, 3) := dk_182 1 128 (dk_at dksX0_means_8 0 rfl rfl)
theorem dX0_means_179 : decode cX0_means 179 = .ok (.getfield 383, 3) := dk_180 1 127 (dk_at dksX0_means_8 3 rfl rfl)
theorem dX0_means_182 : decode cX0_means 182 = .ok (.ireturn, 1) := dk_172 (dk_at dksX0_means_8 6 rfl rfl)
theorem dX0_means_183 : decode cX0_means 183 = .ok (.iconst (-1), 1) := dk_2 (dk_at dksX0_means_8 7 rfl rfl)
theorem dX0_means_184 : decode cX0_means 184 = .ok (.ireturn, 1) := dk_172 (dk_at dksX0_means_8 8 rfl rfl)
abbrev cX0_unlike : ByteArray := prog_1_method_43_code
def yX0_unlike : MethodName := ⟨RX0, "unlike", "(II)I"⟩
def dkwX0_unlike_2 : List UInt8 := [42, 180, 0, 30, 28, 50, 180, 0, 179, 130, 167, 0, 5, 16, 253, 172]
abbrev dktX0_unlike_2 : List UInt8 := dkwX0_unlike_2 ++ []
def dkwX0_unlike_1 : List UInt8 := [180, 0, 169, 42, 180, 0, 30, 28, 50, 180, 0, 169, 166, 0, 25, 42, 180, 0, 30, 27, 50, 180, 0, 179]
abbrev dktX0_unlike_1 : List UInt8 := dkwX0_unlike_1 ++ dktX0_unlike_2
def dkwX0_unlike_0 : List UInt8 := [42, 27, 182, 0, 166, 153, 0, 11, 42, 28, 182, 0, 166, 154, 0, 5, 2, 172, 42, 180, 0, 30, 27, 50]
abbrev dktX0_unlike_0 : List UInt8 := dkwX0_unlike_0 ++ dktX0_unlike_1
theorem dksX0_unlike_0 : cX0_unlike.data.toList.drop 0 = dktX0_unlike_0 := by decide +kernel
theorem dksX0_unlike_1 : cX0_unlike.data.toList.drop 24 = dktX0_unlike_1 := dk_seg dksX0_unlike_0 24 rfl rfl
theorem dksX0_unlike_2 : cX0_unlike.data.toList.drop 48 = dktX0_unlike_2 := dk_seg dksX0_unlike_1 24 rfl rfl
theorem dX0_unlike_0 : decode cX0_unlike 0 = .ok (.aload_n 0, 1) := dk_42 (dk_at dksX0_unlike_0 0 rfl rfl)
theorem dX0_unlike_1 : decode cX0_unlike 1 = .ok (.iload_n 1, 1) := dk_27 (dk_at dksX0_unlike_0 1 rfl rfl)
theorem dX0_unlike_2 : decode cX0_unlike 2 = .ok (.invokevirtual 166, 3) := dk_182 0 166 (dk_at dksX0_unlike_0 2 rfl rfl)
theorem dX0_unlike_5 : decode cX0_unlike 5 = .ok (.ifCond .eq 11, 3) := dk_153 0 11 (dk_at dksX0_unlike_0 5 rfl rfl)
theorem dX0_unlike_8 : decode cX0_unlike 8 = .ok (.aload_n 0, 1) := dk_42 (dk_at dksX0_unlike_0 8 rfl rfl)
theorem dX0_unlike_9 : decode cX0_unlike 9 = .ok (.iload_n 2, 1) := dk_28 (dk_at dksX0_unlike_0 9 rfl rfl)
theorem dX0_unlike_10 : decode cX0_unlike 10 = .ok (.invokevirtual 166, 3) := dk_182 0 166 (dk_at dksX0_unlike_0 10 rfl rfl)
theorem dX0_unlike_13 : decode cX0_unlike 13 = .ok (.ifCond .ne 5, 3) := dk_154 0 5 (dk_at dksX0_unlike_0 13 rfl rfl)
theorem dX0_unlike_16 : decode cX0_unlike 16 = .ok (.iconst (-1), 1) := dk_2 (dk_at dksX0_unlike_0 16 rfl rfl)
theorem dX0_unlike_17 : decode cX0_unlike 17 = .ok (.ireturn, 1) := dk_172 (dk_at dksX0_unlike_0 17 rfl rfl)
theorem dX0_unlike_18 : decode cX0_unlike 18 = .ok (.aload_n 0, 1) := dk_42 (dk_at dksX0_unlike_0 18 rfl rfl)
theorem dX0_unlike_19 : decode cX0_unlike 19 = .ok (.getfield 30, 3) := dk_180 0 30 (dk_at dksX0_unlike_0 19 rfl rfl)
theorem dX0_unlike_22 : decode cX0_unlike 22 = .ok (.iload_n 1, 1) := dk_27 (dk_at dksX0_unlike_0 22 rfl rfl)
theorem dX0_unlike_23 : decode cX0_unlike 23 = .ok (.aaload, 1) := dk_50 (dk_at dksX0_unlike_0 23 rfl rfl)
theorem dX0_unlike_24 : decode cX0_unlike 24 = .ok (.getfield 169, 3) := dk_180 0 169 (dk_at dksX0_unlike_1 0 rfl rfl)
theorem dX0_unlike_27 : decode cX0_unlike 27 = .ok (.aload_n 0, 1) := dk_42 (dk_at dksX0_unlike_1 3 rfl rfl)
theorem dX0_unlike_28 : decode cX0_unlike 28 = .ok (.getfield 30, 3) := dk_180 0 30 (dk_at dksX0_unlike_1 4 rfl rfl)
theorem dX0_unlike_31 : decode cX0_unlike 31 = .ok (.iload_n 2, 1) := dk_28 (dk_at dksX0_unlike_1 7 rfl rfl)
theorem dX0_unlike_32 : decode cX0_unlike 32 = .ok (.aaload, 1) := dk_50 (dk_at dksX0_unlike_1 8 rfl rfl)
theorem dX0_unlike_33 : decode cX0_unlike 33 = .ok (.getfield 169, 3) := dk_180 0 169 (dk_at dksX0_unlike_1 9 rfl rfl)
theorem dX0_unlike_36 : decode cX0_unlike 36 = .ok (.if_acmp .ne 25, 3) := dk_166 0 25 (dk_at dksX0_unlike_1 12 rfl rfl)
theorem dX0_unlike_39 : decode cX0_unlike 39 = .ok (.aload_n 0, 1) := dk_42 (dk_at dksX0_unlike_1 15 rfl rfl)
theorem dX0_unlike_40 : decode cX0_unlike 40 = .ok (.getfield 30, 3) := dk_180 0 30 (dk_at dksX0_unlike_1 16 rfl rfl)
theorem dX0_unlike_43 : decode cX0_unlike 43 = .ok (.iload_n 1, 1) := dk_27 (dk_at dksX0_unlike_1 19 rfl rfl)
theorem dX0_unlike_44 : decode cX0_unlike 44 = .ok (.aaload, 1) := dk_50 (dk_at dksX0_unlike_1 20 rfl rfl)
theorem dX0_unlike_45 : decode cX0_unlike 45 = .ok (.getfield 179, 3) := dk_180 0 179 (dk_at dksX0_unlike_1 21 rfl rfl)
theorem dX0_unlike_48 : decode cX0_unlike 48 = .ok (.aload_n 0, 1) := dk_42 (dk_at dksX0_unlike_2 0 rfl rfl)
theorem dX0_unlike_49 : decode cX0_unlike 49 = .ok (.getfield 30, 3) := dk_180 0 30 (dk_at dksX0_unlike_2 1 rfl rfl)
theorem dX0_unlike_52 : decode cX0_unlike 52 = .ok (.iload_n 2, 1) := dk_28 (dk_at dksX0_unlike_2 4 rfl rfl)
theorem dX0_unlike_53 : decode cX0_unlike 53 = .ok (.aaload, 1) := dk_50 (dk_at dksX0_unlike_2 5 rfl rfl)
theorem dX0_unlike_54 : decode cX0_unlike 54 = .ok (.getfield 179, 3) := dk_180 0 179 (dk_at dksX0_unlike_2 6 rfl rfl)
theorem dX0_unlike_57 : decode cX0_unlike 57 = .ok (.ixor, 1) := dk_130 (dk_at dksX0_unlike_2 9 rfl rfl)
theorem dX0_unlike_58 : decode cX0_unlike 58 = .ok (.goto 5, 3) := dk_167 0 5 (dk_at dksX0_unlike_2 10 rfl rfl)
theorem dX0_unlike_61 : decode cX0_unlike 61 = .ok (.bipush (-3), 2) := dk_16 253 (dk_at dksX0_unlike_2 13 rfl rfl)
theorem dX0_unlike_63 : decode cX0_unlike 63 = .ok (.ireturn, 1) := dk_172 (dk_at dksX0_unlike_2 15 rfl rfl)
abbrev cX0_passes : ByteArray := prog_1_method_44_code
def yX0_passes : MethodName := ⟨RX0, "passes", "(IIII)I"⟩
def dkwX0_passes_4 : List UInt8 := [167, 0, 4, 3, 172]
abbrev dktX0_passes_4 : List UInt8 := dkwX0_passes_4 ++ []
def dkwX0_passes_3 : List UInt8 := [28, 50, 29, 21, 4, 182, 1, 73, 128, 54, 6, 21, 5, 21, 6, 2, 130, 126, 154, 0, 7, 4]
abbrev dktX0_passes_3 : List UInt8 := dkwX0_passes_3 ++ dktX0_passes_4
def dkwX0_passes_2 : List UInt8 := [156, 0, 6, 16, 253, 172, 42, 42, 180, 0, 30, 27, 50, 29, 21, 4, 182, 1, 73, 42, 42, 180, 0, 30]
abbrev dktX0_passes_2 : List UInt8 := dkwX0_passes_2 ++ dktX0_passes_3
def dkwX0_passes_1 : List UInt8 := [172, 21, 4, 184, 1, 38, 154, 0, 6, 16, 254, 172, 42, 27, 28, 182, 1, 131, 54, 5, 21, 5]
abbrev dktX0_passes_1 : List UInt8 := dkwX0_passes_1 ++ dktX0_passes_2
def dkwX0_passes_0 : List UInt8 := [42, 27, 182, 0, 166, 153, 0, 18, 42, 28, 182, 0, 166, 153, 0, 10, 29, 184, 0, 137, 154, 0, 5, 2]
abbrev dktX0_passes_0 : List UInt8 := dkwX0_passes_0 ++ dktX0_passes_1
theorem dksX0_passes_0 : cX0_passes.data.toList.drop 0 = dktX0_passes_0 := by decide +kernel
theorem dksX0_passes_1 : cX0_passes.data.toList.drop 24 = dktX0_passes_1 := dk_seg dksX0_passes_0 24 rfl rfl
theorem dksX0_passes_2 : cX0_passes.data.toList.drop 46 = dktX0_passes_2 := dk_seg dksX0_passes_1 22 rfl rfl
theorem dksX0_passes_3 : cX0_passes.data.toList.drop 70 = dktX0_passes_3 := dk_seg dksX0_passes_2 24 rfl rfl
theorem dksX0_passes_4 : cX0_passes.data.toList.drop 92 = dktX0_passes_4 := dk_seg dksX0_passes_3 22 rfl rfl
theorem dX0_passes_0 : decode cX0_passes 0 = .ok (.aload_n 0, 1) := dk_42 (dk_at dksX0_passes_0 0 rfl rfl)
theorem dX0_passes_1 : decode cX0_passes 1 = .ok (.iload_n 1, 1) := dk_27 (dk_at dksX0_passes_0 1 rfl rfl)
theorem dX0_passes_2 : decode cX0_passes 2 = .ok (.invokevirtual 166, 3) := dk_182 0 166 (dk_at dksX0_passes_0 2 rfl rfl)
theorem dX0_passes_5 : decode cX0_passes 5 = .ok (.ifCond .eq 18, 3) := dk_153 0 18 (dk_at dksX0_passes_0 5 rfl rfl)
theorem dX0_passes_8 : decode cX0_passes 8 = .ok (.aload_n 0, 1) := dk_42 (dk_at dksX0_passes_0 8 rfl rfl)
theorem dX0_passes_9 : decode cX0_passes 9 = .ok (.iload_n 2, 1) := dk_28 (dk_at dksX0_passes_0 9 rfl rfl)
theorem dX0_passes_10 : decode cX0_passes 10 = .ok (.invokevirtual 166, 3) := dk_182 0 166 (dk_at dksX0_passes_0 10 rfl rfl)
theorem dX0_passes_13 : decode cX0_passes 13 = .ok (.ifCond .eq 10, 3) := dk_153 0 10 (dk_at dksX0_passes_0 13 rfl rfl)
theorem dX0_passes_16 : decode cX0_passes 16 = .ok (.iload_n 3, 1) := dk_29 (dk_at dksX0_passes_0 16 rfl rfl)
theorem dX0_passes_17 : decode cX0_passes 17 = .ok (.invokestatic 137, 3) := dk_184 0 137 (dk_at dksX0_passes_0 17 rfl rfl)
theorem dX0_passes_20 : decode cX0_passes 20 = .ok (.ifCond .ne 5, 3) := dk_154 0 5 (dk_at dksX0_passes_0 20 rfl rfl)
theorem dX0_passes_23 : decode cX0_passes 23 = .ok (.iconst (-1), 1) := dk_2 (dk_at dksX0_passes_0 23 rfl rfl)
theorem dX0_passes_24 : decode cX0_passes 24 = .ok (.ireturn, 1) := dk_172 (dk_at dksX0_passes_1 0 rfl rfl)
theorem dX0_passes_25 : decode cX0_passes 25 = .ok (.iload 4, 2) := dk_21 4 (dk_at dksX0_passes_1 1 rfl rfl)
theorem dX0_passes_27 : decode cX0_passes 27 = .ok (.invokestatic 294, 3) := dk_184 1 38 (dk_at dksX0_passes_1 3 rfl rfl)
theorem dX0_passes_30 : decode cX0_passes 30 = .ok (.ifCond .ne 6, 3) := dk_154 0 6 (dk_at dksX0_passes_1 6 rfl rfl)
theorem dX0_passes_33 : decode cX0_passes 33 = .ok (.bipush (-2), 2) := dk_16 254 (dk_at dksX0_passes_1 9 rfl rfl)
theorem dX0_passes_35 : decode cX0_passes 35 = .ok (.ireturn, 1) := dk_172 (dk_at dksX0_passes_1 11 rfl rfl)
theorem dX0_passes_36 : decode cX0_passes 36 = .ok (.aload_n 0, 1) := dk_42 (dk_at dksX0_passes_1 12 rfl rfl)
theorem dX0_passes_37 : decode cX0_passes 37 = .ok (.iload_n 1, 1) := dk_27 (dk_at dksX0_passes_1 13 rfl rfl)
theorem dX0_passes_38 : decode cX0_passes 38 = .ok (.iload_n 2, 1) := dk_28 (dk_at dksX0_passes_1 14 rfl rfl)
theorem dX0_passes_39 : decode cX0_passes 39 = .ok (.invokevirtual 387, 3) := dk_182 1 131 (dk_at dksX0_passes_1 15 rfl rfl)
theorem dX0_passes_42 : decode cX0_passes 42 = .ok (.istore 5, 2) := dk_54 5 (dk_at dksX0_passes_1 18 rfl rfl)
theorem dX0_passes_44 : decode cX0_passes 44 = .ok (.iload 5, 2) := dk_21 5 (dk_at dksX0_passes_1 20 rfl rfl)
theorem dX0_passes_46 : decode cX0_passes 46 = .ok (.ifCond .ge 6, 3) := dk_156 0 6 (dk_at dksX0_passes_2 0 rfl rfl)
theorem dX0_passes_49 : decode cX0_passes 49 = .ok (.bipush (-3), 2) := dk_16 253 (dk_at dksX0_passes_2 3 rfl rfl)
theorem dX0_passes_51 : decode cX0_passes 51 = .ok (.ireturn, 1) := dk_172 (dk_at dksX0_passes_2 5 rfl rfl)
theorem dX0_passes_52 : decode cX0_passes 52 = .ok (.aload_n 0, 1) := dk_42 (dk_at dksX0_passes_2 6 rfl rfl)
theorem dX0_passes_53 : decode cX0_passes 53 = .ok (.aload_n 0, 1) := dk_42 (dk_at dksX0_passes_2 7 rfl rfl)
theorem dX0_passes_54 : decode cX0_passes 54 = .ok (.getfield 30, 3) := dk_180 0 30 (dk_at dksX0_passes_2 8 rfl rfl)
theorem dX0_passes_57 : decode cX0_passes 57 = .ok (.iload_n 1, 1) := dk_27 (dk_at dksX0_passes_2 11 rfl rfl)
theorem dX0_passes_58 : decode cX0_passes 58 = .ok (.aaload, 1) := dk_50 (dk_at dksX0_passes_2 12 rfl rfl)
theorem dX0_passes_59 : decode cX0_passes 59 = .ok (.iload_n 3, 1) := dk_29 (dk_at dksX0_passes_2 13 rfl rfl)
theorem dX0_passes_60 : decode cX0_passes 60 = .ok (.iload 4, 2) := dk_21 4 (dk_at dksX0_passes_2 14 rfl rfl)
theorem dX0_passes_62 : decode cX0_passes 62 = .ok (.invokevirtual 329, 3) := dk_182 1 73 (dk_at dksX0_passes_2 16 rfl rfl)
theorem dX0_passes_65 : decode cX0_passes 65 = .ok (.aload_n 0, 1) := dk_42 (dk_at dksX0_passes_2 19 rfl rfl)
theorem dX0_passes_66 : decode cX0_passes 66 = .ok (.aload_n 0, 1) := dk_42 (dk_at dksX0_passes_2 20 rfl rfl)
theorem dX0_passes_67 : decode cX0_passes 67 = .ok (.getfield 30, 3) := dk_180 0 30 (dk_at dksX0_passes_2 21 rfl rfl)
theorem dX0_passes_70 : decode cX0_passes 70 = .ok (.iload_n 2, 1) := dk_28 (dk_at dksX0_passes_3 0 rfl rfl)
theorem dX0_passes_71 : decode cX0_passes 71 = .ok (.aaload, 1) := dk_50 (dk_at dksX0_passes_3 1 rfl rfl)
theorem dX0_passes_72 : decode cX0_passes 72 = .ok (.iload_n 3, 1) := dk_29 (dk_at dksX0_passes_3 2 rfl rfl)
theorem dX0_passes_73 : decode cX0_passes 73 = .ok (.iload 4, 2) := dk_21 4 (dk_at dksX0_passes_3 3 rfl rfl)
theorem dX0_passes_75 : decode cX0_passes 75 = .ok (.invokevirtual 329, 3) := dk_182 1 73 (dk_at dksX0_passes_3 5 rfl rfl)
theorem dX0_passes_78 : decode cX0_passes 78 = .ok (.ior, 1) := dk_128 (dk_at dksX0_passes_3 8 rfl rfl)
theorem dX0_passes_79 : decode cX0_passes 79 = .ok (.istore 6, 2) := dk_54 6 (dk_at dksX0_passes_3 9 rfl rfl)
theorem dX0_passes_81 : decode cX0_passes 81 = .ok (.iload 5, 2) := dk_21 5 (dk_at dksX0_passes_3 11 rfl rfl)
theorem dX0_passes_83 : decode cX0_passes 83 = .ok (.iload 6, 2) := dk_21 6 (dk_at dksX0_passes_3 13 rfl rfl)
theorem dX0_passes_85 : decode cX0_passes 85 = .ok (.iconst (-1), 1) := dk_2 (dk_at dksX0_passes_3 15 rfl rfl)
theorem dX0_passes_86 : decode cX0_passes 86 = .ok (.ixor, 1) := dk_130 (dk_at dksX0_passes_3 16 rfl rfl)
theorem dX0_passes_87 : decode cX0_passes 87 = .ok (.iand, 1) := dk_126 (dk_at dksX0_passes_3 17 rfl rfl)
theorem dX0_passes_88 : decode cX0_passes 88 = .ok (.ifCond .ne 7, 3) := dk_154 0 7 (dk_at dksX0_passes_3 18 rfl rfl)
theorem dX0_passes_91 : decode cX0_passes 91 = .ok (.iconst 1, 1) := dk_4 (dk_at dksX0_passes_3 21 rfl rfl)
theorem dX0_passes_92 : decode cX0_passes 92 = .ok (.goto 4, 3) := dk_167 0 4 (dk_at dksX0_passes_4 0 rfl rfl)
theorem dX0_passes_95 : decode cX0_passes 95 = .ok (.iconst 0, 1) := dk_3 (dk_at dksX0_passes_4 3 rfl rfl)
theorem dX0_passes_96 : decode cX0_passes 96 = .ok (.ireturn, 1) := dk_172 (dk_at dksX0_passes_4 4 rfl rfl)
abbrev cX0_part : ByteArray := prog_1_method_45_code
def yX0_part : MethodName := ⟨RX0, "part", "(III)I"⟩
def dkwX0_part_5 : List UInt8 := [128, 79, 25, 4, 89, 180, 1, 137, 4, 96, 90, 181, 1, 137, 172]
abbrev dktX0_part_5 : List UInt8 := dkwX0_part_5 ++ []
def dkwX0_part_4 : List UInt8 := [25, 4, 180, 1, 134, 28, 92, 46, 4, 29, 120, 128, 79, 25, 4, 180, 1, 134, 29, 92, 46, 4, 28, 120]
abbrev dktX0_part_4 : List UInt8 := dkwX0_part_4 ++ dktX0_part_5
def dkwX0_part_3 : List UInt8 := [122, 4, 126, 4, 160, 0, 6, 16, 253, 172, 25, 4, 180, 1, 137, 16, 20, 160, 0, 6, 16, 252, 172]
abbrev dktX0_part_3 : List UInt8 := dkwX0_part_3 ++ dktX0_part_4
def dkwX0_part_2 : List UInt8 := [28, 29, 160, 0, 6, 16, 254, 172, 42, 180, 0, 24, 27, 50, 58, 4, 25, 4, 180, 1, 134, 28, 46, 29]
abbrev dktX0_part_2 : List UInt8 := dkwX0_part_2 ++ dktX0_part_3
def dkwX0_part_1 : List UInt8 := [153, 0, 22, 29, 3, 42, 180, 0, 24, 27, 50, 180, 0, 160, 4, 100, 184, 0, 123, 154, 0, 5, 2, 172]
abbrev dktX0_part_1 : List UInt8 := dkwX0_part_1 ++ dktX0_part_2
def dkwX0_part_0 : List UInt8 := [42, 27, 182, 0, 156, 153, 0, 41, 28, 3, 42, 180, 0, 24, 27, 50, 180, 0, 160, 4, 100, 184, 0, 123]
abbrev dktX0_part_0 : List UInt8 := dkwX0_part_0 ++ dktX0_part_1
theorem dksX0_part_0 : cX0_part.data.toList.drop 0 = dktX0_part_0 := by decide +kernel
theorem dksX0_part_1 : cX0_part.data.toList.drop 24 = dktX0_part_1 := dk_seg dksX0_part_0 24 rfl rfl
theorem dksX0_part_2 : cX0_part.data.toList.drop 48 = dktX0_part_2 := dk_seg dksX0_part_1 24 rfl rfl
theorem dksX0_part_3 : cX0_part.data.toList.drop 72 = dktX0_part_3 := dk_seg dksX0_part_2 24 rfl rfl
theorem dksX0_part_4 : cX0_part.data.toList.drop 95 = dktX0_part_4 := dk_seg dksX0_part_3 23 rfl rfl
theorem dksX0_part_5 : cX0_part.data.toList.drop 119 = dktX0_part_5 := dk_seg dksX0_part_4 24 rfl rfl
theorem dX0_part_0 : decode cX0_part 0 = .ok (.aload_n 0, 1) := dk_42 (dk_at dksX0_part_0 0 rfl rfl)
theorem dX0_part_1 : decode cX0_part 1 = .ok (.iload_n 1, 1) := dk_27 (dk_at dksX0_part_0 1 rfl rfl)
theorem dX0_part_2 : decode cX0_part 2 = .ok (.invokevirtual 156, 3) := dk_182 0 156 (dk_at dksX0_part_0 2 rfl rfl)
theorem dX0_part_5 : decode cX0_part 5 = .ok (.ifCond .eq 41, 3) := dk_153 0 41 (dk_at dksX0_part_0 5 rfl rfl)
theorem dX0_part_8 : decode cX0_part 8 = .ok (.iload_n 2, 1) := dk_28 (dk_at dksX0_part_0 8 rfl rfl)
theorem dX0_part_9 : decode cX0_part 9 = .ok (.iconst 0, 1) := dk_3 (dk_at dksX0_part_0 9 rfl rfl)
theorem dX0_part_10 : decode cX0_part 10 = .ok (.aload_n 0, 1) := dk_42 (dk_at dksX0_part_0 10 rfl rfl)
theorem dX0_part_11 : decode cX0_part 11 = .ok (.getfield 24, 3) := dk_180 0 24 (dk_at dksX0_part_0 11 rfl rfl)
theorem dX0_part_14 : decode cX0_part 14 = .ok (.iload_n 1, 1) := dk_27 (dk_at dksX0_part_0 14 rfl rfl)
theorem dX0_part_15 : decode cX0_part 15 = .ok (.aaload, 1) := dk_50 (dk_at dksX0_part_0 15 rfl rfl)
theorem dX0_part_16 : decode cX0_part 16 = .ok (.getfield 160, 3) := dk_180 0 160 (dk_at dksX0_part_0 16 rfl rfl)
theorem dX0_part_19 : decode cX0_part 19 = .ok (.iconst 1, 1) := dk_4 (dk_at dksX0_part_0 19 rfl rfl)
theorem dX0_part_20 : decode cX0_part 20 = .ok (.isub, 1) := dk_100 (dk_at dksX0_part_0 20 rfl rfl)
theorem dX0_part_21 : decode cX0_part 21 = .ok (.invokestatic 123, 3) := dk_184 0 123 (dk_at dksX0_part_0 21 rfl rfl)
theorem dX0_part_24 : decode cX0_part 24 = .ok (.ifCond .eq 22, 3) := dk_153 0 22 (dk_at dksX0_part_1 0 rfl rfl)
theorem dX0_part_27 : decode cX0_part 27 = .ok (.iload_n 3, 1) := dk_29 (dk_at dksX0_part_1 3 rfl rfl)
theorem dX0_part_28 : decode cX0_part 28 = .ok (.iconst 0, 1) := dk_3 (dk_at dksX0_part_1 4 rfl rfl)
theorem dX0_part_29 : decode cX0_part 29 = .ok (.aload_n 0, 1) := dk_42 (dk_at dksX0_part_1 5 rfl rfl)
theorem dX0_part_30 : decode cX0_part 30 = .ok (.getfield 24, 3) := dk_180 0 24 (dk_at dksX0_part_1 6 rfl rfl)
theorem dX0_part_33 : decode cX0_part 33 = .ok (.iload_n 1, 1) := dk_27 (dk_at dksX0_part_1 9 rfl rfl)
theorem dX0_part_34 : decode cX0_part 34 = .ok (.aaload, 1) := dk_50 (dk_at dksX0_part_1 10 rfl rfl)
theorem dX0_part_35 : decode cX0_part 35 = .ok (.getfield 160, 3) := dk_180 0 160 (dk_at dksX0_part_1 11 rfl rfl)
theorem dX0_part_38 : decode cX0_part 38 = .ok (.iconst 1, 1) := dk_4 (dk_at dksX0_part_1 14 rfl rfl)
theorem dX0_part_39 : decode cX0_part 39 = .ok (.isub, 1) := dk_100 (dk_at dksX0_part_1 15 rfl rfl)
theorem dX0_part_40 : decode cX0_part 40 = .ok (.invokestatic 123, 3) := dk_184 0 123 (dk_at dksX0_part_1 16 rfl rfl)
theorem dX0_part_43 : decode cX0_part 43 = .ok (.ifCond .ne 5, 3) := dk_154 0 5 (dk_at dksX0_part_1 19 rfl rfl)
theorem dX0_part_46 : decode cX0_part 46 = .ok (.iconst (-1), 1) := dk_2 (dk_at dksX0_part_1 22 rfl rfl)
theorem dX0_part_47 : decode cX0_part 47 = .ok (.ireturn, 1) := dk_172 (dk_at dksX0_part_1 23 rfl rfl)
theorem dX0_part_48 : decode cX0_part 48 = .ok (.iload_n 2, 1) := dk_28 (dk_at dksX0_part_2 0 rfl rfl)
theorem dX0_part_49 : decode cX0_part 49 = .ok (.iload_n 3, 1) := dk_29 (dk_at dksX0_part_2 1 rfl rfl)
theorem dX0_part_50 : decode cX0_part 50 = .ok (.if_icmp .ne 6, 3) := dk_160 0 6 (dk_at dksX0_part_2 2 rfl rfl)
theorem dX0_part_53 : decode cX0_part 53 = .ok (.bipush (-2), 2) := dk_16 254 (dk_at dksX0_part_2 5 rfl rfl)
theorem dX0_part_55 : decode cX0_part 55 = .ok (.ireturn, 1) := dk_172 (dk_at dksX0_part_2 7 rfl rfl)
theorem dX0_part_56 : decode cX0_part 56 = .ok (.aload_n 0, 1) := dk_42 (dk_at dksX0_part_2 8 rfl rfl)
theorem dX0_part_57 : decode cX0_part 57 = .ok (.getfield 24, 3) := dk_180 0 24 (dk_at dksX0_part_2 9 rfl rfl)
theorem dX0_part_60 : decode cX0_part 60 = .ok (.iload_n 1, 1) := dk_27 (dk_at dksX0_part_2 12 rfl rfl)
theorem dX0_part_61 : decode cX0_part 61 = .ok (.aaload, 1) := dk_50 (dk_at dksX0_part_2 13 rfl rfl)
theorem dX0_part_62 : decode cX0_part 62 = .ok (.astore 4, 2) := dk_58 4 (dk_at dksX0_part_2 14 rfl rfl)
theorem dX0_part_64 : decode cX0_part 64 = .ok (.aload 4, 2) := dk_25 4 (dk_at dksX0_part_2 16 rfl rfl)
theorem dX0_part_66 : decode cX0_part 66 = .ok (.getfield 390, 3) := dk_180 1 134 (dk_at dksX0_part_2 18 rfl rfl)
theorem dX0_part_69 : decode cX0_part 69 = .ok (.iload_n 2, 1) := dk_28 (dk_at dksX0_part_2 21 rfl rfl)
theorem dX0_part_70 : decode cX0_part 70 = .ok (.iaload, 1) := dk_46 (dk_at dksX0_part_2 22 rfl rfl)
theorem dX0_part_71 : decode cX0_part 71 = .ok (.iload_n 3, 1) := dk_29 (dk_at dksX0_part_2 23 rfl rfl)
theorem dX0_part_72 : decode cX0_part 72 = .ok (.ishr, 1) := dk_122 (dk_at dksX0_part_3 0 rfl rfl)
theorem dX0_part_73 : decode cX0_part 73 = .ok (.iconst 1, 1) := dk_4 (dk_at dksX0_part_3 1 rfl rfl)
theorem dX0_part_74 : decode cX0_part 74 = .ok (.iand, 1) := dk_126 (dk_at dksX0_part_3 2 rfl rfl)
theorem dX0_part_75 : decode cX0_part 75 = .ok (.iconst 1, 1) := dk_4 (dk_at dksX0_part_3 3 rfl rfl)
theorem dX0_part_76 : decode cX0_part 76 = .ok (.if_icmp .ne 6, 3) := dk_160 0 6 (dk_at dksX0_part_3 4 rfl rfl)
theorem dX0_part_79 : decode cX0_part 79 = .ok (.bipush (-3), 2) := dk_16 253 (dk_at dksX0_part_3 7 rfl rfl)
theorem dX0_part_81 : decode cX0_part 81 = .ok (.ireturn, 1) := dk_172 (dk_at dksX0_part_3 9 rfl rfl)
theorem dX0_part_82 : decode cX0_part 82 = .ok (.aload 4, 2) := dk_25 4 (dk_at dksX0_part_3 10 rfl rfl)
theorem dX0_part_84 : decode cX0_part 84 = .ok (.getfield 393, 3) := dk_180 1 137 (dk_at dksX0_part_3 12 rfl rfl)
theorem dX0_part_87 : decode cX0_part 87 = .ok (.bipush 20, 2) := dk_16 20 (dk_at dksX0_part_3 15 rfl rfl)
theorem dX0_part_89 : decode cX0_part 89 = .ok (.if_icmp .ne 6, 3) := dk_160 0 6 (dk_at dksX0_part_3 17 rfl rfl)
theorem dX0_part_92 : decode cX0_part 92 = .ok (.bipush (-4), 2) := dk_16 252 (dk_at dksX0_part_3 20 rfl rfl)
theorem dX0_part_94 : decode cX0_part 94 = .ok (.ireturn, 1) := dk_172 (dk_at dksX0_part_3 22 rfl rfl)
theorem dX0_part_95 : decode cX0_part 95 = .ok (.aload 4, 2) := dk_25 4 (dk_at dksX0_part_4 0 rfl rfl)
theorem dX0_part_97 : decode cX0_part 97 = .ok (.getfield 390, 3) := dk_180 1 134 (dk_at dksX0_part_4 2 rfl rfl)
theorem dX0_part_100 : decode cX0_part 100 = .ok (.iload_n 2, 1) := dk_28 (dk_at dksX0_part_4 5 rfl rfl)
theorem dX0_part_101 : decode cX0_part 101 = .ok (.dup2, 1) := dk_92 (dk_at dksX0_part_4 6 rfl rfl)
theorem dX0_part_102 : decode cX0_part 102 = .ok (.iaload, 1) := dk_46 (dk_at dksX0_part_4 7 rfl rfl)
theorem dX0_part_103 : decode cX0_part 103 = .ok (.iconst 1, 1) := dk_4 (dk_at dksX0_part_4 8 rfl rfl)
theorem dX0_part_104 : decode cX0_part 104 = .ok (.iload_n 3, 1) := dk_29 (dk_at dksX0_part_4 9 rfl rfl)
theorem dX0_part_105 : decode cX0_part 105 = .ok (.ishl, 1) := dk_120 (dk_at dksX0_part_4 10 rfl rfl)
theorem dX0_part_106 : decode cX0_part 106 = .ok (.ior, 1) := dk_128 (dk_at dksX0_part_4 11 rfl rfl)
theorem dX0_part_107 : decode cX0_part 107 = .ok (.iastore, 1) := dk_79 (dk_at dksX0_part_4 12 rfl rfl)
theorem dX0_part_108 : decode cX0_part 108 = .ok (.aload 4, 2) := dk_25 4 (dk_at dksX0_part_4 13 rfl rfl)
theorem dX0_part_110 : decode cX0_part 110 = .ok (.getfield 390, 3) := dk_180 1 134 (dk_at dksX0_part_4 15 rfl rfl)
theorem dX0_part_113 : decode cX0_part 113 = .ok (.iload_n 3, 1) := dk_29 (dk_at dksX0_part_4 18 rfl rfl)
theorem dX0_part_114 : decode cX0_part 114 = .ok (.dup2, 1) := dk_92 (dk_at dksX0_part_4 19 rfl rfl)
theorem dX0_part_115 : decode cX0_part 115 = .ok (.iaload, 1) := dk_46 (dk_at dksX0_part_4 20 rfl rfl)
theorem dX0_part_116 : decode cX0_part 116 = .ok (.iconst 1, 1) := dk_4 (dk_at dksX0_part_4 21 rfl rfl)
theorem dX0_part_117 : decode cX0_part 117 = .ok (.iload_n 2, 1) := dk_28 (dk_at dksX0_part_4 22 rfl rfl)
theorem dX0_part_118 : decode cX0_part 118 = .ok (.ishl, 1) := dk_120 (dk_at dksX0_part_4 23 rfl rfl)
theorem dX0_part_119 : decode cX0_part 119 = .ok (.ior, 1) := dk_128 (dk_at dksX0_part_5 0 rfl rfl)
theorem dX0_part_120 : decode cX0_part 120 = .ok (.iastore, 1) := dk_79 (dk_at dksX0_part_5 1 rfl rfl)
theorem dX0_part_121 : decode cX0_part 121 = .ok (.aload 4, 2) := dk_25 4 (dk_at dksX0_part_5 2 rfl rfl)
theorem dX0_part_123 : decode cX0_part 123 = .ok (.dup, 1) := dk_89 (dk_at dksX0_part_5 4 rfl rfl)
theorem dX0_part_124 : decode cX0_part 124 = .ok (.getfield 393, 3) := dk_180 1 137 (dk_at dksX0_part_5 5 rfl rfl)
theorem dX0_part_127 : decode cX0_part 127 = .ok (.iconst 1, 1) := dk_4 (dk_at dksX0_part_5 8 rfl rfl)
theorem dX0_part_128 : decode cX0_part 128 = .ok (.iadd, 1) := dk_96 (dk_at dksX0_part_5 9 rfl rfl)
theorem dX0_part_129 : decode cX0_part 129 = .ok (.dup_x1, 1) := dk_90 (dk_at dksX0_part_5 10 rfl rfl)
theorem dX0_part_130 : decode cX0_part 130 = .ok (.putfield 393, 3) := dk_181 1 137 (dk_at dksX0_part_5 11 rfl rfl)
theorem dX0_part_133 : decode cX0_part 133 = .ok (.ireturn, 1) := dk_172 (dk_at dksX0_part_5 14 rfl rfl)
abbrev cX0_blind : ByteArray := prog_1_method_47_code
def yX0_blind : MethodName := ⟨RX0, "blind", "(II)I"⟩
def dkwX0_blind_3 : List UInt8 := [21, 4, 167, 0, 9, 42, 180, 0, 89, 28, 46, 172]
abbrev dktX0_blind_3 : List UInt8 := dkwX0_blind_3 ++ []
def dkwX0_blind_2 : List UInt8 := [54, 4, 42, 45, 3, 21, 4, 182, 1, 140, 154, 0, 9, 132, 4, 1, 167, 255, 242, 28, 2, 160, 0, 8]
abbrev dktX0_blind_2 : List UInt8 := dkwX0_blind_2 ++ dktX0_blind_3
def dkwX0_blind_1 : List UInt8 := [16, 9, 164, 0, 6, 16, 253, 172, 28, 2, 159, 0, 13, 45, 28, 182, 1, 63, 154, 0, 5, 2, 172, 4]
abbrev dktX0_blind_1 : List UInt8 := dkwX0_blind_1 ++ dktX0_blind_2
def dkwX0_blind_0 : List UInt8 := [42, 27, 182, 0, 166, 154, 0, 5, 2, 172, 42, 180, 0, 30, 27, 50, 78, 45, 180, 0, 179, 184, 1, 143]
abbrev dktX0_blind_0 : List UInt8 := dkwX0_blind_0 ++ dktX0_blind_1
theorem dksX0_blind_0 : cX0_blind.data.toList.drop 0 = dktX0_blind_0 := by decide +kernel
theorem dksX0_blind_1 : cX0_blind.data.toList.drop 24 = dktX0_blind_1 := dk_seg dksX0_blind_0 24 rfl rfl
theorem dksX0_blind_2 : cX0_blind.data.toList.drop 48 = dktX0_blind_2 := dk_seg dksX0_blind_1 24 rfl rfl
theorem dksX0_blind_3 : cX0_blind.data.toList.drop 72 = dktX0_blind_3 := dk_seg dksX0_blind_2 24 rfl rfl
theorem dX0_blind_0 : decode cX0_blind 0 = .ok (.aload_n 0, 1) := dk_42 (dk_at dksX0_blind_0 0 rfl rfl)
theorem dX0_blind_1 : decode cX0_blind 1 = .ok (.iload_n 1, 1) := dk_27 (dk_at dksX0_blind_0 1 rfl rfl)
theorem dX0_blind_2 : decode cX0_blind 2 = .ok (.invokevirtual 166, 3) := dk_182 0 166 (dk_at dksX0_blind_0 2 rfl rfl)
theorem dX0_blind_5 : decode cX0_blind 5 = .ok (.ifCond .ne 5, 3) := dk_154 0 5 (dk_at dksX0_blind_0 5 rfl rfl)
theorem dX0_blind_8 : decode cX0_blind 8 = .ok (.iconst (-1), 1) := dk_2 (dk_at dksX0_blind_0 8 rfl rfl)
theorem dX0_blind_9 : decode cX0_blind 9 = .ok (.ireturn, 1) := dk_172 (dk_at dksX0_blind_0 9 rfl rfl)
theorem dX0_blind_10 : decode cX0_blind 10 = .ok (.aload_n 0, 1) := dk_42 (dk_at dksX0_blind_0 10 rfl rfl)
theorem dX0_blind_11 : decode cX0_blind 11 = .ok (.getfield 30, 3) := dk_180 0 30 (dk_at dksX0_blind_0 11 rfl rfl)
theorem dX0_blind_14 : decode cX0_blind 14 = .ok (.iload_n 1, 1) := dk_27 (dk_at dksX0_blind_0 14 rfl rfl)
theorem dX0_blind_15 : decode cX0_blind 15 = .ok (.aaload, 1) := dk_50 (dk_at dksX0_blind_0 15 rfl rfl)
theorem dX0_blind_16 : decode cX0_blind 16 = .ok (.astore_n 3, 1) := dk_78 (dk_at dksX0_blind_0 16 rfl rfl)
theorem dX0_blind_17 : decode cX0_blind 17 = .ok (.aload_n 3, 1) := dk_45 (dk_at dksX0_blind_0 17 rfl rfl)
theorem dX0_blind_18 : decode cX0_blind 18 = .ok (.getfield 179, 3) := dk_180 0 179 (dk_at dksX0_blind_0 18 rfl rfl)
theorem dX0_blind_21 : decode cX0_blind 21 = .ok (.invokestatic 399, 3) := dk_184 1 143 (dk_at dksX0_blind_0 21 rfl rfl)
theorem dX0_blind_24 : decode cX0_blind 24 = .ok (.bipush 9, 2) := dk_16 9 (dk_at dksX0_blind_1 0 rfl rfl)
theorem dX0_blind_26 : decode cX0_blind 26 = .ok (.if_icmp .le 6, 3) := dk_164 0 6 (dk_at dksX0_blind_1 2 rfl rfl)
theorem dX0_blind_29 : decode cX0_blind 29 = .ok (.bipush (-3), 2) := dk_16 253 (dk_at dksX0_blind_1 5 rfl rfl)
theorem dX0_blind_31 : decode cX0_blind 31 = .ok (.ireturn, 1) := dk_172 (dk_at dksX0_blind_1 7 rfl rfl)
theorem dX0_blind_32 : decode cX0_blind 32 = .ok (.iload_n 2, 1) := dk_28 (dk_at dksX0_blind_1 8 rfl rfl)
theorem dX0_blind_33 : decode cX0_blind 33 = .ok (.iconst (-1), 1) := dk_2 (dk_at dksX0_blind_1 9 rfl rfl)
theorem dX0_blind_34 : decode cX0_blind 34 = .ok (.if_icmp .eq 13, 3) := dk_159 0 13 (dk_at dksX0_blind_1 10 rfl rfl)
theorem dX0_blind_37 : decode cX0_blind 37 = .ok (.aload_n 3, 1) := dk_45 (dk_at dksX0_blind_1 13 rfl rfl)
theorem dX0_blind_38 : decode cX0_blind 38 = .ok (.iload_n 2, 1) := dk_28 (dk_at dksX0_blind_1 14 rfl rfl)
theorem dX0_blind_39 : decode cX0_blind 39 = .ok (.invokevirtual 319, 3) := dk_182 1 63 (dk_at dksX0_blind_1 15 rfl rfl)
theorem dX0_blind_42 : decode cX0_blind 42 = .ok (.ifCond .ne 5, 3) := dk_154 0 5 (dk_at dksX0_blind_1 18 rfl rfl)
theorem dX0_blind_45 : decode cX0_blind 45 = .ok (.iconst (-1), 1) := dk_2 (dk_at dksX0_blind_1 21 rfl rfl)
theorem dX0_blind_46 : decode cX0_blind 46 = .ok (.ireturn, 1) := dk_172 (dk_at dksX0_blind_1 22 rfl rfl)
theorem dX0_blind_47 : decode cX0_blind 47 = .ok (.iconst 1, 1) := dk_4 (dk_at dksX0_blind_1 23 rfl rfl)
theorem dX0_blind_48 : decode cX0_blind 48 = .ok (.istore 4, 2) := dk_54 4 (dk_at dksX0_blind_2 0 rfl rfl)
theorem dX0_blind_50 : decode cX0_blind 50 = .ok (.aload_n 0, 1) := dk_42 (dk_at dksX0_blind_2 2 rfl rfl)
theorem dX0_blind_51 : decode cX0_blind 51 = .ok (.aload_n 3, 1) := dk_45 (dk_at dksX0_blind_2 3 rfl rfl)
theorem dX0_blind_52 : decode cX0_blind 52 = .ok (.iconst 0, 1) := dk_3 (dk_at dksX0_blind_2 4 rfl rfl)
theorem dX0_blind_53 : decode cX0_blind 53 = .ok (.iload 4, 2) := dk_21 4 (dk_at dksX0_blind_2 5 rfl rfl)
theorem dX0_blind_55 : decode cX0_blind 55 = .ok (.invokevirtual 396, 3) := dk_182 1 140 (dk_at dksX0_blind_2 7 rfl rfl)
theorem dX0_blind_58 : decode cX0_blind 58 = .ok (.ifCond .ne 9, 3) := dk_154 0 9 (dk_at dksX0_blind_2 10 rfl rfl)
theorem dX0_blind_61 : decode cX0_blind 61 = .ok (.iinc 4 1, 3) := dk_132 4 1 (dk_at dksX0_blind_2 13 rfl rfl)
theorem dX0_blind_64 : decode cX0_blind 64 = .ok (.goto (-14), 3) := dk_167 255 242 (dk_at dksX0_blind_2 16 rfl rfl)
theorem dX0_blind_67 : decode cX0_blind 67 = .ok (.iload_n 2, 1) := dk_28 (dk_at dksX0_blind_2 19 rfl rfl)
theorem dX0_blind_68 : decode cX0_blind 68 = .ok (.iconst (-1), 1) := dk_2 (dk_at dksX0_blind_2 20 rfl rfl)
theorem dX0_blind_69 : decode cX0_blind 69 = .ok (.if_icmp .ne 8, 3) := dk_160 0 8 (dk_at dksX0_blind_2 21 rfl rfl)
theorem dX0_blind_72 : decode cX0_blind 72 = .ok (.iload 4, 2) := dk_21 4 (dk_at dksX0_blind_3 0 rfl rfl)
theorem dX0_blind_74 : decode cX0_blind 74 = .ok (.goto 9, 3) := dk_167 0 9 (dk_at dksX0_blind_3 2 rfl rfl)
theorem dX0_blind_77 : decode cX0_blind 77 = .ok (.aload_n 0, 1) := dk_42 (dk_at dksX0_blind_3 5 rfl rfl)
theorem dX0_blind_78 : decode cX0_blind 78 = .ok (.getfield 89, 3) := dk_180 0 89 (dk_at dksX0_blind_3 6 rfl rfl)
theorem dX0_blind_81 : decode cX0_blind 81 = .ok (.iload_n 2, 1) := dk_28 (dk_at dksX0_blind_3 9 rfl rfl)
theorem dX0_blind_82 : decode cX0_blind 82 = .ok (.iaload, 1) := dk_46 (dk_at dksX0_blind_3 10 rfl rfl)
theorem dX0_blind_83 : decode cX0_blind 83 = .ok (.ireturn, 1) := dk_172 (dk_at dksX0_blind_3 11 rfl rfl)
abbrev cX0_parts : ByteArray := prog_1_method_46_code
def yX0_parts : MethodName := ⟨RX0, "parts", "(LBarredBooks$Edition;II)Z"⟩
def dkwX0_parts_6 : List UInt8 := [3, 172]
abbrev dktX0_parts_6 : List UInt8 := dkwX0_parts_6 ++ []
def dkwX0_parts_5 : List UInt8 := [28, 21, 4, 79, 42, 43, 28, 4, 96, 29, 182, 1, 140, 153, 0, 5, 4, 172, 132, 4, 1, 167, 255, 149]
abbrev dktX0_parts_5 : List UInt8 := dkwX0_parts_5 ++ dktX0_parts_6
def dkwX0_parts_4 : List UInt8 := [167, 0, 4, 3, 54, 5, 132, 6, 1, 167, 255, 197, 21, 5, 154, 0, 6, 167, 0, 25, 42, 180, 0, 89]
abbrev dktX0_parts_4 : List UInt8 := dkwX0_parts_4 ++ dktX0_parts_5
def dkwX0_parts_3 : List UInt8 := [28, 46, 21, 6, 122, 4, 126, 153, 0, 15, 42, 180, 0, 89, 21, 6, 46, 21, 4, 159, 0, 7, 4]
abbrev dktX0_parts_3 : List UInt8 := dkwX0_parts_3 ++ dktX0_parts_4
def dkwX0_parts_2 : List UInt8 := [162, 0, 59, 21, 5, 153, 0, 54, 43, 21, 6, 182, 1, 63, 153, 0, 32, 43, 180, 0, 169, 180, 1, 134]
abbrev dktX0_parts_2 : List UInt8 := dkwX0_parts_2 ++ dktX0_parts_3
def dkwX0_parts_1 : List UInt8 := [182, 1, 140, 172, 3, 54, 4, 21, 4, 29, 162, 0, 107, 4, 54, 5, 3, 54, 6, 21, 6, 28]
abbrev dktX0_parts_1 : List UInt8 := dkwX0_parts_1 ++ dktX0_parts_2
def dkwX0_parts_0 : List UInt8 := [28, 16, 16, 160, 0, 5, 4, 172, 43, 28, 182, 1, 63, 154, 0, 13, 42, 43, 28, 4, 96, 29]
abbrev dktX0_parts_0 : List UInt8 := dkwX0_parts_0 ++ dktX0_parts_1
theorem dksX0_parts_0 : cX0_parts.data.toList.drop 0 = dktX0_parts_0 := by decide +kernel
theorem dksX0_parts_1 : cX0_parts.data.toList.drop 22 = dktX0_parts_1 := dk_seg dksX0_parts_0 22 rfl rfl
theorem dksX0_parts_2 : cX0_parts.data.toList.drop 44 = dktX0_parts_2 := dk_seg dksX0_parts_1 22 rfl rfl
theorem dksX0_parts_3 : cX0_parts.data.toList.drop 68 = dktX0_parts_3 := dk_seg dksX0_parts_2 24 rfl rfl
theorem dksX0_parts_4 : cX0_parts.data.toList.drop 91 = dktX0_parts_4 := dk_seg dksX0_parts_3 23 rfl rfl
theorem dksX0_parts_5 : cX0_parts.data.toList.drop 115 = dktX0_parts_5 := dk_seg dksX0_parts_4 24 rfl rfl
theorem dksX0_parts_6 : cX0_parts.data.toList.drop 139 = dktX0_parts_6 := dk_seg dksX0_parts_5 24 rfl rfl
theorem dX0_parts_0 : decode cX0_parts 0 = .ok (.iload_n 2, 1) := dk_28 (dk_at dksX0_parts_0 0 rfl rfl)
theorem dX0_parts_1 : decode cX0_parts 1 = .ok (.bipush 16, 2) := dk_16 16 (dk_at dksX0_parts_0 1 rfl rfl)
theorem dX0_parts_3 : decode cX0_parts 3 = .ok (.if_icmp .ne 5, 3) := dk_160 0 5 (dk_at dksX0_parts_0 3 rfl rfl)
theorem dX0_parts_6 : decode cX0_parts 6 = .ok (.iconst 1, 1) := dk_4 (dk_at dksX0_parts_0 6 rfl rfl)
theorem dX0_parts_7 : decode cX0_parts 7 = .ok (.ireturn, 1) := dk_172 (dk_at dksX0_parts_0 7 rfl rfl)
theorem dX0_parts_8 : decode cX0_parts 8 = .ok (.aload_n 1, 1) := dk_43 (dk_at dksX0_parts_0 8 rfl rfl)
theorem dX0_parts_9 : decode cX0_parts 9 = .ok (.iload_n 2, 1) := dk_28 (dk_at dksX0_parts_0 9 rfl rfl)
theorem dX0_parts_10 : decode cX0_parts 10 = .ok (.invokevirtual 319, 3) := dk_182 1 63 (dk_at dksX0_parts_0 10 rfl rfl)
theorem dX0_parts_13 : decode cX0_parts 13 = .ok (.ifCond .ne 13, 3) := dk_154 0 13 (dk_at dksX0_parts_0 13 rfl rfl)
theorem dX0_parts_16 : decode cX0_parts 16 = .ok (.aload_n 0, 1) := dk_42 (dk_at dksX0_parts_0 16 rfl rfl)
theorem dX0_parts_17 : decode cX0_parts 17 = .ok (.aload_n 1, 1) := dk_43 (dk_at dksX0_parts_0 17 rfl rfl)
theorem dX0_parts_18 : decode cX0_parts 18 = .ok (.iload_n 2, 1) := dk_28 (dk_at dksX0_parts_0 18 rfl rfl)
theorem dX0_parts_19 : decode cX0_parts 19 = .ok (.iconst 1, 1) := dk_4 (dk_at dksX0_parts_0 19 rfl rfl)
theorem dX0_parts_20 : decode cX0_parts 20 = .ok (.iadd, 1) := dk_96 (dk_at dksX0_parts_0 20 rfl rfl)
theorem dX0_parts_21 : decode cX0_parts 21 = .ok (.iload_n 3, 1) := dk_29 (dk_at dksX0_parts_0 21 rfl rfl)
theorem dX0_parts_22 : decode cX0_parts 22 = .ok (.invokevirtual 396, 3) := dk_182 1 140 (dk_at dksX0_parts_1 0 rfl rfl)
theorem dX0_parts_25 : decode cX0_parts 25 = .ok (.ireturn, 1) := dk_172 (dk_at dksX0_parts_1 3 rfl rfl)
theorem dX0_parts_26 : decode cX0_parts 26 = .ok (.iconst 0, 1) := dk_3 (dk_at dksX0_parts_1 4 rfl rfl)
theorem dX0_parts_27 : decode cX0_parts 27 = .ok (.istore 4, 2) := dk_54 4 (dk_at dksX0_parts_1 5 rfl rfl)
theorem dX0_parts_29 : decode cX0_parts 29 = .ok (.iload 4, 2) := dk_21 4 (dk_at dksX0_parts_1 7 rfl rfl)
theorem dX0_parts_31 : decode cX0_parts 31 = .ok (.iload_n 3, 1) := dk_29 (dk_at dksX0_parts_1 9 rfl rfl)
theorem dX0_parts_32 : decode cX0_parts 32 = .ok (.if_icmp .ge 107, 3) := dk_162 0 107 (dk_at dksX0_parts_1 10 rfl rfl)
theorem dX0_parts_35 : decode cX0_parts 35 = .ok (.iconst 1, 1) := dk_4 (dk_at dksX0_parts_1 13 rfl rfl)
theorem dX0_parts_36 : decode cX0_parts 36 = .ok (.istore 5, 2) := dk_54 5 (dk_at dksX0_parts_1 14 rfl rfl)
theorem dX0_parts_38 : decode cX0_parts 38 = .ok (.iconst 0, 1) := dk_3 (dk_at dksX0_parts_1 16 rfl rfl)
theorem dX0_parts_39 : decode cX0_parts 39 = .ok (.istore 6, 2) := dk_54 6 (dk_at dksX0_parts_1 17 rfl rfl)
theorem dX0_parts_41 : decode cX0_parts 41 = .ok (.iload 6, 2) := dk_21 6 (dk_at dksX0_parts_1 19 rfl rfl)
theorem dX0_parts_43 : decode cX0_parts 43 = .ok (.iload_n 2, 1) := dk_28 (dk_at dksX0_parts_1 21 rfl rfl)
theorem dX0_parts_44 : decode cX0_parts 44 = .ok (.if_icmp .ge 59, 3) := dk_162 0 59 (dk_at dksX0_parts_2 0 rfl rfl)
theorem dX0_parts_47 : decode cX0_parts 47 = .ok (.iload 5, 2) := dk_21 5 (dk_at dksX0_parts_2 3 rfl rfl)
theorem dX0_parts_49 : decode cX0_parts 49 = .ok (.ifCond .eq 54, 3) := dk_153 0 54 (dk_at dksX0_parts_2 5 rfl rfl)
theorem dX0_parts_52 : decode cX0_parts 52 = .ok (.aload_n 1, 1) := dk_43 (dk_at dksX0_parts_2 8 rfl rfl)
theorem dX0_parts_53 : decode cX0_parts 53 = .ok (.iload 6, 2) := dk_21 6 (dk_at dksX0_parts_2 9 rfl rfl)
theorem dX0_parts_55 : decode cX0_parts 55 = .ok (.invokevirtual 319, 3) := dk_182 1 63 (dk_at dksX0_parts_2 11 rfl rfl)
theorem dX0_parts_58 : decode cX0_parts 58 = .ok (.ifCond .eq 32, 3) := dk_153 0 32 (dk_at dksX0_parts_2 14 rfl rfl)
theorem dX0_parts_61 : decode cX0_parts 61 = .ok (.aload_n 1, 1) := dk_43 (dk_at dksX0_parts_2 17 rfl rfl)
theorem dX0_parts_62 : decode cX0_parts 62 = .ok (.getfield 169, 3) := dk_180 0 169 (dk_at dksX0_parts_2 18 rfl rfl)
theorem dX0_parts_65 : decode cX0_parts 65 = .ok (.getfield 390, 3) := dk_180 1 134 (dk_at dksX0_parts_2 21 rfl rfl)
theorem dX0_parts_68 : decode cX0_parts 68 = .ok (.iload_n 2, 1) := dk_28 (dk_at dksX0_parts_3 0 rfl rfl)
theorem dX0_parts_69 : decode cX0_parts 69 = .ok (.iaload, 1) := dk_46 (dk_at dksX0_parts_3 1 rfl rfl)
theorem dX0_parts_70 : decode cX0_parts 70 = .ok (.iload 6, 2) := dk_21 6 (dk_at dksX0_parts_3 2 rfl rfl)
theorem dX0_parts_72 : decode cX0_parts 72 = .ok (.ishr, 1) := dk_122 (dk_at dksX0_parts_3 4 rfl rfl)
theorem dX0_parts_73 : decode cX0_parts 73 = .ok (.iconst 1, 1) := dk_4 (dk_at dksX0_parts_3 5 rfl rfl)
theorem dX0_parts_74 : decode cX0_parts 74 = .ok (.iand, 1) := dk_126 (dk_at dksX0_parts_3 6 rfl rfl)
theorem dX0_parts_75 : decode cX0_parts 75 = .ok (.ifCond .eq 15, 3) := dk_153 0 15 (dk_at dksX0_parts_3 7 rfl rfl)
theorem dX0_parts_78 : decode cX0_parts 78 = .ok (.aload_n 0, 1) := dk_42 (dk_at dksX0_parts_3 10 rfl rfl)
theorem dX0_parts_79 : decode cX0_parts 79 = .ok (.getfield 89, 3) := dk_180 0 89 (dk_at dksX0_parts_3 11 rfl rfl)
theorem dX0_parts_82 : decode cX0_parts 82 = .ok (.iload 6, 2) := dk_21 6 (dk_at dksX0_parts_3 14 rfl rfl)
theorem dX0_parts_84 : decode cX0_parts 84 = .ok (.iaload, 1) := dk_46 (dk_at dksX0_parts_3 16 rfl rfl)
theorem dX0_parts_85 : decode cX0_parts 85 = .ok (.iload 4, 2) := dk_21 4 (dk_at dksX0_parts_3 17 rfl rfl)
theorem dX0_parts_87 : decode cX0_parts 87 = .ok (.if_icmp .eq 7, 3) := dk_159 0 7 (dk_at dksX0_parts_3 19 rfl rfl)
theorem dX0_parts_90 : decode cX0_parts 90 = .ok (.iconst 1, 1) := dk_4 (dk_at dksX0_parts_3 22 rfl rfl)
theorem dX0_parts_91 : decode cX0_parts 91 = .ok (.goto 4, 3) := dk_167 0 4 (dk_at dksX0_parts_4 0 rfl rfl)
theorem dX0_parts_94 : decode cX0_parts 94 = .ok (.iconst 0, 1) := dk_3 (dk_at dksX0_parts_4 3 rfl rfl)
theorem dX0_parts_95 : decode cX0_parts 95 = .ok (.istore 5, 2) := dk_54 5 (dk_at dksX0_parts_4 4 rfl rfl)
theorem dX0_parts_97 : decode cX0_parts 97 = .ok (.iinc 6 1, 3) := dk_132 6 1 (dk_at dksX0_parts_4 6 rfl rfl)
theorem dX0_parts_100 : decode cX0_parts 100 = .ok (.goto (-59), 3) := dk_167 255 197 (dk_at dksX0_parts_4 9 rfl rfl)
theorem dX0_parts_103 : decode cX0_parts 103 = .ok (.iload 5, 2) := dk_21 5 (dk_at dksX0_parts_4 12 rfl rfl)
theorem dX0_parts_105 : decode cX0_parts 105 = .ok (.ifCond .ne 6, 3) := dk_154 0 6 (dk_at dksX0_parts_4 14 rfl rfl)
theorem dX0_parts_108 : decode cX0_parts 108 = .ok (.goto 25, 3) := dk_167 0 25 (dk_at dksX0_parts_4 17 rfl rfl)
theorem dX0_parts_111 : decode cX0_parts 111 = .ok (.aload_n 0, 1) := dk_42 (dk_at dksX0_parts_4 20 rfl rfl)
theorem dX0_parts_112 : decode cX0_parts 112 = .ok (.getfield 89, 3) := dk_180 0 89 (dk_at dksX0_parts_4 21 rfl rfl)
theorem dX0_parts_115 : decode cX0_parts 115 = .ok (.iload_n 2, 1) := dk_28 (dk_at dksX0_parts_5 0 rfl rfl)
theorem dX0_parts_116 : decode cX0_parts 116 = .ok (.iload 4, 2) := dk_21 4 (dk_at dksX0_parts_5 1 rfl rfl)
theorem dX0_parts_118 : decode cX0_parts 118 = .ok (.iastore, 1) := dk_79 (dk_at dksX0_parts_5 3 rfl rfl)
theorem dX0_parts_119 : decode cX0_parts 119 = .ok (.aload_n 0, 1) := dk_42 (dk_at dksX0_parts_5 4 rfl rfl)
theorem dX0_parts_120 : decode cX0_parts 120 = .ok (.aload_n 1, 1) := dk_43 (dk_at dksX0_parts_5 5 rfl rfl)
theorem dX0_parts_121 : decode cX0_parts 121 = .ok (.iload_n 2, 1) := dk_28 (dk_at dksX0_parts_5 6 rfl rfl)
theorem dX0_parts_122 : decode cX0_parts 122 = .ok (.iconst 1, 1) := dk_4 (dk_at dksX0_parts_5 7 rfl rfl)
theorem dX0_parts_123 : decode cX0_parts 123 = .ok (.iadd, 1) := dk_96 (dk_at dksX0_parts_5 8 rfl rfl)
theorem dX0_parts_124 : decode cX0_parts 124 = .ok (.iload_n 3, 1) := dk_29 (dk_at dksX0_parts_5 9 rfl rfl)
theorem dX0_parts_125 : decode cX0_parts 125 = .ok (.invokevirtual 396, 3) := dk_182 1 140 (dk_at dksX0_parts_5 10 rfl rfl)
theorem dX0_parts_128 : decode cX0_parts 128 = .ok (.ifCond .eq 5, 3) := dk_153 0 5 (dk_at dksX0_parts_5 13 rfl rfl)
theorem dX0_parts_131 : decode cX0_parts 131 = .ok (.iconst 1, 1) := dk_4 (dk_at dksX0_parts_5 16 rfl rfl)
theorem dX0_parts_132 : decode cX0_parts 132 = .ok (.ireturn, 1) := dk_172 (dk_at dksX0_parts_5 17 rfl rfl)
theorem dX0_parts_133 : decode cX0_parts 133 = .ok (.iinc 4 1, 3) := dk_132 4 1 (dk_at dksX0_parts_5 18 rfl rfl)
theorem dX0_parts_136 : decode cX0_parts 136 = .ok (.goto (-107), 3) := dk_167 255 149 (dk_at dksX0_parts_5 21 rfl rfl)
theorem dX0_parts_139 : decode cX0_parts 139 = .ok (.iconst 0, 1) := dk_3 (dk_at dksX0_parts_6 0 rfl rfl)
theorem dX0_parts_140 : decode cX0_parts 140 = .ok (.ireturn, 1) := dk_172 (dk_at dksX0_parts_6 1 rfl rfl)
abbrev cX0_port : ByteArray := prog_1_method_48_code
def yX0_port : MethodName := ⟨RX0, "port", "(III)I"⟩
def dkwX0_port_2 : List UInt8 := [180, 0, 92, 27, 50, 28, 29, 79, 21, 4, 172]
abbrev dktX0_port_2 : List UInt8 := dkwX0_port_2 ++ []
def dkwX0_port_1 : List UInt8 := [17, 3, 231, 184, 0, 123, 154, 0, 6, 16, 254, 172, 42, 180, 0, 92, 27, 50, 28, 46, 54, 4, 42]
abbrev dktX0_port_1 : List UInt8 := dkwX0_port_1 ++ dktX0_port_2
def dkwX0_port_0 : List UInt8 := [27, 3, 16, 7, 184, 0, 123, 153, 0, 13, 28, 3, 16, 6, 184, 0, 123, 154, 0, 5, 2, 172, 29, 3]
abbrev dktX0_port_0 : List UInt8 := dkwX0_port_0 ++ dktX0_port_1
theorem dksX0_port_0 : cX0_port.data.toList.drop 0 = dktX0_port_0 := by decide +kernel
theorem dksX0_port_1 : cX0_port.data.toList.drop 24 = dktX0_port_1 := dk_seg dksX0_port_0 24 rfl rfl
theorem dksX0_port_2 : cX0_port.data.toList.drop 47 = dktX0_port_2 := dk_seg dksX0_port_1 23 rfl rfl
theorem dX0_port_0 : decode cX0_port 0 = .ok (.iload_n 1, 1) := dk_27 (dk_at dksX0_port_0 0 rfl rfl)
theorem dX0_port_1 : decode cX0_port 1 = .ok (.iconst 0, 1) := dk_3 (dk_at dksX0_port_0 1 rfl rfl)
theorem dX0_port_2 : decode cX0_port 2 = .ok (.bipush 7, 2) := dk_16 7 (dk_at dksX0_port_0 2 rfl rfl)
theorem dX0_port_4 : decode cX0_port 4 = .ok (.invokestatic 123, 3) := dk_184 0 123 (dk_at dksX0_port_0 4 rfl rfl)
theorem dX0_port_7 : decode cX0_port 7 = .ok (.ifCond .eq 13, 3) := dk_153 0 13 (dk_at dksX0_port_0 7 rfl rfl)
theorem dX0_port_10 : decode cX0_port 10 = .ok (.iload_n 2, 1) := dk_28 (dk_at dksX0_port_0 10 rfl rfl)
theorem dX0_port_11 : decode cX0_port 11 = .ok (.iconst 0, 1) := dk_3 (dk_at dksX0_port_0 11 rfl rfl)
theorem dX0_port_12 : decode cX0_port 12 = .ok (.bipush 6, 2) := dk_16 6 (dk_at dksX0_port_0 12 rfl rfl)
theorem dX0_port_14 : decode cX0_port 14 = .ok (.invokestatic 123, 3) := dk_184 0 123 (dk_at dksX0_port_0 14 rfl rfl)
theorem dX0_port_17 : decode cX0_port 17 = .ok (.ifCond .ne 5, 3) := dk_154 0 5 (dk_at dksX0_port_0 17 rfl rfl)
theorem dX0_port_20 : decode cX0_port 20 = .ok (.iconst (-1), 1) := dk_2 (dk_at dksX0_port_0 20 rfl rfl)
theorem dX0_port_21 : decode cX0_port 21 = .ok (.ireturn, 1) := dk_172 (dk_at dksX0_port_0 21 rfl rfl)
theorem dX0_port_22 : decode cX0_port 22 = .ok (.iload_n 3, 1) := dk_29 (dk_at dksX0_port_0 22 rfl rfl)
theorem dX0_port_23 : decode cX0_port 23 = .ok (.iconst 0, 1) := dk_3 (dk_at dksX0_port_0 23 rfl rfl)
theorem dX0_port_24 : decode cX0_port 24 = .ok (.sipush 999, 3) := dk_17 3 231 (dk_at dksX0_port_1 0 rfl rfl)
theorem dX0_port_27 : decode cX0_port 27 = .ok (.invokestatic 123, 3) := dk_184 0 123 (dk_at dksX0_port_1 3 rfl rfl)
theorem dX0_port_30 : decode cX0_port 30 = .ok (.ifCond .ne 6, 3) := dk_154 0 6 (dk_at dksX0_port_1 6 rfl rfl)
theorem dX0_port_33 : decode cX0_port 33 = .ok (.bipush (-2), 2) := dk_16 254 (dk_at dksX0_port_1 9 rfl rfl)
theorem dX0_port_35 : decode cX0_port 35 = .ok (.ireturn, 1) := dk_172 (dk_at dksX0_port_1 11 rfl rfl)
theorem dX0_port_36 : decode cX0_port 36 = .ok (.aload_n 0, 1) := dk_42 (dk_at dksX0_port_1 12 rfl rfl)
theorem dX0_port_37 : decode cX0_port 37 = .ok (.getfield 92, 3) := dk_180 0 92 (dk_at dksX0_port_1 13 rfl rfl)
theorem dX0_port_40 : decode cX0_port 40 = .ok (.iload_n 1, 1) := dk_27 (dk_at dksX0_port_1 16 rfl rfl)
theorem dX0_port_41 : decode cX0_port 41 = .ok (.aaload, 1) := dk_50 (dk_at dksX0_port_1 17 rfl rfl)
theorem dX0_port_42 : decode cX0_port 42 = .ok (.iload_n 2, 1) := dk_28 (dk_at dksX0_port_1 18 rfl rfl)
theorem dX0_port_43 : decode cX0_port 43 = .ok (.iaload, 1) := dk_46 (dk_at dksX0_port_1 19 rfl rfl)
theorem dX0_port_44 : decode cX0_port 44 = .ok (.istore 4, 2) := dk_54 4 (dk_at dksX0_port_1 20 rfl rfl)
theorem dX0_port_46 : decode cX0_port 46 = .ok (.aload_n 0, 1) := dk_42 (dk_at dksX0_port_1 22 rfl rfl)
theorem dX0_port_47 : decode cX0_port 47 = .ok (.getfield 92, 3) := dk_180 0 92 (dk_at dksX0_port_2 0 rfl rfl)
theorem dX0_port_50 : decode cX0_port 50 = .ok (.iload_n 1, 1) := dk_27 (dk_at dksX0_port_2 3 rfl rfl)
theorem dX0_port_51 : decode cX0_port 51 = .ok (.aaload, 1) := dk_50 (dk_at dksX0_port_2 4 rfl rfl)
theorem dX0_port_52 : decode cX0_port 52 = .ok (.iload_n 2, 1) := dk_28 (dk_at dksX0_port_2 5 rfl rfl)
theorem dX0_port_53 : decode cX0_port 53 = .ok (.iload_n 3, 1) := dk_29 (dk_at dksX0_port_2 6 rfl rfl)
theorem dX0_port_54 : decode cX0_port 54 = .ok (.iastore, 1) := dk_79 (dk_at dksX0_port_2 7 rfl rfl)
theorem dX0_port_55 : decode cX0_port 55 = .ok (.iload 4, 2) := dk_21 4 (dk_at dksX0_port_2 8 rfl rfl)
theorem dX0_port_57 : decode cX0_port 57 = .ok (.ireturn, 1) := dk_172 (dk_at dksX0_port_2 10 rfl rfl)
abbrev cX0_search : ByteArray := prog_1_method_49_code
def yX0_search : MethodName := ⟨RX0, "search", "(II)I"⟩
def dkwX0_search_9 : List UInt8 := [172]
abbrev dktX0_search_9 : List UInt8 := dkwX0_search_9 ++ []
def dkwX0_search_8 : List UInt8 := [167, 255, 216, 21, 4, 28, 160, 0, 6, 21, 5, 172, 29, 21, 5, 100, 62, 132, 4, 1, 167, 255, 186, 2]
abbrev dktX0_search_8 : List UInt8 := dkwX0_search_8 ++ dktX0_search_9
def dkwX0_search_7 : List UInt8 := [4, 96, 50, 29, 21, 5, 100, 46, 96, 42, 180, 0, 95, 21, 4, 50, 29, 46, 159, 0, 9, 132, 5, 1]
abbrev dktX0_search_7 : List UInt8 := dkwX0_search_7 ++ dktX0_search_8
def dkwX0_search_6 : List UInt8 := [16, 8, 162, 0, 69, 3, 54, 5, 42, 180, 0, 92, 21, 4, 50, 21, 5, 46, 42, 180, 0, 95, 21, 4]
abbrev dktX0_search_6 : List UInt8 := dkwX0_search_6 ++ dktX0_search_7
def dkwX0_search_5 : List UInt8 := [167, 255, 166, 28, 2, 160, 0, 12, 42, 180, 0, 95, 3, 50, 27, 46, 172, 27, 62, 3, 54, 4, 21, 4]
abbrev dktX0_search_5 : List UInt8 := dkwX0_search_5 ++ dktX0_search_6
def dkwX0_search_4 : List UInt8 := [167, 255, 208, 42, 180, 0, 95, 29, 50, 21, 4, 21, 5, 79, 132, 4, 1, 167, 255, 179, 132, 3, 255]
abbrev dktX0_search_4 : List UInt8 := dkwX0_search_4 ++ dktX0_search_5
def dkwX0_search_3 : List UInt8 := [46, 42, 180, 0, 95, 29, 4, 96, 50, 21, 4, 21, 6, 100, 46, 96, 184, 1, 148, 54, 5, 132, 6, 1]
abbrev dktX0_search_3 : List UInt8 := dkwX0_search_3 ++ dktX0_search_4
def dkwX0_search_2 : List UInt8 := [21, 6, 16, 6, 163, 0, 47, 21, 6, 21, 4, 163, 0, 40, 21, 5, 42, 180, 0, 92, 29, 50, 21, 6]
abbrev dktX0_search_2 : List UInt8 := dkwX0_search_2 ++ dktX0_search_3
def dkwX0_search_1 : List UInt8 := [172, 16, 7, 62, 29, 155, 0, 92, 3, 54, 4, 21, 4, 27, 163, 0, 77, 2, 54, 5, 3, 54, 6]
abbrev dktX0_search_1 : List UInt8 := dkwX0_search_1 ++ dktX0_search_2
def dkwX0_search_0 : List UInt8 := [28, 2, 16, 7, 184, 0, 123, 154, 0, 5, 2, 172, 27, 3, 16, 30, 184, 0, 123, 154, 0, 6, 16, 254]
abbrev dktX0_search_0 : List UInt8 := dkwX0_search_0 ++ dktX0_search_1
theorem dksX0_search_0 : cX0_search.data.toList.drop 0 = dktX0_search_0 := by decide +kernel
theorem dksX0_search_1 : cX0_search.data.toList.drop 24 = dktX0_search_1 := dk_seg dksX0_search_0 24 rfl rfl
theorem dksX0_search_2 : cX0_search.data.toList.drop 47 = dktX0_search_2 := dk_seg dksX0_search_1 23 rfl rfl
theorem dksX0_search_3 : cX0_search.data.toList.drop 71 = dktX0_search_3 := dk_seg dksX0_search_2 24 rfl rfl
theorem dksX0_search_4 : cX0_search.data.toList.drop 95 = dktX0_search_4 := dk_seg dksX0_search_3 24 rfl rfl
theorem dksX0_search_5 : cX0_search.data.toList.drop 118 = dktX0_search_5 := dk_seg dksX0_search_4 23 rfl rfl
theorem dksX0_search_6 : cX0_search.data.toList.drop 142 = dktX0_search_6 := dk_seg dksX0_search_5 24 rfl rfl
theorem dksX0_search_7 : cX0_search.data.toList.drop 166 = dktX0_search_7 := dk_seg dksX0_search_6 24 rfl rfl
theorem dksX0_search_8 : cX0_search.data.toList.drop 190 = dktX0_search_8 := dk_seg dksX0_search_7 24 rfl rfl
theorem dksX0_search_9 : cX0_search.data.toList.drop 214 = dktX0_search_9 := dk_seg dksX0_search_8 24 rfl rfl
theorem dX0_search_0 : decode cX0_search 0 = .ok (.iload_n 2, 1) := dk_28 (dk_at dksX0_search_0 0 rfl rfl)
theorem dX0_search_1 : decode cX0_search 1 = .ok (.iconst (-1), 1) := dk_2 (dk_at dksX0_search_0 1 rfl rfl)
theorem dX0_search_2 : decode cX0_search 2 = .ok (.bipush 7, 2) := dk_16 7 (dk_at dksX0_search_0 2 rfl rfl)
theorem dX0_search_4 : decode cX0_search 4 = .ok (.invokestatic 123, 3) := dk_184 0 123 (dk_at dksX0_search_0 4 rfl rfl)
theorem dX0_search_7 : decode cX0_search 7 = .ok (.ifCond .ne 5, 3) := dk_154 0 5 (dk_at dksX0_search_0 7 rfl rfl)
theorem dX0_search_10 : decode cX0_search 10 = .ok (.iconst (-1), 1) := dk_2 (dk_at dksX0_search_0 10 rfl rfl)
theorem dX0_search_11 : decode cX0_search 11 = .ok (.ireturn, 1) := dk_172 (dk_at dksX0_search_0 11 rfl rfl)
theorem dX0_search_12 : decode cX0_search 12 = .ok (.iload_n 1, 1) := dk_27 (dk_at dksX0_search_0 12 rfl rfl)
theorem dX0_search_13 : decode cX0_search 13 = .ok (.iconst 0, 1) := dk_3 (dk_at dksX0_search_0 13 rfl rfl)
theorem dX0_search_14 : decode cX0_search 14 = .ok (.bipush 30, 2) := dk_16 30 (dk_at dksX0_search_0 14 rfl rfl)
theorem dX0_search_16 : decode cX0_search 16 = .ok (.invokestatic 123, 3) := dk_184 0 123 (dk_at dksX0_search_0 16 rfl rfl)
theorem dX0_search_19 : decode cX0_search 19 = .ok (.ifCond .ne 6, 3) := dk_154 0 6 (dk_at dksX0_search_0 19 rfl rfl)
theorem dX0_search_22 : decode cX0_search 22 = .ok (.bipush (-2), 2) := dk_16 254 (dk_at dksX0_search_0 22 rfl rfl)
theorem dX0_search_24 : decode cX0_search 24 = .ok (.ireturn, 1) := dk_172 (dk_at dksX0_search_1 0 rfl rfl)
theorem dX0_search_25 : decode cX0_search 25 = .ok (.bipush 7, 2) := dk_16 7 (dk_at dksX0_search_1 1 rfl rfl)
theorem dX0_search_27 : decode cX0_search 27 = .ok (.istore_n 3, 1) := dk_62 (dk_at dksX0_search_1 3 rfl rfl)
theorem dX0_search_28 : decode cX0_search 28 = .ok (.iload_n 3, 1) := dk_29 (dk_at dksX0_search_1 4 rfl rfl)
theorem dX0_search_29 : decode cX0_search 29 = .ok (.ifCond .lt 92, 3) := dk_155 0 92 (dk_at dksX0_search_1 5 rfl rfl)
theorem dX0_search_32 : decode cX0_search 32 = .ok (.iconst 0, 1) := dk_3 (dk_at dksX0_search_1 8 rfl rfl)
theorem dX0_search_33 : decode cX0_search 33 = .ok (.istore 4, 2) := dk_54 4 (dk_at dksX0_search_1 9 rfl rfl)
theorem dX0_search_35 : decode cX0_search 35 = .ok (.iload 4, 2) := dk_21 4 (dk_at dksX0_search_1 11 rfl rfl)
theorem dX0_search_37 : decode cX0_search 37 = .ok (.iload_n 1, 1) := dk_27 (dk_at dksX0_search_1 13 rfl rfl)
theorem dX0_search_38 : decode cX0_search 38 = .ok (.if_icmp .gt 77, 3) := dk_163 0 77 (dk_at dksX0_search_1 14 rfl rfl)
theorem dX0_search_41 : decode cX0_search 41 = .ok (.iconst (-1), 1) := dk_2 (dk_at dksX0_search_1 17 rfl rfl)
theorem dX0_search_42 : decode cX0_search 42 = .ok (.istore 5, 2) := dk_54 5 (dk_at dksX0_search_1 18 rfl rfl)
theorem dX0_search_44 : decode cX0_search 44 = .ok (.iconst 0, 1) := dk_3 (dk_at dksX0_search_1 20 rfl rfl)
theorem dX0_search_45 : decode cX0_search 45 = .ok (.istore 6, 2) := dk_54 6 (dk_at dksX0_search_1 21 rfl rfl)
theorem dX0_search_47 : decode cX0_search 47 = .ok (.iload 6, 2) := dk_21 6 (dk_at dksX0_search_2 0 rfl rfl)
theorem dX0_search_49 : decode cX0_search 49 = .ok (.bipush 6, 2) := dk_16 6 (dk_at dksX0_search_2 2 rfl rfl)
theorem dX0_search_51 : decode cX0_search 51 = .ok (.if_icmp .gt 47, 3) := dk_163 0 47 (dk_at dksX0_search_2 4 rfl rfl)
theorem dX0_search_54 : decode cX0_search 54 = .ok (.iload 6, 2) := dk_21 6 (dk_at dksX0_search_2 7 rfl rfl)
theorem dX0_search_56 : decode cX0_search 56 = .ok (.iload 4, 2) := dk_21 4 (dk_at dksX0_search_2 9 rfl rfl)
theorem dX0_search_58 : decode cX0_search 58 = .ok (.if_icmp .gt 40, 3) := dk_163 0 40 (dk_at dksX0_search_2 11 rfl rfl)
theorem dX0_search_61 : decode cX0_search 61 = .ok (.iload 5, 2) := dk_21 5 (dk_at dksX0_search_2 14 rfl rfl)
theorem dX0_search_63 : decode cX0_search 63 = .ok (.aload_n 0, 1) := dk_42 (dk_at dksX0_search_2 16 rfl rfl)
theorem dX0_search_64 : decode cX0_search 64 = .ok (.getfield 92, 3) := dk_180 0 92 (dk_at dksX0_search_2 17 rfl rfl)
theorem dX0_search_67 : decode cX0_search 67 = .ok (.iload_n 3, 1) := dk_29 (dk_at dksX0_search_2 20 rfl rfl)
theorem dX0_search_68 : decode cX0_search 68 = .ok (.aaload, 1) := dk_50 (dk_at dksX0_search_2 21 rfl rfl)
theorem dX0_search_69 : decode cX0_search 69 = .ok (.iload 6, 2) := dk_21 6 (dk_at dksX0_search_2 22 rfl rfl)
theorem dX0_search_71 : decode cX0_search 71 = .ok (.iaload, 1) := dk_46 (dk_at dksX0_search_3 0 rfl rfl)
theorem dX0_search_72 : decode cX0_search 72 = .ok (.aload_n 0, 1) := dk_42 (dk_at dksX0_search_3 1 rfl rfl)
theorem dX0_search_73 : decode cX0_search 73 = .ok (.getfield 95, 3) := dk_180 0 95 (dk_at dksX0_search_3 2 rfl rfl)
theorem dX0_search_76 : decode cX0_search 76 = .ok (.iload_n 3, 1) := dk_29 (dk_at dksX0_search_3 5 rfl rfl)
theorem dX0_search_77 : decode cX0_search 77 = .ok (.iconst 1, 1) := dk_4 (dk_at dksX0_search_3 6 rfl rfl)
theorem dX0_search_78 : decode cX0_search 78 = .ok (.iadd, 1) := dk_96 (dk_at dksX0_search_3 7 rfl rfl)
theorem dX0_search_79 : decode cX0_search 79 = .ok (.aaload, 1) := dk_50 (dk_at dksX0_search_3 8 rfl rfl)
theorem dX0_search_80 : decode cX0_search 80 = .ok (.iload 4, 2) := dk_21 4 (dk_at dksX0_search_3 9 rfl rfl)
theorem dX0_search_82 : decode cX0_search 82 = .ok (.iload 6, 2) := dk_21 6 (dk_at dksX0_search_3 11 rfl rfl)
theorem dX0_search_84 : decode cX0_search 84 = .ok (.isub, 1) := dk_100 (dk_at dksX0_search_3 13 rfl rfl)
theorem dX0_search_85 : decode cX0_search 85 = .ok (.iaload, 1) := dk_46 (dk_at dksX0_search_3 14 rfl rfl)
theorem dX0_search_86 : decode cX0_search 86 = .ok (.iadd, 1) := dk_96 (dk_at dksX0_search_3 15 rfl rfl)
theorem dX0_search_87 : decode cX0_search 87 = .ok (.invokestatic 404, 3) := dk_184 1 148 (dk_at dksX0_search_3 16 rfl rfl)
theorem dX0_search_90 : decode cX0_search 90 = .ok (.istore 5, 2) := dk_54 5 (dk_at dksX0_search_3 19 rfl rfl)
theorem dX0_search_92 : decode cX0_search 92 = .ok (.iinc 6 1, 3) := dk_132 6 1 (dk_at dksX0_search_3 21 rfl rfl)
theorem dX0_search_95 : decode cX0_search 95 = .ok (.goto (-48), 3) := dk_167 255 208 (dk_at dksX0_search_4 0 rfl rfl)
theorem dX0_search_98 : decode cX0_search 98 = .ok (.aload_n 0, 1) := dk_42 (dk_at dksX0_search_4 3 rfl rfl)
theorem dX0_search_99 : decode cX0_search 99 = .ok (.getfield 95, 3) := dk_180 0 95 (dk_at dksX0_search_4 4 rfl rfl)
theorem dX0_search_102 : decode cX0_search 102 = .ok (.iload_n 3, 1) := dk_29 (dk_at dksX0_search_4 7 rfl rfl)
theorem dX0_search_103 : decode cX0_search 103 = .ok (.aaload, 1) := dk_50 (dk_at dksX0_search_4 8 rfl rfl)
theorem dX0_search_104 : decode cX0_search 104 = .ok (.iload 4, 2) := dk_21 4 (dk_at dksX0_search_4 9 rfl rfl)
theorem dX0_search_106 : decode cX0_search 106 = .ok (.iload 5, 2) := dk_21 5 (dk_at dksX0_search_4 11 rfl rfl)
theorem dX0_search_108 : decode cX0_search 108 = .ok (.iastore, 1) := dk_79 (dk_at dksX0_search_4 13 rfl rfl)
theorem dX0_search_109 : decode cX0_search 109 = .ok (.iinc 4 1, 3) := dk_132 4 1 (dk_at dksX0_search_4 14 rfl rfl)
theorem dX0_search_112 : decode cX0_search 112 = .ok (.goto (-77), 3) := dk_167 255 179 (dk_at dksX0_search_4 17 rfl rfl)
theorem dX0_search_115 : decode cX0_search 115 = .ok (.iinc 3 (-1), 3) := dk_132 3 255 (dk_at dksX0_search_4 20 rfl rfl)
theorem dX0_search_118 : decode cX0_search 118 = .ok (.goto (-90), 3) := dk_167 255 166 (dk_at dksX0_search_5 0 rfl rfl)
theorem dX0_search_121 : decode cX0_search 121 = .ok (.iload_n 2, 1) := dk_28 (dk_at dksX0_search_5 3 rfl rfl)
theorem dX0_search_122 : decode cX0_search 122 = .ok (.iconst (-1), 1) := dk_2 (dk_at dksX0_search_5 4 rfl rfl)
theorem dX0_search_123 : decode cX0_search 123 = .ok (.if_icmp .ne 12, 3) := dk_160 0 12 (dk_at dksX0_search_5 5 rfl rfl)
theorem dX0_search_126 : decode cX0_search 126 = .ok (.aload_n 0, 1) := dk_42 (dk_at dksX0_search_5 8 rfl rfl)
theorem dX0_search_127 : decode cX0_search 127 = .ok (.getfield 95, 3) := dk_180 0 95 (dk_at dksX0_search_5 9 rfl rfl)
theorem dX0_search_130 : decode cX0_search 130 = .ok (.iconst 0, 1) := dk_3 (dk_at dksX0_search_5 12 rfl rfl)
theorem dX0_search_131 : decode cX0_search 131 = .ok (.aaload, 1) := dk_50 (dk_at dksX0_search_5 13 rfl rfl)
theorem dX0_search_132 : decode cX0_search 132 = .ok (.iload_n 1, 1) := dk_27 (dk_at dksX0_search_5 14 rfl rfl)
theorem dX0_search_133 : decode cX0_search 133 = .ok (.iaload, 1) := dk_46 (dk_at dksX0_search_5 15 rfl rfl)
theorem dX0_search_134 : decode cX0_search 134 = .ok (.ireturn, 1) := dk_172 (dk_at dksX0_search_5 16 rfl rfl)
theorem dX0_search_135 : decode cX0_search 135 = .ok (.iload_n 1, 1) := dk_27 (dk_at dksX0_search_5 17 rfl rfl)
theorem dX0_search_136 : decode cX0_search 136 = .ok (.istore_n 3, 1) := dk_62 (dk_at dksX0_search_5 18 rfl rfl)
theorem dX0_search_137 : decode cX0_search 137 = .ok (.iconst 0, 1) := dk_3 (dk_at dksX0_search_5 19 rfl rfl)
theorem dX0_search_138 : decode cX0_search 138 = .ok (.istore 4, 2) := dk_54 4 (dk_at dksX0_search_5 20 rfl rfl)
theorem dX0_search_140 : decode cX0_search 140 = .ok (.iload 4, 2) := dk_21 4 (dk_at dksX0_search_5 22 rfl rfl)
theorem dX0_search_142 : decode cX0_search 142 = .ok (.bipush 8, 2) := dk_16 8 (dk_at dksX0_search_6 0 rfl rfl)
theorem dX0_search_144 : decode cX0_search 144 = .ok (.if_icmp .ge 69, 3) := dk_162 0 69 (dk_at dksX0_search_6 2 rfl rfl)
theorem dX0_search_147 : decode cX0_search 147 = .ok (.iconst 0, 1) := dk_3 (dk_at dksX0_search_6 5 rfl rfl)
theorem dX0_search_148 : decode cX0_search 148 = .ok (.istore 5, 2) := dk_54 5 (dk_at dksX0_search_6 6 rfl rfl)
theorem dX0_search_150 : decode cX0_search 150 = .ok (.aload_n 0, 1) := dk_42 (dk_at dksX0_search_6 8 rfl rfl)
theorem dX0_search_151 : decode cX0_search 151 = .ok (.getfield 92, 3) := dk_180 0 92 (dk_at dksX0_search_6 9 rfl rfl)
theorem dX0_search_154 : decode cX0_search 154 = .ok (.iload 4, 2) := dk_21 4 (dk_at dksX0_search_6 12 rfl rfl)
theorem dX0_search_156 : decode cX0_search 156 = .ok (.aaload, 1) := dk_50 (dk_at dksX0_search_6 14 rfl rfl)
theorem dX0_search_157 : decode cX0_search 157 = .ok (.iload 5, 2) := dk_21 5 (dk_at dksX0_search_6 15 rfl rfl)
theorem dX0_search_159 : decode cX0_search 159 = .ok (.iaload, 1) := dk_46 (dk_at dksX0_search_6 17 rfl rfl)
theorem dX0_search_160 : decode cX0_search 160 = .ok (.aload_n 0, 1) := dk_42 (dk_at dksX0_search_6 18 rfl rfl)
theorem dX0_search_161 : decode cX0_search 161 = .ok (.getfield 95, 3) := dk_180 0 95 (dk_at dksX0_search_6 19 rfl rfl)
theorem dX0_search_164 : decode cX0_search 164 = .ok (.iload 4, 2) := dk_21 4 (dk_at dksX0_search_6 22 rfl rfl)
theorem dX0_search_166 : decode cX0_search 166 = .ok (.iconst 1, 1) := dk_4 (dk_at dksX0_search_7 0 rfl rfl)
theorem dX0_search_167 : decode cX0_search 167 = .ok (.iadd, 1) := dk_96 (dk_at dksX0_search_7 1 rfl rfl)
theorem dX0_search_168 : decode cX0_search 168 = .ok (.aaload, 1) := dk_50 (dk_at dksX0_search_7 2 rfl rfl)
theorem dX0_search_169 : decode cX0_search 169 = .ok (.iload_n 3, 1) := dk_29 (dk_at dksX0_search_7 3 rfl rfl)
theorem dX0_search_170 : decode cX0_search 170 = .ok (.iload 5, 2) := dk_21 5 (dk_at dksX0_search_7 4 rfl rfl)
theorem dX0_search_172 : decode cX0_search 172 = .ok (.isub, 1) := dk_100 (dk_at dksX0_search_7 6 rfl rfl)
theorem dX0_search_173 : decode cX0_search 173 = .ok (.iaload, 1) := dk_46 (dk_at dksX0_search_7 7 rfl rfl)
theorem dX0_search_174 : decode cX0_search 174 = .ok (.iadd, 1) := dk_96 (dk_at dksX0_search_7 8 rfl rfl)
theorem dX0_search_175 : decode cX0_search 175 = .ok (.aload_n 0, 1) := dk_42 (dk_at dksX0_search_7 9 rfl rfl)
theorem dX0_search_176 : decode cX0_search 176 = .ok (.getfield 95, 3) := dk_180 0 95 (dk_at dksX0_search_7 10 rfl rfl)
theorem dX0_search_179 : decode cX0_search 179 = .ok (.iload 4, 2) := dk_21 4 (dk_at dksX0_search_7 13 rfl rfl)
theorem dX0_search_181 : decode cX0_search 181 = .ok (.aaload, 1) := dk_50 (dk_at dksX0_search_7 15 rfl rfl)
theorem dX0_search_182 : decode cX0_search 182 = .ok (.iload_n 3, 1) := dk_29 (dk_at dksX0_search_7 16 rfl rfl)
theorem dX0_search_183 : decode cX0_search 183 = .ok (.iaload, 1) := dk_46 (dk_at dksX0_search_7 17 rfl rfl)
theorem dX0_search_184 : decode cX0_search 184 = .ok (.if_icmp .eq 9, 3) := dk_159 0 9 (dk_at dksX0_search_7 18 rfl rfl)
theorem dX0_search_187 : decode cX0_search 187 = .ok (.iinc 5 1, 3) := dk_132 5 1 (dk_at dksX0_search_7 21 rfl rfl)
theorem dX0_search_190 : decode cX0_search 190 = .ok (.goto (-40), 3) := dk_167 255 216 (dk_at dksX0_search_8 0 rfl rfl)
theorem dX0_search_193 : decode cX0_search 193 = .ok (.iload 4, 2) := dk_21 4 (dk_at dksX0_search_8 3 rfl rfl)
theorem dX0_search_195 : decode cX0_search 195 = .ok (.iload_n 2, 1) := dk_28 (dk_at dksX0_search_8 5 rfl rfl)
theorem dX0_search_196 : decode cX0_search 196 = .ok (.if_icmp .ne 6, 3) := dk_160 0 6 (dk_at dksX0_search_8 6 rfl rfl)
theorem dX0_search_199 : decode cX0_search 199 = .ok (.iload 5, 2) := dk_21 5 (dk_at dksX0_search_8 9 rfl rfl)
theorem dX0_search_201 : decode cX0_search 201 = .ok (.ireturn, 1) := dk_172 (dk_at dksX0_search_8 11 rfl rfl)
theorem dX0_search_202 : decode cX0_search 202 = .ok (.iload_n 3, 1) := dk_29 (dk_at dksX0_search_8 12 rfl rfl)
theorem dX0_search_203 : decode cX0_search 203 = .ok (.iload 5, 2) := dk_21 5 (dk_at dksX0_search_8 13 rfl rfl)
theorem dX0_search_205 : decode cX0_search 205 = .ok (.isub, 1) := dk_100 (dk_at dksX0_search_8 15 rfl rfl)
theorem dX0_search_206 : decode cX0_search 206 = .ok (.istore_n 3, 1) := dk_62 (dk_at dksX0_search_8 16 rfl rfl)
theorem dX0_search_207 : decode cX0_search 207 = .ok (.iinc 4 1, 3) := dk_132 4 1 (dk_at dksX0_search_8 17 rfl rfl)
theorem dX0_search_210 : decode cX0_search 210 = .ok (.goto (-70), 3) := dk_167 255 186 (dk_at dksX0_search_8 20 rfl rfl)
theorem dX0_search_213 : decode cX0_search 213 = .ok (.iconst (-1), 1) := dk_2 (dk_at dksX0_search_8 23 rfl rfl)
theorem dX0_search_214 : decode cX0_search 214 = .ok (.ireturn, 1) := dk_172 (dk_at dksX0_search_9 0 rfl rfl)
abbrev cX0_choice : ByteArray := prog_1_method_51_code
def yX0_choice : MethodName := ⟨RX0, "choice", "()I"⟩
def dkwX0_choice_2 : List UInt8 := [89, 180, 1, 159, 90, 4, 96, 181, 1, 159, 172, 76, 16, 246, 43, 180, 1, 29, 100, 172]
abbrev dktX0_choice_2 : List UInt8 := dkwX0_choice_2 ++ []
def dkwX0_choice_1 : List UInt8 := [16, 254, 172, 42, 180, 0, 100, 42, 180, 1, 159, 43, 180, 1, 82, 3, 182, 1, 91, 192, 0, 98, 83, 42]
abbrev dktX0_choice_1 : List UInt8 := dkwX0_choice_1 ++ dktX0_choice_2
def dkwX0_choice_0 : List UInt8 := [42, 180, 1, 159, 16, 8, 160, 0, 6, 16, 252, 172, 42, 182, 1, 21, 76, 43, 184, 1, 162, 154, 0, 6]
abbrev dktX0_choice_0 : List UInt8 := dkwX0_choice_0 ++ dktX0_choice_1
theorem dksX0_choice_0 : cX0_choice.data.toList.drop 0 = dktX0_choice_0 := by decide +kernel
theorem dksX0_choice_1 : cX0_choice.data.toList.drop 24 = dktX0_choice_1 := dk_seg dksX0_choice_0 24 rfl rfl
theorem dksX0_choice_2 : cX0_choice.data.toList.drop 48 = dktX0_choice_2 := dk_seg dksX0_choice_1 24 rfl rfl
theorem dX0_choice_0 : decode cX0_choice 0 = .ok (.aload_n 0, 1) := dk_42 (dk_at dksX0_choice_0 0 rfl rfl)
theorem dX0_choice_1 : decode cX0_choice 1 = .ok (.getfield 415, 3) := dk_180 1 159 (dk_at dksX0_choice_0 1 rfl rfl)
theorem dX0_choice_4 : decode cX0_choice 4 = .ok (.bipush 8, 2) := dk_16 8 (dk_at dksX0_choice_0 4 rfl rfl)
theorem dX0_choice_6 : decode cX0_choice 6 = .ok (.if_icmp .ne 6, 3) := dk_160 0 6 (dk_at dksX0_choice_0 6 rfl rfl)
theorem dX0_choice_9 : decode cX0_choice 9 = .ok (.bipush (-4), 2) := dk_16 252 (dk_at dksX0_choice_0 9 rfl rfl)
theorem dX0_choice_11 : decode cX0_choice 11 = .ok (.ireturn, 1) := dk_172 (dk_at dksX0_choice_0 11 rfl rfl)
theorem dX0_choice_12 : decode cX0_choice 12 = .ok (.aload_n 0, 1) := dk_42 (dk_at dksX0_choice_0 12 rfl rfl)
theorem dX0_choice_13 : decode cX0_choice 13 = .ok (.invokevirtual 277, 3) := dk_182 1 21 (dk_at dksX0_choice_0 13 rfl rfl)
theorem dX0_choice_16 : decode cX0_choice 16 = .ok (.astore_n 1, 1) := dk_76 (dk_at dksX0_choice_0 16 rfl rfl)
theorem dX0_choice_17 : decode cX0_choice 17 = .ok (.aload_n 1, 1) := dk_43 (dk_at dksX0_choice_0 17 rfl rfl)
theorem dX0_choice_18 : decode cX0_choice 18 = .ok (.invokestatic 418, 3) := dk_184 1 162 (dk_at dksX0_choice_0 18 rfl rfl)
theorem dX0_choice_21 : decode cX0_choice 21 = .ok (.ifCond .ne 6, 3) := dk_154 0 6 (dk_at dksX0_choice_0 21 rfl rfl)
theorem dX0_choice_24 : decode cX0_choice 24 = .ok (.bipush (-2), 2) := dk_16 254 (dk_at dksX0_choice_1 0 rfl rfl)
theorem dX0_choice_26 : decode cX0_choice 26 = .ok (.ireturn, 1) := dk_172 (dk_at dksX0_choice_1 2 rfl rfl)
theorem dX0_choice_27 : decode cX0_choice 27 = .ok (.aload_n 0, 1) := dk_42 (dk_at dksX0_choice_1 3 rfl rfl)
theorem dX0_choice_28 : decode cX0_choice 28 = .ok (.getfield 100, 3) := dk_180 0 100 (dk_at dksX0_choice_1 4 rfl rfl)
theorem dX0_choice_31 : decode cX0_choice 31 = .ok (.aload_n 0, 1) := dk_42 (dk_at dksX0_choice_1 7 rfl rfl)
theorem dX0_choice_32 : decode cX0_choice 32 = .ok (.getfield 415, 3) := dk_180 1 159 (dk_at dksX0_choice_1 8 rfl rfl)
theorem dX0_choice_35 : decode cX0_choice 35 = .ok (.aload_n 1, 1) := dk_43 (dk_at dksX0_choice_1 11 rfl rfl)
theorem dX0_choice_36 : decode cX0_choice 36 = .ok (.getfield 338, 3) := dk_180 1 82 (dk_at dksX0_choice_1 12 rfl rfl)
theorem dX0_choice_39 : decode cX0_choice 39 = .ok (.iconst 0, 1) := dk_3 (dk_at dksX0_choice_1 15 rfl rfl)
theorem dX0_choice_40 : decode cX0_choice 40 = .ok (.invokevirtual 347, 3) := dk_182 1 91 (dk_at dksX0_choice_1 16 rfl rfl)
theorem dX0_choice_43 : decode cX0_choice 43 = .ok (.checkcast 98, 3) := dk_192 0 98 (dk_at dksX0_choice_1 19 rfl rfl)
theorem dX0_choice_46 : decode cX0_choice 46 = .ok (.aastore, 1) := dk_83 (dk_at dksX0_choice_1 22 rfl rfl)
theorem dX0_choice_47 : decode cX0_choice 47 = .ok (.aload_n 0, 1) := dk_42 (dk_at dksX0_choice_1 23 rfl rfl)
theorem dX0_choice_48 : decode cX0_choice 48 = .ok (.dup, 1) := dk_89 (dk_at dksX0_choice_2 0 rfl rfl)
theorem dX0_choice_49 : decode cX0_choice 49 = .ok (.getfield 415, 3) := dk_180 1 159 (dk_at dksX0_choice_2 1 rfl rfl)
theorem dX0_choice_52 : decode cX0_choice 52 = .ok (.dup_x1, 1) := dk_90 (dk_at dksX0_choice_2 4 rfl rfl)
theorem dX0_choice_53 : decode cX0_choice 53 = .ok (.iconst 1, 1) := dk_4 (dk_at dksX0_choice_2 5 rfl rfl)
theorem dX0_choice_54 : decode cX0_choice 54 = .ok (.iadd, 1) := dk_96 (dk_at dksX0_choice_2 6 rfl rfl)
theorem dX0_choice_55 : decode cX0_choice 55 = .ok (.putfield 415, 3) := dk_181 1 159 (dk_at dksX0_choice_2 7 rfl rfl)
theorem dX0_choice_58 : decode cX0_choice 58 = .ok (.ireturn, 1) := dk_172 (dk_at dksX0_choice_2 10 rfl rfl)
theorem dX0_choice_59 : decode cX0_choice 59 = .ok (.astore_n 1, 1) := dk_76 (dk_at dksX0_choice_2 11 rfl rfl)
theorem dX0_choice_60 : decode cX0_choice 60 = .ok (.bipush (-10), 2) := dk_16 246 (dk_at dksX0_choice_2 12 rfl rfl)
theorem dX0_choice_62 : decode cX0_choice 62 = .ok (.aload_n 1, 1) := dk_43 (dk_at dksX0_choice_2 14 rfl rfl)
theorem dX0_choice_63 : decode cX0_choice 63 = .ok (.getfield 285, 3) := dk_180 1 29 (dk_at dksX0_choice_2 15 rfl rfl)
theorem dX0_choice_66 : decode cX0_choice 66 = .ok (.isub, 1) := dk_100 (dk_at dksX0_choice_2 18 rfl rfl)
theorem dX0_choice_67 : decode cX0_choice 67 = .ok (.ireturn, 1) := dk_172 (dk_at dksX0_choice_2 19 rfl rfl)
abbrev cX0_canBeChosen : ByteArray := prog_1_method_50_code
def yX0_canBeChosen : MethodName := ⟨RX0, "canBeChosen", "(LBarredBooks$Decree;)Z"⟩
def dkwX0_canBeChosen_2 : List UInt8 := [154, 0, 7, 4, 167, 0, 4, 3, 172]
abbrev dktX0_canBeChosen_2 : List UInt8 := dkwX0_canBeChosen_2 ++ []
def dkwX0_canBeChosen_1 : List UInt8 := [76, 43, 193, 1, 151, 154, 0, 22, 43, 193, 1, 153, 153, 0, 19, 43, 192, 1, 153, 77, 44, 180, 1, 155]
abbrev dktX0_canBeChosen_1 : List UInt8 := dkwX0_canBeChosen_1 ++ dktX0_canBeChosen_2
def dkwX0_canBeChosen_0 : List UInt8 := [42, 180, 1, 82, 182, 1, 86, 4, 159, 0, 5, 3, 172, 42, 180, 1, 82, 3, 182, 1, 91, 192, 0, 98]
abbrev dktX0_canBeChosen_0 : List UInt8 := dkwX0_canBeChosen_0 ++ dktX0_canBeChosen_1
theorem dksX0_canBeChosen_0 : cX0_canBeChosen.data.toList.drop 0 = dktX0_canBeChosen_0 := by decide +kernel
theorem dksX0_canBeChosen_1 : cX0_canBeChosen.data.toList.drop 24 = dktX0_canBeChosen_1 := dk_seg dksX0_canBeChosen_0 24 rfl rfl
theorem dksX0_canBeChosen_2 : cX0_canBeChosen.data.toList.drop 48 = dktX0_canBeChosen_2 := dk_seg dksX0_canBeChosen_1 24 rfl rfl
theorem dX0_canBeChosen_0 : decode cX0_canBeChosen 0 = .ok (.aload_n 0, 1) := dk_42 (dk_at dksX0_canBeChosen_0 0 rfl rfl)
theorem dX0_canBeChosen_1 : decode cX0_canBeChosen 1 = .ok (.getfield 338, 3) := dk_180 1 82 (dk_at dksX0_canBeChosen_0 1 rfl rfl)
theorem dX0_canBeChosen_4 : decode cX0_canBeChosen 4 = .ok (.invokevirtual 342, 3) := dk_182 1 86 (dk_at dksX0_canBeChosen_0 4 rfl rfl)
theorem dX0_canBeChosen_7 : decode cX0_canBeChosen 7 = .ok (.iconst 1, 1) := dk_4 (dk_at dksX0_canBeChosen_0 7 rfl rfl)
theorem dX0_canBeChosen_8 : decode cX0_canBeChosen 8 = .ok (.if_icmp .eq 5, 3) := dk_159 0 5 (dk_at dksX0_canBeChosen_0 8 rfl rfl)
theorem dX0_canBeChosen_11 : decode cX0_canBeChosen 11 = .ok (.iconst 0, 1) := dk_3 (dk_at dksX0_canBeChosen_0 11 rfl rfl)
theorem dX0_canBeChosen_12 : decode cX0_canBeChosen 12 = .ok (.ireturn, 1) := dk_172 (dk_at dksX0_canBeChosen_0 12 rfl rfl)
theorem dX0_canBeChosen_13 : decode cX0_canBeChosen 13 = .ok (.aload_n 0, 1) := dk_42 (dk_at dksX0_canBeChosen_0 13 rfl rfl)
theorem dX0_canBeChosen_14 : decode cX0_canBeChosen 14 = .ok (.getfield 338, 3) := dk_180 1 82 (dk_at dksX0_canBeChosen_0 14 rfl rfl)
theorem dX0_canBeChosen_17 : decode cX0_canBeChosen 17 = .ok (.iconst 0, 1) := dk_3 (dk_at dksX0_canBeChosen_0 17 rfl rfl)
theorem dX0_canBeChosen_18 : decode cX0_canBeChosen 18 = .ok (.invokevirtual 347, 3) := dk_182 1 91 (dk_at dksX0_canBeChosen_0 18 rfl rfl)
theorem dX0_canBeChosen_21 : decode cX0_canBeChosen 21 = .ok (.checkcast 98, 3) := dk_192 0 98 (dk_at dksX0_canBeChosen_0 21 rfl rfl)
theorem dX0_canBeChosen_24 : decode cX0_canBeChosen 24 = .ok (.astore_n 1, 1) := dk_76 (dk_at dksX0_canBeChosen_1 0 rfl rfl)
theorem dX0_canBeChosen_25 : decode cX0_canBeChosen 25 = .ok (.aload_n 1, 1) := dk_43 (dk_at dksX0_canBeChosen_1 1 rfl rfl)
theorem dX0_canBeChosen_26 : decode cX0_canBeChosen 26 = .ok (.instanceof 407, 3) := dk_193 1 151 (dk_at dksX0_canBeChosen_1 2 rfl rfl)
theorem dX0_canBeChosen_29 : decode cX0_canBeChosen 29 = .ok (.ifCond .ne 22, 3) := dk_154 0 22 (dk_at dksX0_canBeChosen_1 5 rfl rfl)
theorem dX0_canBeChosen_32 : decode cX0_canBeChosen 32 = .ok (.aload_n 1, 1) := dk_43 (dk_at dksX0_canBeChosen_1 8 rfl rfl)
theorem dX0_canBeChosen_33 : decode cX0_canBeChosen 33 = .ok (.instanceof 409, 3) := dk_193 1 153 (dk_at dksX0_canBeChosen_1 9 rfl rfl)
theorem dX0_canBeChosen_36 : decode cX0_canBeChosen 36 = .ok (.ifCond .eq 19, 3) := dk_153 0 19 (dk_at dksX0_canBeChosen_1 12 rfl rfl)
theorem dX0_canBeChosen_39 : decode cX0_canBeChosen 39 = .ok (.aload_n 1, 1) := dk_43 (dk_at dksX0_canBeChosen_1 15 rfl rfl)
theorem dX0_canBeChosen_40 : decode cX0_canBeChosen 40 = .ok (.checkcast 409, 3) := dk_192 1 153 (dk_at dksX0_canBeChosen_1 16 rfl rfl)
theorem dX0_canBeChosen_43 : decode cX0_canBeChosen 43 = .ok (.astore_n 2, 1) := dk_77 (dk_at dksX0_canBeChosen_1 19 rfl rfl)
theorem dX0_canBeChosen_44 : decode cX0_canBeChosen 44 = .ok (.aload_n 2, 1) := dk_44 (dk_at dksX0_canBeChosen_1 20 rfl rfl)
theorem dX0_canBeChosen_45 : decode cX0_canBeChosen 45 = .ok (.getfield 411, 3) := dk_180 1 155 (dk_at dksX0_canBeChosen_1 21 rfl rfl)
theorem dX0_canBeChosen_48 : decode cX0_canBeChosen 48 = .ok (.ifCond .ne 7, 3) := dk_154 0 7 (dk_at dksX0_canBeChosen_2 0 rfl rfl)
theorem dX0_canBeChosen_51 : decode cX0_canBeChosen 51 = .ok (.iconst 1, 1) := dk_4 (dk_at dksX0_canBeChosen_2 3 rfl rfl)
theorem dX0_canBeChosen_52 : decode cX0_canBeChosen 52 = .ok (.goto 4, 3) := dk_167 0 4 (dk_at dksX0_canBeChosen_2 4 rfl rfl)
theorem dX0_canBeChosen_55 : decode cX0_canBeChosen 55 = .ok (.iconst 0, 1) := dk_3 (dk_at dksX0_canBeChosen_2 7 rfl rfl)
theorem dX0_canBeChosen_56 : decode cX0_canBeChosen 56 = .ok (.ireturn, 1) := dk_172 (dk_at dksX0_canBeChosen_2 8 rfl rfl)
abbrev cX0_aim : ByteArray := prog_1_method_53_code
def yX0_aim : MethodName := ⟨RX0, "aim", "(II)I"⟩
def dkwX0_aim_3 : List UInt8 := [4, 96, 90, 181, 1, 166, 172]
abbrev dktX0_aim_3 : List UInt8 := dkwX0_aim_3 ++ []
def dkwX0_aim_2 : List UInt8 := [180, 0, 104, 42, 180, 1, 166, 27, 79, 42, 180, 0, 107, 42, 180, 1, 166, 28, 79, 42, 89, 180, 1, 166]
abbrev dktX0_aim_2 : List UInt8 := dkwX0_aim_2 ++ dktX0_aim_3
def dkwX0_aim_1 : List UInt8 := [27, 28, 182, 1, 169, 153, 0, 6, 16, 253, 172, 42, 180, 1, 166, 16, 20, 160, 0, 6, 16, 252, 172, 42]
abbrev dktX0_aim_1 : List UInt8 := dkwX0_aim_1 ++ dktX0_aim_2
def dkwX0_aim_0 : List UInt8 := [42, 27, 182, 0, 166, 153, 0, 16, 42, 180, 0, 30, 27, 50, 28, 182, 1, 63, 154, 0, 5, 2, 172, 42]
abbrev dktX0_aim_0 : List UInt8 := dkwX0_aim_0 ++ dktX0_aim_1
theorem dksX0_aim_0 : cX0_aim.data.toList.drop 0 = dktX0_aim_0 := by decide +kernel
theorem dksX0_aim_1 : cX0_aim.data.toList.drop 24 = dktX0_aim_1 := dk_seg dksX0_aim_0 24 rfl rfl
theorem dksX0_aim_2 : cX0_aim.data.toList.drop 48 = dktX0_aim_2 := dk_seg dksX0_aim_1 24 rfl rfl
theorem dksX0_aim_3 : cX0_aim.data.toList.drop 72 = dktX0_aim_3 := dk_seg dksX0_aim_2 24 rfl rfl
theorem dX0_aim_0 : decode cX0_aim 0 = .ok (.aload_n 0, 1) := dk_42 (dk_at dksX0_aim_0 0 rfl rfl)
theorem dX0_aim_1 : decode cX0_aim 1 = .ok (.iload_n 1, 1) := dk_27 (dk_at dksX0_aim_0 1 rfl rfl)
theorem dX0_aim_2 : decode cX0_aim 2 = .ok (.invokevirtual 166, 3) := dk_182 0 166 (dk_at dksX0_aim_0 2 rfl rfl)
theorem dX0_aim_5 : decode cX0_aim 5 = .ok (.ifCond .eq 16, 3) := dk_153 0 16 (dk_at dksX0_aim_0 5 rfl rfl)
theorem dX0_aim_8 : decode cX0_aim 8 = .ok (.aload_n 0, 1) := dk_42 (dk_at dksX0_aim_0 8 rfl rfl)
theorem dX0_aim_9 : decode cX0_aim 9 = .ok (.getfield 30, 3) := dk_180 0 30 (dk_at dksX0_aim_0 9 rfl rfl)
theorem dX0_aim_12 : decode cX0_aim 12 = .ok (.iload_n 1, 1) := dk_27 (dk_at dksX0_aim_0 12 rfl rfl)
theorem dX0_aim_13 : decode cX0_aim 13 = .ok (.aaload, 1) := dk_50 (dk_at dksX0_aim_0 13 rfl rfl)
theorem dX0_aim_14 : decode cX0_aim 14 = .ok (.iload_n 2, 1) := dk_28 (dk_at dksX0_aim_0 14 rfl rfl)
theorem dX0_aim_15 : decode cX0_aim 15 = .ok (.invokevirtual 319, 3) := dk_182 1 63 (dk_at dksX0_aim_0 15 rfl rfl)
theorem dX0_aim_18 : decode cX0_aim 18 = .ok (.ifCond .ne 5, 3) := dk_154 0 5 (dk_at dksX0_aim_0 18 rfl rfl)
theorem dX0_aim_21 : decode cX0_aim 21 = .ok (.iconst (-1), 1) := dk_2 (dk_at dksX0_aim_0 21 rfl rfl)
theorem dX0_aim_22 : decode cX0_aim 22 = .ok (.ireturn, 1) := dk_172 (dk_at dksX0_aim_0 22 rfl rfl)
theorem dX0_aim_23 : decode cX0_aim 23 = .ok (.aload_n 0, 1) := dk_42 (dk_at dksX0_aim_0 23 rfl rfl)
theorem dX0_aim_24 : decode cX0_aim 24 = .ok (.iload_n 1, 1) := dk_27 (dk_at dksX0_aim_1 0 rfl rfl)
theorem dX0_aim_25 : decode cX0_aim 25 = .ok (.iload_n 2, 1) := dk_28 (dk_at dksX0_aim_1 1 rfl rfl)
theorem dX0_aim_26 : decode cX0_aim 26 = .ok (.invokevirtual 425, 3) := dk_182 1 169 (dk_at dksX0_aim_1 2 rfl rfl)
theorem dX0_aim_29 : decode cX0_aim 29 = .ok (.ifCond .eq 6, 3) := dk_153 0 6 (dk_at dksX0_aim_1 5 rfl rfl)
theorem dX0_aim_32 : decode cX0_aim 32 = .ok (.bipush (-3), 2) := dk_16 253 (dk_at dksX0_aim_1 8 rfl rfl)
theorem dX0_aim_34 : decode cX0_aim 34 = .ok (.ireturn, 1) := dk_172 (dk_at dksX0_aim_1 10 rfl rfl)
theorem dX0_aim_35 : decode cX0_aim 35 = .ok (.aload_n 0, 1) := dk_42 (dk_at dksX0_aim_1 11 rfl rfl)
theorem dX0_aim_36 : decode cX0_aim 36 = .ok (.getfield 422, 3) := dk_180 1 166 (dk_at dksX0_aim_1 12 rfl rfl)
theorem dX0_aim_39 : decode cX0_aim 39 = .ok (.bipush 20, 2) := dk_16 20 (dk_at dksX0_aim_1 15 rfl rfl)
theorem dX0_aim_41 : decode cX0_aim 41 = .ok (.if_icmp .ne 6, 3) := dk_160 0 6 (dk_at dksX0_aim_1 17 rfl rfl)
theorem dX0_aim_44 : decode cX0_aim 44 = .ok (.bipush (-4), 2) := dk_16 252 (dk_at dksX0_aim_1 20 rfl rfl)
theorem dX0_aim_46 : decode cX0_aim 46 = .ok (.ireturn, 1) := dk_172 (dk_at dksX0_aim_1 22 rfl rfl)
theorem dX0_aim_47 : decode cX0_aim 47 = .ok (.aload_n 0, 1) := dk_42 (dk_at dksX0_aim_1 23 rfl rfl)
theorem dX0_aim_48 : decode cX0_aim 48 = .ok (.getfield 104, 3) := dk_180 0 104 (dk_at dksX0_aim_2 0 rfl rfl)
theorem dX0_aim_51 : decode cX0_aim 51 = .ok (.aload_n 0, 1) := dk_42 (dk_at dksX0_aim_2 3 rfl rfl)
theorem dX0_aim_52 : decode cX0_aim 52 = .ok (.getfield 422, 3) := dk_180 1 166 (dk_at dksX0_aim_2 4 rfl rfl)
theorem dX0_aim_55 : decode cX0_aim 55 = .ok (.iload_n 1, 1) := dk_27 (dk_at dksX0_aim_2 7 rfl rfl)
theorem dX0_aim_56 : decode cX0_aim 56 = .ok (.iastore, 1) := dk_79 (dk_at dksX0_aim_2 8 rfl rfl)
theorem dX0_aim_57 : decode cX0_aim 57 = .ok (.aload_n 0, 1) := dk_42 (dk_at dksX0_aim_2 9 rfl rfl)
theorem dX0_aim_58 : decode cX0_aim 58 = .ok (.getfield 107, 3) := dk_180 0 107 (dk_at dksX0_aim_2 10 rfl rfl)
theorem dX0_aim_61 : decode cX0_aim 61 = .ok (.aload_n 0, 1) := dk_42 (dk_at dksX0_aim_2 13 rfl rfl)
theorem dX0_aim_62 : decode cX0_aim 62 = .ok (.getfield 422, 3) := dk_180 1 166 (dk_at dksX0_aim_2 14 rfl rfl)
theorem dX0_aim_65 : decode cX0_aim 65 = .ok (.iload_n 2, 1) := dk_28 (dk_at dksX0_aim_2 17 rfl rfl)
theorem dX0_aim_66 : decode cX0_aim 66 = .ok (.iastore, 1) := dk_79 (dk_at dksX0_aim_2 18 rfl rfl)
theorem dX0_aim_67 : decode cX0_aim 67 = .ok (.aload_n 0, 1) := dk_42 (dk_at dksX0_aim_2 19 rfl rfl)
theorem dX0_aim_68 : decode cX0_aim 68 = .ok (.dup, 1) := dk_89 (dk_at dksX0_aim_2 20 rfl rfl)
theorem dX0_aim_69 : decode cX0_aim 69 = .ok (.getfield 422, 3) := dk_180 1 166 (dk_at dksX0_aim_2 21 rfl rfl)
theorem dX0_aim_72 : decode cX0_aim 72 = .ok (.iconst 1, 1) := dk_4 (dk_at dksX0_aim_3 0 rfl rfl)
theorem dX0_aim_73 : decode cX0_aim 73 = .ok (.iadd, 1) := dk_96 (dk_at dksX0_aim_3 1 rfl rfl)
theorem dX0_aim_74 : decode cX0_aim 74 = .ok (.dup_x1, 1) := dk_90 (dk_at dksX0_aim_3 2 rfl rfl)
theorem dX0_aim_75 : decode cX0_aim 75 = .ok (.putfield 422, 3) := dk_181 1 166 (dk_at dksX0_aim_3 3 rfl rfl)
theorem dX0_aim_78 : decode cX0_aim 78 = .ok (.ireturn, 1) := dk_172 (dk_at dksX0_aim_3 6 rfl rfl)
abbrev cX0_isAim : ByteArray := prog_1_method_52_code
def yX0_isAim : MethodName := ⟨RX0, "isAim", "(II)Z"⟩
def dkwX0_isAim_1 : List UInt8 := [29, 46, 28, 160, 0, 5, 4, 172, 132, 3, 1, 167, 255, 223, 3, 172]
abbrev dktX0_isAim_1 : List UInt8 := dkwX0_isAim_1 ++ []
def dkwX0_isAim_0 : List UInt8 := [3, 62, 29, 42, 180, 1, 166, 162, 0, 31, 42, 180, 0, 104, 29, 46, 27, 160, 0, 15, 42, 180, 0, 107]
abbrev dktX0_isAim_0 : List UInt8 := dkwX0_isAim_0 ++ dktX0_isAim_1
theorem dksX0_isAim_0 : cX0_isAim.data.toList.drop 0 = dktX0_isAim_0 := by decide +kernel
theorem dksX0_isAim_1 : cX0_isAim.data.toList.drop 24 = dktX0_isAim_1 := dk_seg dksX0_isAim_0 24 rfl rfl
theorem dX0_isAim_0 : decode cX0_isAim 0 = .ok (.iconst 0, 1) := dk_3 (dk_at dksX0_isAim_0 0 rfl rfl)
theorem dX0_isAim_1 : decode cX0_isAim 1 = .ok (.istore_n 3, 1) := dk_62 (dk_at dksX0_isAim_0 1 rfl rfl)
theorem dX0_isAim_2 : decode cX0_isAim 2 = .ok (.iload_n 3, 1) := dk_29 (dk_at dksX0_isAim_0 2 rfl rfl)
theorem dX0_isAim_3 : decode cX0_isAim 3 = .ok (.aload_n 0, 1) := dk_42 (dk_at dksX0_isAim_0 3 rfl rfl)
theorem dX0_isAim_4 : decode cX0_isAim 4 = .ok (.getfield 422, 3) := dk_180 1 166 (dk_at dksX0_isAim_0 4 rfl rfl)
theorem dX0_isAim_7 : decode cX0_isAim 7 = .ok (.if_icmp .ge 31, 3) := dk_162 0 31 (dk_at dksX0_isAim_0 7 rfl rfl)
theorem dX0_isAim_10 : decode cX0_isAim 10 = .ok (.aload_n 0, 1) := dk_42 (dk_at dksX0_isAim_0 10 rfl rfl)
theorem dX0_isAim_11 : decode cX0_isAim 11 = .ok (.getfield 104, 3) := dk_180 0 104 (dk_at dksX0_isAim_0 11 rfl rfl)
theorem dX0_isAim_14 : decode cX0_isAim 14 = .ok (.iload_n 3, 1) := dk_29 (dk_at dksX0_isAim_0 14 rfl rfl)
theorem dX0_isAim_15 : decode cX0_isAim 15 = .ok (.iaload, 1) := dk_46 (dk_at dksX0_isAim_0 15 rfl rfl)
theorem dX0_isAim_16 : decode cX0_isAim 16 = .ok (.iload_n 1, 1) := dk_27 (dk_at dksX0_isAim_0 16 rfl rfl)
theorem dX0_isAim_17 : decode cX0_isAim 17 = .ok (.if_icmp .ne 15, 3) := dk_160 0 15 (dk_at dksX0_isAim_0 17 rfl rfl)
theorem dX0_isAim_20 : decode cX0_isAim 20 = .ok (.aload_n 0, 1) := dk_42 (dk_at dksX0_isAim_0 20 rfl rfl)
theorem dX0_isAim_21 : decode cX0_isAim 21 = .ok (.getfield 107, 3) := dk_180 0 107 (dk_at dksX0_isAim_0 21 rfl rfl)
theorem dX0_isAim_24 : decode cX0_isAim 24 = .ok (.iload_n 3, 1) := dk_29 (dk_at dksX0_isAim_1 0 rfl rfl)
theorem dX0_isAim_25 : decode cX0_isAim 25 = .ok (.iaload, 1) := dk_46 (dk_at dksX0_isAim_1 1 rfl rfl)
theorem dX0_isAim_26 : decode cX0_isAim 26 = .ok (.iload_n 2, 1) := dk_28 (dk_at dksX0_isAim_1 2 rfl rfl)
theorem dX0_isAim_27 : decode cX0_isAim 27 = .ok (.if_icmp .ne 5, 3) := dk_160 0 5 (dk_at dksX0_isAim_1 3 rfl rfl)
theorem dX0_isAim_30 : decode cX0_isAim 30 = .ok (.iconst 1, 1) := dk_4 (dk_at dksX0_isAim_1 6 rfl rfl)
theorem dX0_isAim_31 : decode cX0_isAim 31 = .ok (.ireturn, 1) := dk_172 (dk_at dksX0_isAim_1 7 rfl rfl)
theorem dX0_isAim_32 : decode cX0_isAim 32 = .ok (.iinc 3 1, 3) := dk_132 3 1 (dk_at dksX0_isAim_1 8 rfl rfl)
theorem dX0_isAim_35 : decode cX0_isAim 35 = .ok (.goto (-33), 3) := dk_167 255 223 (dk_at dksX0_isAim_1 11 rfl rfl)
theorem dX0_isAim_38 : decode cX0_isAim 38 = .ok (.iconst 0, 1) := dk_3 (dk_at dksX0_isAim_1 14 rfl rfl)
theorem dX0_isAim_39 : decode cX0_isAim 39 = .ok (.ireturn, 1) := dk_172 (dk_at dksX0_isAim_1 15 rfl rfl)
abbrev cX0_weigh : ByteArray := prog_1_method_55_code
def yX0_weigh : MethodName := ⟨RX0, "weigh", "(II)I"⟩
def dkwX0_weigh_2 : List UInt8 := [180, 1, 176, 172]
abbrev dktX0_weigh_2 : List UInt8 := dkwX0_weigh_2 ++ []
def dkwX0_weigh_1 : List UInt8 := [154, 0, 6, 16, 254, 172, 42, 27, 182, 1, 181, 28, 154, 0, 10, 42, 180, 1, 173, 167, 0, 7, 42]
abbrev dktX0_weigh_1 : List UInt8 := dkwX0_weigh_1 ++ dktX0_weigh_2
def dkwX0_weigh_0 : List UInt8 := [28, 3, 4, 184, 0, 123, 154, 0, 5, 2, 172, 27, 3, 4, 42, 180, 1, 159, 120, 4, 100, 184, 0, 123]
abbrev dktX0_weigh_0 : List UInt8 := dkwX0_weigh_0 ++ dktX0_weigh_1
theorem dksX0_weigh_0 : cX0_weigh.data.toList.drop 0 = dktX0_weigh_0 := by decide +kernel
theorem dksX0_weigh_1 : cX0_weigh.data.toList.drop 24 = dktX0_weigh_1 := dk_seg dksX0_weigh_0 24 rfl rfl
theorem dksX0_weigh_2 : cX0_weigh.data.toList.drop 47 = dktX0_weigh_2 := dk_seg dksX0_weigh_1 23 rfl rfl
theorem dX0_weigh_0 : decode cX0_weigh 0 = .ok (.iload_n 2, 1) := dk_28 (dk_at dksX0_weigh_0 0 rfl rfl)
theorem dX0_weigh_1 : decode cX0_weigh 1 = .ok (.iconst 0, 1) := dk_3 (dk_at dksX0_weigh_0 1 rfl rfl)
theorem dX0_weigh_2 : decode cX0_weigh 2 = .ok (.iconst 1, 1) := dk_4 (dk_at dksX0_weigh_0 2 rfl rfl)
theorem dX0_weigh_3 : decode cX0_weigh 3 = .ok (.invokestatic 123, 3) := dk_184 0 123 (dk_at dksX0_weigh_0 3 rfl rfl)
theorem dX0_weigh_6 : decode cX0_weigh 6 = .ok (.ifCond .ne 5, 3) := dk_154 0 5 (dk_at dksX0_weigh_0 6 rfl rfl)
theorem dX0_weigh_9 : decode cX0_weigh 9 = .ok (.iconst (-1), 1) := dk_2 (dk_at dksX0_weigh_0 9 rfl rfl)
theorem dX0_weigh_10 : decode cX0_weigh 10 = .ok (.ireturn, 1) := dk_172 (dk_at dksX0_weigh_0 10 rfl rfl)
theorem dX0_weigh_11 : decode cX0_weigh 11 = .ok (.iload_n 1, 1) := dk_27 (dk_at dksX0_weigh_0 11 rfl rfl)
theorem dX0_weigh_12 : decode cX0_weigh 12 = .ok (.iconst 0, 1) := dk_3 (dk_at dksX0_weigh_0 12 rfl rfl)
theorem dX0_weigh_13 : decode cX0_weigh 13 = .ok (.iconst 1, 1) := dk_4 (dk_at dksX0_weigh_0 13 rfl rfl)
theorem dX0_weigh_14 : decode cX0_weigh 14 = .ok (.aload_n 0, 1) := dk_42 (dk_at dksX0_weigh_0 14 rfl rfl)
theorem dX0_weigh_15 : decode cX0_weigh 15 = .ok (.getfield 415, 3) := dk_180 1 159 (dk_at dksX0_weigh_0 15 rfl rfl)
theorem dX0_weigh_18 : decode cX0_weigh 18 = .ok (.ishl, 1) := dk_120 (dk_at dksX0_weigh_0 18 rfl rfl)
theorem dX0_weigh_19 : decode cX0_weigh 19 = .ok (.iconst 1, 1) := dk_4 (dk_at dksX0_weigh_0 19 rfl rfl)
theorem dX0_weigh_20 : decode cX0_weigh 20 = .ok (.isub, 1) := dk_100 (dk_at dksX0_weigh_0 20 rfl rfl)
theorem dX0_weigh_21 : decode cX0_weigh 21 = .ok (.invokestatic 123, 3) := dk_184 0 123 (dk_at dksX0_weigh_0 21 rfl rfl)
theorem dX0_weigh_24 : decode cX0_weigh 24 = .ok (.ifCond .ne 6, 3) := dk_154 0 6 (dk_at dksX0_weigh_1 0 rfl rfl)
theorem dX0_weigh_27 : decode cX0_weigh 27 = .ok (.bipush (-2), 2) := dk_16 254 (dk_at dksX0_weigh_1 3 rfl rfl)
theorem dX0_weigh_29 : decode cX0_weigh 29 = .ok (.ireturn, 1) := dk_172 (dk_at dksX0_weigh_1 5 rfl rfl)
theorem dX0_weigh_30 : decode cX0_weigh 30 = .ok (.aload_n 0, 1) := dk_42 (dk_at dksX0_weigh_1 6 rfl rfl)
theorem dX0_weigh_31 : decode cX0_weigh 31 = .ok (.iload_n 1, 1) := dk_27 (dk_at dksX0_weigh_1 7 rfl rfl)
theorem dX0_weigh_32 : decode cX0_weigh 32 = .ok (.invokevirtual 437, 3) := dk_182 1 181 (dk_at dksX0_weigh_1 8 rfl rfl)
theorem dX0_weigh_35 : decode cX0_weigh 35 = .ok (.iload_n 2, 1) := dk_28 (dk_at dksX0_weigh_1 11 rfl rfl)
theorem dX0_weigh_36 : decode cX0_weigh 36 = .ok (.ifCond .ne 10, 3) := dk_154 0 10 (dk_at dksX0_weigh_1 12 rfl rfl)
theorem dX0_weigh_39 : decode cX0_weigh 39 = .ok (.aload_n 0, 1) := dk_42 (dk_at dksX0_weigh_1 15 rfl rfl)
theorem dX0_weigh_40 : decode cX0_weigh 40 = .ok (.getfield 429, 3) := dk_180 1 173 (dk_at dksX0_weigh_1 16 rfl rfl)
theorem dX0_weigh_43 : decode cX0_weigh 43 = .ok (.goto 7, 3) := dk_167 0 7 (dk_at dksX0_weigh_1 19 rfl rfl)
theorem dX0_weigh_46 : decode cX0_weigh 46 = .ok (.aload_n 0, 1) := dk_42 (dk_at dksX0_weigh_1 22 rfl rfl)
theorem dX0_weigh_47 : decode cX0_weigh 47 = .ok (.getfield 432, 3) := dk_180 1 176 (dk_at dksX0_weigh_2 0 rfl rfl)
theorem dX0_weigh_50 : decode cX0_weigh 50 = .ok (.ireturn, 1) := dk_172 (dk_at dksX0_weigh_2 3 rfl rfl)
abbrev cX0_weighs : ByteArray := prog_1_method_54_code
def yX0_weighs : MethodName := ⟨RX0, "weighs", "(I)V"⟩
def dkwX0_weighs_10 : List UInt8 := [132, 2, 1, 167, 255, 29, 177]
abbrev dktX0_weighs_10 : List UInt8 := dkwX0_weighs_10 ++ []
def dkwX0_weighs_9 : List UInt8 := [167, 0, 18, 21, 5, 153, 0, 13, 42, 89, 180, 1, 176, 4, 96, 181, 1, 176, 132, 4, 1, 167, 255, 117]
abbrev dktX0_weighs_9 : List UInt8 := dkwX0_weighs_9 ++ dktX0_weighs_10
def dkwX0_weighs_8 : List UInt8 := [153, 0, 26, 42, 28, 21, 4, 182, 1, 169, 153, 0, 16, 42, 89, 180, 1, 173, 4, 96, 181, 1, 173]
abbrev dktX0_weighs_8 : List UInt8 := dkwX0_weighs_8 ++ dktX0_weighs_9
def dkwX0_weighs_7 : List UInt8 := [180, 0, 60, 182, 1, 180, 153, 0, 7, 4, 167, 0, 4, 3, 54, 5, 132, 6, 1, 167, 255, 205, 21, 5]
abbrev dktX0_weighs_7 : List UInt8 := dkwX0_weighs_7 ++ dktX0_weighs_8
def dkwX0_weighs_6 : List UInt8 := [21, 5, 154, 0, 43, 27, 21, 6, 122, 4, 126, 4, 160, 0, 24, 42, 180, 0, 100, 21, 6, 50, 42]
abbrev dktX0_weighs_6 : List UInt8 := dkwX0_weighs_6 ++ dktX0_weighs_7
def dkwX0_weighs_5 : List UInt8 := [42, 180, 0, 60, 21, 4, 181, 1, 56, 29, 54, 5, 3, 54, 6, 21, 6, 42, 180, 1, 159, 162, 0, 48]
abbrev dktX0_weighs_5 : List UInt8 := dkwX0_weighs_5 ++ dktX0_weighs_6
def dkwX0_weighs_4 : List UInt8 := [21, 4, 16, 16, 162, 0, 138, 42, 180, 0, 30, 28, 50, 21, 4, 182, 1, 63, 154, 0, 6, 167, 0, 115]
abbrev dktX0_weighs_4 : List UInt8 := dkwX0_weighs_4 ++ dktX0_weighs_5
def dkwX0_weighs_3 : List UInt8 := [182, 1, 179, 4, 160, 0, 7, 4, 167, 0, 4, 3, 128, 62, 132, 4, 1, 167, 255, 206, 3, 54, 4]
abbrev dktX0_weighs_3 : List UInt8 := dkwX0_weighs_3 ++ dktX0_weighs_4
def dkwX0_weighs_2 : List UInt8 := [27, 21, 4, 122, 4, 126, 4, 160, 0, 27, 42, 180, 0, 100, 21, 4, 50, 42, 180, 0, 30, 28, 50]
abbrev dktX0_weighs_2 : List UInt8 := dkwX0_weighs_2 ++ dktX0_weighs_3
def dkwX0_weighs_1 : List UInt8 := [42, 180, 0, 30, 28, 50, 181, 1, 52, 3, 62, 3, 54, 4, 21, 4, 42, 180, 1, 159, 162, 0, 47, 29]
abbrev dktX0_weighs_1 : List UInt8 := dkwX0_weighs_1 ++ dktX0_weighs_2
def dkwX0_weighs_0 : List UInt8 := [42, 3, 181, 1, 173, 42, 3, 181, 1, 176, 3, 61, 28, 42, 180, 0, 127, 162, 0, 225, 42, 180, 0, 60]
abbrev dktX0_weighs_0 : List UInt8 := dkwX0_weighs_0 ++ dktX0_weighs_1
theorem dksX0_weighs_0 : cX0_weighs.data.toList.drop 0 = dktX0_weighs_0 := by decide +kernel
theorem dksX0_weighs_1 : cX0_weighs.data.toList.drop 24 = dktX0_weighs_1 := dk_seg dksX0_weighs_0 24 rfl rfl
theorem dksX0_weighs_2 : cX0_weighs.data.toList.drop 48 = dktX0_weighs_2 := dk_seg dksX0_weighs_1 24 rfl rfl
theorem dksX0_weighs_3 : cX0_weighs.data.toList.drop 71 = dktX0_weighs_3 := dk_seg dksX0_weighs_2 23 rfl rfl
theorem dksX0_weighs_4 : cX0_weighs.data.toList.drop 94 = dktX0_weighs_4 := dk_seg dksX0_weighs_3 23 rfl rfl
theorem dksX0_weighs_5 : cX0_weighs.data.toList.drop 118 = dktX0_weighs_5 := dk_seg dksX0_weighs_4 24 rfl rfl
theorem dksX0_weighs_6 : cX0_weighs.data.toList.drop 142 = dktX0_weighs_6 := dk_seg dksX0_weighs_5 24 rfl rfl
theorem dksX0_weighs_7 : cX0_weighs.data.toList.drop 165 = dktX0_weighs_7 := dk_seg dksX0_weighs_6 23 rfl rfl
theorem dksX0_weighs_8 : cX0_weighs.data.toList.drop 189 = dktX0_weighs_8 := dk_seg dksX0_weighs_7 24 rfl rfl
theorem dksX0_weighs_9 : cX0_weighs.data.toList.drop 212 = dktX0_weighs_9 := dk_seg dksX0_weighs_8 23 rfl rfl
theorem dksX0_weighs_10 : cX0_weighs.data.toList.drop 236 = dktX0_weighs_10 := dk_seg dksX0_weighs_9 24 rfl rfl
theorem dX0_weighs_0 : decode cX0_weighs 0 = .ok (.aload_n 0, 1) := dk_42 (dk_at dksX0_weighs_0 0 rfl rfl)
theorem dX0_weighs_1 : decode cX0_weighs 1 = .ok (.iconst 0, 1) := dk_3 (dk_at dksX0_weighs_0 1 rfl rfl)
theorem dX0_weighs_2 : decode cX0_weighs 2 = .ok (.putfield 429, 3) := dk_181 1 173 (dk_at dksX0_weighs_0 2 rfl rfl)
theorem dX0_weighs_5 : decode cX0_weighs 5 = .ok (.aload_n 0, 1) := dk_42 (dk_at dksX0_weighs_0 5 rfl rfl)
theorem dX0_weighs_6 : decode cX0_weighs 6 = .ok (.iconst 0, 1) := dk_3 (dk_at dksX0_weighs_0 6 rfl rfl)
theorem dX0_weighs_7 : decode cX0_weighs 7 = .ok (.putfield 432, 3) := dk_181 1 176 (dk_at dksX0_weighs_0 7 rfl rfl)
theorem dX0_weighs_10 : decode cX0_weighs 10 = .ok (.iconst 0, 1) := dk_3 (dk_at dksX0_weighs_0 10 rfl rfl)
theorem dX0_weighs_11 : decode cX0_weighs 11 = .ok (.istore_n 2, 1) := dk_61 (dk_at dksX0_weighs_0 11 rfl rfl)
theorem dX0_weighs_12 : decode cX0_weighs 12 = .ok (.iload_n 2, 1) := dk_28 (dk_at dksX0_weighs_0 12 rfl rfl)
theorem dX0_weighs_13 : decode cX0_weighs 13 = .ok (.aload_n 0, 1) := dk_42 (dk_at dksX0_weighs_0 13 rfl rfl)
theorem dX0_weighs_14 : decode cX0_weighs 14 = .ok (.getfield 127, 3) := dk_180 0 127 (dk_at dksX0_weighs_0 14 rfl rfl)
theorem dX0_weighs_17 : decode cX0_weighs 17 = .ok (.if_icmp .ge 225, 3) := dk_162 0 225 (dk_at dksX0_weighs_0 17 rfl rfl)
theorem dX0_weighs_20 : decode cX0_weighs 20 = .ok (.aload_n 0, 1) := dk_42 (dk_at dksX0_weighs_0 20 rfl rfl)
theorem dX0_weighs_21 : decode cX0_weighs 21 = .ok (.getfield 60, 3) := dk_180 0 60 (dk_at dksX0_weighs_0 21 rfl rfl)
theorem dX0_weighs_24 : decode cX0_weighs 24 = .ok (.aload_n 0, 1) := dk_42 (dk_at dksX0_weighs_1 0 rfl rfl)
theorem dX0_weighs_25 : decode cX0_weighs 25 = .ok (.getfield 30, 3) := dk_180 0 30 (dk_at dksX0_weighs_1 1 rfl rfl)
theorem dX0_weighs_28 : decode cX0_weighs 28 = .ok (.iload_n 2, 1) := dk_28 (dk_at dksX0_weighs_1 4 rfl rfl)
theorem dX0_weighs_29 : decode cX0_weighs 29 = .ok (.aaload, 1) := dk_50 (dk_at dksX0_weighs_1 5 rfl rfl)
theorem dX0_weighs_30 : decode cX0_weighs 30 = .ok (.putfield 308, 3) := dk_181 1 52 (dk_at dksX0_weighs_1 6 rfl rfl)
theorem dX0_weighs_33 : decode cX0_weighs 33 = .ok (.iconst 0, 1) := dk_3 (dk_at dksX0_weighs_1 9 rfl rfl)
theorem dX0_weighs_34 : decode cX0_weighs 34 = .ok (.istore_n 3, 1) := dk_62 (dk_at dksX0_weighs_1 10 rfl rfl)
theorem dX0_weighs_35 : decode cX0_weighs 35 = .ok (.iconst 0, 1) := dk_3 (dk_at dksX0_weighs_1 11 rfl rfl)
theorem dX0_weighs_36 : decode cX0_weighs 36 = .ok (.istore 4, 2) := dk_54 4 (dk_at dksX0_weighs_1 12 rfl rfl)
theorem dX0_weighs_38 : decode cX0_weighs 38 = .ok (.iload 4, 2) := dk_21 4 (dk_at dksX0_weighs_1 14 rfl rfl)
theorem dX0_weighs_40 : decode cX0_weighs 40 = .ok (.aload_n 0, 1) := dk_42 (dk_at dksX0_weighs_1 16 rfl rfl)
theorem dX0_weighs_41 : decode cX0_weighs 41 = .ok (.getfield 415, 3) := dk_180 1 159 (dk_at dksX0_weighs_1 17 rfl rfl)
theorem dX0_weighs_44 : decode cX0_weighs 44 = .ok (.if_icmp .ge 47, 3) := dk_162 0 47 (dk_at dksX0_weighs_1 20 rfl rfl)
theorem dX0_weighs_47 : decode cX0_weighs 47 = .ok (.iload_n 3, 1) := dk_29 (dk_at dksX0_weighs_1 23 rfl rfl)
theorem dX0_weighs_48 : decode cX0_weighs 48 = .ok (.iload_n 1, 1) := dk_27 (dk_at dksX0_weighs_2 0 rfl rfl)
theorem dX0_weighs_49 : decode cX0_weighs 49 = .ok (.iload 4, 2) := dk_21 4 (dk_at dksX0_weighs_2 1 rfl rfl)
theorem dX0_weighs_51 : decode cX0_weighs 51 = .ok (.ishr, 1) := dk_122 (dk_at dksX0_weighs_2 3 rfl rfl)
theorem dX0_weighs_52 : decode cX0_weighs 52 = .ok (.iconst 1, 1) := dk_4 (dk_at dksX0_weighs_2 4 rfl rfl)
theorem dX0_weighs_53 : decode cX0_weighs 53 = .ok (.iand, 1) := dk_126 (dk_at dksX0_weighs_2 5 rfl rfl)
theorem dX0_weighs_54 : decode cX0_weighs 54 = .ok (.iconst 1, 1) := dk_4 (dk_at dksX0_weighs_2 6 rfl rfl)
theorem dX0_weighs_55 : decode cX0_weighs 55 = .ok (.if_icmp .ne 27, 3) := dk_160 0 27 (dk_at dksX0_weighs_2 7 rfl rfl)
theorem dX0_weighs_58 : decode cX0_weighs 58 = .ok (.aload_n 0, 1) := dk_42 (dk_at dksX0_weighs_2 10 rfl rfl)
theorem dX0_weighs_59 : decode cX0_weighs 59 = .ok (.getfield 100, 3) := dk_180 0 100 (dk_at dksX0_weighs_2 11 rfl rfl)
theorem dX0_weighs_62 : decode cX0_weighs 62 = .ok (.iload 4, 2) := dk_21 4 (dk_at dksX0_weighs_2 14 rfl rfl)
theorem dX0_weighs_64 : decode cX0_weighs 64 = .ok (.aaload, 1) := dk_50 (dk_at dksX0_weighs_2 16 rfl rfl)
theorem dX0_weighs_65 : decode cX0_weighs 65 = .ok (.aload_n 0, 1) := dk_42 (dk_at dksX0_weighs_2 17 rfl rfl)
theorem dX0_weighs_66 : decode cX0_weighs 66 = .ok (.getfield 30, 3) := dk_180 0 30 (dk_at dksX0_weighs_2 18 rfl rfl)
theorem dX0_weighs_69 : decode cX0_weighs 69 = .ok (.iload_n 2, 1) := dk_28 (dk_at dksX0_weighs_2 21 rfl rfl)
theorem dX0_weighs_70 : decode cX0_weighs 70 = .ok (.aaload, 1) := dk_50 (dk_at dksX0_weighs_2 22 rfl rfl)
theorem dX0_weighs_71 : decode cX0_weighs 71 = .ok (.invokevirtual 435, 3) := dk_182 1 179 (dk_at dksX0_weighs_3 0 rfl rfl)
theorem dX0_weighs_74 : decode cX0_weighs 74 = .ok (.iconst 1, 1) := dk_4 (dk_at dksX0_weighs_3 3 rfl rfl)
theorem dX0_weighs_75 : decode cX0_weighs 75 = .ok (.if_icmp .ne 7, 3) := dk_160 0 7 (dk_at dksX0_weighs_3 4 rfl rfl)
theorem dX0_weighs_78 : decode cX0_weighs 78 = .ok (.iconst 1, 1) := dk_4 (dk_at dksX0_weighs_3 7 rfl rfl)
theorem dX0_weighs_79 : decode cX0_weighs 79 = .ok (.goto 4, 3) := dk_167 0 4 (dk_at dksX0_weighs_3 8 rfl rfl)
theorem dX0_weighs_82 : decode cX0_weighs 82 = .ok (.iconst 0, 1) := dk_3 (dk_at dksX0_weighs_3 11 rfl rfl)
theorem dX0_weighs_83 : decode cX0_weighs 83 = .ok (.ior, 1) := dk_128 (dk_at dksX0_weighs_3 12 rfl rfl)
theorem dX0_weighs_84 : decode cX0_weighs 84 = .ok (.istore_n 3, 1) := dk_62 (dk_at dksX0_weighs_3 13 rfl rfl)
theorem dX0_weighs_85 : decode cX0_weighs 85 = .ok (.iinc 4 1, 3) := dk_132 4 1 (dk_at dksX0_weighs_3 14 rfl rfl)
theorem dX0_weighs_88 : decode cX0_weighs 88 = .ok (.goto (-50), 3) := dk_167 255 206 (dk_at dksX0_weighs_3 17 rfl rfl)
theorem dX0_weighs_91 : decode cX0_weighs 91 = .ok (.iconst 0, 1) := dk_3 (dk_at dksX0_weighs_3 20 rfl rfl)
theorem dX0_weighs_92 : decode cX0_weighs 92 = .ok (.istore 4, 2) := dk_54 4 (dk_at dksX0_weighs_3 21 rfl rfl)
theorem dX0_weighs_94 : decode cX0_weighs 94 = .ok (.iload 4, 2) := dk_21 4 (dk_at dksX0_weighs_4 0 rfl rfl)
theorem dX0_weighs_96 : decode cX0_weighs 96 = .ok (.bipush 16, 2) := dk_16 16 (dk_at dksX0_weighs_4 2 rfl rfl)
theorem dX0_weighs_98 : decode cX0_weighs 98 = .ok (.if_icmp .ge 138, 3) := dk_162 0 138 (dk_at dksX0_weighs_4 4 rfl rfl)
theorem dX0_weighs_101 : decode cX0_weighs 101 = .ok (.aload_n 0, 1) := dk_42 (dk_at dksX0_weighs_4 7 rfl rfl)
theorem dX0_weighs_102 : decode cX0_weighs 102 = .ok (.getfield 30, 3) := dk_180 0 30 (dk_at dksX0_weighs_4 8 rfl rfl)
theorem dX0_weighs_105 : decode cX0_weighs 105 = .ok (.iload_n 2, 1) := dk_28 (dk_at dksX0_weighs_4 11 rfl rfl)
theorem dX0_weighs_106 : decode cX0_weighs 106 = .ok (.aaload, 1) := dk_50 (dk_at dksX0_weighs_4 12 rfl rfl)
theorem dX0_weighs_107 : decode cX0_weighs 107 = .ok (.iload 4, 2) := dk_21 4 (dk_at dksX0_weighs_4 13 rfl rfl)
theorem dX0_weighs_109 : decode cX0_weighs 109 = .ok (.invokevirtual 319, 3) := dk_182 1 63 (dk_at dksX0_weighs_4 15 rfl rfl)
theorem dX0_weighs_112 : decode cX0_weighs 112 = .ok (.ifCond .ne 6, 3) := dk_154 0 6 (dk_at dksX0_weighs_4 18 rfl rfl)
theorem dX0_weighs_115 : decode cX0_weighs 115 = .ok (.goto 115, 3) := dk_167 0 115 (dk_at dksX0_weighs_4 21 rfl rfl)
theorem dX0_weighs_118 : decode cX0_weighs 118 = .ok (.aload_n 0, 1) := dk_42 (dk_at dksX0_weighs_5 0 rfl rfl)
theorem dX0_weighs_119 : decode cX0_weighs 119 = .ok (.getfield 60, 3) := dk_180 0 60 (dk_at dksX0_weighs_5 1 rfl rfl)
theorem dX0_weighs_122 : decode cX0_weighs 122 = .ok (.iload 4, 2) := dk_21 4 (dk_at dksX0_weighs_5 4 rfl rfl)
theorem dX0_weighs_124 : decode cX0_weighs 124 = .ok (.putfield 312, 3) := dk_181 1 56 (dk_at dksX0_weighs_5 6 rfl rfl)
theorem dX0_weighs_127 : decode cX0_weighs 127 = .ok (.iload_n 3, 1) := dk_29 (dk_at dksX0_weighs_5 9 rfl rfl)
theorem dX0_weighs_128 : decode cX0_weighs 128 = .ok (.istore 5, 2) := dk_54 5 (dk_at dksX0_weighs_5 10 rfl rfl)
theorem dX0_weighs_130 : decode cX0_weighs 130 = .ok (.iconst 0, 1) := dk_3 (dk_at dksX0_weighs_5 12 rfl rfl)
theorem dX0_weighs_131 : decode cX0_weighs 131 = .ok (.istore 6, 2) := dk_54 6 (dk_at dksX0_weighs_5 13 rfl rfl)
theorem dX0_weighs_133 : decode cX0_weighs 133 = .ok (.iload 6, 2) := dk_21 6 (dk_at dksX0_weighs_5 15 rfl rfl)
theorem dX0_weighs_135 : decode cX0_weighs 135 = .ok (.aload_n 0, 1) := dk_42 (dk_at dksX0_weighs_5 17 rfl rfl)
theorem dX0_weighs_136 : decode cX0_weighs 136 = .ok (.getfield 415, 3) := dk_180 1 159 (dk_at dksX0_weighs_5 18 rfl rfl)
theorem dX0_weighs_139 : decode cX0_weighs 139 = .ok (.if_icmp .ge 48, 3) := dk_162 0 48 (dk_at dksX0_weighs_5 21 rfl rfl)
theorem dX0_weighs_142 : decode cX0_weighs 142 = .ok (.iload 5, 2) := dk_21 5 (dk_at dksX0_weighs_6 0 rfl rfl)
theorem dX0_weighs_144 : decode cX0_weighs 144 = .ok (.ifCond .ne 43, 3) := dk_154 0 43 (dk_at dksX0_weighs_6 2 rfl rfl)
theorem dX0_weighs_147 : decode cX0_weighs 147 = .ok (.iload_n 1, 1) := dk_27 (dk_at dksX0_weighs_6 5 rfl rfl)
theorem dX0_weighs_148 : decode cX0_weighs 148 = .ok (.iload 6, 2) := dk_21 6 (dk_at dksX0_weighs_6 6 rfl rfl)
theorem dX0_weighs_150 : decode cX0_weighs 150 = .ok (.ishr, 1) := dk_122 (dk_at dksX0_weighs_6 8 rfl rfl)
theorem dX0_weighs_151 : decode cX0_weighs 151 = .ok (.iconst 1, 1) := dk_4 (dk_at dksX0_weighs_6 9 rfl rfl)
theorem dX0_weighs_152 : decode cX0_weighs 152 = .ok (.iand, 1) := dk_126 (dk_at dksX0_weighs_6 10 rfl rfl)
theorem dX0_weighs_153 : decode cX0_weighs 153 = .ok (.iconst 1, 1) := dk_4 (dk_at dksX0_weighs_6 11 rfl rfl)
theorem dX0_weighs_154 : decode cX0_weighs 154 = .ok (.if_icmp .ne 24, 3) := dk_160 0 24 (dk_at dksX0_weighs_6 12 rfl rfl)
theorem dX0_weighs_157 : decode cX0_weighs 157 = .ok (.aload_n 0, 1) := dk_42 (dk_at dksX0_weighs_6 15 rfl rfl)
theorem dX0_weighs_158 : decode cX0_weighs 158 = .ok (.getfield 100, 3) := dk_180 0 100 (dk_at dksX0_weighs_6 16 rfl rfl)
theorem dX0_weighs_161 : decode cX0_weighs 161 = .ok (.iload 6, 2) := dk_21 6 (dk_at dksX0_weighs_6 19 rfl rfl)
theorem dX0_weighs_163 : decode cX0_weighs 163 = .ok (.aaload, 1) := dk_50 (dk_at dksX0_weighs_6 21 rfl rfl)
theorem dX0_weighs_164 : decode cX0_weighs 164 = .ok (.aload_n 0, 1) := dk_42 (dk_at dksX0_weighs_6 22 rfl rfl)
theorem dX0_weighs_165 : decode cX0_weighs 165 = .ok (.getfield 60, 3) := dk_180 0 60 (dk_at dksX0_weighs_7 0 rfl rfl)
theorem dX0_weighs_168 : decode cX0_weighs 168 = .ok (.invokevirtual 436, 3) := dk_182 1 180 (dk_at dksX0_weighs_7 3 rfl rfl)
theorem dX0_weighs_171 : decode cX0_weighs 171 = .ok (.ifCond .eq 7, 3) := dk_153 0 7 (dk_at dksX0_weighs_7 6 rfl rfl)
theorem dX0_weighs_174 : decode cX0_weighs 174 = .ok (.iconst 1, 1) := dk_4 (dk_at dksX0_weighs_7 9 rfl rfl)
theorem dX0_weighs_175 : decode cX0_weighs 175 = .ok (.goto 4, 3) := dk_167 0 4 (dk_at dksX0_weighs_7 10 rfl rfl)
theorem dX0_weighs_178 : decode cX0_weighs 178 = .ok (.iconst 0, 1) := dk_3 (dk_at dksX0_weighs_7 13 rfl rfl)
theorem dX0_weighs_179 : decode cX0_weighs 179 = .ok (.istore 5, 2) := dk_54 5 (dk_at dksX0_weighs_7 14 rfl rfl)
theorem dX0_weighs_181 : decode cX0_weighs 181 = .ok (.iinc 6 1, 3) := dk_132 6 1 (dk_at dksX0_weighs_7 16 rfl rfl)
theorem dX0_weighs_184 : decode cX0_weighs 184 = .ok (.goto (-51), 3) := dk_167 255 205 (dk_at dksX0_weighs_7 19 rfl rfl)
theorem dX0_weighs_187 : decode cX0_weighs 187 = .ok (.iload 5, 2) := dk_21 5 (dk_at dksX0_weighs_7 22 rfl rfl)
theorem dX0_weighs_189 : decode cX0_weighs 189 = .ok (.ifCond .eq 26, 3) := dk_153 0 26 (dk_at dksX0_weighs_8 0 rfl rfl)
theorem dX0_weighs_192 : decode cX0_weighs 192 = .ok (.aload_n 0, 1) := dk_42 (dk_at dksX0_weighs_8 3 rfl rfl)
theorem dX0_weighs_193 : decode cX0_weighs 193 = .ok (.iload_n 2, 1) := dk_28 (dk_at dksX0_weighs_8 4 rfl rfl)
theorem dX0_weighs_194 : decode cX0_weighs 194 = .ok (.iload 4, 2) := dk_21 4 (dk_at dksX0_weighs_8 5 rfl rfl)
theorem dX0_weighs_196 : decode cX0_weighs 196 = .ok (.invokevirtual 425, 3) := dk_182 1 169 (dk_at dksX0_weighs_8 7 rfl rfl)
theorem dX0_weighs_199 : decode cX0_weighs 199 = .ok (.ifCond .eq 16, 3) := dk_153 0 16 (dk_at dksX0_weighs_8 10 rfl rfl)
theorem dX0_weighs_202 : decode cX0_weighs 202 = .ok (.aload_n 0, 1) := dk_42 (dk_at dksX0_weighs_8 13 rfl rfl)
theorem dX0_weighs_203 : decode cX0_weighs 203 = .ok (.dup, 1) := dk_89 (dk_at dksX0_weighs_8 14 rfl rfl)
theorem dX0_weighs_204 : decode cX0_weighs 204 = .ok (.getfield 429, 3) := dk_180 1 173 (dk_at dksX0_weighs_8 15 rfl rfl)
theorem dX0_weighs_207 : decode cX0_weighs 207 = .ok (.iconst 1, 1) := dk_4 (dk_at dksX0_weighs_8 18 rfl rfl)
theorem dX0_weighs_208 : decode cX0_weighs 208 = .ok (.iadd, 1) := dk_96 (dk_at dksX0_weighs_8 19 rfl rfl)
theorem dX0_weighs_209 : decode cX0_weighs 209 = .ok (.putfield 429, 3) := dk_181 1 173 (dk_at dksX0_weighs_8 20 rfl rfl)
theorem dX0_weighs_212 : decode cX0_weighs 212 = .ok (.goto 18, 3) := dk_167 0 18 (dk_at dksX0_weighs_9 0 rfl rfl)
theorem dX0_weighs_215 : decode cX0_weighs 215 = .ok (.iload 5, 2) := dk_21 5 (dk_at dksX0_weighs_9 3 rfl rfl)
theorem dX0_weighs_217 : decode cX0_weighs 217 = .ok (.ifCond .eq 13, 3) := dk_153 0 13 (dk_at dksX0_weighs_9 5 rfl rfl)
theorem dX0_weighs_220 : decode cX0_weighs 220 = .ok (.aload_n 0, 1) := dk_42 (dk_at dksX0_weighs_9 8 rfl rfl)
theorem dX0_weighs_221 : decode cX0_weighs 221 = .ok (.dup, 1) := dk_89 (dk_at dksX0_weighs_9 9 rfl rfl)
theorem dX0_weighs_222 : decode cX0_weighs 222 = .ok (.getfield 432, 3) := dk_180 1 176 (dk_at dksX0_weighs_9 10 rfl rfl)
theorem dX0_weighs_225 : decode cX0_weighs 225 = .ok (.iconst 1, 1) := dk_4 (dk_at dksX0_weighs_9 13 rfl rfl)
theorem dX0_weighs_226 : decode cX0_weighs 226 = .ok (.iadd, 1) := dk_96 (dk_at dksX0_weighs_9 14 rfl rfl)
theorem dX0_weighs_227 : decode cX0_weighs 227 = .ok (.putfield 432, 3) := dk_181 1 176 (dk_at dksX0_weighs_9 15 rfl rfl)
theorem dX0_weighs_230 : decode cX0_weighs 230 = .ok (.iinc 4 1, 3) := dk_132 4 1 (dk_at dksX0_weighs_9 18 rfl rfl)
theorem dX0_weighs_233 : decode cX0_weighs 233 = .ok (.goto (-139), 3) := dk_167 255 117 (dk_at dksX0_weighs_9 21 rfl rfl)
theorem dX0_weighs_236 : decode cX0_weighs 236 = .ok (.iinc 2 1, 3) := dk_132 2 1 (dk_at dksX0_weighs_10 0 rfl rfl)
theorem dX0_weighs_239 : decode cX0_weighs 239 = .ok (.goto (-227), 3) := dk_167 255 29 (dk_at dksX0_weighs_10 3 rfl rfl)
theorem dX0_weighs_242 : decode cX0_weighs 242 = .ok (.return_, 1) := dk_177 (dk_at dksX0_weighs_10 6 rfl rfl)
abbrev cX0_best : ByteArray := prog_1_method_56_code
def yX0_best : MethodName := ⟨RX0, "best", "()I"⟩
def dkwX0_best_4 : List UInt8 := [167, 0, 4, 27, 172]
abbrev dktX0_best_4 : List UInt8 := dkwX0_best_4 ++ []
def dkwX0_best_3 : List UInt8 := [167, 0, 10, 29, 60, 42, 180, 1, 176, 61, 132, 3, 1, 167, 255, 182, 27, 2, 160, 0, 8, 16, 251]
abbrev dktX0_best_3 : List UInt8 := dkwX0_best_3 ++ dktX0_best_4
def dkwX0_best_2 : List UInt8 := [163, 0, 32, 42, 180, 1, 176, 28, 160, 0, 17, 29, 184, 1, 143, 27, 184, 1, 143, 161, 0, 6]
abbrev dktX0_best_2 : List UInt8 := dkwX0_best_2 ++ dktX0_best_3
def dkwX0_best_1 : List UInt8 := [180, 1, 173, 42, 180, 1, 166, 162, 0, 6, 167, 0, 45, 27, 2, 159, 0, 33, 42, 180, 1, 176, 28]
abbrev dktX0_best_1 : List UInt8 := dkwX0_best_1 ++ dktX0_best_2
def dkwX0_best_0 : List UInt8 := [2, 60, 3, 61, 3, 62, 29, 4, 42, 180, 1, 159, 120, 162, 0, 70, 42, 29, 182, 1, 181, 42]
abbrev dktX0_best_0 : List UInt8 := dkwX0_best_0 ++ dktX0_best_1
theorem dksX0_best_0 : cX0_best.data.toList.drop 0 = dktX0_best_0 := by decide +kernel
theorem dksX0_best_1 : cX0_best.data.toList.drop 22 = dktX0_best_1 := dk_seg dksX0_best_0 22 rfl rfl
theorem dksX0_best_2 : cX0_best.data.toList.drop 45 = dktX0_best_2 := dk_seg dksX0_best_1 23 rfl rfl
theorem dksX0_best_3 : cX0_best.data.toList.drop 67 = dktX0_best_3 := dk_seg dksX0_best_2 22 rfl rfl
theorem dksX0_best_4 : cX0_best.data.toList.drop 90 = dktX0_best_4 := dk_seg dksX0_best_3 23 rfl rfl
theorem dX0_best_0 : decode cX0_best 0 = .ok (.iconst (-1), 1) := dk_2 (dk_at dksX0_best_0 0 rfl rfl)
theorem dX0_best_1 : decode cX0_best 1 = .ok (.istore_n 1, 1) := dk_60 (dk_at dksX0_best_0 1 rfl rfl)
theorem dX0_best_2 : decode cX0_best 2 = .ok (.iconst 0, 1) := dk_3 (dk_at dksX0_best_0 2 rfl rfl)
theorem dX0_best_3 : decode cX0_best 3 = .ok (.istore_n 2, 1) := dk_61 (dk_at dksX0_best_0 3 rfl rfl)
theorem dX0_best_4 : decode cX0_best 4 = .ok (.iconst 0, 1) := dk_3 (dk_at dksX0_best_0 4 rfl rfl)
theorem dX0_best_5 : decode cX0_best 5 = .ok (.istore_n 3, 1) := dk_62 (dk_at dksX0_best_0 5 rfl rfl)
theorem dX0_best_6 : decode cX0_best 6 = .ok (.iload_n 3, 1) := dk_29 (dk_at dksX0_best_0 6 rfl rfl)
theorem dX0_best_7 : decode cX0_best 7 = .ok (.iconst 1, 1) := dk_4 (dk_at dksX0_best_0 7 rfl rfl)
theorem dX0_best_8 : decode cX0_best 8 = .ok (.aload_n 0, 1) := dk_42 (dk_at dksX0_best_0 8 rfl rfl)
theorem dX0_best_9 : decode cX0_best 9 = .ok (.getfield 415, 3) := dk_180 1 159 (dk_at dksX0_best_0 9 rfl rfl)
theorem dX0_best_12 : decode cX0_best 12 = .ok (.ishl, 1) := dk_120 (dk_at dksX0_best_0 12 rfl rfl)
theorem dX0_best_13 : decode cX0_best 13 = .ok (.if_icmp .ge 70, 3) := dk_162 0 70 (dk_at dksX0_best_0 13 rfl rfl)
theorem dX0_best_16 : decode cX0_best 16 = .ok (.aload_n 0, 1) := dk_42 (dk_at dksX0_best_0 16 rfl rfl)
theorem dX0_best_17 : decode cX0_best 17 = .ok (.iload_n 3, 1) := dk_29 (dk_at dksX0_best_0 17 rfl rfl)
theorem dX0_best_18 : decode cX0_best 18 = .ok (.invokevirtual 437, 3) := dk_182 1 181 (dk_at dksX0_best_0 18 rfl rfl)
theorem dX0_best_21 : decode cX0_best 21 = .ok (.aload_n 0, 1) := dk_42 (dk_at dksX0_best_0 21 rfl rfl)
theorem dX0_best_22 : decode cX0_best 22 = .ok (.getfield 429, 3) := dk_180 1 173 (dk_at dksX0_best_1 0 rfl rfl)
theorem dX0_best_25 : decode cX0_best 25 = .ok (.aload_n 0, 1) := dk_42 (dk_at dksX0_best_1 3 rfl rfl)
theorem dX0_best_26 : decode cX0_best 26 = .ok (.getfield 422, 3) := dk_180 1 166 (dk_at dksX0_best_1 4 rfl rfl)
theorem dX0_best_29 : decode cX0_best 29 = .ok (.if_icmp .ge 6, 3) := dk_162 0 6 (dk_at dksX0_best_1 7 rfl rfl)
theorem dX0_best_32 : decode cX0_best 32 = .ok (.goto 45, 3) := dk_167 0 45 (dk_at dksX0_best_1 10 rfl rfl)
theorem dX0_best_35 : decode cX0_best 35 = .ok (.iload_n 1, 1) := dk_27 (dk_at dksX0_best_1 13 rfl rfl)
theorem dX0_best_36 : decode cX0_best 36 = .ok (.iconst (-1), 1) := dk_2 (dk_at dksX0_best_1 14 rfl rfl)
theorem dX0_best_37 : decode cX0_best 37 = .ok (.if_icmp .eq 33, 3) := dk_159 0 33 (dk_at dksX0_best_1 15 rfl rfl)
theorem dX0_best_40 : decode cX0_best 40 = .ok (.aload_n 0, 1) := dk_42 (dk_at dksX0_best_1 18 rfl rfl)
theorem dX0_best_41 : decode cX0_best 41 = .ok (.getfield 432, 3) := dk_180 1 176 (dk_at dksX0_best_1 19 rfl rfl)
theorem dX0_best_44 : decode cX0_best 44 = .ok (.iload_n 2, 1) := dk_28 (dk_at dksX0_best_1 22 rfl rfl)
theorem dX0_best_45 : decode cX0_best 45 = .ok (.if_icmp .gt 32, 3) := dk_163 0 32 (dk_at dksX0_best_2 0 rfl rfl)
theorem dX0_best_48 : decode cX0_best 48 = .ok (.aload_n 0, 1) := dk_42 (dk_at dksX0_best_2 3 rfl rfl)
theorem dX0_best_49 : decode cX0_best 49 = .ok (.getfield 432, 3) := dk_180 1 176 (dk_at dksX0_best_2 4 rfl rfl)
theorem dX0_best_52 : decode cX0_best 52 = .ok (.iload_n 2, 1) := dk_28 (dk_at dksX0_best_2 7 rfl rfl)
theorem dX0_best_53 : decode cX0_best 53 = .ok (.if_icmp .ne 17, 3) := dk_160 0 17 (dk_at dksX0_best_2 8 rfl rfl)
theorem dX0_best_56 : decode cX0_best 56 = .ok (.iload_n 3, 1) := dk_29 (dk_at dksX0_best_2 11 rfl rfl)
theorem dX0_best_57 : decode cX0_best 57 = .ok (.invokestatic 399, 3) := dk_184 1 143 (dk_at dksX0_best_2 12 rfl rfl)
theorem dX0_best_60 : decode cX0_best 60 = .ok (.iload_n 1, 1) := dk_27 (dk_at dksX0_best_2 15 rfl rfl)
theorem dX0_best_61 : decode cX0_best 61 = .ok (.invokestatic 399, 3) := dk_184 1 143 (dk_at dksX0_best_2 16 rfl rfl)
theorem dX0_best_64 : decode cX0_best 64 = .ok (.if_icmp .lt 6, 3) := dk_161 0 6 (dk_at dksX0_best_2 19 rfl rfl)
theorem dX0_best_67 : decode cX0_best 67 = .ok (.goto 10, 3) := dk_167 0 10 (dk_at dksX0_best_3 0 rfl rfl)
theorem dX0_best_70 : decode cX0_best 70 = .ok (.iload_n 3, 1) := dk_29 (dk_at dksX0_best_3 3 rfl rfl)
theorem dX0_best_71 : decode cX0_best 71 = .ok (.istore_n 1, 1) := dk_60 (dk_at dksX0_best_3 4 rfl rfl)
theorem dX0_best_72 : decode cX0_best 72 = .ok (.aload_n 0, 1) := dk_42 (dk_at dksX0_best_3 5 rfl rfl)
theorem dX0_best_73 : decode cX0_best 73 = .ok (.getfield 432, 3) := dk_180 1 176 (dk_at dksX0_best_3 6 rfl rfl)
theorem dX0_best_76 : decode cX0_best 76 = .ok (.istore_n 2, 1) := dk_61 (dk_at dksX0_best_3 9 rfl rfl)
theorem dX0_best_77 : decode cX0_best 77 = .ok (.iinc 3 1, 3) := dk_132 3 1 (dk_at dksX0_best_3 10 rfl rfl)
theorem dX0_best_80 : decode cX0_best 80 = .ok (.goto (-74), 3) := dk_167 255 182 (dk_at dksX0_best_3 13 rfl rfl)
theorem dX0_best_83 : decode cX0_best 83 = .ok (.iload_n 1, 1) := dk_27 (dk_at dksX0_best_3 16 rfl rfl)
theorem dX0_best_84 : decode cX0_best 84 = .ok (.iconst (-1), 1) := dk_2 (dk_at dksX0_best_3 17 rfl rfl)
theorem dX0_best_85 : decode cX0_best 85 = .ok (.if_icmp .ne 8, 3) := dk_160 0 8 (dk_at dksX0_best_3 18 rfl rfl)
theorem dX0_best_88 : decode cX0_best 88 = .ok (.bipush (-5), 2) := dk_16 251 (dk_at dksX0_best_3 21 rfl rfl)
theorem dX0_best_90 : decode cX0_best 90 = .ok (.goto 4, 3) := dk_167 0 4 (dk_at dksX0_best_4 0 rfl rfl)
theorem dX0_best_93 : decode cX0_best 93 = .ok (.iload_n 1, 1) := dk_27 (dk_at dksX0_best_4 3 rfl rfl)
theorem dX0_best_94 : decode cX0_best 94 = .ok (.ireturn, 1) := dk_172 (dk_at dksX0_best_4 4 rfl rfl)
abbrev cX0_copy : ByteArray := prog_1_method_60_code
def yX0_copy : MethodName := ⟨RX0, "copy", "(I)I"⟩
def dkwX0_copy_3 : List UInt8 := [180, 1, 185, 90, 4, 96, 181, 1, 185, 172]
abbrev dktX0_copy_3 : List UInt8 := dkwX0_copy_3 ++ []
def dkwX0_copy_2 : List UInt8 := [42, 42, 180, 1, 185, 42, 180, 0, 30, 27, 50, 180, 0, 180, 42, 180, 0, 134, 182, 1, 191, 61, 42, 89]
abbrev dktX0_copy_2 : List UInt8 := dkwX0_copy_2 ++ dktX0_copy_3
def dkwX0_copy_1 : List UInt8 := [17, 0, 200, 160, 0, 6, 16, 252, 172, 42, 180, 0, 110, 42, 180, 1, 185, 42, 180, 0, 30, 27, 50, 83]
abbrev dktX0_copy_1 : List UInt8 := dkwX0_copy_1 ++ dktX0_copy_2
def dkwX0_copy_0 : List UInt8 := [42, 27, 182, 0, 166, 154, 0, 5, 2, 172, 42, 180, 1, 185, 16, 60, 159, 0, 13, 42, 180, 1, 188]
abbrev dktX0_copy_0 : List UInt8 := dkwX0_copy_0 ++ dktX0_copy_1
theorem dksX0_copy_0 : cX0_copy.data.toList.drop 0 = dktX0_copy_0 := by decide +kernel
theorem dksX0_copy_1 : cX0_copy.data.toList.drop 23 = dktX0_copy_1 := dk_seg dksX0_copy_0 23 rfl rfl
theorem dksX0_copy_2 : cX0_copy.data.toList.drop 47 = dktX0_copy_2 := dk_seg dksX0_copy_1 24 rfl rfl
theorem dksX0_copy_3 : cX0_copy.data.toList.drop 71 = dktX0_copy_3 := dk_seg dksX0_copy_2 24 rfl rfl
theorem dX0_copy_0 : decode cX0_copy 0 = .ok (.aload_n 0, 1) := dk_42 (dk_at dksX0_copy_0 0 rfl rfl)
theorem dX0_copy_1 : decode cX0_copy 1 = .ok (.iload_n 1, 1) := dk_27 (dk_at dksX0_copy_0 1 rfl rfl)
theorem dX0_copy_2 : decode cX0_copy 2 = .ok (.invokevirtual 166, 3) := dk_182 0 166 (dk_at dksX0_copy_0 2 rfl rfl)
theorem dX0_copy_5 : decode cX0_copy 5 = .ok (.ifCond .ne 5, 3) := dk_154 0 5 (dk_at dksX0_copy_0 5 rfl rfl)
theorem dX0_copy_8 : decode cX0_copy 8 = .ok (.iconst (-1), 1) := dk_2 (dk_at dksX0_copy_0 8 rfl rfl)
theorem dX0_copy_9 : decode cX0_copy 9 = .ok (.ireturn, 1) := dk_172 (dk_at dksX0_copy_0 9 rfl rfl)
theorem dX0_copy_10 : decode cX0_copy 10 = .ok (.aload_n 0, 1) := dk_42 (dk_at dksX0_copy_0 10 rfl rfl)
theorem dX0_copy_11 : decode cX0_copy 11 = .ok (.getfield 441, 3) := dk_180 1 185 (dk_at dksX0_copy_0 11 rfl rfl)
theorem dX0_copy_14 : decode cX0_copy 14 = .ok (.bipush 60, 2) := dk_16 60 (dk_at dksX0_copy_0 14 rfl rfl)
theorem dX0_copy_16 : decode cX0_copy 16 = .ok (.if_icmp .eq 13, 3) := dk_159 0 13 (dk_at dksX0_copy_0 16 rfl rfl)
theorem dX0_copy_19 : decode cX0_copy 19 = .ok (.aload_n 0, 1) := dk_42 (dk_at dksX0_copy_0 19 rfl rfl)
theorem dX0_copy_20 : decode cX0_copy 20 = .ok (.getfield 444, 3) := dk_180 1 188 (dk_at dksX0_copy_0 20 rfl rfl)
theorem dX0_copy_23 : decode cX0_copy 23 = .ok (.sipush 200, 3) := dk_17 0 200 (dk_at dksX0_copy_1 0 rfl rfl)
theorem dX0_copy_26 : decode cX0_copy 26 = .ok (.if_icmp .ne 6, 3) := dk_160 0 6 (dk_at dksX0_copy_1 3 rfl rfl)
theorem dX0_copy_29 : decode cX0_copy 29 = .ok (.bipush (-4), 2) := dk_16 252 (dk_at dksX0_copy_1 6 rfl rfl)
theorem dX0_copy_31 : decode cX0_copy 31 = .ok (.ireturn, 1) := dk_172 (dk_at dksX0_copy_1 8 rfl rfl)
theorem dX0_copy_32 : decode cX0_copy 32 = .ok (.aload_n 0, 1) := dk_42 (dk_at dksX0_copy_1 9 rfl rfl)
theorem dX0_copy_33 : decode cX0_copy 33 = .ok (.getfield 110, 3) := dk_180 0 110 (dk_at dksX0_copy_1 10 rfl rfl)
theorem dX0_copy_36 : decode cX0_copy 36 = .ok (.aload_n 0, 1) := dk_42 (dk_at dksX0_copy_1 13 rfl rfl)
theorem dX0_copy_37 : decode cX0_copy 37 = .ok (.getfield 441, 3) := dk_180 1 185 (dk_at dksX0_copy_1 14 rfl rfl)
theorem dX0_copy_40 : decode cX0_copy 40 = .ok (.aload_n 0, 1) := dk_42 (dk_at dksX0_copy_1 17 rfl rfl)
theorem dX0_copy_41 : decode cX0_copy 41 = .ok (.getfield 30, 3) := dk_180 0 30 (dk_at dksX0_copy_1 18 rfl rfl)
theorem dX0_copy_44 : decode cX0_copy 44 = .ok (.iload_n 1, 1) := dk_27 (dk_at dksX0_copy_1 21 rfl rfl)
theorem dX0_copy_45 : decode cX0_copy 45 = .ok (.aaload, 1) := dk_50 (dk_at dksX0_copy_1 22 rfl rfl)
theorem dX0_copy_46 : decode cX0_copy 46 = .ok (.aastore, 1) := dk_83 (dk_at dksX0_copy_1 23 rfl rfl)
theorem dX0_copy_47 : decode cX0_copy 47 = .ok (.aload_n 0, 1) := dk_42 (dk_at dksX0_copy_2 0 rfl rfl)
theorem dX0_copy_48 : decode cX0_copy 48 = .ok (.aload_n 0, 1) := dk_42 (dk_at dksX0_copy_2 1 rfl rfl)
theorem dX0_copy_49 : decode cX0_copy 49 = .ok (.getfield 441, 3) := dk_180 1 185 (dk_at dksX0_copy_2 2 rfl rfl)
theorem dX0_copy_52 : decode cX0_copy 52 = .ok (.aload_n 0, 1) := dk_42 (dk_at dksX0_copy_2 5 rfl rfl)
theorem dX0_copy_53 : decode cX0_copy 53 = .ok (.getfield 30, 3) := dk_180 0 30 (dk_at dksX0_copy_2 6 rfl rfl)
theorem dX0_copy_56 : decode cX0_copy 56 = .ok (.iload_n 1, 1) := dk_27 (dk_at dksX0_copy_2 9 rfl rfl)
theorem dX0_copy_57 : decode cX0_copy 57 = .ok (.aaload, 1) := dk_50 (dk_at dksX0_copy_2 10 rfl rfl)
theorem dX0_copy_58 : decode cX0_copy 58 = .ok (.getfield 180, 3) := dk_180 0 180 (dk_at dksX0_copy_2 11 rfl rfl)
theorem dX0_copy_61 : decode cX0_copy 61 = .ok (.aload_n 0, 1) := dk_42 (dk_at dksX0_copy_2 14 rfl rfl)
theorem dX0_copy_62 : decode cX0_copy 62 = .ok (.getfield 134, 3) := dk_180 0 134 (dk_at dksX0_copy_2 15 rfl rfl)
theorem dX0_copy_65 : decode cX0_copy 65 = .ok (.invokevirtual 447, 3) := dk_182 1 191 (dk_at dksX0_copy_2 18 rfl rfl)
theorem dX0_copy_68 : decode cX0_copy 68 = .ok (.istore_n 2, 1) := dk_61 (dk_at dksX0_copy_2 21 rfl rfl)
theorem dX0_copy_69 : decode cX0_copy 69 = .ok (.aload_n 0, 1) := dk_42 (dk_at dksX0_copy_2 22 rfl rfl)
theorem dX0_copy_70 : decode cX0_copy 70 = .ok (.dup, 1) := dk_89 (dk_at dksX0_copy_2 23 rfl rfl)
theorem dX0_copy_71 : decode cX0_copy 71 = .ok (.getfield 441, 3) := dk_180 1 185 (dk_at dksX0_copy_3 0 rfl rfl)
theorem dX0_copy_74 : decode cX0_copy 74 = .ok (.dup_x1, 1) := dk_90 (dk_at dksX0_copy_3 3 rfl rfl)
theorem dX0_copy_75 : decode cX0_copy 75 = .ok (.iconst 1, 1) := dk_4 (dk_at dksX0_copy_3 4 rfl rfl)
theorem dX0_copy_76 : decode cX0_copy 76 = .ok (.iadd, 1) := dk_96 (dk_at dksX0_copy_3 5 rfl rfl)
theorem dX0_copy_77 : decode cX0_copy 77 = .ok (.putfield 441, 3) := dk_181 1 185 (dk_at dksX0_copy_3 6 rfl rfl)
theorem dX0_copy_80 : decode cX0_copy 80 = .ok (.ireturn, 1) := dk_172 (dk_at dksX0_copy_3 9 rfl rfl)
abbrev cX0_enters : ByteArray := prog_1_method_59_code
def yX0_enters : MethodName := ⟨RX0, "enters", "(III)I"⟩
def dkwX0_enters_1 : List UInt8 := [42, 180, 1, 188, 29, 79, 42, 89, 180, 1, 188, 4, 96, 90, 181, 1, 188, 172]
abbrev dktX0_enters_1 : List UInt8 := dkwX0_enters_1 ++ []
def dkwX0_enters_0 : List UInt8 := [42, 180, 0, 113, 42, 180, 1, 188, 27, 79, 42, 180, 0, 116, 42, 180, 1, 188, 28, 79, 42, 180, 0, 119]
abbrev dktX0_enters_0 : List UInt8 := dkwX0_enters_0 ++ dktX0_enters_1
theorem dksX0_enters_0 : cX0_enters.data.toList.drop 0 = dktX0_enters_0 := by decide +kernel
theorem dksX0_enters_1 : cX0_enters.data.toList.drop 24 = dktX0_enters_1 := dk_seg dksX0_enters_0 24 rfl rfl
theorem dX0_enters_0 : decode cX0_enters 0 = .ok (.aload_n 0, 1) := dk_42 (dk_at dksX0_enters_0 0 rfl rfl)
theorem dX0_enters_1 : decode cX0_enters 1 = .ok (.getfield 113, 3) := dk_180 0 113 (dk_at dksX0_enters_0 1 rfl rfl)
theorem dX0_enters_4 : decode cX0_enters 4 = .ok (.aload_n 0, 1) := dk_42 (dk_at dksX0_enters_0 4 rfl rfl)
theorem dX0_enters_5 : decode cX0_enters 5 = .ok (.getfield 444, 3) := dk_180 1 188 (dk_at dksX0_enters_0 5 rfl rfl)
theorem dX0_enters_8 : decode cX0_enters 8 = .ok (.iload_n 1, 1) := dk_27 (dk_at dksX0_enters_0 8 rfl rfl)
theorem dX0_enters_9 : decode cX0_enters 9 = .ok (.iastore, 1) := dk_79 (dk_at dksX0_enters_0 9 rfl rfl)
theorem dX0_enters_10 : decode cX0_enters 10 = .ok (.aload_n 0, 1) := dk_42 (dk_at dksX0_enters_0 10 rfl rfl)
theorem dX0_enters_11 : decode cX0_enters 11 = .ok (.getfield 116, 3) := dk_180 0 116 (dk_at dksX0_enters_0 11 rfl rfl)
theorem dX0_enters_14 : decode cX0_enters 14 = .ok (.aload_n 0, 1) := dk_42 (dk_at dksX0_enters_0 14 rfl rfl)
theorem dX0_enters_15 : decode cX0_enters 15 = .ok (.getfield 444, 3) := dk_180 1 188 (dk_at dksX0_enters_0 15 rfl rfl)
theorem dX0_enters_18 : decode cX0_enters 18 = .ok (.iload_n 2, 1) := dk_28 (dk_at dksX0_enters_0 18 rfl rfl)
theorem dX0_enters_19 : decode cX0_enters 19 = .ok (.iastore, 1) := dk_79 (dk_at dksX0_enters_0 19 rfl rfl)
theorem dX0_enters_20 : decode cX0_enters 20 = .ok (.aload_n 0, 1) := dk_42 (dk_at dksX0_enters_0 20 rfl rfl)
theorem dX0_enters_21 : decode cX0_enters 21 = .ok (.getfield 119, 3) := dk_180 0 119 (dk_at dksX0_enters_0 21 rfl rfl)
theorem dX0_enters_24 : decode cX0_enters 24 = .ok (.aload_n 0, 1) := dk_42 (dk_at dksX0_enters_1 0 rfl rfl)
theorem dX0_enters_25 : decode cX0_enters 25 = .ok (.getfield 444, 3) := dk_180 1 188 (dk_at dksX0_enters_1 1 rfl rfl)
theorem dX0_enters_28 : decode cX0_enters 28 = .ok (.iload_n 3, 1) := dk_29 (dk_at dksX0_enters_1 4 rfl rfl)
theorem dX0_enters_29 : decode cX0_enters 29 = .ok (.iastore, 1) := dk_79 (dk_at dksX0_enters_1 5 rfl rfl)
theorem dX0_enters_30 : decode cX0_enters 30 = .ok (.aload_n 0, 1) := dk_42 (dk_at dksX0_enters_1 6 rfl rfl)
theorem dX0_enters_31 : decode cX0_enters 31 = .ok (.dup, 1) := dk_89 (dk_at dksX0_enters_1 7 rfl rfl)
theorem dX0_enters_32 : decode cX0_enters 32 = .ok (.getfield 444, 3) := dk_180 1 188 (dk_at dksX0_enters_1 8 rfl rfl)
theorem dX0_enters_35 : decode cX0_enters 35 = .ok (.iconst 1, 1) := dk_4 (dk_at dksX0_enters_1 11 rfl rfl)
theorem dX0_enters_36 : decode cX0_enters 36 = .ok (.iadd, 1) := dk_96 (dk_at dksX0_enters_1 12 rfl rfl)
theorem dX0_enters_37 : decode cX0_enters 37 = .ok (.dup_x1, 1) := dk_90 (dk_at dksX0_enters_1 13 rfl rfl)
theorem dX0_enters_38 : decode cX0_enters 38 = .ok (.putfield 444, 3) := dk_181 1 188 (dk_at dksX0_enters_1 14 rfl rfl)
theorem dX0_enters_41 : decode cX0_enters 41 = .ok (.ireturn, 1) := dk_172 (dk_at dksX0_enters_1 17 rfl rfl)
abbrev cX0_moved : ByteArray := prog_1_method_62_code
def yX0_moved : MethodName := ⟨RX0, "moved", "(III)I"⟩
def dkwX0_moved_6 : List UInt8 := [167, 0, 10, 42, 27, 28, 29, 182, 1, 191, 172]
abbrev dktX0_moved_6 : List UInt8 := dkwX0_moved_6 ++ []
def dkwX0_moved_5 : List UInt8 := [160, 0, 11, 21, 5, 153, 0, 6, 16, 253, 172, 42, 180, 1, 188, 17, 0, 200, 160, 0, 8, 16, 252]
abbrev dktX0_moved_5 : List UInt8 := dkwX0_moved_5 ++ dktX0_moved_6
def dkwX0_moved_4 : List UInt8 := [132, 6, 1, 167, 255, 212, 21, 4, 16, 251, 159, 0, 21, 21, 4, 16, 10, 159, 0, 14, 28, 16, 10]
abbrev dktX0_moved_4 : List UInt8 := dkwX0_moved_4 ++ dktX0_moved_5
def dkwX0_moved_3 : List UInt8 := [160, 0, 18, 42, 180, 0, 119, 21, 6, 46, 29, 164, 0, 7, 4, 167, 0, 4, 3, 128, 54, 5]
abbrev dktX0_moved_3 : List UInt8 := dkwX0_moved_3 ++ dktX0_moved_4
def dkwX0_moved_2 : List UInt8 := [3, 54, 6, 21, 6, 42, 180, 1, 188, 162, 0, 41, 21, 5, 42, 180, 0, 113, 21, 6, 46, 27]
abbrev dktX0_moved_2 : List UInt8 := dkwX0_moved_2 ++ dktX0_moved_3
def dkwX0_moved_1 : List UInt8 := [180, 0, 134, 184, 0, 123, 154, 0, 6, 16, 254, 172, 42, 27, 29, 2, 182, 1, 198, 54, 4, 3, 54, 5]
abbrev dktX0_moved_1 : List UInt8 := dkwX0_moved_1 ++ dktX0_moved_2
def dkwX0_moved_0 : List UInt8 := [42, 27, 182, 1, 195, 154, 0, 5, 2, 172, 28, 3, 16, 10, 184, 0, 123, 153, 0, 15, 29, 3, 42]
abbrev dktX0_moved_0 : List UInt8 := dkwX0_moved_0 ++ dktX0_moved_1
theorem dksX0_moved_0 : cX0_moved.data.toList.drop 0 = dktX0_moved_0 := by decide +kernel
theorem dksX0_moved_1 : cX0_moved.data.toList.drop 23 = dktX0_moved_1 := dk_seg dksX0_moved_0 23 rfl rfl
theorem dksX0_moved_2 : cX0_moved.data.toList.drop 47 = dktX0_moved_2 := dk_seg dksX0_moved_1 24 rfl rfl
theorem dksX0_moved_3 : cX0_moved.data.toList.drop 69 = dktX0_moved_3 := dk_seg dksX0_moved_2 22 rfl rfl
theorem dksX0_moved_4 : cX0_moved.data.toList.drop 91 = dktX0_moved_4 := dk_seg dksX0_moved_3 22 rfl rfl
theorem dksX0_moved_5 : cX0_moved.data.toList.drop 114 = dktX0_moved_5 := dk_seg dksX0_moved_4 23 rfl rfl
theorem dksX0_moved_6 : cX0_moved.data.toList.drop 137 = dktX0_moved_6 := dk_seg dksX0_moved_5 23 rfl rfl
theorem dX0_moved_0 : decode cX0_moved 0 = .ok (.aload_n 0, 1) := dk_42 (dk_at dksX0_moved_0 0 rfl rfl)
theorem dX0_moved_1 : decode cX0_moved 1 = .ok (.iload_n 1, 1) := dk_27 (dk_at dksX0_moved_0 1 rfl rfl)
theorem dX0_moved_2 : decode cX0_moved 2 = .ok (.invokevirtual 451, 3) := dk_182 1 195 (dk_at dksX0_moved_0 2 rfl rfl)
theorem dX0_moved_5 : decode cX0_moved 5 = .ok (.ifCond .ne 5, 3) := dk_154 0 5 (dk_at dksX0_moved_0 5 rfl rfl)
theorem dX0_moved_8 : decode cX0_moved 8 = .ok (.iconst (-1), 1) := dk_2 (dk_at dksX0_moved_0 8 rfl rfl)
theorem dX0_moved_9 : decode cX0_moved 9 = .ok (.ireturn, 1) := dk_172 (dk_at dksX0_moved_0 9 rfl rfl)
theorem dX0_moved_10 : decode cX0_moved 10 = .ok (.iload_n 2, 1) := dk_28 (dk_at dksX0_moved_0 10 rfl rfl)
theorem dX0_moved_11 : decode cX0_moved 11 = .ok (.iconst 0, 1) := dk_3 (dk_at dksX0_moved_0 11 rfl rfl)
theorem dX0_moved_12 : decode cX0_moved 12 = .ok (.bipush 10, 2) := dk_16 10 (dk_at dksX0_moved_0 12 rfl rfl)
theorem dX0_moved_14 : decode cX0_moved 14 = .ok (.invokestatic 123, 3) := dk_184 0 123 (dk_at dksX0_moved_0 14 rfl rfl)
theorem dX0_moved_17 : decode cX0_moved 17 = .ok (.ifCond .eq 15, 3) := dk_153 0 15 (dk_at dksX0_moved_0 17 rfl rfl)
theorem dX0_moved_20 : decode cX0_moved 20 = .ok (.iload_n 3, 1) := dk_29 (dk_at dksX0_moved_0 20 rfl rfl)
theorem dX0_moved_21 : decode cX0_moved 21 = .ok (.iconst 0, 1) := dk_3 (dk_at dksX0_moved_0 21 rfl rfl)
theorem dX0_moved_22 : decode cX0_moved 22 = .ok (.aload_n 0, 1) := dk_42 (dk_at dksX0_moved_0 22 rfl rfl)
theorem dX0_moved_23 : decode cX0_moved 23 = .ok (.getfield 134, 3) := dk_180 0 134 (dk_at dksX0_moved_1 0 rfl rfl)
theorem dX0_moved_26 : decode cX0_moved 26 = .ok (.invokestatic 123, 3) := dk_184 0 123 (dk_at dksX0_moved_1 3 rfl rfl)
theorem dX0_moved_29 : decode cX0_moved 29 = .ok (.ifCond .ne 6, 3) := dk_154 0 6 (dk_at dksX0_moved_1 6 rfl rfl)
theorem dX0_moved_32 : decode cX0_moved 32 = .ok (.bipush (-2), 2) := dk_16 254 (dk_at dksX0_moved_1 9 rfl rfl)
theorem dX0_moved_34 : decode cX0_moved 34 = .ok (.ireturn, 1) := dk_172 (dk_at dksX0_moved_1 11 rfl rfl)
theorem dX0_moved_35 : decode cX0_moved 35 = .ok (.aload_n 0, 1) := dk_42 (dk_at dksX0_moved_1 12 rfl rfl)
theorem dX0_moved_36 : decode cX0_moved 36 = .ok (.iload_n 1, 1) := dk_27 (dk_at dksX0_moved_1 13 rfl rfl)
theorem dX0_moved_37 : decode cX0_moved 37 = .ok (.iload_n 3, 1) := dk_29 (dk_at dksX0_moved_1 14 rfl rfl)
theorem dX0_moved_38 : decode cX0_moved 38 = .ok (.iconst (-1), 1) := dk_2 (dk_at dksX0_moved_1 15 rfl rfl)
theorem dX0_moved_39 : decode cX0_moved 39 = .ok (.invokevirtual 454, 3) := dk_182 1 198 (dk_at dksX0_moved_1 16 rfl rfl)
theorem dX0_moved_42 : decode cX0_moved 42 = .ok (.istore 4, 2) := dk_54 4 (dk_at dksX0_moved_1 19 rfl rfl)
theorem dX0_moved_44 : decode cX0_moved 44 = .ok (.iconst 0, 1) := dk_3 (dk_at dksX0_moved_1 21 rfl rfl)
theorem dX0_moved_45 : decode cX0_moved 45 = .ok (.istore 5, 2) := dk_54 5 (dk_at dksX0_moved_1 22 rfl rfl)
theorem dX0_moved_47 : decode cX0_moved 47 = .ok (.iconst 0, 1) := dk_3 (dk_at dksX0_moved_2 0 rfl rfl)
theorem dX0_moved_48 : decode cX0_moved 48 = .ok (.istore 6, 2) := dk_54 6 (dk_at dksX0_moved_2 1 rfl rfl)
theorem dX0_moved_50 : decode cX0_moved 50 = .ok (.iload 6, 2) := dk_21 6 (dk_at dksX0_moved_2 3 rfl rfl)
theorem dX0_moved_52 : decode cX0_moved 52 = .ok (.aload_n 0, 1) := dk_42 (dk_at dksX0_moved_2 5 rfl rfl)
theorem dX0_moved_53 : decode cX0_moved 53 = .ok (.getfield 444, 3) := dk_180 1 188 (dk_at dksX0_moved_2 6 rfl rfl)
theorem dX0_moved_56 : decode cX0_moved 56 = .ok (.if_icmp .ge 41, 3) := dk_162 0 41 (dk_at dksX0_moved_2 9 rfl rfl)
theorem dX0_moved_59 : decode cX0_moved 59 = .ok (.iload 5, 2) := dk_21 5 (dk_at dksX0_moved_2 12 rfl rfl)
theorem dX0_moved_61 : decode cX0_moved 61 = .ok (.aload_n 0, 1) := dk_42 (dk_at dksX0_moved_2 14 rfl rfl)
theorem dX0_moved_62 : decode cX0_moved 62 = .ok (.getfield 113, 3) := dk_180 0 113 (dk_at dksX0_moved_2 15 rfl rfl)
theorem dX0_moved_65 : decode cX0_moved 65 = .ok (.iload 6, 2) := dk_21 6 (dk_at dksX0_moved_2 18 rfl rfl)
theorem dX0_moved_67 : decode cX0_moved 67 = .ok (.iaload, 1) := dk_46 (dk_at dksX0_moved_2 20 rfl rfl)
theorem dX0_moved_68 : decode cX0_moved 68 = .ok (.iload_n 1, 1) := dk_27 (dk_at dksX0_moved_2 21 rfl rfl)
theorem dX0_moved_69 : decode cX0_moved 69 = .ok (.if_icmp .ne 18, 3) := dk_160 0 18 (dk_at dksX0_moved_3 0 rfl rfl)
theorem dX0_moved_72 : decode cX0_moved 72 = .ok (.aload_n 0, 1) := dk_42 (dk_at dksX0_moved_3 3 rfl rfl)
theorem dX0_moved_73 : decode cX0_moved 73 = .ok (.getfield 119, 3) := dk_180 0 119 (dk_at dksX0_moved_3 4 rfl rfl)
theorem dX0_moved_76 : decode cX0_moved 76 = .ok (.iload 6, 2) := dk_21 6 (dk_at dksX0_moved_3 7 rfl rfl)
theorem dX0_moved_78 : decode cX0_moved 78 = .ok (.iaload, 1) := dk_46 (dk_at dksX0_moved_3 9 rfl rfl)
theorem dX0_moved_79 : decode cX0_moved 79 = .ok (.iload_n 3, 1) := dk_29 (dk_at dksX0_moved_3 10 rfl rfl)
theorem dX0_moved_80 : decode cX0_moved 80 = .ok (.if_icmp .le 7, 3) := dk_164 0 7 (dk_at dksX0_moved_3 11 rfl rfl)
theorem dX0_moved_83 : decode cX0_moved 83 = .ok (.iconst 1, 1) := dk_4 (dk_at dksX0_moved_3 14 rfl rfl)
theorem dX0_moved_84 : decode cX0_moved 84 = .ok (.goto 4, 3) := dk_167 0 4 (dk_at dksX0_moved_3 15 rfl rfl)
theorem dX0_moved_87 : decode cX0_moved 87 = .ok (.iconst 0, 1) := dk_3 (dk_at dksX0_moved_3 18 rfl rfl)
theorem dX0_moved_88 : decode cX0_moved 88 = .ok (.ior, 1) := dk_128 (dk_at dksX0_moved_3 19 rfl rfl)
theorem dX0_moved_89 : decode cX0_moved 89 = .ok (.istore 5, 2) := dk_54 5 (dk_at dksX0_moved_3 20 rfl rfl)
theorem dX0_moved_91 : decode cX0_moved 91 = .ok (.iinc 6 1, 3) := dk_132 6 1 (dk_at dksX0_moved_4 0 rfl rfl)
theorem dX0_moved_94 : decode cX0_moved 94 = .ok (.goto (-44), 3) := dk_167 255 212 (dk_at dksX0_moved_4 3 rfl rfl)
theorem dX0_moved_97 : decode cX0_moved 97 = .ok (.iload 4, 2) := dk_21 4 (dk_at dksX0_moved_4 6 rfl rfl)
theorem dX0_moved_99 : decode cX0_moved 99 = .ok (.bipush (-5), 2) := dk_16 251 (dk_at dksX0_moved_4 8 rfl rfl)
theorem dX0_moved_101 : decode cX0_moved 101 = .ok (.if_icmp .eq 21, 3) := dk_159 0 21 (dk_at dksX0_moved_4 10 rfl rfl)
theorem dX0_moved_104 : decode cX0_moved 104 = .ok (.iload 4, 2) := dk_21 4 (dk_at dksX0_moved_4 13 rfl rfl)
theorem dX0_moved_106 : decode cX0_moved 106 = .ok (.bipush 10, 2) := dk_16 10 (dk_at dksX0_moved_4 15 rfl rfl)
theorem dX0_moved_108 : decode cX0_moved 108 = .ok (.if_icmp .eq 14, 3) := dk_159 0 14 (dk_at dksX0_moved_4 17 rfl rfl)
theorem dX0_moved_111 : decode cX0_moved 111 = .ok (.iload_n 2, 1) := dk_28 (dk_at dksX0_moved_4 20 rfl rfl)
theorem dX0_moved_112 : decode cX0_moved 112 = .ok (.bipush 10, 2) := dk_16 10 (dk_at dksX0_moved_4 21 rfl rfl)
theorem dX0_moved_114 : decode cX0_moved 114 = .ok (.if_icmp .ne 11, 3) := dk_160 0 11 (dk_at dksX0_moved_5 0 rfl rfl)
theorem dX0_moved_117 : decode cX0_moved 117 = .ok (.iload 5, 2) := dk_21 5 (dk_at dksX0_moved_5 3 rfl rfl)
theorem dX0_moved_119 : decode cX0_moved 119 = .ok (.ifCond .eq 6, 3) := dk_153 0 6 (dk_at dksX0_moved_5 5 rfl rfl)
theorem dX0_moved_122 : decode cX0_moved 122 = .ok (.bipush (-3), 2) := dk_16 253 (dk_at dksX0_moved_5 8 rfl rfl)
theorem dX0_moved_124 : decode cX0_moved 124 = .ok (.ireturn, 1) := dk_172 (dk_at dksX0_moved_5 10 rfl rfl)
theorem dX0_moved_125 : decode cX0_moved 125 = .ok (.aload_n 0, 1) := dk_42 (dk_at dksX0_moved_5 11 rfl rfl)
theorem dX0_moved_126 : decode cX0_moved 126 = .ok (.getfield 444, 3) := dk_180 1 188 (dk_at dksX0_moved_5 12 rfl rfl)
theorem dX0_moved_129 : decode cX0_moved 129 = .ok (.sipush 200, 3) := dk_17 0 200 (dk_at dksX0_moved_5 15 rfl rfl)
theorem dX0_moved_132 : decode cX0_moved 132 = .ok (.if_icmp .ne 8, 3) := dk_160 0 8 (dk_at dksX0_moved_5 18 rfl rfl)
theorem dX0_moved_135 : decode cX0_moved 135 = .ok (.bipush (-4), 2) := dk_16 252 (dk_at dksX0_moved_5 21 rfl rfl)
theorem dX0_moved_137 : decode cX0_moved 137 = .ok (.goto 10, 3) := dk_167 0 10 (dk_at dksX0_moved_6 0 rfl rfl)
theorem dX0_moved_140 : decode cX0_moved 140 = .ok (.aload_n 0, 1) := dk_42 (dk_at dksX0_moved_6 3 rfl rfl)
theorem dX0_moved_141 : decode cX0_moved 141 = .ok (.iload_n 1, 1) := dk_27 (dk_at dksX0_moved_6 4 rfl rfl)
theorem dX0_moved_142 : decode cX0_moved 142 = .ok (.iload_n 2, 1) := dk_28 (dk_at dksX0_moved_6 5 rfl rfl)
theorem dX0_moved_143 : decode cX0_moved 143 = .ok (.iload_n 3, 1) := dk_29 (dk_at dksX0_moved_6 6 rfl rfl)
theorem dX0_moved_144 : decode cX0_moved 144 = .ok (.invokevirtual 447, 3) := dk_182 1 191 (dk_at dksX0_moved_6 7 rfl rfl)
theorem dX0_moved_147 : decode cX0_moved 147 = .ok (.ireturn, 1) := dk_172 (dk_at dksX0_moved_6 10 rfl rfl)
abbrev cX0_isCopy : ByteArray := prog_1_method_57_code
def yX0_isCopy : MethodName := ⟨RX0, "isCopy", "(I)Z"⟩
def dkwX0_isCopy_0 : List UInt8 := [27, 3, 42, 180, 1, 185, 4, 100, 184, 0, 123, 172]
abbrev dktX0_isCopy_0 : List UInt8 := dkwX0_isCopy_0 ++ []
theorem dksX0_isCopy_0 : cX0_isCopy.data.toList.drop 0 = dktX0_isCopy_0 := by decide +kernel
theorem dX0_isCopy_0 : decode cX0_isCopy 0 = .ok (.iload_n 1, 1) := dk_27 (dk_at dksX0_isCopy_0 0 rfl rfl)
theorem dX0_isCopy_1 : decode cX0_isCopy 1 = .ok (.iconst 0, 1) := dk_3 (dk_at dksX0_isCopy_0 1 rfl rfl)
theorem dX0_isCopy_2 : decode cX0_isCopy 2 = .ok (.aload_n 0, 1) := dk_42 (dk_at dksX0_isCopy_0 2 rfl rfl)
theorem dX0_isCopy_3 : decode cX0_isCopy 3 = .ok (.getfield 441, 3) := dk_180 1 185 (dk_at dksX0_isCopy_0 3 rfl rfl)
theorem dX0_isCopy_6 : decode cX0_isCopy 6 = .ok (.iconst 1, 1) := dk_4 (dk_at dksX0_isCopy_0 6 rfl rfl)
theorem dX0_isCopy_7 : decode cX0_isCopy 7 = .ok (.isub, 1) := dk_100 (dk_at dksX0_isCopy_0 7 rfl rfl)
theorem dX0_isCopy_8 : decode cX0_isCopy 8 = .ok (.invokestatic 123, 3) := dk_184 0 123 (dk_at dksX0_isCopy_0 8 rfl rfl)
theorem dX0_isCopy_11 : decode cX0_isCopy 11 = .ok (.ireturn, 1) := dk_172 (dk_at dksX0_isCopy_0 11 rfl rfl)
abbrev cX0_spotOf : ByteArray := prog_1_method_61_code
def yX0_spotOf : MethodName := ⟨RX0, "spotOf", "(III)I"⟩
def dkwX0_spotOf_4 : List UInt8 := [42, 180, 0, 116, 21, 4, 46, 172]
abbrev dktX0_spotOf_4 : List UInt8 := dkwX0_spotOf_4 ++ []
def dkwX0_spotOf_3 : List UInt8 := [161, 0, 7, 21, 6, 54, 4, 132, 6, 1, 167, 255, 197, 21, 4, 2, 160, 0, 8, 16, 251, 167, 0, 10]
abbrev dktX0_spotOf_3 : List UInt8 := dkwX0_spotOf_3 ++ dktX0_spotOf_4
def dkwX0_spotOf_2 : List UInt8 := [163, 0, 30, 21, 4, 2, 159, 0, 20, 42, 180, 0, 119, 21, 6, 46, 42, 180, 0, 119, 21, 4, 46]
abbrev dktX0_spotOf_2 : List UInt8 := dkwX0_spotOf_2 ++ dktX0_spotOf_3
def dkwX0_spotOf_1 : List UInt8 := [21, 5, 162, 0, 58, 42, 180, 0, 113, 21, 6, 46, 27, 160, 0, 41, 42, 180, 0, 119, 21, 6, 46, 28]
abbrev dktX0_spotOf_1 : List UInt8 := dkwX0_spotOf_1 ++ dktX0_spotOf_2
def dkwX0_spotOf_0 : List UInt8 := [2, 54, 4, 29, 2, 160, 0, 10, 42, 180, 1, 188, 167, 0, 4, 29, 54, 5, 3, 54, 6, 21, 6]
abbrev dktX0_spotOf_0 : List UInt8 := dkwX0_spotOf_0 ++ dktX0_spotOf_1
theorem dksX0_spotOf_0 : cX0_spotOf.data.toList.drop 0 = dktX0_spotOf_0 := by decide +kernel
theorem dksX0_spotOf_1 : cX0_spotOf.data.toList.drop 23 = dktX0_spotOf_1 := dk_seg dksX0_spotOf_0 23 rfl rfl
theorem dksX0_spotOf_2 : cX0_spotOf.data.toList.drop 47 = dktX0_spotOf_2 := dk_seg dksX0_spotOf_1 24 rfl rfl
theorem dksX0_spotOf_3 : cX0_spotOf.data.toList.drop 70 = dktX0_spotOf_3 := dk_seg dksX0_spotOf_2 23 rfl rfl
theorem dksX0_spotOf_4 : cX0_spotOf.data.toList.drop 94 = dktX0_spotOf_4 := dk_seg dksX0_spotOf_3 24 rfl rfl
theorem dX0_spotOf_0 : decode cX0_spotOf 0 = .ok (.iconst (-1), 1) := dk_2 (dk_at dksX0_spotOf_0 0 rfl rfl)
theorem dX0_spotOf_1 : decode cX0_spotOf 1 = .ok (.istore 4, 2) := dk_54 4 (dk_at dksX0_spotOf_0 1 rfl rfl)
theorem dX0_spotOf_3 : decode cX0_spotOf 3 = .ok (.iload_n 3, 1) := dk_29 (dk_at dksX0_spotOf_0 3 rfl rfl)
theorem dX0_spotOf_4 : decode cX0_spotOf 4 = .ok (.iconst (-1), 1) := dk_2 (dk_at dksX0_spotOf_0 4 rfl rfl)
theorem dX0_spotOf_5 : decode cX0_spotOf 5 = .ok (.if_icmp .ne 10, 3) := dk_160 0 10 (dk_at dksX0_spotOf_0 5 rfl rfl)
theorem dX0_spotOf_8 : decode cX0_spotOf 8 = .ok (.aload_n 0, 1) := dk_42 (dk_at dksX0_spotOf_0 8 rfl rfl)
theorem dX0_spotOf_9 : decode cX0_spotOf 9 = .ok (.getfield 444, 3) := dk_180 1 188 (dk_at dksX0_spotOf_0 9 rfl rfl)
theorem dX0_spotOf_12 : decode cX0_spotOf 12 = .ok (.goto 4, 3) := dk_167 0 4 (dk_at dksX0_spotOf_0 12 rfl rfl)
theorem dX0_spotOf_15 : decode cX0_spotOf 15 = .ok (.iload_n 3, 1) := dk_29 (dk_at dksX0_spotOf_0 15 rfl rfl)
theorem dX0_spotOf_16 : decode cX0_spotOf 16 = .ok (.istore 5, 2) := dk_54 5 (dk_at dksX0_spotOf_0 16 rfl rfl)
theorem dX0_spotOf_18 : decode cX0_spotOf 18 = .ok (.iconst 0, 1) := dk_3 (dk_at dksX0_spotOf_0 18 rfl rfl)
theorem dX0_spotOf_19 : decode cX0_spotOf 19 = .ok (.istore 6, 2) := dk_54 6 (dk_at dksX0_spotOf_0 19 rfl rfl)
theorem dX0_spotOf_21 : decode cX0_spotOf 21 = .ok (.iload 6, 2) := dk_21 6 (dk_at dksX0_spotOf_0 21 rfl rfl)
theorem dX0_spotOf_23 : decode cX0_spotOf 23 = .ok (.iload 5, 2) := dk_21 5 (dk_at dksX0_spotOf_1 0 rfl rfl)
theorem dX0_spotOf_25 : decode cX0_spotOf 25 = .ok (.if_icmp .ge 58, 3) := dk_162 0 58 (dk_at dksX0_spotOf_1 2 rfl rfl)
theorem dX0_spotOf_28 : decode cX0_spotOf 28 = .ok (.aload_n 0, 1) := dk_42 (dk_at dksX0_spotOf_1 5 rfl rfl)
theorem dX0_spotOf_29 : decode cX0_spotOf 29 = .ok (.getfield 113, 3) := dk_180 0 113 (dk_at dksX0_spotOf_1 6 rfl rfl)
theorem dX0_spotOf_32 : decode cX0_spotOf 32 = .ok (.iload 6, 2) := dk_21 6 (dk_at dksX0_spotOf_1 9 rfl rfl)
theorem dX0_spotOf_34 : decode cX0_spotOf 34 = .ok (.iaload, 1) := dk_46 (dk_at dksX0_spotOf_1 11 rfl rfl)
theorem dX0_spotOf_35 : decode cX0_spotOf 35 = .ok (.iload_n 1, 1) := dk_27 (dk_at dksX0_spotOf_1 12 rfl rfl)
theorem dX0_spotOf_36 : decode cX0_spotOf 36 = .ok (.if_icmp .ne 41, 3) := dk_160 0 41 (dk_at dksX0_spotOf_1 13 rfl rfl)
theorem dX0_spotOf_39 : decode cX0_spotOf 39 = .ok (.aload_n 0, 1) := dk_42 (dk_at dksX0_spotOf_1 16 rfl rfl)
theorem dX0_spotOf_40 : decode cX0_spotOf 40 = .ok (.getfield 119, 3) := dk_180 0 119 (dk_at dksX0_spotOf_1 17 rfl rfl)
theorem dX0_spotOf_43 : decode cX0_spotOf 43 = .ok (.iload 6, 2) := dk_21 6 (dk_at dksX0_spotOf_1 20 rfl rfl)
theorem dX0_spotOf_45 : decode cX0_spotOf 45 = .ok (.iaload, 1) := dk_46 (dk_at dksX0_spotOf_1 22 rfl rfl)
theorem dX0_spotOf_46 : decode cX0_spotOf 46 = .ok (.iload_n 2, 1) := dk_28 (dk_at dksX0_spotOf_1 23 rfl rfl)
theorem dX0_spotOf_47 : decode cX0_spotOf 47 = .ok (.if_icmp .gt 30, 3) := dk_163 0 30 (dk_at dksX0_spotOf_2 0 rfl rfl)
theorem dX0_spotOf_50 : decode cX0_spotOf 50 = .ok (.iload 4, 2) := dk_21 4 (dk_at dksX0_spotOf_2 3 rfl rfl)
theorem dX0_spotOf_52 : decode cX0_spotOf 52 = .ok (.iconst (-1), 1) := dk_2 (dk_at dksX0_spotOf_2 5 rfl rfl)
theorem dX0_spotOf_53 : decode cX0_spotOf 53 = .ok (.if_icmp .eq 20, 3) := dk_159 0 20 (dk_at dksX0_spotOf_2 6 rfl rfl)
theorem dX0_spotOf_56 : decode cX0_spotOf 56 = .ok (.aload_n 0, 1) := dk_42 (dk_at dksX0_spotOf_2 9 rfl rfl)
theorem dX0_spotOf_57 : decode cX0_spotOf 57 = .ok (.getfield 119, 3) := dk_180 0 119 (dk_at dksX0_spotOf_2 10 rfl rfl)
theorem dX0_spotOf_60 : decode cX0_spotOf 60 = .ok (.iload 6, 2) := dk_21 6 (dk_at dksX0_spotOf_2 13 rfl rfl)
theorem dX0_spotOf_62 : decode cX0_spotOf 62 = .ok (.iaload, 1) := dk_46 (dk_at dksX0_spotOf_2 15 rfl rfl)
theorem dX0_spotOf_63 : decode cX0_spotOf 63 = .ok (.aload_n 0, 1) := dk_42 (dk_at dksX0_spotOf_2 16 rfl rfl)
theorem dX0_spotOf_64 : decode cX0_spotOf 64 = .ok (.getfield 119, 3) := dk_180 0 119 (dk_at dksX0_spotOf_2 17 rfl rfl)
theorem dX0_spotOf_67 : decode cX0_spotOf 67 = .ok (.iload 4, 2) := dk_21 4 (dk_at dksX0_spotOf_2 20 rfl rfl)
theorem dX0_spotOf_69 : decode cX0_spotOf 69 = .ok (.iaload, 1) := dk_46 (dk_at dksX0_spotOf_2 22 rfl rfl)
theorem dX0_spotOf_70 : decode cX0_spotOf 70 = .ok (.if_icmp .lt 7, 3) := dk_161 0 7 (dk_at dksX0_spotOf_3 0 rfl rfl)
theorem dX0_spotOf_73 : decode cX0_spotOf 73 = .ok (.iload 6, 2) := dk_21 6 (dk_at dksX0_spotOf_3 3 rfl rfl)
theorem dX0_spotOf_75 : decode cX0_spotOf 75 = .ok (.istore 4, 2) := dk_54 4 (dk_at dksX0_spotOf_3 5 rfl rfl)
theorem dX0_spotOf_77 : decode cX0_spotOf 77 = .ok (.iinc 6 1, 3) := dk_132 6 1 (dk_at dksX0_spotOf_3 7 rfl rfl)
theorem dX0_spotOf_80 : decode cX0_spotOf 80 = .ok (.goto (-59), 3) := dk_167 255 197 (dk_at dksX0_spotOf_3 10 rfl rfl)
theorem dX0_spotOf_83 : decode cX0_spotOf 83 = .ok (.iload 4, 2) := dk_21 4 (dk_at dksX0_spotOf_3 13 rfl rfl)
theorem dX0_spotOf_85 : decode cX0_spotOf 85 = .ok (.iconst (-1), 1) := dk_2 (dk_at dksX0_spotOf_3 15 rfl rfl)
theorem dX0_spotOf_86 : decode cX0_spotOf 86 = .ok (.if_icmp .ne 8, 3) := dk_160 0 8 (dk_at dksX0_spotOf_3 16 rfl rfl)
theorem dX0_spotOf_89 : decode cX0_spotOf 89 = .ok (.bipush (-5), 2) := dk_16 251 (dk_at dksX0_spotOf_3 19 rfl rfl)
theorem dX0_spotOf_91 : decode cX0_spotOf 91 = .ok (.goto 10, 3) := dk_167 0 10 (dk_at dksX0_spotOf_3 21 rfl rfl)
theorem dX0_spotOf_94 : decode cX0_spotOf 94 = .ok (.aload_n 0, 1) := dk_42 (dk_at dksX0_spotOf_4 0 rfl rfl)
theorem dX0_spotOf_95 : decode cX0_spotOf 95 = .ok (.getfield 116, 3) := dk_180 0 116 (dk_at dksX0_spotOf_4 1 rfl rfl)
theorem dX0_spotOf_98 : decode cX0_spotOf 98 = .ok (.iload 4, 2) := dk_21 4 (dk_at dksX0_spotOf_4 4 rfl rfl)
theorem dX0_spotOf_100 : decode cX0_spotOf 100 = .ok (.iaload, 1) := dk_46 (dk_at dksX0_spotOf_4 6 rfl rfl)
theorem dX0_spotOf_101 : decode cX0_spotOf 101 = .ok (.ireturn, 1) := dk_172 (dk_at dksX0_spotOf_4 7 rfl rfl)
abbrev cX0_spot : ByteArray := prog_1_method_63_code
def yX0_spot : MethodName := ⟨RX0, "spot", "(III)I"⟩
def dkwX0_spot_1 : List UInt8 := [153, 0, 13, 42, 27, 28, 29, 182, 1, 198, 167, 0, 5, 16, 254, 172]
abbrev dktX0_spot_1 : List UInt8 := dkwX0_spot_1 ++ []
def dkwX0_spot_0 : List UInt8 := [42, 27, 182, 1, 195, 153, 0, 11, 42, 29, 182, 1, 201, 154, 0, 5, 2, 172, 28, 184, 1, 38]
abbrev dktX0_spot_0 : List UInt8 := dkwX0_spot_0 ++ dktX0_spot_1
theorem dksX0_spot_0 : cX0_spot.data.toList.drop 0 = dktX0_spot_0 := by decide +kernel
theorem dksX0_spot_1 : cX0_spot.data.toList.drop 22 = dktX0_spot_1 := dk_seg dksX0_spot_0 22 rfl rfl
theorem dX0_spot_0 : decode cX0_spot 0 = .ok (.aload_n 0, 1) := dk_42 (dk_at dksX0_spot_0 0 rfl rfl)
theorem dX0_spot_1 : decode cX0_spot 1 = .ok (.iload_n 1, 1) := dk_27 (dk_at dksX0_spot_0 1 rfl rfl)
theorem dX0_spot_2 : decode cX0_spot 2 = .ok (.invokevirtual 451, 3) := dk_182 1 195 (dk_at dksX0_spot_0 2 rfl rfl)
theorem dX0_spot_5 : decode cX0_spot 5 = .ok (.ifCond .eq 11, 3) := dk_153 0 11 (dk_at dksX0_spot_0 5 rfl rfl)
theorem dX0_spot_8 : decode cX0_spot 8 = .ok (.aload_n 0, 1) := dk_42 (dk_at dksX0_spot_0 8 rfl rfl)
theorem dX0_spot_9 : decode cX0_spot 9 = .ok (.iload_n 3, 1) := dk_29 (dk_at dksX0_spot_0 9 rfl rfl)
theorem dX0_spot_10 : decode cX0_spot 10 = .ok (.invokevirtual 457, 3) := dk_182 1 201 (dk_at dksX0_spot_0 10 rfl rfl)
theorem dX0_spot_13 : decode cX0_spot 13 = .ok (.ifCond .ne 5, 3) := dk_154 0 5 (dk_at dksX0_spot_0 13 rfl rfl)
theorem dX0_spot_16 : decode cX0_spot 16 = .ok (.iconst (-1), 1) := dk_2 (dk_at dksX0_spot_0 16 rfl rfl)
theorem dX0_spot_17 : decode cX0_spot 17 = .ok (.ireturn, 1) := dk_172 (dk_at dksX0_spot_0 17 rfl rfl)
theorem dX0_spot_18 : decode cX0_spot 18 = .ok (.iload_n 2, 1) := dk_28 (dk_at dksX0_spot_0 18 rfl rfl)
theorem dX0_spot_19 : decode cX0_spot 19 = .ok (.invokestatic 294, 3) := dk_184 1 38 (dk_at dksX0_spot_0 19 rfl rfl)
theorem dX0_spot_22 : decode cX0_spot 22 = .ok (.ifCond .eq 13, 3) := dk_153 0 13 (dk_at dksX0_spot_1 0 rfl rfl)
theorem dX0_spot_25 : decode cX0_spot 25 = .ok (.aload_n 0, 1) := dk_42 (dk_at dksX0_spot_1 3 rfl rfl)
theorem dX0_spot_26 : decode cX0_spot 26 = .ok (.iload_n 1, 1) := dk_27 (dk_at dksX0_spot_1 4 rfl rfl)
theorem dX0_spot_27 : decode cX0_spot 27 = .ok (.iload_n 2, 1) := dk_28 (dk_at dksX0_spot_1 5 rfl rfl)
theorem dX0_spot_28 : decode cX0_spot 28 = .ok (.iload_n 3, 1) := dk_29 (dk_at dksX0_spot_1 6 rfl rfl)
theorem dX0_spot_29 : decode cX0_spot 29 = .ok (.invokevirtual 454, 3) := dk_182 1 198 (dk_at dksX0_spot_1 7 rfl rfl)
theorem dX0_spot_32 : decode cX0_spot 32 = .ok (.goto 5, 3) := dk_167 0 5 (dk_at dksX0_spot_1 10 rfl rfl)
theorem dX0_spot_35 : decode cX0_spot 35 = .ok (.bipush (-2), 2) := dk_16 254 (dk_at dksX0_spot_1 13 rfl rfl)
theorem dX0_spot_37 : decode cX0_spot 37 = .ok (.ireturn, 1) := dk_172 (dk_at dksX0_spot_1 15 rfl rfl)
abbrev cX0_isBy : ByteArray := prog_1_method_58_code
def yX0_isBy : MethodName := ⟨RX0, "isBy", "(I)Z"⟩
def dkwX0_isBy_0 : List UInt8 := [27, 2, 42, 180, 1, 188, 184, 0, 123, 172]
abbrev dktX0_isBy_0 : List UInt8 := dkwX0_isBy_0 ++ []
theorem dksX0_isBy_0 : cX0_isBy.data.toList.drop 0 = dktX0_isBy_0 := by decide +kernel
theorem dX0_isBy_0 : decode cX0_isBy 0 = .ok (.iload_n 1, 1) := dk_27 (dk_at dksX0_isBy_0 0 rfl rfl)
theorem dX0_isBy_1 : decode cX0_isBy 1 = .ok (.iconst (-1), 1) := dk_2 (dk_at dksX0_isBy_0 1 rfl rfl)
theorem dX0_isBy_2 : decode cX0_isBy 2 = .ok (.aload_n 0, 1) := dk_42 (dk_at dksX0_isBy_0 2 rfl rfl)
theorem dX0_isBy_3 : decode cX0_isBy 3 = .ok (.getfield 444, 3) := dk_180 1 188 (dk_at dksX0_isBy_0 3 rfl rfl)
theorem dX0_isBy_6 : decode cX0_isBy 6 = .ok (.invokestatic 123, 3) := dk_184 0 123 (dk_at dksX0_isBy_0 6 rfl rfl)
theorem dX0_isBy_9 : decode cX0_isBy 9 = .ok (.ireturn, 1) := dk_172 (dk_at dksX0_isBy_0 9 rfl rfl)
abbrev cX0_lost : ByteArray := prog_1_method_64_code
def yX0_lost : MethodName := ⟨RX0, "lost", "(III)I"⟩
def dkwX0_lost_5 : List UInt8 := [153, 0, 7, 4, 167, 0, 4, 3, 172]
abbrev dktX0_lost_5 : List UInt8 := dkwX0_lost_5 ++ []
def dkwX0_lost_4 : List UInt8 := [21, 6, 16, 10, 160, 0, 7, 4, 167, 0, 4, 3, 128, 54, 4, 132, 5, 1, 167, 255, 182, 21, 4]
abbrev dktX0_lost_4 : List UInt8 := dkwX0_lost_4 ++ dktX0_lost_5
def dkwX0_lost_3 : List UInt8 := [182, 1, 198, 54, 6, 21, 6, 16, 251, 159, 0, 12, 21, 6, 16, 10, 159, 0, 5, 3, 172, 21, 4]
abbrev dktX0_lost_3 : List UInt8 := dkwX0_lost_3 ++ dktX0_lost_4
def dkwX0_lost_2 : List UInt8 := [180, 0, 110, 21, 5, 50, 42, 180, 0, 30, 27, 50, 165, 0, 6, 167, 0, 46, 42, 21, 5, 28, 29]
abbrev dktX0_lost_2 : List UInt8 := dkwX0_lost_2 ++ dktX0_lost_3
def dkwX0_lost_1 : List UInt8 := [154, 0, 6, 16, 254, 172, 3, 54, 4, 3, 54, 5, 21, 5, 42, 180, 1, 185, 162, 0, 71, 42]
abbrev dktX0_lost_1 : List UInt8 := dkwX0_lost_1 ++ dktX0_lost_2
def dkwX0_lost_0 : List UInt8 := [42, 27, 182, 0, 166, 153, 0, 11, 42, 29, 182, 1, 201, 154, 0, 5, 2, 172, 28, 184, 1, 38]
abbrev dktX0_lost_0 : List UInt8 := dkwX0_lost_0 ++ dktX0_lost_1
theorem dksX0_lost_0 : cX0_lost.data.toList.drop 0 = dktX0_lost_0 := by decide +kernel
theorem dksX0_lost_1 : cX0_lost.data.toList.drop 22 = dktX0_lost_1 := dk_seg dksX0_lost_0 22 rfl rfl
theorem dksX0_lost_2 : cX0_lost.data.toList.drop 44 = dktX0_lost_2 := dk_seg dksX0_lost_1 22 rfl rfl
theorem dksX0_lost_3 : cX0_lost.data.toList.drop 67 = dktX0_lost_3 := dk_seg dksX0_lost_2 23 rfl rfl
theorem dksX0_lost_4 : cX0_lost.data.toList.drop 90 = dktX0_lost_4 := dk_seg dksX0_lost_3 23 rfl rfl
theorem dksX0_lost_5 : cX0_lost.data.toList.drop 113 = dktX0_lost_5 := dk_seg dksX0_lost_4 23 rfl rfl
theorem dX0_lost_0 : decode cX0_lost 0 = .ok (.aload_n 0, 1) := dk_42 (dk_at dksX0_lost_0 0 rfl rfl)
theorem dX0_lost_1 : decode cX0_lost 1 = .ok (.iload_n 1, 1) := dk_27 (dk_at dksX0_lost_0 1 rfl rfl)
theorem dX0_lost_2 : decode cX0_lost 2 = .ok (.invokevirtual 166, 3) := dk_182 0 166 (dk_at dksX0_lost_0 2 rfl rfl)
theorem dX0_lost_5 : decode cX0_lost 5 = .ok (.ifCond .eq 11, 3) := dk_153 0 11 (dk_at dksX0_lost_0 5 rfl rfl)
theorem dX0_lost_8 : decode cX0_lost 8 = .ok (.aload_n 0, 1) := dk_42 (dk_at dksX0_lost_0 8 rfl rfl)
theorem dX0_lost_9 : decode cX0_lost 9 = .ok (.iload_n 3, 1) := dk_29 (dk_at dksX0_lost_0 9 rfl rfl)
theorem dX0_lost_10 : decode cX0_lost 10 = .ok (.invokevirtual 457, 3) := dk_182 1 201 (dk_at dksX0_lost_0 10 rfl rfl)
theorem dX0_lost_13 : decode cX0_lost 13 = .ok (.ifCond .ne 5, 3) := dk_154 0 5 (dk_at dksX0_lost_0 13 rfl rfl)
theorem dX0_lost_16 : decode cX0_lost 16 = .ok (.iconst (-1), 1) := dk_2 (dk_at dksX0_lost_0 16 rfl rfl)
theorem dX0_lost_17 : decode cX0_lost 17 = .ok (.ireturn, 1) := dk_172 (dk_at dksX0_lost_0 17 rfl rfl)
theorem dX0_lost_18 : decode cX0_lost 18 = .ok (.iload_n 2, 1) := dk_28 (dk_at dksX0_lost_0 18 rfl rfl)
theorem dX0_lost_19 : decode cX0_lost 19 = .ok (.invokestatic 294, 3) := dk_184 1 38 (dk_at dksX0_lost_0 19 rfl rfl)
theorem dX0_lost_22 : decode cX0_lost 22 = .ok (.ifCond .ne 6, 3) := dk_154 0 6 (dk_at dksX0_lost_1 0 rfl rfl)
theorem dX0_lost_25 : decode cX0_lost 25 = .ok (.bipush (-2), 2) := dk_16 254 (dk_at dksX0_lost_1 3 rfl rfl)
theorem dX0_lost_27 : decode cX0_lost 27 = .ok (.ireturn, 1) := dk_172 (dk_at dksX0_lost_1 5 rfl rfl)
theorem dX0_lost_28 : decode cX0_lost 28 = .ok (.iconst 0, 1) := dk_3 (dk_at dksX0_lost_1 6 rfl rfl)
theorem dX0_lost_29 : decode cX0_lost 29 = .ok (.istore 4, 2) := dk_54 4 (dk_at dksX0_lost_1 7 rfl rfl)
theorem dX0_lost_31 : decode cX0_lost 31 = .ok (.iconst 0, 1) := dk_3 (dk_at dksX0_lost_1 9 rfl rfl)
theorem dX0_lost_32 : decode cX0_lost 32 = .ok (.istore 5, 2) := dk_54 5 (dk_at dksX0_lost_1 10 rfl rfl)
theorem dX0_lost_34 : decode cX0_lost 34 = .ok (.iload 5, 2) := dk_21 5 (dk_at dksX0_lost_1 12 rfl rfl)
theorem dX0_lost_36 : decode cX0_lost 36 = .ok (.aload_n 0, 1) := dk_42 (dk_at dksX0_lost_1 14 rfl rfl)
theorem dX0_lost_37 : decode cX0_lost 37 = .ok (.getfield 441, 3) := dk_180 1 185 (dk_at dksX0_lost_1 15 rfl rfl)
theorem dX0_lost_40 : decode cX0_lost 40 = .ok (.if_icmp .ge 71, 3) := dk_162 0 71 (dk_at dksX0_lost_1 18 rfl rfl)
theorem dX0_lost_43 : decode cX0_lost 43 = .ok (.aload_n 0, 1) := dk_42 (dk_at dksX0_lost_1 21 rfl rfl)
theorem dX0_lost_44 : decode cX0_lost 44 = .ok (.getfield 110, 3) := dk_180 0 110 (dk_at dksX0_lost_2 0 rfl rfl)
theorem dX0_lost_47 : decode cX0_lost 47 = .ok (.iload 5, 2) := dk_21 5 (dk_at dksX0_lost_2 3 rfl rfl)
theorem dX0_lost_49 : decode cX0_lost 49 = .ok (.aaload, 1) := dk_50 (dk_at dksX0_lost_2 5 rfl rfl)
theorem dX0_lost_50 : decode cX0_lost 50 = .ok (.aload_n 0, 1) := dk_42 (dk_at dksX0_lost_2 6 rfl rfl)
theorem dX0_lost_51 : decode cX0_lost 51 = .ok (.getfield 30, 3) := dk_180 0 30 (dk_at dksX0_lost_2 7 rfl rfl)
theorem dX0_lost_54 : decode cX0_lost 54 = .ok (.iload_n 1, 1) := dk_27 (dk_at dksX0_lost_2 10 rfl rfl)
theorem dX0_lost_55 : decode cX0_lost 55 = .ok (.aaload, 1) := dk_50 (dk_at dksX0_lost_2 11 rfl rfl)
theorem dX0_lost_56 : decode cX0_lost 56 = .ok (.if_acmp .eq 6, 3) := dk_165 0 6 (dk_at dksX0_lost_2 12 rfl rfl)
theorem dX0_lost_59 : decode cX0_lost 59 = .ok (.goto 46, 3) := dk_167 0 46 (dk_at dksX0_lost_2 15 rfl rfl)
theorem dX0_lost_62 : decode cX0_lost 62 = .ok (.aload_n 0, 1) := dk_42 (dk_at dksX0_lost_2 18 rfl rfl)
theorem dX0_lost_63 : decode cX0_lost 63 = .ok (.iload 5, 2) := dk_21 5 (dk_at dksX0_lost_2 19 rfl rfl)
theorem dX0_lost_65 : decode cX0_lost 65 = .ok (.iload_n 2, 1) := dk_28 (dk_at dksX0_lost_2 21 rfl rfl)
theorem dX0_lost_66 : decode cX0_lost 66 = .ok (.iload_n 3, 1) := dk_29 (dk_at dksX0_lost_2 22 rfl rfl)
theorem dX0_lost_67 : decode cX0_lost 67 = .ok (.invokevirtual 454, 3) := dk_182 1 198 (dk_at dksX0_lost_3 0 rfl rfl)
theorem dX0_lost_70 : decode cX0_lost 70 = .ok (.istore 6, 2) := dk_54 6 (dk_at dksX0_lost_3 3 rfl rfl)
theorem dX0_lost_72 : decode cX0_lost 72 = .ok (.iload 6, 2) := dk_21 6 (dk_at dksX0_lost_3 5 rfl rfl)
theorem dX0_lost_74 : decode cX0_lost 74 = .ok (.bipush (-5), 2) := dk_16 251 (dk_at dksX0_lost_3 7 rfl rfl)
theorem dX0_lost_76 : decode cX0_lost 76 = .ok (.if_icmp .eq 12, 3) := dk_159 0 12 (dk_at dksX0_lost_3 9 rfl rfl)
theorem dX0_lost_79 : decode cX0_lost 79 = .ok (.iload 6, 2) := dk_21 6 (dk_at dksX0_lost_3 12 rfl rfl)
theorem dX0_lost_81 : decode cX0_lost 81 = .ok (.bipush 10, 2) := dk_16 10 (dk_at dksX0_lost_3 14 rfl rfl)
theorem dX0_lost_83 : decode cX0_lost 83 = .ok (.if_icmp .eq 5, 3) := dk_159 0 5 (dk_at dksX0_lost_3 16 rfl rfl)
theorem dX0_lost_86 : decode cX0_lost 86 = .ok (.iconst 0, 1) := dk_3 (dk_at dksX0_lost_3 19 rfl rfl)
theorem dX0_lost_87 : decode cX0_lost 87 = .ok (.ireturn, 1) := dk_172 (dk_at dksX0_lost_3 20 rfl rfl)
theorem dX0_lost_88 : decode cX0_lost 88 = .ok (.iload 4, 2) := dk_21 4 (dk_at dksX0_lost_3 21 rfl rfl)
theorem dX0_lost_90 : decode cX0_lost 90 = .ok (.iload 6, 2) := dk_21 6 (dk_at dksX0_lost_4 0 rfl rfl)
theorem dX0_lost_92 : decode cX0_lost 92 = .ok (.bipush 10, 2) := dk_16 10 (dk_at dksX0_lost_4 2 rfl rfl)
theorem dX0_lost_94 : decode cX0_lost 94 = .ok (.if_icmp .ne 7, 3) := dk_160 0 7 (dk_at dksX0_lost_4 4 rfl rfl)
theorem dX0_lost_97 : decode cX0_lost 97 = .ok (.iconst 1, 1) := dk_4 (dk_at dksX0_lost_4 7 rfl rfl)
theorem dX0_lost_98 : decode cX0_lost 98 = .ok (.goto 4, 3) := dk_167 0 4 (dk_at dksX0_lost_4 8 rfl rfl)
theorem dX0_lost_101 : decode cX0_lost 101 = .ok (.iconst 0, 1) := dk_3 (dk_at dksX0_lost_4 11 rfl rfl)
theorem dX0_lost_102 : decode cX0_lost 102 = .ok (.ior, 1) := dk_128 (dk_at dksX0_lost_4 12 rfl rfl)
theorem dX0_lost_103 : decode cX0_lost 103 = .ok (.istore 4, 2) := dk_54 4 (dk_at dksX0_lost_4 13 rfl rfl)
theorem dX0_lost_105 : decode cX0_lost 105 = .ok (.iinc 5 1, 3) := dk_132 5 1 (dk_at dksX0_lost_4 15 rfl rfl)
theorem dX0_lost_108 : decode cX0_lost 108 = .ok (.goto (-74), 3) := dk_167 255 182 (dk_at dksX0_lost_4 18 rfl rfl)
theorem dX0_lost_111 : decode cX0_lost 111 = .ok (.iload 4, 2) := dk_21 4 (dk_at dksX0_lost_4 21 rfl rfl)
theorem dX0_lost_113 : decode cX0_lost 113 = .ok (.ifCond .eq 7, 3) := dk_153 0 7 (dk_at dksX0_lost_5 0 rfl rfl)
theorem dX0_lost_116 : decode cX0_lost 116 = .ok (.iconst 1, 1) := dk_4 (dk_at dksX0_lost_5 3 rfl rfl)
theorem dX0_lost_117 : decode cX0_lost 117 = .ok (.goto 4, 3) := dk_167 0 4 (dk_at dksX0_lost_5 4 rfl rfl)
theorem dX0_lost_120 : decode cX0_lost 120 = .ok (.iconst 0, 1) := dk_3 (dk_at dksX0_lost_5 7 rfl rfl)
theorem dX0_lost_121 : decode cX0_lost 121 = .ok (.ireturn, 1) := dk_172 (dk_at dksX0_lost_5 8 rfl rfl)
abbrev cX0_met : ByteArray := prog_1_method_65_code
def yX0_met : MethodName := ⟨RX0, "met", "(III)I"⟩
def dkwX0_met_3 : List UInt8 := [132, 4, 1, 132, 5, 1, 167, 255, 213, 21, 4, 172]
abbrev dktX0_met_3 : List UInt8 := dkwX0_met_3 ++ []
def dkwX0_met_2 : List UInt8 := [182, 1, 198, 27, 160, 0, 22, 42, 42, 180, 0, 110, 21, 5, 50, 27, 28, 182, 1, 69, 153, 0, 6]
abbrev dktX0_met_2 : List UInt8 := dkwX0_met_2 ++ dktX0_met_3
def dkwX0_met_1 : List UInt8 := [16, 254, 172, 3, 54, 4, 3, 54, 5, 21, 5, 42, 180, 1, 185, 162, 0, 40, 42, 21, 5, 28, 29]
abbrev dktX0_met_1 : List UInt8 := dkwX0_met_1 ++ dktX0_met_2
def dkwX0_met_0 : List UInt8 := [27, 184, 0, 137, 153, 0, 11, 42, 29, 182, 1, 201, 154, 0, 5, 2, 172, 28, 184, 1, 38, 154, 0, 6]
abbrev dktX0_met_0 : List UInt8 := dkwX0_met_0 ++ dktX0_met_1
theorem dksX0_met_0 : cX0_met.data.toList.drop 0 = dktX0_met_0 := by decide +kernel
theorem dksX0_met_1 : cX0_met.data.toList.drop 24 = dktX0_met_1 := dk_seg dksX0_met_0 24 rfl rfl
theorem dksX0_met_2 : cX0_met.data.toList.drop 47 = dktX0_met_2 := dk_seg dksX0_met_1 23 rfl rfl
theorem dksX0_met_3 : cX0_met.data.toList.drop 70 = dktX0_met_3 := dk_seg dksX0_met_2 23 rfl rfl
theorem dX0_met_0 : decode cX0_met 0 = .ok (.iload_n 1, 1) := dk_27 (dk_at dksX0_met_0 0 rfl rfl)
theorem dX0_met_1 : decode cX0_met 1 = .ok (.invokestatic 137, 3) := dk_184 0 137 (dk_at dksX0_met_0 1 rfl rfl)
theorem dX0_met_4 : decode cX0_met 4 = .ok (.ifCond .eq 11, 3) := dk_153 0 11 (dk_at dksX0_met_0 4 rfl rfl)
theorem dX0_met_7 : decode cX0_met 7 = .ok (.aload_n 0, 1) := dk_42 (dk_at dksX0_met_0 7 rfl rfl)
theorem dX0_met_8 : decode cX0_met 8 = .ok (.iload_n 3, 1) := dk_29 (dk_at dksX0_met_0 8 rfl rfl)
theorem dX0_met_9 : decode cX0_met 9 = .ok (.invokevirtual 457, 3) := dk_182 1 201 (dk_at dksX0_met_0 9 rfl rfl)
theorem dX0_met_12 : decode cX0_met 12 = .ok (.ifCond .ne 5, 3) := dk_154 0 5 (dk_at dksX0_met_0 12 rfl rfl)
theorem dX0_met_15 : decode cX0_met 15 = .ok (.iconst (-1), 1) := dk_2 (dk_at dksX0_met_0 15 rfl rfl)
theorem dX0_met_16 : decode cX0_met 16 = .ok (.ireturn, 1) := dk_172 (dk_at dksX0_met_0 16 rfl rfl)
theorem dX0_met_17 : decode cX0_met 17 = .ok (.iload_n 2, 1) := dk_28 (dk_at dksX0_met_0 17 rfl rfl)
theorem dX0_met_18 : decode cX0_met 18 = .ok (.invokestatic 294, 3) := dk_184 1 38 (dk_at dksX0_met_0 18 rfl rfl)
theorem dX0_met_21 : decode cX0_met 21 = .ok (.ifCond .ne 6, 3) := dk_154 0 6 (dk_at dksX0_met_0 21 rfl rfl)
theorem dX0_met_24 : decode cX0_met 24 = .ok (.bipush (-2), 2) := dk_16 254 (dk_at dksX0_met_1 0 rfl rfl)
theorem dX0_met_26 : decode cX0_met 26 = .ok (.ireturn, 1) := dk_172 (dk_at dksX0_met_1 2 rfl rfl)
theorem dX0_met_27 : decode cX0_met 27 = .ok (.iconst 0, 1) := dk_3 (dk_at dksX0_met_1 3 rfl rfl)
theorem dX0_met_28 : decode cX0_met 28 = .ok (.istore 4, 2) := dk_54 4 (dk_at dksX0_met_1 4 rfl rfl)
theorem dX0_met_30 : decode cX0_met 30 = .ok (.iconst 0, 1) := dk_3 (dk_at dksX0_met_1 6 rfl rfl)
theorem dX0_met_31 : decode cX0_met 31 = .ok (.istore 5, 2) := dk_54 5 (dk_at dksX0_met_1 7 rfl rfl)
theorem dX0_met_33 : decode cX0_met 33 = .ok (.iload 5, 2) := dk_21 5 (dk_at dksX0_met_1 9 rfl rfl)
theorem dX0_met_35 : decode cX0_met 35 = .ok (.aload_n 0, 1) := dk_42 (dk_at dksX0_met_1 11 rfl rfl)
theorem dX0_met_36 : decode cX0_met 36 = .ok (.getfield 441, 3) := dk_180 1 185 (dk_at dksX0_met_1 12 rfl rfl)
theorem dX0_met_39 : decode cX0_met 39 = .ok (.if_icmp .ge 40, 3) := dk_162 0 40 (dk_at dksX0_met_1 15 rfl rfl)
theorem dX0_met_42 : decode cX0_met 42 = .ok (.aload_n 0, 1) := dk_42 (dk_at dksX0_met_1 18 rfl rfl)
theorem dX0_met_43 : decode cX0_met 43 = .ok (.iload 5, 2) := dk_21 5 (dk_at dksX0_met_1 19 rfl rfl)
theorem dX0_met_45 : decode cX0_met 45 = .ok (.iload_n 2, 1) := dk_28 (dk_at dksX0_met_1 21 rfl rfl)
theorem dX0_met_46 : decode cX0_met 46 = .ok (.iload_n 3, 1) := dk_29 (dk_at dksX0_met_1 22 rfl rfl)
theorem dX0_met_47 : decode cX0_met 47 = .ok (.invokevirtual 454, 3) := dk_182 1 198 (dk_at dksX0_met_2 0 rfl rfl)
theorem dX0_met_50 : decode cX0_met 50 = .ok (.iload_n 1, 1) := dk_27 (dk_at dksX0_met_2 3 rfl rfl)
theorem dX0_met_51 : decode cX0_met 51 = .ok (.if_icmp .ne 22, 3) := dk_160 0 22 (dk_at dksX0_met_2 4 rfl rfl)
theorem dX0_met_54 : decode cX0_met 54 = .ok (.aload_n 0, 1) := dk_42 (dk_at dksX0_met_2 7 rfl rfl)
theorem dX0_met_55 : decode cX0_met 55 = .ok (.aload_n 0, 1) := dk_42 (dk_at dksX0_met_2 8 rfl rfl)
theorem dX0_met_56 : decode cX0_met 56 = .ok (.getfield 110, 3) := dk_180 0 110 (dk_at dksX0_met_2 9 rfl rfl)
theorem dX0_met_59 : decode cX0_met 59 = .ok (.iload 5, 2) := dk_21 5 (dk_at dksX0_met_2 12 rfl rfl)
theorem dX0_met_61 : decode cX0_met 61 = .ok (.aaload, 1) := dk_50 (dk_at dksX0_met_2 14 rfl rfl)
theorem dX0_met_62 : decode cX0_met 62 = .ok (.iload_n 1, 1) := dk_27 (dk_at dksX0_met_2 15 rfl rfl)
theorem dX0_met_63 : decode cX0_met 63 = .ok (.iload_n 2, 1) := dk_28 (dk_at dksX0_met_2 16 rfl rfl)
theorem dX0_met_64 : decode cX0_met 64 = .ok (.invokevirtual 325, 3) := dk_182 1 69 (dk_at dksX0_met_2 17 rfl rfl)
theorem dX0_met_67 : decode cX0_met 67 = .ok (.ifCond .eq 6, 3) := dk_153 0 6 (dk_at dksX0_met_2 20 rfl rfl)
theorem dX0_met_70 : decode cX0_met 70 = .ok (.iinc 4 1, 3) := dk_132 4 1 (dk_at dksX0_met_3 0 rfl rfl)
theorem dX0_met_73 : decode cX0_met 73 = .ok (.iinc 5 1, 3) := dk_132 5 1 (dk_at dksX0_met_3 3 rfl rfl)
theorem dX0_met_76 : decode cX0_met 76 = .ok (.goto (-43), 3) := dk_167 255 213 (dk_at dksX0_met_3 6 rfl rfl)
theorem dX0_met_79 : decode cX0_met 79 = .ok (.iload 4, 2) := dk_21 4 (dk_at dksX0_met_3 9 rfl rfl)
theorem dX0_met_81 : decode cX0_met 81 = .ok (.ireturn, 1) := dk_172 (dk_at dksX0_met_3 11 rfl rfl)
abbrev cX0_catalogue : ByteArray := prog_1_method_67_code
def yX0_catalogue : MethodName := ⟨RX0, "catalogue", "(IIII)J"⟩
def dkwX0_catalogue_2 : List UInt8 := [182, 1, 221, 173, 58, 5, 20, 1, 225, 173]
abbrev dktX0_catalogue_2 : List UInt8 := dkwX0_catalogue_2 ++ []
def dkwX0_catalogue_1 : List UInt8 := [154, 0, 7, 20, 1, 213, 173, 42, 27, 42, 180, 0, 66, 28, 50, 180, 1, 215, 192, 1, 219, 29, 21, 4]
abbrev dktX0_catalogue_1 : List UInt8 := dkwX0_catalogue_1 ++ dktX0_catalogue_2
def dkwX0_catalogue_0 : List UInt8 := [27, 184, 0, 137, 153, 0, 21, 28, 184, 1, 210, 153, 0, 14, 21, 4, 4, 16, 40, 184, 0, 123]
abbrev dktX0_catalogue_0 : List UInt8 := dkwX0_catalogue_0 ++ dktX0_catalogue_1
theorem dksX0_catalogue_0 : cX0_catalogue.data.toList.drop 0 = dktX0_catalogue_0 := by decide +kernel
theorem dksX0_catalogue_1 : cX0_catalogue.data.toList.drop 22 = dktX0_catalogue_1 := dk_seg dksX0_catalogue_0 22 rfl rfl
theorem dksX0_catalogue_2 : cX0_catalogue.data.toList.drop 46 = dktX0_catalogue_2 := dk_seg dksX0_catalogue_1 24 rfl rfl
theorem dX0_catalogue_0 : decode cX0_catalogue 0 = .ok (.iload_n 1, 1) := dk_27 (dk_at dksX0_catalogue_0 0 rfl rfl)
theorem dX0_catalogue_1 : decode cX0_catalogue 1 = .ok (.invokestatic 137, 3) := dk_184 0 137 (dk_at dksX0_catalogue_0 1 rfl rfl)
theorem dX0_catalogue_4 : decode cX0_catalogue 4 = .ok (.ifCond .eq 21, 3) := dk_153 0 21 (dk_at dksX0_catalogue_0 4 rfl rfl)
theorem dX0_catalogue_7 : decode cX0_catalogue 7 = .ok (.iload_n 2, 1) := dk_28 (dk_at dksX0_catalogue_0 7 rfl rfl)
theorem dX0_catalogue_8 : decode cX0_catalogue 8 = .ok (.invokestatic 466, 3) := dk_184 1 210 (dk_at dksX0_catalogue_0 8 rfl rfl)
theorem dX0_catalogue_11 : decode cX0_catalogue 11 = .ok (.ifCond .eq 14, 3) := dk_153 0 14 (dk_at dksX0_catalogue_0 11 rfl rfl)
theorem dX0_catalogue_14 : decode cX0_catalogue 14 = .ok (.iload 4, 2) := dk_21 4 (dk_at dksX0_catalogue_0 14 rfl rfl)
theorem dX0_catalogue_16 : decode cX0_catalogue 16 = .ok (.iconst 1, 1) := dk_4 (dk_at dksX0_catalogue_0 16 rfl rfl)
theorem dX0_catalogue_17 : decode cX0_catalogue 17 = .ok (.bipush 40, 2) := dk_16 40 (dk_at dksX0_catalogue_0 17 rfl rfl)
theorem dX0_catalogue_19 : decode cX0_catalogue 19 = .ok (.invokestatic 123, 3) := dk_184 0 123 (dk_at dksX0_catalogue_0 19 rfl rfl)
theorem dX0_catalogue_22 : decode cX0_catalogue 22 = .ok (.ifCond .ne 7, 3) := dk_154 0 7 (dk_at dksX0_catalogue_1 0 rfl rfl)
theorem dX0_catalogue_25 : decode cX0_catalogue 25 = .ok (.ldc2_w 469, 3) := dk_20 1 213 (dk_at dksX0_catalogue_1 3 rfl rfl)
theorem dX0_catalogue_28 : decode cX0_catalogue 28 = .ok (.lreturn, 1) := dk_173 (dk_at dksX0_catalogue_1 6 rfl rfl)
theorem dX0_catalogue_29 : decode cX0_catalogue 29 = .ok (.aload_n 0, 1) := dk_42 (dk_at dksX0_catalogue_1 7 rfl rfl)
theorem dX0_catalogue_30 : decode cX0_catalogue 30 = .ok (.iload_n 1, 1) := dk_27 (dk_at dksX0_catalogue_1 8 rfl rfl)
theorem dX0_catalogue_31 : decode cX0_catalogue 31 = .ok (.aload_n 0, 1) := dk_42 (dk_at dksX0_catalogue_1 9 rfl rfl)
theorem dX0_catalogue_32 : decode cX0_catalogue 32 = .ok (.getfield 66, 3) := dk_180 0 66 (dk_at dksX0_catalogue_1 10 rfl rfl)
theorem dX0_catalogue_35 : decode cX0_catalogue 35 = .ok (.iload_n 2, 1) := dk_28 (dk_at dksX0_catalogue_1 13 rfl rfl)
theorem dX0_catalogue_36 : decode cX0_catalogue 36 = .ok (.aaload, 1) := dk_50 (dk_at dksX0_catalogue_1 14 rfl rfl)
theorem dX0_catalogue_37 : decode cX0_catalogue 37 = .ok (.getfield 471, 3) := dk_180 1 215 (dk_at dksX0_catalogue_1 15 rfl rfl)
theorem dX0_catalogue_40 : decode cX0_catalogue 40 = .ok (.checkcast 475, 3) := dk_192 1 219 (dk_at dksX0_catalogue_1 18 rfl rfl)
theorem dX0_catalogue_43 : decode cX0_catalogue 43 = .ok (.iload_n 3, 1) := dk_29 (dk_at dksX0_catalogue_1 21 rfl rfl)
theorem dX0_catalogue_44 : decode cX0_catalogue 44 = .ok (.iload 4, 2) := dk_21 4 (dk_at dksX0_catalogue_1 22 rfl rfl)
theorem dX0_catalogue_46 : decode cX0_catalogue 46 = .ok (.invokevirtual 477, 3) := dk_182 1 221 (dk_at dksX0_catalogue_2 0 rfl rfl)
theorem dX0_catalogue_49 : decode cX0_catalogue 49 = .ok (.lreturn, 1) := dk_173 (dk_at dksX0_catalogue_2 3 rfl rfl)
theorem dX0_catalogue_50 : decode cX0_catalogue 50 = .ok (.astore 5, 2) := dk_58 5 (dk_at dksX0_catalogue_2 4 rfl rfl)
theorem dX0_catalogue_52 : decode cX0_catalogue 52 = .ok (.ldc2_w 481, 3) := dk_20 1 225 (dk_at dksX0_catalogue_2 6 rfl rfl)
theorem dX0_catalogue_55 : decode cX0_catalogue 55 = .ok (.lreturn, 1) := dk_173 (dk_at dksX0_catalogue_2 9 rfl rfl)
abbrev cX0_isTape : ByteArray := prog_1_method_70_code
def yX0_isTape : MethodName := ⟨RX0, "isTape", "(I)Z"⟩
def dkwX0_isTape_0 : List UInt8 := [26, 3, 8, 184, 0, 123, 172]
abbrev dktX0_isTape_0 : List UInt8 := dkwX0_isTape_0 ++ []
theorem dksX0_isTape_0 : cX0_isTape.data.toList.drop 0 = dktX0_isTape_0 := by decide +kernel
theorem dX0_isTape_0 : decode cX0_isTape 0 = .ok (.iload_n 0, 1) := dk_26 (dk_at dksX0_isTape_0 0 rfl rfl)
theorem dX0_isTape_1 : decode cX0_isTape 1 = .ok (.iconst 0, 1) := dk_3 (dk_at dksX0_isTape_0 1 rfl rfl)
theorem dX0_isTape_2 : decode cX0_isTape 2 = .ok (.iconst 5, 1) := dk_8 (dk_at dksX0_isTape_0 2 rfl rfl)
theorem dX0_isTape_3 : decode cX0_isTape 3 = .ok (.invokestatic 123, 3) := dk_184 0 123 (dk_at dksX0_isTape_0 3 rfl rfl)
theorem dX0_isTape_6 : decode cX0_isTape 6 = .ok (.ireturn, 1) := dk_172 (dk_at dksX0_isTape_0 6 rfl rfl)
abbrev cX0_looks : ByteArray := prog_1_method_66_code
def yX0_looks : MethodName := ⟨RX0, "looks", "(I[SII)J"⟩
def dkwX0_looks_5 : List UInt8 := [167, 0, 13, 58, 7, 22, 5, 20, 1, 208, 101, 55, 5, 22, 5, 173]
abbrev dktX0_looks_5 : List UInt8 := dkwX0_looks_5 ++ []
def dkwX0_looks_4 : List UInt8 := [10, 97, 55, 5, 132, 7, 1, 167, 255, 160, 167, 0, 26, 58, 7, 22, 5, 20, 1, 208, 101, 55, 5]
abbrev dktX0_looks_4 : List UInt8 := dkwX0_looks_4 ++ dktX0_looks_5
def dkwX0_looks_3 : List UInt8 := [153, 0, 24, 42, 21, 10, 42, 180, 0, 134, 2, 182, 1, 198, 27, 160, 0, 9, 20, 1, 206, 167, 0, 4]
abbrev dktX0_looks_3 : List UInt8 := dkwX0_looks_3 ++ dktX0_looks_4
def dkwX0_looks_2 : List UInt8 := [22, 8, 136, 53, 54, 10, 21, 10, 2, 160, 0, 6, 167, 0, 39, 22, 5, 42, 21, 10, 182, 1, 195]
abbrev dktX0_looks_2 : List UInt8 := dkwX0_looks_2 ++ dktX0_looks_3
def dkwX0_looks_1 : List UInt8 := [148, 155, 0, 12, 22, 8, 44, 190, 133, 148, 155, 0, 13, 187, 1, 27, 89, 16, 243, 183, 1, 204, 191, 44]
abbrev dktX0_looks_1 : List UInt8 := dkwX0_looks_1 ++ dktX0_looks_2
def dkwX0_looks_0 : List UInt8 := [9, 55, 5, 3, 54, 7, 21, 7, 21, 4, 162, 0, 95, 29, 133, 21, 7, 133, 97, 55, 8, 22, 8, 9]
abbrev dktX0_looks_0 : List UInt8 := dkwX0_looks_0 ++ dktX0_looks_1
theorem dksX0_looks_0 : cX0_looks.data.toList.drop 0 = dktX0_looks_0 := by decide +kernel
theorem dksX0_looks_1 : cX0_looks.data.toList.drop 24 = dktX0_looks_1 := dk_seg dksX0_looks_0 24 rfl rfl
theorem dksX0_looks_2 : cX0_looks.data.toList.drop 48 = dktX0_looks_2 := dk_seg dksX0_looks_1 24 rfl rfl
theorem dksX0_looks_3 : cX0_looks.data.toList.drop 71 = dktX0_looks_3 := dk_seg dksX0_looks_2 23 rfl rfl
theorem dksX0_looks_4 : cX0_looks.data.toList.drop 95 = dktX0_looks_4 := dk_seg dksX0_looks_3 24 rfl rfl
theorem dksX0_looks_5 : cX0_looks.data.toList.drop 118 = dktX0_looks_5 := dk_seg dksX0_looks_4 23 rfl rfl
theorem dX0_looks_0 : decode cX0_looks 0 = .ok (.lconst 0, 1) := dk_9 (dk_at dksX0_looks_0 0 rfl rfl)
theorem dX0_looks_1 : decode cX0_looks 1 = .ok (.lstore 5, 2) := dk_55 5 (dk_at dksX0_looks_0 1 rfl rfl)
theorem dX0_looks_3 : decode cX0_looks 3 = .ok (.iconst 0, 1) := dk_3 (dk_at dksX0_looks_0 3 rfl rfl)
theorem dX0_looks_4 : decode cX0_looks 4 = .ok (.istore 7, 2) := dk_54 7 (dk_at dksX0_looks_0 4 rfl rfl)
theorem dX0_looks_6 : decode cX0_looks 6 = .ok (.iload 7, 2) := dk_21 7 (dk_at dksX0_looks_0 6 rfl rfl)
theorem dX0_looks_8 : decode cX0_looks 8 = .ok (.iload 4, 2) := dk_21 4 (dk_at dksX0_looks_0 8 rfl rfl)
theorem dX0_looks_10 : decode cX0_looks 10 = .ok (.if_icmp .ge 95, 3) := dk_162 0 95 (dk_at dksX0_looks_0 10 rfl rfl)
theorem dX0_looks_13 : decode cX0_looks 13 = .ok (.iload_n 3, 1) := dk_29 (dk_at dksX0_looks_0 13 rfl rfl)
theorem dX0_looks_14 : decode cX0_looks 14 = .ok (.i2l, 1) := dk_133 (dk_at dksX0_looks_0 14 rfl rfl)
theorem dX0_looks_15 : decode cX0_looks 15 = .ok (.iload 7, 2) := dk_21 7 (dk_at dksX0_looks_0 15 rfl rfl)
theorem dX0_looks_17 : decode cX0_looks 17 = .ok (.i2l, 1) := dk_133 (dk_at dksX0_looks_0 17 rfl rfl)
theorem dX0_looks_18 : decode cX0_looks 18 = .ok (.ladd, 1) := dk_97 (dk_at dksX0_looks_0 18 rfl rfl)
theorem dX0_looks_19 : decode cX0_looks 19 = .ok (.lstore 8, 2) := dk_55 8 (dk_at dksX0_looks_0 19 rfl rfl)
theorem dX0_looks_21 : decode cX0_looks 21 = .ok (.lload 8, 2) := dk_22 8 (dk_at dksX0_looks_0 21 rfl rfl)
theorem dX0_looks_23 : decode cX0_looks 23 = .ok (.lconst 0, 1) := dk_9 (dk_at dksX0_looks_0 23 rfl rfl)
theorem dX0_looks_24 : decode cX0_looks 24 = .ok (.lcmp, 1) := dk_148 (dk_at dksX0_looks_1 0 rfl rfl)
theorem dX0_looks_25 : decode cX0_looks 25 = .ok (.ifCond .lt 12, 3) := dk_155 0 12 (dk_at dksX0_looks_1 1 rfl rfl)
theorem dX0_looks_28 : decode cX0_looks 28 = .ok (.lload 8, 2) := dk_22 8 (dk_at dksX0_looks_1 4 rfl rfl)
theorem dX0_looks_30 : decode cX0_looks 30 = .ok (.aload_n 2, 1) := dk_44 (dk_at dksX0_looks_1 6 rfl rfl)
theorem dX0_looks_31 : decode cX0_looks 31 = .ok (.arraylength, 1) := dk_190 (dk_at dksX0_looks_1 7 rfl rfl)
theorem dX0_looks_32 : decode cX0_looks 32 = .ok (.i2l, 1) := dk_133 (dk_at dksX0_looks_1 8 rfl rfl)
theorem dX0_looks_33 : decode cX0_looks 33 = .ok (.lcmp, 1) := dk_148 (dk_at dksX0_looks_1 9 rfl rfl)
theorem dX0_looks_34 : decode cX0_looks 34 = .ok (.ifCond .lt 13, 3) := dk_155 0 13 (dk_at dksX0_looks_1 10 rfl rfl)
theorem dX0_looks_37 : decode cX0_looks 37 = .ok (.new 283, 3) := dk_187 1 27 (dk_at dksX0_looks_1 13 rfl rfl)
theorem dX0_looks_40 : decode cX0_looks 40 = .ok (.dup, 1) := dk_89 (dk_at dksX0_looks_1 16 rfl rfl)
theorem dX0_looks_41 : decode cX0_looks 41 = .ok (.bipush (-13), 2) := dk_16 243 (dk_at dksX0_looks_1 17 rfl rfl)
theorem dX0_looks_43 : decode cX0_looks 43 = .ok (.invokespecial 460, 3) := dk_183 1 204 (dk_at dksX0_looks_1 19 rfl rfl)
theorem dX0_looks_46 : decode cX0_looks 46 = .ok (.athrow, 1) := dk_191 (dk_at dksX0_looks_1 22 rfl rfl)
theorem dX0_looks_47 : decode cX0_looks 47 = .ok (.aload_n 2, 1) := dk_44 (dk_at dksX0_looks_1 23 rfl rfl)
theorem dX0_looks_48 : decode cX0_looks 48 = .ok (.lload 8, 2) := dk_22 8 (dk_at dksX0_looks_2 0 rfl rfl)
theorem dX0_looks_50 : decode cX0_looks 50 = .ok (.l2i, 1) := dk_136 (dk_at dksX0_looks_2 2 rfl rfl)
theorem dX0_looks_51 : decode cX0_looks 51 = .ok (.saload, 1) := dk_53 (dk_at dksX0_looks_2 3 rfl rfl)
theorem dX0_looks_52 : decode cX0_looks 52 = .ok (.istore 10, 2) := dk_54 10 (dk_at dksX0_looks_2 4 rfl rfl)
theorem dX0_looks_54 : decode cX0_looks 54 = .ok (.iload 10, 2) := dk_21 10 (dk_at dksX0_looks_2 6 rfl rfl)
theorem dX0_looks_56 : decode cX0_looks 56 = .ok (.iconst (-1), 1) := dk_2 (dk_at dksX0_looks_2 8 rfl rfl)
theorem dX0_looks_57 : decode cX0_looks 57 = .ok (.if_icmp .ne 6, 3) := dk_160 0 6 (dk_at dksX0_looks_2 9 rfl rfl)
theorem dX0_looks_60 : decode cX0_looks 60 = .ok (.goto 39, 3) := dk_167 0 39 (dk_at dksX0_looks_2 12 rfl rfl)
theorem dX0_looks_63 : decode cX0_looks 63 = .ok (.lload 5, 2) := dk_22 5 (dk_at dksX0_looks_2 15 rfl rfl)
theorem dX0_looks_65 : decode cX0_looks 65 = .ok (.aload_n 0, 1) := dk_42 (dk_at dksX0_looks_2 17 rfl rfl)
theorem dX0_looks_66 : decode cX0_looks 66 = .ok (.iload 10, 2) := dk_21 10 (dk_at dksX0_looks_2 18 rfl rfl)
theorem dX0_looks_68 : decode cX0_looks 68 = .ok (.invokevirtual 451, 3) := dk_182 1 195 (dk_at dksX0_looks_2 20 rfl rfl)
theorem dX0_looks_71 : decode cX0_looks 71 = .ok (.ifCond .eq 24, 3) := dk_153 0 24 (dk_at dksX0_looks_3 0 rfl rfl)
theorem dX0_looks_74 : decode cX0_looks 74 = .ok (.aload_n 0, 1) := dk_42 (dk_at dksX0_looks_3 3 rfl rfl)
theorem dX0_looks_75 : decode cX0_looks 75 = .ok (.iload 10, 2) := dk_21 10 (dk_at dksX0_looks_3 4 rfl rfl)
theorem dX0_looks_77 : decode cX0_looks 77 = .ok (.aload_n 0, 1) := dk_42 (dk_at dksX0_looks_3 6 rfl rfl)
theorem dX0_looks_78 : decode cX0_looks 78 = .ok (.getfield 134, 3) := dk_180 0 134 (dk_at dksX0_looks_3 7 rfl rfl)
theorem dX0_looks_81 : decode cX0_looks 81 = .ok (.iconst (-1), 1) := dk_2 (dk_at dksX0_looks_3 10 rfl rfl)
theorem dX0_looks_82 : decode cX0_looks 82 = .ok (.invokevirtual 454, 3) := dk_182 1 198 (dk_at dksX0_looks_3 11 rfl rfl)
theorem dX0_looks_85 : decode cX0_looks 85 = .ok (.iload_n 1, 1) := dk_27 (dk_at dksX0_looks_3 14 rfl rfl)
theorem dX0_looks_86 : decode cX0_looks 86 = .ok (.if_icmp .ne 9, 3) := dk_160 0 9 (dk_at dksX0_looks_3 15 rfl rfl)
theorem dX0_looks_89 : decode cX0_looks 89 = .ok (.ldc2_w 462, 3) := dk_20 1 206 (dk_at dksX0_looks_3 18 rfl rfl)
theorem dX0_looks_92 : decode cX0_looks 92 = .ok (.goto 4, 3) := dk_167 0 4 (dk_at dksX0_looks_3 21 rfl rfl)
theorem dX0_looks_95 : decode cX0_looks 95 = .ok (.lconst 1, 1) := dk_10 (dk_at dksX0_looks_4 0 rfl rfl)
theorem dX0_looks_96 : decode cX0_looks 96 = .ok (.ladd, 1) := dk_97 (dk_at dksX0_looks_4 1 rfl rfl)
theorem dX0_looks_97 : decode cX0_looks 97 = .ok (.lstore 5, 2) := dk_55 5 (dk_at dksX0_looks_4 2 rfl rfl)
theorem dX0_looks_99 : decode cX0_looks 99 = .ok (.iinc 7 1, 3) := dk_132 7 1 (dk_at dksX0_looks_4 4 rfl rfl)
theorem dX0_looks_102 : decode cX0_looks 102 = .ok (.goto (-96), 3) := dk_167 255 160 (dk_at dksX0_looks_4 7 rfl rfl)
theorem dX0_looks_105 : decode cX0_looks 105 = .ok (.goto 26, 3) := dk_167 0 26 (dk_at dksX0_looks_4 10 rfl rfl)
theorem dX0_looks_108 : decode cX0_looks 108 = .ok (.astore 7, 2) := dk_58 7 (dk_at dksX0_looks_4 13 rfl rfl)
theorem dX0_looks_110 : decode cX0_looks 110 = .ok (.lload 5, 2) := dk_22 5 (dk_at dksX0_looks_4 15 rfl rfl)
theorem dX0_looks_112 : decode cX0_looks 112 = .ok (.ldc2_w 464, 3) := dk_20 1 208 (dk_at dksX0_looks_4 17 rfl rfl)
theorem dX0_looks_115 : decode cX0_looks 115 = .ok (.lsub, 1) := dk_101 (dk_at dksX0_looks_4 20 rfl rfl)
theorem dX0_looks_116 : decode cX0_looks 116 = .ok (.lstore 5, 2) := dk_55 5 (dk_at dksX0_looks_4 21 rfl rfl)
theorem dX0_looks_118 : decode cX0_looks 118 = .ok (.goto 13, 3) := dk_167 0 13 (dk_at dksX0_looks_5 0 rfl rfl)
theorem dX0_looks_121 : decode cX0_looks 121 = .ok (.astore 7, 2) := dk_58 7 (dk_at dksX0_looks_5 3 rfl rfl)
theorem dX0_looks_123 : decode cX0_looks 123 = .ok (.lload 5, 2) := dk_22 5 (dk_at dksX0_looks_5 5 rfl rfl)
theorem dX0_looks_125 : decode cX0_looks 125 = .ok (.ldc2_w 464, 3) := dk_20 1 208 (dk_at dksX0_looks_5 7 rfl rfl)
theorem dX0_looks_128 : decode cX0_looks 128 = .ok (.lsub, 1) := dk_101 (dk_at dksX0_looks_5 10 rfl rfl)
theorem dX0_looks_129 : decode cX0_looks 129 = .ok (.lstore 5, 2) := dk_55 5 (dk_at dksX0_looks_5 11 rfl rfl)
theorem dX0_looks_131 : decode cX0_looks 131 = .ok (.lload 5, 2) := dk_22 5 (dk_at dksX0_looks_5 13 rfl rfl)
theorem dX0_looks_133 : decode cX0_looks 133 = .ok (.lreturn, 1) := dk_173 (dk_at dksX0_looks_5 15 rfl rfl)
abbrev cX0_count : ByteArray := prog_1_method_68_code
def yX0_count : MethodName := ⟨RX0, "count", "(I)I"⟩
def dkwX0_count_5 : List UInt8 := [180, 0, 240, 172, 16, 254, 172]
abbrev dktX0_count_5 : List UInt8 := dkwX0_count_5 ++ []
def dkwX0_count_4 : List UInt8 := [180, 1, 105, 172, 42, 180, 1, 159, 172, 42, 180, 1, 166, 172, 42, 180, 1, 188, 172, 42, 180, 0, 43]
abbrev dktX0_count_4 : List UInt8 := dkwX0_count_4 ++ dktX0_count_5
def dkwX0_count_3 : List UInt8 := [172, 42, 180, 0, 195, 172, 42, 180, 1, 18, 172, 42, 180, 1, 6, 172, 42, 180, 1, 79, 172, 42]
abbrev dktX0_count_3 : List UInt8 := dkwX0_count_3 ++ dktX0_count_4
def dkwX0_count_2 : List UInt8 := [42, 180, 0, 134, 172, 42, 180, 0, 147, 172, 42, 180, 0, 131, 172, 42, 180, 0, 127, 172, 42, 180, 1, 185]
abbrev dktX0_count_2 : List UInt8 := dkwX0_count_2 ++ dktX0_count_3
def dkwX0_count_1 : List UInt8 := [170, 0, 0, 0, 0, 0, 144, 0, 0, 0, 0, 0, 0, 0, 13, 0, 0, 0, 71, 0, 0, 0, 76, 0, 0, 0, 81, 0, 0, 0, 86, 0, 0, 0, 91, 0, 0, 0, 96, 0, 0, 0, 101, 0, 0, 0, 106, 0, 0, 0, 111, 0, 0, 0, 116, 0, 0, 0, 121, 0, 0, 0, 126, 0, 0, 0, 131, 0, 0, 0, 136]
abbrev dktX0_count_1 : List UInt8 := dkwX0_count_1 ++ dktX0_count_2
def dkwX0_count_0 : List UInt8 := [27]
abbrev dktX0_count_0 : List UInt8 := dkwX0_count_0 ++ dktX0_count_1
theorem dksX0_count_0 : cX0_count.data.toList.drop 0 = dktX0_count_0 := by decide +kernel
theorem dksX0_count_1 : cX0_count.data.toList.drop 1 = dktX0_count_1 := dk_seg dksX0_count_0 1 rfl rfl
theorem dksX0_count_2 : cX0_count.data.toList.drop 72 = dktX0_count_2 := dk_seg dksX0_count_1 71 rfl rfl
theorem dksX0_count_3 : cX0_count.data.toList.drop 96 = dktX0_count_3 := dk_seg dksX0_count_2 24 rfl rfl
theorem dksX0_count_4 : cX0_count.data.toList.drop 118 = dktX0_count_4 := dk_seg dksX0_count_3 22 rfl rfl
theorem dksX0_count_5 : cX0_count.data.toList.drop 141 = dktX0_count_5 := dk_seg dksX0_count_4 23 rfl rfl
theorem dX0_count_0 : decode cX0_count 0 = .ok (.iload_n 1, 1) := dk_27 (dk_at dksX0_count_0 0 rfl rfl)
theorem dX0_count_1 : decode cX0_count 1 = .ok (.tableswitch 144 0 13 #[71, 76, 81, 86, 91, 96, 101, 106, 111, 116, 121, 126, 131, 136], 71) := by decide +kernel
theorem dX0_count_72 : decode cX0_count 72 = .ok (.aload_n 0, 1) := dk_42 (dk_at dksX0_count_2 0 rfl rfl)
theorem dX0_count_73 : decode cX0_count 73 = .ok (.getfield 134, 3) := dk_180 0 134 (dk_at dksX0_count_2 1 rfl rfl)
theorem dX0_count_76 : decode cX0_count 76 = .ok (.ireturn, 1) := dk_172 (dk_at dksX0_count_2 4 rfl rfl)
theorem dX0_count_77 : decode cX0_count 77 = .ok (.aload_n 0, 1) := dk_42 (dk_at dksX0_count_2 5 rfl rfl)
theorem dX0_count_78 : decode cX0_count 78 = .ok (.getfield 147, 3) := dk_180 0 147 (dk_at dksX0_count_2 6 rfl rfl)
theorem dX0_count_81 : decode cX0_count 81 = .ok (.ireturn, 1) := dk_172 (dk_at dksX0_count_2 9 rfl rfl)
theorem dX0_count_82 : decode cX0_count 82 = .ok (.aload_n 0, 1) := dk_42 (dk_at dksX0_count_2 10 rfl rfl)
theorem dX0_count_83 : decode cX0_count 83 = .ok (.getfield 131, 3) := dk_180 0 131 (dk_at dksX0_count_2 11 rfl rfl)
theorem dX0_count_86 : decode cX0_count 86 = .ok (.ireturn, 1) := dk_172 (dk_at dksX0_count_2 14 rfl rfl)
theorem dX0_count_87 : decode cX0_count 87 = .ok (.aload_n 0, 1) := dk_42 (dk_at dksX0_count_2 15 rfl rfl)
theorem dX0_count_88 : decode cX0_count 88 = .ok (.getfield 127, 3) := dk_180 0 127 (dk_at dksX0_count_2 16 rfl rfl)
theorem dX0_count_91 : decode cX0_count 91 = .ok (.ireturn, 1) := dk_172 (dk_at dksX0_count_2 19 rfl rfl)
theorem dX0_count_92 : decode cX0_count 92 = .ok (.aload_n 0, 1) := dk_42 (dk_at dksX0_count_2 20 rfl rfl)
theorem dX0_count_93 : decode cX0_count 93 = .ok (.getfield 441, 3) := dk_180 1 185 (dk_at dksX0_count_2 21 rfl rfl)
theorem dX0_count_96 : decode cX0_count 96 = .ok (.ireturn, 1) := dk_172 (dk_at dksX0_count_3 0 rfl rfl)
theorem dX0_count_97 : decode cX0_count 97 = .ok (.aload_n 0, 1) := dk_42 (dk_at dksX0_count_3 1 rfl rfl)
theorem dX0_count_98 : decode cX0_count 98 = .ok (.getfield 195, 3) := dk_180 0 195 (dk_at dksX0_count_3 2 rfl rfl)
theorem dX0_count_101 : decode cX0_count 101 = .ok (.ireturn, 1) := dk_172 (dk_at dksX0_count_3 5 rfl rfl)
theorem dX0_count_102 : decode cX0_count 102 = .ok (.aload_n 0, 1) := dk_42 (dk_at dksX0_count_3 6 rfl rfl)
theorem dX0_count_103 : decode cX0_count 103 = .ok (.getfield 274, 3) := dk_180 1 18 (dk_at dksX0_count_3 7 rfl rfl)
theorem dX0_count_106 : decode cX0_count 106 = .ok (.ireturn, 1) := dk_172 (dk_at dksX0_count_3 10 rfl rfl)
theorem dX0_count_107 : decode cX0_count 107 = .ok (.aload_n 0, 1) := dk_42 (dk_at dksX0_count_3 11 rfl rfl)
theorem dX0_count_108 : decode cX0_count 108 = .ok (.getfield 262, 3) := dk_180 1 6 (dk_at dksX0_count_3 12 rfl rfl)
theorem dX0_count_111 : decode cX0_count 111 = .ok (.ireturn, 1) := dk_172 (dk_at dksX0_count_3 15 rfl rfl)
theorem dX0_count_112 : decode cX0_count 112 = .ok (.aload_n 0, 1) := dk_42 (dk_at dksX0_count_3 16 rfl rfl)
theorem dX0_count_113 : decode cX0_count 113 = .ok (.getfield 335, 3) := dk_180 1 79 (dk_at dksX0_count_3 17 rfl rfl)
theorem dX0_count_116 : decode cX0_count 116 = .ok (.ireturn, 1) := dk_172 (dk_at dksX0_count_3 20 rfl rfl)
theorem dX0_count_117 : decode cX0_count 117 = .ok (.aload_n 0, 1) := dk_42 (dk_at dksX0_count_3 21 rfl rfl)
theorem dX0_count_118 : decode cX0_count 118 = .ok (.getfield 361, 3) := dk_180 1 105 (dk_at dksX0_count_4 0 rfl rfl)
theorem dX0_count_121 : decode cX0_count 121 = .ok (.ireturn, 1) := dk_172 (dk_at dksX0_count_4 3 rfl rfl)
theorem dX0_count_122 : decode cX0_count 122 = .ok (.aload_n 0, 1) := dk_42 (dk_at dksX0_count_4 4 rfl rfl)
theorem dX0_count_123 : decode cX0_count 123 = .ok (.getfield 415, 3) := dk_180 1 159 (dk_at dksX0_count_4 5 rfl rfl)
theorem dX0_count_126 : decode cX0_count 126 = .ok (.ireturn, 1) := dk_172 (dk_at dksX0_count_4 8 rfl rfl)
theorem dX0_count_127 : decode cX0_count 127 = .ok (.aload_n 0, 1) := dk_42 (dk_at dksX0_count_4 9 rfl rfl)
theorem dX0_count_128 : decode cX0_count 128 = .ok (.getfield 422, 3) := dk_180 1 166 (dk_at dksX0_count_4 10 rfl rfl)
theorem dX0_count_131 : decode cX0_count 131 = .ok (.ireturn, 1) := dk_172 (dk_at dksX0_count_4 13 rfl rfl)
theorem dX0_count_132 : decode cX0_count 132 = .ok (.aload_n 0, 1) := dk_42 (dk_at dksX0_count_4 14 rfl rfl)
theorem dX0_count_133 : decode cX0_count 133 = .ok (.getfield 444, 3) := dk_180 1 188 (dk_at dksX0_count_4 15 rfl rfl)
theorem dX0_count_136 : decode cX0_count 136 = .ok (.ireturn, 1) := dk_172 (dk_at dksX0_count_4 18 rfl rfl)
theorem dX0_count_137 : decode cX0_count 137 = .ok (.aload_n 0, 1) := dk_42 (dk_at dksX0_count_4 19 rfl rfl)
theorem dX0_count_138 : decode cX0_count 138 = .ok (.getfield 43, 3) := dk_180 0 43 (dk_at dksX0_count_4 20 rfl rfl)
theorem dX0_count_141 : decode cX0_count 141 = .ok (.getfield 240, 3) := dk_180 0 240 (dk_at dksX0_count_5 0 rfl rfl)
theorem dX0_count_144 : decode cX0_count 144 = .ok (.ireturn, 1) := dk_172 (dk_at dksX0_count_5 3 rfl rfl)
theorem dX0_count_145 : decode cX0_count 145 = .ok (.bipush (-2), 2) := dk_16 254 (dk_at dksX0_count_5 4 rfl rfl)
theorem dX0_count_147 : decode cX0_count 147 = .ok (.ireturn, 1) := dk_172 (dk_at dksX0_count_5 6 rfl rfl)
abbrev cX0_tape : ByteArray := prog_1_method_71_code
def yX0_tape : MethodName := ⟨RX0, "tape", "(III)I"⟩
def dkwX0_tape_2 : List UInt8 := [29, 184, 1, 227, 181, 1, 215, 4, 172, 58, 4, 16, 242, 172]
abbrev dktX0_tape_2 : List UInt8 := dkwX0_tape_2 ++ []
def dkwX0_tape_1 : List UInt8 := [16, 60, 164, 0, 6, 16, 254, 172, 42, 180, 0, 66, 27, 50, 28, 2, 160, 0, 7, 1, 167, 0, 8, 28]
abbrev dktX0_tape_1 : List UInt8 := dkwX0_tape_1 ++ dktX0_tape_2
def dkwX0_tape_0 : List UInt8 := [27, 184, 1, 210, 154, 0, 5, 2, 172, 28, 2, 7, 184, 0, 123, 153, 0, 14, 28, 2, 159, 0, 12, 29]
abbrev dktX0_tape_0 : List UInt8 := dkwX0_tape_0 ++ dktX0_tape_1
theorem dksX0_tape_0 : cX0_tape.data.toList.drop 0 = dktX0_tape_0 := by decide +kernel
theorem dksX0_tape_1 : cX0_tape.data.toList.drop 24 = dktX0_tape_1 := dk_seg dksX0_tape_0 24 rfl rfl
theorem dksX0_tape_2 : cX0_tape.data.toList.drop 48 = dktX0_tape_2 := dk_seg dksX0_tape_1 24 rfl rfl
theorem dX0_tape_0 : decode cX0_tape 0 = .ok (.iload_n 1, 1) := dk_27 (dk_at dksX0_tape_0 0 rfl rfl)
theorem dX0_tape_1 : decode cX0_tape 1 = .ok (.invokestatic 466, 3) := dk_184 1 210 (dk_at dksX0_tape_0 1 rfl rfl)
theorem dX0_tape_4 : decode cX0_tape 4 = .ok (.ifCond .ne 5, 3) := dk_154 0 5 (dk_at dksX0_tape_0 4 rfl rfl)
theorem dX0_tape_7 : decode cX0_tape 7 = .ok (.iconst (-1), 1) := dk_2 (dk_at dksX0_tape_0 7 rfl rfl)
theorem dX0_tape_8 : decode cX0_tape 8 = .ok (.ireturn, 1) := dk_172 (dk_at dksX0_tape_0 8 rfl rfl)
theorem dX0_tape_9 : decode cX0_tape 9 = .ok (.iload_n 2, 1) := dk_28 (dk_at dksX0_tape_0 9 rfl rfl)
theorem dX0_tape_10 : decode cX0_tape 10 = .ok (.iconst (-1), 1) := dk_2 (dk_at dksX0_tape_0 10 rfl rfl)
theorem dX0_tape_11 : decode cX0_tape 11 = .ok (.iconst 4, 1) := dk_7 (dk_at dksX0_tape_0 11 rfl rfl)
theorem dX0_tape_12 : decode cX0_tape 12 = .ok (.invokestatic 123, 3) := dk_184 0 123 (dk_at dksX0_tape_0 12 rfl rfl)
theorem dX0_tape_15 : decode cX0_tape 15 = .ok (.ifCond .eq 14, 3) := dk_153 0 14 (dk_at dksX0_tape_0 15 rfl rfl)
theorem dX0_tape_18 : decode cX0_tape 18 = .ok (.iload_n 2, 1) := dk_28 (dk_at dksX0_tape_0 18 rfl rfl)
theorem dX0_tape_19 : decode cX0_tape 19 = .ok (.iconst (-1), 1) := dk_2 (dk_at dksX0_tape_0 19 rfl rfl)
theorem dX0_tape_20 : decode cX0_tape 20 = .ok (.if_icmp .eq 12, 3) := dk_159 0 12 (dk_at dksX0_tape_0 20 rfl rfl)
theorem dX0_tape_23 : decode cX0_tape 23 = .ok (.iload_n 3, 1) := dk_29 (dk_at dksX0_tape_0 23 rfl rfl)
theorem dX0_tape_24 : decode cX0_tape 24 = .ok (.bipush 60, 2) := dk_16 60 (dk_at dksX0_tape_1 0 rfl rfl)
theorem dX0_tape_26 : decode cX0_tape 26 = .ok (.if_icmp .le 6, 3) := dk_164 0 6 (dk_at dksX0_tape_1 2 rfl rfl)
theorem dX0_tape_29 : decode cX0_tape 29 = .ok (.bipush (-2), 2) := dk_16 254 (dk_at dksX0_tape_1 5 rfl rfl)
theorem dX0_tape_31 : decode cX0_tape 31 = .ok (.ireturn, 1) := dk_172 (dk_at dksX0_tape_1 7 rfl rfl)
theorem dX0_tape_32 : decode cX0_tape 32 = .ok (.aload_n 0, 1) := dk_42 (dk_at dksX0_tape_1 8 rfl rfl)
theorem dX0_tape_33 : decode cX0_tape 33 = .ok (.getfield 66, 3) := dk_180 0 66 (dk_at dksX0_tape_1 9 rfl rfl)
theorem dX0_tape_36 : decode cX0_tape 36 = .ok (.iload_n 1, 1) := dk_27 (dk_at dksX0_tape_1 12 rfl rfl)
theorem dX0_tape_37 : decode cX0_tape 37 = .ok (.aaload, 1) := dk_50 (dk_at dksX0_tape_1 13 rfl rfl)
theorem dX0_tape_38 : decode cX0_tape 38 = .ok (.iload_n 2, 1) := dk_28 (dk_at dksX0_tape_1 14 rfl rfl)
theorem dX0_tape_39 : decode cX0_tape 39 = .ok (.iconst (-1), 1) := dk_2 (dk_at dksX0_tape_1 15 rfl rfl)
theorem dX0_tape_40 : decode cX0_tape 40 = .ok (.if_icmp .ne 7, 3) := dk_160 0 7 (dk_at dksX0_tape_1 16 rfl rfl)
theorem dX0_tape_43 : decode cX0_tape 43 = .ok (.aconst_null, 1) := dk_1 (dk_at dksX0_tape_1 19 rfl rfl)
theorem dX0_tape_44 : decode cX0_tape 44 = .ok (.goto 8, 3) := dk_167 0 8 (dk_at dksX0_tape_1 20 rfl rfl)
theorem dX0_tape_47 : decode cX0_tape 47 = .ok (.iload_n 2, 1) := dk_28 (dk_at dksX0_tape_1 23 rfl rfl)
theorem dX0_tape_48 : decode cX0_tape 48 = .ok (.iload_n 3, 1) := dk_29 (dk_at dksX0_tape_2 0 rfl rfl)
theorem dX0_tape_49 : decode cX0_tape 49 = .ok (.invokestatic 483, 3) := dk_184 1 227 (dk_at dksX0_tape_2 1 rfl rfl)
theorem dX0_tape_52 : decode cX0_tape 52 = .ok (.putfield 471, 3) := dk_181 1 215 (dk_at dksX0_tape_2 4 rfl rfl)
theorem dX0_tape_55 : decode cX0_tape 55 = .ok (.iconst 1, 1) := dk_4 (dk_at dksX0_tape_2 7 rfl rfl)
theorem dX0_tape_56 : decode cX0_tape 56 = .ok (.ireturn, 1) := dk_172 (dk_at dksX0_tape_2 8 rfl rfl)
theorem dX0_tape_57 : decode cX0_tape 57 = .ok (.astore 4, 2) := dk_58 4 (dk_at dksX0_tape_2 9 rfl rfl)
theorem dX0_tape_59 : decode cX0_tape 59 = .ok (.bipush (-14), 2) := dk_16 242 (dk_at dksX0_tape_2 11 rfl rfl)
theorem dX0_tape_61 : decode cX0_tape 61 = .ok (.ireturn, 1) := dk_172 (dk_at dksX0_tape_2 13 rfl rfl)
abbrev cX0_rowOf : ByteArray := prog_1_method_69_code
def yX0_rowOf : MethodName := ⟨RX0, "rowOf", "(II)Ljava/lang/Object;"⟩
def dkwX0_rowOf_2 : List UInt8 := [27, 188, 8, 176, 27, 188, 9, 176, 27, 188, 10, 176, 27, 188, 11, 176, 27, 188, 4, 176]
abbrev dktX0_rowOf_2 : List UInt8 := dkwX0_rowOf_2 ++ []
def dkwX0_rowOf_1 : List UInt8 := [170, 0, 0, 0, 0, 0, 47, 0, 0, 0, 0, 0, 0, 0, 3, 0, 0, 0, 31, 0, 0, 0, 35, 0, 0, 0, 39, 0, 0, 0, 43]
abbrev dktX0_rowOf_1 : List UInt8 := dkwX0_rowOf_1 ++ dktX0_rowOf_2
def dkwX0_rowOf_0 : List UInt8 := [26]
abbrev dktX0_rowOf_0 : List UInt8 := dkwX0_rowOf_0 ++ dktX0_rowOf_1
theorem dksX0_rowOf_0 : cX0_rowOf.data.toList.drop 0 = dktX0_rowOf_0 := by decide +kernel
theorem dksX0_rowOf_1 : cX0_rowOf.data.toList.drop 1 = dktX0_rowOf_1 := dk_seg dksX0_rowOf_0 1 rfl rfl
theorem dksX0_rowOf_2 : cX0_rowOf.data.toList.drop 32 = dktX0_rowOf_2 := dk_seg dksX0_rowOf_1 31 rfl rfl
theorem dX0_rowOf_0 : decode cX0_rowOf 0 = .ok (.iload_n 0, 1) := dk_26 (dk_at dksX0_rowOf_0 0 rfl rfl)
theorem dX0_rowOf_1 : decode cX0_rowOf 1 = .ok (.tableswitch 47 0 3 #[31, 35, 39, 43], 31) := by decide +kernel
theorem dX0_rowOf_32 : decode cX0_rowOf 32 = .ok (.iload_n 1, 1) := dk_27 (dk_at dksX0_rowOf_2 0 rfl rfl)
theorem dX0_rowOf_33 : decode cX0_rowOf 33 = .ok (.newarray .byte, 2) := dk_188_8 (dk_at dksX0_rowOf_2 1 rfl rfl)
theorem dX0_rowOf_35 : decode cX0_rowOf 35 = .ok (.areturn, 1) := dk_176 (dk_at dksX0_rowOf_2 3 rfl rfl)
theorem dX0_rowOf_36 : decode cX0_rowOf 36 = .ok (.iload_n 1, 1) := dk_27 (dk_at dksX0_rowOf_2 4 rfl rfl)
theorem dX0_rowOf_37 : decode cX0_rowOf 37 = .ok (.newarray .short, 2) := dk_188_9 (dk_at dksX0_rowOf_2 5 rfl rfl)
theorem dX0_rowOf_39 : decode cX0_rowOf 39 = .ok (.areturn, 1) := dk_176 (dk_at dksX0_rowOf_2 7 rfl rfl)
theorem dX0_rowOf_40 : decode cX0_rowOf 40 = .ok (.iload_n 1, 1) := dk_27 (dk_at dksX0_rowOf_2 8 rfl rfl)
theorem dX0_rowOf_41 : decode cX0_rowOf 41 = .ok (.newarray .int, 2) := dk_188_10 (dk_at dksX0_rowOf_2 9 rfl rfl)
theorem dX0_rowOf_43 : decode cX0_rowOf 43 = .ok (.areturn, 1) := dk_176 (dk_at dksX0_rowOf_2 11 rfl rfl)
theorem dX0_rowOf_44 : decode cX0_rowOf 44 = .ok (.iload_n 1, 1) := dk_27 (dk_at dksX0_rowOf_2 12 rfl rfl)
theorem dX0_rowOf_45 : decode cX0_rowOf 45 = .ok (.newarray .long, 2) := dk_188_11 (dk_at dksX0_rowOf_2 13 rfl rfl)
theorem dX0_rowOf_47 : decode cX0_rowOf 47 = .ok (.areturn, 1) := dk_176 (dk_at dksX0_rowOf_2 15 rfl rfl)
theorem dX0_rowOf_48 : decode cX0_rowOf 48 = .ok (.iload_n 1, 1) := dk_27 (dk_at dksX0_rowOf_2 16 rfl rfl)
theorem dX0_rowOf_49 : decode cX0_rowOf 49 = .ok (.newarray .boolean, 2) := dk_188_4 (dk_at dksX0_rowOf_2 17 rfl rfl)
theorem dX0_rowOf_51 : decode cX0_rowOf 51 = .ok (.areturn, 1) := dk_176 (dk_at dksX0_rowOf_2 19 rfl rfl)
abbrev cX0_item : ByteArray := prog_1_method_72_code
def yX0_item : MethodName := ⟨RX0, "item", "(IIJ)I"⟩
def dkwX0_item_7 : List UInt8 := [180, 1, 215, 192, 1, 239, 28, 33, 9, 148, 153, 0, 7, 4, 167, 0, 4, 3, 84, 4, 172]
abbrev dktX0_item_7 : List UInt8 := dkwX0_item_7 ++ []
def dkwX0_item_6 : List UInt8 := [193, 1, 237, 153, 0, 18, 25, 10, 192, 1, 237, 58, 9, 25, 9, 28, 33, 80, 167, 0, 24, 25, 5]
abbrev dktX0_item_6 : List UInt8 := dkwX0_item_6 ++ dktX0_item_7
def dkwX0_item_5 : List UInt8 := [192, 1, 236, 58, 8, 25, 8, 28, 33, 136, 79, 167, 0, 54, 25, 5, 180, 1, 215, 58, 10, 25, 10]
abbrev dktX0_item_5 : List UInt8 := dkwX0_item_5 ++ dktX0_item_6
def dkwX0_item_4 : List UInt8 := [136, 147, 86, 167, 0, 85, 25, 5, 180, 1, 215, 58, 10, 25, 10, 193, 1, 236, 153, 0, 19, 25, 10]
abbrev dktX0_item_4 : List UInt8 := dkwX0_item_4 ++ dktX0_item_5
def dkwX0_item_3 : List UInt8 := [180, 1, 215, 58, 10, 25, 10, 193, 1, 219, 153, 0, 20, 25, 10, 192, 1, 219, 58, 7, 25, 7, 28, 33]
abbrev dktX0_item_3 : List UInt8 := dkwX0_item_3 ++ dktX0_item_4
def dkwX0_item_2 : List UInt8 := [153, 0, 20, 25, 10, 192, 1, 235, 58, 6, 25, 6, 28, 33, 136, 145, 84, 167, 0, 117, 25, 5]
abbrev dktX0_item_2 : List UInt8 := dkwX0_item_2 ++ dktX0_item_3
def dkwX0_item_1 : List UInt8 := [167, 0, 11, 58, 6, 25, 6, 180, 1, 29, 172, 25, 5, 180, 1, 215, 58, 10, 25, 10, 193, 1, 235]
abbrev dktX0_item_1 : List UInt8 := dkwX0_item_1 ++ dktX0_item_2
def dkwX0_item_0 : List UInt8 := [27, 184, 1, 210, 154, 0, 5, 2, 172, 42, 180, 0, 66, 27, 50, 58, 5, 25, 5, 28, 182, 1, 233]
abbrev dktX0_item_0 : List UInt8 := dkwX0_item_0 ++ dktX0_item_1
theorem dksX0_item_0 : cX0_item.data.toList.drop 0 = dktX0_item_0 := by decide +kernel
theorem dksX0_item_1 : cX0_item.data.toList.drop 23 = dktX0_item_1 := dk_seg dksX0_item_0 23 rfl rfl
theorem dksX0_item_2 : cX0_item.data.toList.drop 46 = dktX0_item_2 := dk_seg dksX0_item_1 23 rfl rfl
theorem dksX0_item_3 : cX0_item.data.toList.drop 68 = dktX0_item_3 := dk_seg dksX0_item_2 22 rfl rfl
theorem dksX0_item_4 : cX0_item.data.toList.drop 92 = dktX0_item_4 := dk_seg dksX0_item_3 24 rfl rfl
theorem dksX0_item_5 : cX0_item.data.toList.drop 115 = dktX0_item_5 := dk_seg dksX0_item_4 23 rfl rfl
theorem dksX0_item_6 : cX0_item.data.toList.drop 138 = dktX0_item_6 := dk_seg dksX0_item_5 23 rfl rfl
theorem dksX0_item_7 : cX0_item.data.toList.drop 161 = dktX0_item_7 := dk_seg dksX0_item_6 23 rfl rfl
theorem dX0_item_0 : decode cX0_item 0 = .ok (.iload_n 1, 1) := dk_27 (dk_at dksX0_item_0 0 rfl rfl)
theorem dX0_item_1 : decode cX0_item 1 = .ok (.invokestatic 466, 3) := dk_184 1 210 (dk_at dksX0_item_0 1 rfl rfl)
theorem dX0_item_4 : decode cX0_item 4 = .ok (.ifCond .ne 5, 3) := dk_154 0 5 (dk_at dksX0_item_0 4 rfl rfl)
theorem dX0_item_7 : decode cX0_item 7 = .ok (.iconst (-1), 1) := dk_2 (dk_at dksX0_item_0 7 rfl rfl)
theorem dX0_item_8 : decode cX0_item 8 = .ok (.ireturn, 1) := dk_172 (dk_at dksX0_item_0 8 rfl rfl)
theorem dX0_item_9 : decode cX0_item 9 = .ok (.aload_n 0, 1) := dk_42 (dk_at dksX0_item_0 9 rfl rfl)
theorem dX0_item_10 : decode cX0_item 10 = .ok (.getfield 66, 3) := dk_180 0 66 (dk_at dksX0_item_0 10 rfl rfl)
theorem dX0_item_13 : decode cX0_item 13 = .ok (.iload_n 1, 1) := dk_27 (dk_at dksX0_item_0 13 rfl rfl)
theorem dX0_item_14 : decode cX0_item 14 = .ok (.aaload, 1) := dk_50 (dk_at dksX0_item_0 14 rfl rfl)
theorem dX0_item_15 : decode cX0_item 15 = .ok (.astore 5, 2) := dk_58 5 (dk_at dksX0_item_0 15 rfl rfl)
theorem dX0_item_17 : decode cX0_item 17 = .ok (.aload 5, 2) := dk_25 5 (dk_at dksX0_item_0 17 rfl rfl)
theorem dX0_item_19 : decode cX0_item 19 = .ok (.iload_n 2, 1) := dk_28 (dk_at dksX0_item_0 19 rfl rfl)
theorem dX0_item_20 : decode cX0_item 20 = .ok (.invokevirtual 489, 3) := dk_182 1 233 (dk_at dksX0_item_0 20 rfl rfl)
theorem dX0_item_23 : decode cX0_item 23 = .ok (.goto 11, 3) := dk_167 0 11 (dk_at dksX0_item_1 0 rfl rfl)
theorem dX0_item_26 : decode cX0_item 26 = .ok (.astore 6, 2) := dk_58 6 (dk_at dksX0_item_1 3 rfl rfl)
theorem dX0_item_28 : decode cX0_item 28 = .ok (.aload 6, 2) := dk_25 6 (dk_at dksX0_item_1 5 rfl rfl)
theorem dX0_item_30 : decode cX0_item 30 = .ok (.getfield 285, 3) := dk_180 1 29 (dk_at dksX0_item_1 7 rfl rfl)
theorem dX0_item_33 : decode cX0_item 33 = .ok (.ireturn, 1) := dk_172 (dk_at dksX0_item_1 10 rfl rfl)
theorem dX0_item_34 : decode cX0_item 34 = .ok (.aload 5, 2) := dk_25 5 (dk_at dksX0_item_1 11 rfl rfl)
theorem dX0_item_36 : decode cX0_item 36 = .ok (.getfield 471, 3) := dk_180 1 215 (dk_at dksX0_item_1 13 rfl rfl)
theorem dX0_item_39 : decode cX0_item 39 = .ok (.astore 10, 2) := dk_58 10 (dk_at dksX0_item_1 16 rfl rfl)
theorem dX0_item_41 : decode cX0_item 41 = .ok (.aload 10, 2) := dk_25 10 (dk_at dksX0_item_1 18 rfl rfl)
theorem dX0_item_43 : decode cX0_item 43 = .ok (.instanceof 491, 3) := dk_193 1 235 (dk_at dksX0_item_1 20 rfl rfl)
theorem dX0_item_46 : decode cX0_item 46 = .ok (.ifCond .eq 20, 3) := dk_153 0 20 (dk_at dksX0_item_2 0 rfl rfl)
theorem dX0_item_49 : decode cX0_item 49 = .ok (.aload 10, 2) := dk_25 10 (dk_at dksX0_item_2 3 rfl rfl)
theorem dX0_item_51 : decode cX0_item 51 = .ok (.checkcast 491, 3) := dk_192 1 235 (dk_at dksX0_item_2 5 rfl rfl)
theorem dX0_item_54 : decode cX0_item 54 = .ok (.astore 6, 2) := dk_58 6 (dk_at dksX0_item_2 8 rfl rfl)
theorem dX0_item_56 : decode cX0_item 56 = .ok (.aload 6, 2) := dk_25 6 (dk_at dksX0_item_2 10 rfl rfl)
theorem dX0_item_58 : decode cX0_item 58 = .ok (.iload_n 2, 1) := dk_28 (dk_at dksX0_item_2 12 rfl rfl)
theorem dX0_item_59 : decode cX0_item 59 = .ok (.lload_n 3, 1) := dk_33 (dk_at dksX0_item_2 13 rfl rfl)
theorem dX0_item_60 : decode cX0_item 60 = .ok (.l2i, 1) := dk_136 (dk_at dksX0_item_2 14 rfl rfl)
theorem dX0_item_61 : decode cX0_item 61 = .ok (.i2b, 1) := dk_145 (dk_at dksX0_item_2 15 rfl rfl)
theorem dX0_item_62 : decode cX0_item 62 = .ok (.bastore, 1) := dk_84 (dk_at dksX0_item_2 16 rfl rfl)
theorem dX0_item_63 : decode cX0_item 63 = .ok (.goto 117, 3) := dk_167 0 117 (dk_at dksX0_item_2 17 rfl rfl)
theorem dX0_item_66 : decode cX0_item 66 = .ok (.aload 5, 2) := dk_25 5 (dk_at dksX0_item_2 20 rfl rfl)
theorem dX0_item_68 : decode cX0_item 68 = .ok (.getfield 471, 3) := dk_180 1 215 (dk_at dksX0_item_3 0 rfl rfl)
theorem dX0_item_71 : decode cX0_item 71 = .ok (.astore 10, 2) := dk_58 10 (dk_at dksX0_item_3 3 rfl rfl)
theorem dX0_item_73 : decode cX0_item 73 = .ok (.aload 10, 2) := dk_25 10 (dk_at dksX0_item_3 5 rfl rfl)
theorem dX0_item_75 : decode cX0_item 75 = .ok (.instanceof 475, 3) := dk_193 1 219 (dk_at dksX0_item_3 7 rfl rfl)
theorem dX0_item_78 : decode cX0_item 78 = .ok (.ifCond .eq 20, 3) := dk_153 0 20 (dk_at dksX0_item_3 10 rfl rfl)
theorem dX0_item_81 : decode cX0_item 81 = .ok (.aload 10, 2) := dk_25 10 (dk_at dksX0_item_3 13 rfl rfl)
theorem dX0_item_83 : decode cX0_item 83 = .ok (.checkcast 475, 3) := dk_192 1 219 (dk_at dksX0_item_3 15 rfl rfl)
theorem dX0_item_86 : decode cX0_item 86 = .ok (.astore 7, 2) := dk_58 7 (dk_at dksX0_item_3 18 rfl rfl)
theorem dX0_item_88 : decode cX0_item 88 = .ok (.aload 7, 2) := dk_25 7 (dk_at dksX0_item_3 20 rfl rfl)
theorem dX0_item_90 : decode cX0_item 90 = .ok (.iload_n 2, 1) := dk_28 (dk_at dksX0_item_3 22 rfl rfl)
theorem dX0_item_91 : decode cX0_item 91 = .ok (.lload_n 3, 1) := dk_33 (dk_at dksX0_item_3 23 rfl rfl)
theorem dX0_item_92 : decode cX0_item 92 = .ok (.l2i, 1) := dk_136 (dk_at dksX0_item_4 0 rfl rfl)
theorem dX0_item_93 : decode cX0_item 93 = .ok (.i2s, 1) := dk_147 (dk_at dksX0_item_4 1 rfl rfl)
theorem dX0_item_94 : decode cX0_item 94 = .ok (.sastore, 1) := dk_86 (dk_at dksX0_item_4 2 rfl rfl)
theorem dX0_item_95 : decode cX0_item 95 = .ok (.goto 85, 3) := dk_167 0 85 (dk_at dksX0_item_4 3 rfl rfl)
theorem dX0_item_98 : decode cX0_item 98 = .ok (.aload 5, 2) := dk_25 5 (dk_at dksX0_item_4 6 rfl rfl)
theorem dX0_item_100 : decode cX0_item 100 = .ok (.getfield 471, 3) := dk_180 1 215 (dk_at dksX0_item_4 8 rfl rfl)
theorem dX0_item_103 : decode cX0_item 103 = .ok (.astore 10, 2) := dk_58 10 (dk_at dksX0_item_4 11 rfl rfl)
theorem dX0_item_105 : decode cX0_item 105 = .ok (.aload 10, 2) := dk_25 10 (dk_at dksX0_item_4 13 rfl rfl)
theorem dX0_item_107 : decode cX0_item 107 = .ok (.instanceof 492, 3) := dk_193 1 236 (dk_at dksX0_item_4 15 rfl rfl)
theorem dX0_item_110 : decode cX0_item 110 = .ok (.ifCond .eq 19, 3) := dk_153 0 19 (dk_at dksX0_item_4 18 rfl rfl)
theorem dX0_item_113 : decode cX0_item 113 = .ok (.aload 10, 2) := dk_25 10 (dk_at dksX0_item_4 21 rfl rfl)
theorem dX0_item_115 : decode cX0_item 115 = .ok (.checkcast 492, 3) := dk_192 1 236 (dk_at dksX0_item_5 0 rfl rfl)
theorem dX0_item_118 : decode cX0_item 118 = .ok (.astore 8, 2) := dk_58 8 (dk_at dksX0_item_5 3 rfl rfl)
theorem dX0_item_120 : decode cX0_item 120 = .ok (.aload 8, 2) := dk_25 8 (dk_at dksX0_item_5 5 rfl rfl)
theorem dX0_item_122 : decode cX0_item 122 = .ok (.iload_n 2, 1) := dk_28 (dk_at dksX0_item_5 7 rfl rfl)
theorem dX0_item_123 : decode cX0_item 123 = .ok (.lload_n 3, 1) := dk_33 (dk_at dksX0_item_5 8 rfl rfl)
theorem dX0_item_124 : decode cX0_item 124 = .ok (.l2i, 1) := dk_136 (dk_at dksX0_item_5 9 rfl rfl)
theorem dX0_item_125 : decode cX0_item 125 = .ok (.iastore, 1) := dk_79 (dk_at dksX0_item_5 10 rfl rfl)
theorem dX0_item_126 : decode cX0_item 126 = .ok (.goto 54, 3) := dk_167 0 54 (dk_at dksX0_item_5 11 rfl rfl)
theorem dX0_item_129 : decode cX0_item 129 = .ok (.aload 5, 2) := dk_25 5 (dk_at dksX0_item_5 14 rfl rfl)
theorem dX0_item_131 : decode cX0_item 131 = .ok (.getfield 471, 3) := dk_180 1 215 (dk_at dksX0_item_5 16 rfl rfl)
theorem dX0_item_134 : decode cX0_item 134 = .ok (.astore 10, 2) := dk_58 10 (dk_at dksX0_item_5 19 rfl rfl)
theorem dX0_item_136 : decode cX0_item 136 = .ok (.aload 10, 2) := dk_25 10 (dk_at dksX0_item_5 21 rfl rfl)
theorem dX0_item_138 : decode cX0_item 138 = .ok (.instanceof 493, 3) := dk_193 1 237 (dk_at dksX0_item_6 0 rfl rfl)
theorem dX0_item_141 : decode cX0_item 141 = .ok (.ifCond .eq 18, 3) := dk_153 0 18 (dk_at dksX0_item_6 3 rfl rfl)
theorem dX0_item_144 : decode cX0_item 144 = .ok (.aload 10, 2) := dk_25 10 (dk_at dksX0_item_6 6 rfl rfl)
theorem dX0_item_146 : decode cX0_item 146 = .ok (.checkcast 493, 3) := dk_192 1 237 (dk_at dksX0_item_6 8 rfl rfl)
theorem dX0_item_149 : decode cX0_item 149 = .ok (.astore 9, 2) := dk_58 9 (dk_at dksX0_item_6 11 rfl rfl)
theorem dX0_item_151 : decode cX0_item 151 = .ok (.aload 9, 2) := dk_25 9 (dk_at dksX0_item_6 13 rfl rfl)
theorem dX0_item_153 : decode cX0_item 153 = .ok (.iload_n 2, 1) := dk_28 (dk_at dksX0_item_6 15 rfl rfl)
theorem dX0_item_154 : decode cX0_item 154 = .ok (.lload_n 3, 1) := dk_33 (dk_at dksX0_item_6 16 rfl rfl)
theorem dX0_item_155 : decode cX0_item 155 = .ok (.lastore, 1) := dk_80 (dk_at dksX0_item_6 17 rfl rfl)
theorem dX0_item_156 : decode cX0_item 156 = .ok (.goto 24, 3) := dk_167 0 24 (dk_at dksX0_item_6 18 rfl rfl)
theorem dX0_item_159 : decode cX0_item 159 = .ok (.aload 5, 2) := dk_25 5 (dk_at dksX0_item_6 21 rfl rfl)
theorem dX0_item_161 : decode cX0_item 161 = .ok (.getfield 471, 3) := dk_180 1 215 (dk_at dksX0_item_7 0 rfl rfl)
theorem dX0_item_164 : decode cX0_item 164 = .ok (.checkcast 495, 3) := dk_192 1 239 (dk_at dksX0_item_7 3 rfl rfl)
theorem dX0_item_167 : decode cX0_item 167 = .ok (.iload_n 2, 1) := dk_28 (dk_at dksX0_item_7 6 rfl rfl)
theorem dX0_item_168 : decode cX0_item 168 = .ok (.lload_n 3, 1) := dk_33 (dk_at dksX0_item_7 7 rfl rfl)
theorem dX0_item_169 : decode cX0_item 169 = .ok (.lconst 0, 1) := dk_9 (dk_at dksX0_item_7 8 rfl rfl)
theorem dX0_item_170 : decode cX0_item 170 = .ok (.lcmp, 1) := dk_148 (dk_at dksX0_item_7 9 rfl rfl)
theorem dX0_item_171 : decode cX0_item 171 = .ok (.ifCond .eq 7, 3) := dk_153 0 7 (dk_at dksX0_item_7 10 rfl rfl)
theorem dX0_item_174 : decode cX0_item 174 = .ok (.iconst 1, 1) := dk_4 (dk_at dksX0_item_7 13 rfl rfl)
theorem dX0_item_175 : decode cX0_item 175 = .ok (.goto 4, 3) := dk_167 0 4 (dk_at dksX0_item_7 14 rfl rfl)
theorem dX0_item_178 : decode cX0_item 178 = .ok (.iconst 0, 1) := dk_3 (dk_at dksX0_item_7 17 rfl rfl)
theorem dX0_item_179 : decode cX0_item 179 = .ok (.bastore, 1) := dk_84 (dk_at dksX0_item_7 18 rfl rfl)
theorem dX0_item_180 : decode cX0_item 180 = .ok (.iconst 1, 1) := dk_4 (dk_at dksX0_item_7 19 rfl rfl)
theorem dX0_item_181 : decode cX0_item 181 = .ok (.ireturn, 1) := dk_172 (dk_at dksX0_item_7 20 rfl rfl)
abbrev cX0_read : ByteArray := prog_1_method_73_code
def yX0_read : MethodName := ⟨RX0, "read", "(II)J"⟩
def dkwX0_read_7 : List UInt8 := [192, 1, 239, 28, 51, 153, 0, 7, 10, 167, 0, 4, 9, 173]
abbrev dktX0_read_7 : List UInt8 := dkwX0_read_7 ++ []
def dkwX0_read_6 : List UInt8 := [193, 1, 237, 153, 0, 17, 25, 5, 192, 1, 237, 58, 4, 25, 4, 28, 47, 167, 0, 20, 45, 180, 1, 215]
abbrev dktX0_read_6 : List UInt8 := dkwX0_read_6 ++ dktX0_read_7
def dkwX0_read_5 : List UInt8 := [153, 0, 16, 25, 5, 192, 1, 236, 58, 4, 25, 4, 28, 46, 133, 173, 45, 180, 1, 215, 58, 5, 25, 5]
abbrev dktX0_read_5 : List UInt8 := dkwX0_read_5 ++ dktX0_read_6
def dkwX0_read_4 : List UInt8 := [192, 1, 219, 58, 4, 25, 4, 28, 53, 133, 173, 45, 180, 1, 215, 58, 5, 25, 5, 193, 1, 236]
abbrev dktX0_read_4 : List UInt8 := dkwX0_read_4 ++ dktX0_read_5
def dkwX0_read_3 : List UInt8 := [25, 4, 28, 51, 133, 173, 45, 180, 1, 215, 58, 5, 25, 5, 193, 1, 219, 153, 0, 16, 25, 5]
abbrev dktX0_read_3 : List UInt8 := dkwX0_read_3 ++ dktX0_read_4
def dkwX0_read_2 : List UInt8 := [27, 50, 78, 45, 180, 1, 215, 58, 5, 25, 5, 193, 1, 235, 153, 0, 16, 25, 5, 192, 1, 235, 58, 4]
abbrev dktX0_read_2 : List UInt8 := dkwX0_read_2 ++ dktX0_read_3
def dkwX0_read_1 : List UInt8 := [180, 0, 66, 27, 50, 182, 1, 241, 4, 100, 184, 0, 123, 154, 0, 7, 20, 1, 213, 173, 42, 180, 0, 66]
abbrev dktX0_read_1 : List UInt8 := dkwX0_read_1 ++ dktX0_read_2
def dkwX0_read_0 : List UInt8 := [27, 184, 1, 210, 153, 0, 34, 42, 180, 0, 66, 27, 50, 180, 1, 215, 198, 0, 22, 28, 3, 42]
abbrev dktX0_read_0 : List UInt8 := dkwX0_read_0 ++ dktX0_read_1
theorem dksX0_read_0 : cX0_read.data.toList.drop 0 = dktX0_read_0 := by decide +kernel
theorem dksX0_read_1 : cX0_read.data.toList.drop 22 = dktX0_read_1 := dk_seg dksX0_read_0 22 rfl rfl
theorem dksX0_read_2 : cX0_read.data.toList.drop 46 = dktX0_read_2 := dk_seg dksX0_read_1 24 rfl rfl
theorem dksX0_read_3 : cX0_read.data.toList.drop 70 = dktX0_read_3 := dk_seg dksX0_read_2 24 rfl rfl
theorem dksX0_read_4 : cX0_read.data.toList.drop 92 = dktX0_read_4 := dk_seg dksX0_read_3 22 rfl rfl
theorem dksX0_read_5 : cX0_read.data.toList.drop 114 = dktX0_read_5 := dk_seg dksX0_read_4 22 rfl rfl
theorem dksX0_read_6 : cX0_read.data.toList.drop 138 = dktX0_read_6 := dk_seg dksX0_read_5 24 rfl rfl
theorem dksX0_read_7 : cX0_read.data.toList.drop 162 = dktX0_read_7 := dk_seg dksX0_read_6 24 rfl rfl
theorem dX0_read_0 : decode cX0_read 0 = .ok (.iload_n 1, 1) := dk_27 (dk_at dksX0_read_0 0 rfl rfl)
theorem dX0_read_1 : decode cX0_read 1 = .ok (.invokestatic 466, 3) := dk_184 1 210 (dk_at dksX0_read_0 1 rfl rfl)
theorem dX0_read_4 : decode cX0_read 4 = .ok (.ifCond .eq 34, 3) := dk_153 0 34 (dk_at dksX0_read_0 4 rfl rfl)
theorem dX0_read_7 : decode cX0_read 7 = .ok (.aload_n 0, 1) := dk_42 (dk_at dksX0_read_0 7 rfl rfl)
theorem dX0_read_8 : decode cX0_read 8 = .ok (.getfield 66, 3) := dk_180 0 66 (dk_at dksX0_read_0 8 rfl rfl)
theorem dX0_read_11 : decode cX0_read 11 = .ok (.iload_n 1, 1) := dk_27 (dk_at dksX0_read_0 11 rfl rfl)
theorem dX0_read_12 : decode cX0_read 12 = .ok (.aaload, 1) := dk_50 (dk_at dksX0_read_0 12 rfl rfl)
theorem dX0_read_13 : decode cX0_read 13 = .ok (.getfield 471, 3) := dk_180 1 215 (dk_at dksX0_read_0 13 rfl rfl)
theorem dX0_read_16 : decode cX0_read 16 = .ok (.ifnull 22, 3) := dk_198 0 22 (dk_at dksX0_read_0 16 rfl rfl)
theorem dX0_read_19 : decode cX0_read 19 = .ok (.iload_n 2, 1) := dk_28 (dk_at dksX0_read_0 19 rfl rfl)
theorem dX0_read_20 : decode cX0_read 20 = .ok (.iconst 0, 1) := dk_3 (dk_at dksX0_read_0 20 rfl rfl)
theorem dX0_read_21 : decode cX0_read 21 = .ok (.aload_n 0, 1) := dk_42 (dk_at dksX0_read_0 21 rfl rfl)
theorem dX0_read_22 : decode cX0_read 22 = .ok (.getfield 66, 3) := dk_180 0 66 (dk_at dksX0_read_1 0 rfl rfl)
theorem dX0_read_25 : decode cX0_read 25 = .ok (.iload_n 1, 1) := dk_27 (dk_at dksX0_read_1 3 rfl rfl)
theorem dX0_read_26 : decode cX0_read 26 = .ok (.aaload, 1) := dk_50 (dk_at dksX0_read_1 4 rfl rfl)
theorem dX0_read_27 : decode cX0_read 27 = .ok (.invokevirtual 497, 3) := dk_182 1 241 (dk_at dksX0_read_1 5 rfl rfl)
theorem dX0_read_30 : decode cX0_read 30 = .ok (.iconst 1, 1) := dk_4 (dk_at dksX0_read_1 8 rfl rfl)
theorem dX0_read_31 : decode cX0_read 31 = .ok (.isub, 1) := dk_100 (dk_at dksX0_read_1 9 rfl rfl)
theorem dX0_read_32 : decode cX0_read 32 = .ok (.invokestatic 123, 3) := dk_184 0 123 (dk_at dksX0_read_1 10 rfl rfl)
theorem dX0_read_35 : decode cX0_read 35 = .ok (.ifCond .ne 7, 3) := dk_154 0 7 (dk_at dksX0_read_1 13 rfl rfl)
theorem dX0_read_38 : decode cX0_read 38 = .ok (.ldc2_w 469, 3) := dk_20 1 213 (dk_at dksX0_read_1 16 rfl rfl)
theorem dX0_read_41 : decode cX0_read 41 = .ok (.lreturn, 1) := dk_173 (dk_at dksX0_read_1 19 rfl rfl)
theorem dX0_read_42 : decode cX0_read 42 = .ok (.aload_n 0, 1) := dk_42 (dk_at dksX0_read_1 20 rfl rfl)
theorem dX0_read_43 : decode cX0_read 43 = .ok (.getfield 66, 3) := dk_180 0 66 (dk_at dksX0_read_1 21 rfl rfl)
theorem dX0_read_46 : decode cX0_read 46 = .ok (.iload_n 1, 1) := dk_27 (dk_at dksX0_read_2 0 rfl rfl)
theorem dX0_read_47 : decode cX0_read 47 = .ok (.aaload, 1) := dk_50 (dk_at dksX0_read_2 1 rfl rfl)
theorem dX0_read_48 : decode cX0_read 48 = .ok (.astore_n 3, 1) := dk_78 (dk_at dksX0_read_2 2 rfl rfl)
theorem dX0_read_49 : decode cX0_read 49 = .ok (.aload_n 3, 1) := dk_45 (dk_at dksX0_read_2 3 rfl rfl)
theorem dX0_read_50 : decode cX0_read 50 = .ok (.getfield 471, 3) := dk_180 1 215 (dk_at dksX0_read_2 4 rfl rfl)
theorem dX0_read_53 : decode cX0_read 53 = .ok (.astore 5, 2) := dk_58 5 (dk_at dksX0_read_2 7 rfl rfl)
theorem dX0_read_55 : decode cX0_read 55 = .ok (.aload 5, 2) := dk_25 5 (dk_at dksX0_read_2 9 rfl rfl)
theorem dX0_read_57 : decode cX0_read 57 = .ok (.instanceof 491, 3) := dk_193 1 235 (dk_at dksX0_read_2 11 rfl rfl)
theorem dX0_read_60 : decode cX0_read 60 = .ok (.ifCond .eq 16, 3) := dk_153 0 16 (dk_at dksX0_read_2 14 rfl rfl)
theorem dX0_read_63 : decode cX0_read 63 = .ok (.aload 5, 2) := dk_25 5 (dk_at dksX0_read_2 17 rfl rfl)
theorem dX0_read_65 : decode cX0_read 65 = .ok (.checkcast 491, 3) := dk_192 1 235 (dk_at dksX0_read_2 19 rfl rfl)
theorem dX0_read_68 : decode cX0_read 68 = .ok (.astore 4, 2) := dk_58 4 (dk_at dksX0_read_2 22 rfl rfl)
theorem dX0_read_70 : decode cX0_read 70 = .ok (.aload 4, 2) := dk_25 4 (dk_at dksX0_read_3 0 rfl rfl)
theorem dX0_read_72 : decode cX0_read 72 = .ok (.iload_n 2, 1) := dk_28 (dk_at dksX0_read_3 2 rfl rfl)
theorem dX0_read_73 : decode cX0_read 73 = .ok (.baload, 1) := dk_51 (dk_at dksX0_read_3 3 rfl rfl)
theorem dX0_read_74 : decode cX0_read 74 = .ok (.i2l, 1) := dk_133 (dk_at dksX0_read_3 4 rfl rfl)
theorem dX0_read_75 : decode cX0_read 75 = .ok (.lreturn, 1) := dk_173 (dk_at dksX0_read_3 5 rfl rfl)
theorem dX0_read_76 : decode cX0_read 76 = .ok (.aload_n 3, 1) := dk_45 (dk_at dksX0_read_3 6 rfl rfl)
theorem dX0_read_77 : decode cX0_read 77 = .ok (.getfield 471, 3) := dk_180 1 215 (dk_at dksX0_read_3 7 rfl rfl)
theorem dX0_read_80 : decode cX0_read 80 = .ok (.astore 5, 2) := dk_58 5 (dk_at dksX0_read_3 10 rfl rfl)
theorem dX0_read_82 : decode cX0_read 82 = .ok (.aload 5, 2) := dk_25 5 (dk_at dksX0_read_3 12 rfl rfl)
theorem dX0_read_84 : decode cX0_read 84 = .ok (.instanceof 475, 3) := dk_193 1 219 (dk_at dksX0_read_3 14 rfl rfl)
theorem dX0_read_87 : decode cX0_read 87 = .ok (.ifCond .eq 16, 3) := dk_153 0 16 (dk_at dksX0_read_3 17 rfl rfl)
theorem dX0_read_90 : decode cX0_read 90 = .ok (.aload 5, 2) := dk_25 5 (dk_at dksX0_read_3 20 rfl rfl)
theorem dX0_read_92 : decode cX0_read 92 = .ok (.checkcast 475, 3) := dk_192 1 219 (dk_at dksX0_read_4 0 rfl rfl)
theorem dX0_read_95 : decode cX0_read 95 = .ok (.astore 4, 2) := dk_58 4 (dk_at dksX0_read_4 3 rfl rfl)
theorem dX0_read_97 : decode cX0_read 97 = .ok (.aload 4, 2) := dk_25 4 (dk_at dksX0_read_4 5 rfl rfl)
theorem dX0_read_99 : decode cX0_read 99 = .ok (.iload_n 2, 1) := dk_28 (dk_at dksX0_read_4 7 rfl rfl)
theorem dX0_read_100 : decode cX0_read 100 = .ok (.saload, 1) := dk_53 (dk_at dksX0_read_4 8 rfl rfl)
theorem dX0_read_101 : decode cX0_read 101 = .ok (.i2l, 1) := dk_133 (dk_at dksX0_read_4 9 rfl rfl)
theorem dX0_read_102 : decode cX0_read 102 = .ok (.lreturn, 1) := dk_173 (dk_at dksX0_read_4 10 rfl rfl)
theorem dX0_read_103 : decode cX0_read 103 = .ok (.aload_n 3, 1) := dk_45 (dk_at dksX0_read_4 11 rfl rfl)
theorem dX0_read_104 : decode cX0_read 104 = .ok (.getfield 471, 3) := dk_180 1 215 (dk_at dksX0_read_4 12 rfl rfl)
theorem dX0_read_107 : decode cX0_read 107 = .ok (.astore 5, 2) := dk_58 5 (dk_at dksX0_read_4 15 rfl rfl)
theorem dX0_read_109 : decode cX0_read 109 = .ok (.aload 5, 2) := dk_25 5 (dk_at dksX0_read_4 17 rfl rfl)
theorem dX0_read_111 : decode cX0_read 111 = .ok (.instanceof 492, 3) := dk_193 1 236 (dk_at dksX0_read_4 19 rfl rfl)
theorem dX0_read_114 : decode cX0_read 114 = .ok (.ifCond .eq 16, 3) := dk_153 0 16 (dk_at dksX0_read_5 0 rfl rfl)
theorem dX0_read_117 : decode cX0_read 117 = .ok (.aload 5, 2) := dk_25 5 (dk_at dksX0_read_5 3 rfl rfl)
theorem dX0_read_119 : decode cX0_read 119 = .ok (.checkcast 492, 3) := dk_192 1 236 (dk_at dksX0_read_5 5 rfl rfl)
theorem dX0_read_122 : decode cX0_read 122 = .ok (.astore 4, 2) := dk_58 4 (dk_at dksX0_read_5 8 rfl rfl)
theorem dX0_read_124 : decode cX0_read 124 = .ok (.aload 4, 2) := dk_25 4 (dk_at dksX0_read_5 10 rfl rfl)
theorem dX0_read_126 : decode cX0_read 126 = .ok (.iload_n 2, 1) := dk_28 (dk_at dksX0_read_5 12 rfl rfl)
theorem dX0_read_127 : decode cX0_read 127 = .ok (.iaload, 1) := dk_46 (dk_at dksX0_read_5 13 rfl rfl)
theorem dX0_read_128 : decode cX0_read 128 = .ok (.i2l, 1) := dk_133 (dk_at dksX0_read_5 14 rfl rfl)
theorem dX0_read_129 : decode cX0_read 129 = .ok (.lreturn, 1) := dk_173 (dk_at dksX0_read_5 15 rfl rfl)
theorem dX0_read_130 : decode cX0_read 130 = .ok (.aload_n 3, 1) := dk_45 (dk_at dksX0_read_5 16 rfl rfl)
theorem dX0_read_131 : decode cX0_read 131 = .ok (.getfield 471, 3) := dk_180 1 215 (dk_at dksX0_read_5 17 rfl rfl)
theorem dX0_read_134 : decode cX0_read 134 = .ok (.astore 5, 2) := dk_58 5 (dk_at dksX0_read_5 20 rfl rfl)
theorem dX0_read_136 : decode cX0_read 136 = .ok (.aload 5, 2) := dk_25 5 (dk_at dksX0_read_5 22 rfl rfl)
theorem dX0_read_138 : decode cX0_read 138 = .ok (.instanceof 493, 3) := dk_193 1 237 (dk_at dksX0_read_6 0 rfl rfl)
theorem dX0_read_141 : decode cX0_read 141 = .ok (.ifCond .eq 17, 3) := dk_153 0 17 (dk_at dksX0_read_6 3 rfl rfl)
theorem dX0_read_144 : decode cX0_read 144 = .ok (.aload 5, 2) := dk_25 5 (dk_at dksX0_read_6 6 rfl rfl)
theorem dX0_read_146 : decode cX0_read 146 = .ok (.checkcast 493, 3) := dk_192 1 237 (dk_at dksX0_read_6 8 rfl rfl)
theorem dX0_read_149 : decode cX0_read 149 = .ok (.astore 4, 2) := dk_58 4 (dk_at dksX0_read_6 11 rfl rfl)
theorem dX0_read_151 : decode cX0_read 151 = .ok (.aload 4, 2) := dk_25 4 (dk_at dksX0_read_6 13 rfl rfl)
theorem dX0_read_153 : decode cX0_read 153 = .ok (.iload_n 2, 1) := dk_28 (dk_at dksX0_read_6 15 rfl rfl)
theorem dX0_read_154 : decode cX0_read 154 = .ok (.laload, 1) := dk_47 (dk_at dksX0_read_6 16 rfl rfl)
theorem dX0_read_155 : decode cX0_read 155 = .ok (.goto 20, 3) := dk_167 0 20 (dk_at dksX0_read_6 17 rfl rfl)
theorem dX0_read_158 : decode cX0_read 158 = .ok (.aload_n 3, 1) := dk_45 (dk_at dksX0_read_6 20 rfl rfl)
theorem dX0_read_159 : decode cX0_read 159 = .ok (.getfield 471, 3) := dk_180 1 215 (dk_at dksX0_read_6 21 rfl rfl)
theorem dX0_read_162 : decode cX0_read 162 = .ok (.checkcast 495, 3) := dk_192 1 239 (dk_at dksX0_read_7 0 rfl rfl)
theorem dX0_read_165 : decode cX0_read 165 = .ok (.iload_n 2, 1) := dk_28 (dk_at dksX0_read_7 3 rfl rfl)
theorem dX0_read_166 : decode cX0_read 166 = .ok (.baload, 1) := dk_51 (dk_at dksX0_read_7 4 rfl rfl)
theorem dX0_read_167 : decode cX0_read 167 = .ok (.ifCond .eq 7, 3) := dk_153 0 7 (dk_at dksX0_read_7 5 rfl rfl)
theorem dX0_read_170 : decode cX0_read 170 = .ok (.lconst 1, 1) := dk_10 (dk_at dksX0_read_7 8 rfl rfl)
theorem dX0_read_171 : decode cX0_read 171 = .ok (.goto 4, 3) := dk_167 0 4 (dk_at dksX0_read_7 9 rfl rfl)
theorem dX0_read_174 : decode cX0_read 174 = .ok (.lconst 0, 1) := dk_9 (dk_at dksX0_read_7 12 rfl rfl)
theorem dX0_read_175 : decode cX0_read 175 = .ok (.lreturn, 1) := dk_173 (dk_at dksX0_read_7 13 rfl rfl)
abbrev cX0_shift : ByteArray := prog_1_method_74_code
def yX0_shift : MethodName := ⟨RX0, "shift", "(IIIII)I"⟩
def dkwX0_shift_2 : List UInt8 := [58, 6, 16, 245, 172, 58, 6, 16, 244, 172, 58, 6, 16, 243, 172]
abbrev dktX0_shift_2 : List UInt8 := dkwX0_shift_2 ++ []
def dkwX0_shift_1 : List UInt8 := [180, 1, 215, 28, 42, 180, 0, 66, 29, 50, 180, 1, 215, 21, 4, 21, 5, 184, 1, 242, 21, 5, 172]
abbrev dktX0_shift_1 : List UInt8 := dkwX0_shift_1 ++ dktX0_shift_2
def dkwX0_shift_0 : List UInt8 := [27, 184, 1, 210, 153, 0, 10, 29, 184, 1, 210, 154, 0, 5, 2, 172, 42, 180, 0, 66, 27, 50]
abbrev dktX0_shift_0 : List UInt8 := dkwX0_shift_0 ++ dktX0_shift_1
theorem dksX0_shift_0 : cX0_shift.data.toList.drop 0 = dktX0_shift_0 := by decide +kernel
theorem dksX0_shift_1 : cX0_shift.data.toList.drop 22 = dktX0_shift_1 := dk_seg dksX0_shift_0 22 rfl rfl
theorem dksX0_shift_2 : cX0_shift.data.toList.drop 45 = dktX0_shift_2 := dk_seg dksX0_shift_1 23 rfl rfl
theorem dX0_shift_0 : decode cX0_shift 0 = .ok (.iload_n 1, 1) := dk_27 (dk_at dksX0_shift_0 0 rfl rfl)
theorem dX0_shift_1 : decode cX0_shift 1 = .ok (.invokestatic 466, 3) := dk_184 1 210 (dk_at dksX0_shift_0 1 rfl rfl)
theorem dX0_shift_4 : decode cX0_shift 4 = .ok (.ifCond .eq 10, 3) := dk_153 0 10 (dk_at dksX0_shift_0 4 rfl rfl)
theorem dX0_shift_7 : decode cX0_shift 7 = .ok (.iload_n 3, 1) := dk_29 (dk_at dksX0_shift_0 7 rfl rfl)
theorem dX0_shift_8 : decode cX0_shift 8 = .ok (.invokestatic 466, 3) := dk_184 1 210 (dk_at dksX0_shift_0 8 rfl rfl)
theorem dX0_shift_11 : decode cX0_shift 11 = .ok (.ifCond .ne 5, 3) := dk_154 0 5 (dk_at dksX0_shift_0 11 rfl rfl)
theorem dX0_shift_14 : decode cX0_shift 14 = .ok (.iconst (-1), 1) := dk_2 (dk_at dksX0_shift_0 14 rfl rfl)
theorem dX0_shift_15 : decode cX0_shift 15 = .ok (.ireturn, 1) := dk_172 (dk_at dksX0_shift_0 15 rfl rfl)
theorem dX0_shift_16 : decode cX0_shift 16 = .ok (.aload_n 0, 1) := dk_42 (dk_at dksX0_shift_0 16 rfl rfl)
theorem dX0_shift_17 : decode cX0_shift 17 = .ok (.getfield 66, 3) := dk_180 0 66 (dk_at dksX0_shift_0 17 rfl rfl)
theorem dX0_shift_20 : decode cX0_shift 20 = .ok (.iload_n 1, 1) := dk_27 (dk_at dksX0_shift_0 20 rfl rfl)
theorem dX0_shift_21 : decode cX0_shift 21 = .ok (.aaload, 1) := dk_50 (dk_at dksX0_shift_0 21 rfl rfl)
theorem dX0_shift_22 : decode cX0_shift 22 = .ok (.getfield 471, 3) := dk_180 1 215 (dk_at dksX0_shift_1 0 rfl rfl)
theorem dX0_shift_25 : decode cX0_shift 25 = .ok (.iload_n 2, 1) := dk_28 (dk_at dksX0_shift_1 3 rfl rfl)
theorem dX0_shift_26 : decode cX0_shift 26 = .ok (.aload_n 0, 1) := dk_42 (dk_at dksX0_shift_1 4 rfl rfl)
theorem dX0_shift_27 : decode cX0_shift 27 = .ok (.getfield 66, 3) := dk_180 0 66 (dk_at dksX0_shift_1 5 rfl rfl)
theorem dX0_shift_30 : decode cX0_shift 30 = .ok (.iload_n 3, 1) := dk_29 (dk_at dksX0_shift_1 8 rfl rfl)
theorem dX0_shift_31 : decode cX0_shift 31 = .ok (.aaload, 1) := dk_50 (dk_at dksX0_shift_1 9 rfl rfl)
theorem dX0_shift_32 : decode cX0_shift 32 = .ok (.getfield 471, 3) := dk_180 1 215 (dk_at dksX0_shift_1 10 rfl rfl)
theorem dX0_shift_35 : decode cX0_shift 35 = .ok (.iload 4, 2) := dk_21 4 (dk_at dksX0_shift_1 13 rfl rfl)
theorem dX0_shift_37 : decode cX0_shift 37 = .ok (.iload 5, 2) := dk_21 5 (dk_at dksX0_shift_1 15 rfl rfl)
theorem dX0_shift_39 : decode cX0_shift 39 = .ok (.invokestatic 498, 3) := dk_184 1 242 (dk_at dksX0_shift_1 17 rfl rfl)
theorem dX0_shift_42 : decode cX0_shift 42 = .ok (.iload 5, 2) := dk_21 5 (dk_at dksX0_shift_1 20 rfl rfl)
theorem dX0_shift_44 : decode cX0_shift 44 = .ok (.ireturn, 1) := dk_172 (dk_at dksX0_shift_1 22 rfl rfl)
theorem dX0_shift_45 : decode cX0_shift 45 = .ok (.astore 6, 2) := dk_58 6 (dk_at dksX0_shift_2 0 rfl rfl)
theorem dX0_shift_47 : decode cX0_shift 47 = .ok (.bipush (-11), 2) := dk_16 245 (dk_at dksX0_shift_2 2 rfl rfl)
theorem dX0_shift_49 : decode cX0_shift 49 = .ok (.ireturn, 1) := dk_172 (dk_at dksX0_shift_2 4 rfl rfl)
theorem dX0_shift_50 : decode cX0_shift 50 = .ok (.astore 6, 2) := dk_58 6 (dk_at dksX0_shift_2 5 rfl rfl)
theorem dX0_shift_52 : decode cX0_shift 52 = .ok (.bipush (-12), 2) := dk_16 244 (dk_at dksX0_shift_2 7 rfl rfl)
theorem dX0_shift_54 : decode cX0_shift 54 = .ok (.ireturn, 1) := dk_172 (dk_at dksX0_shift_2 9 rfl rfl)
theorem dX0_shift_55 : decode cX0_shift 55 = .ok (.astore 6, 2) := dk_58 6 (dk_at dksX0_shift_2 10 rfl rfl)
theorem dX0_shift_57 : decode cX0_shift 57 = .ok (.bipush (-13), 2) := dk_16 243 (dk_at dksX0_shift_2 12 rfl rfl)
theorem dX0_shift_59 : decode cX0_shift 59 = .ok (.ireturn, 1) := dk_172 (dk_at dksX0_shift_2 14 rfl rfl)
theorem q100 : (Jvm.Cond.initialized "BarredBooks") ∈ lw_all := lw_g (lw_at lw_m1 1 rfl) rfl
theorem q151 : (Jvm.Cond.instantiable "BarredBooks" (40 : Nat)) ∈ lw_all := lw_g (lw_at lw_m1 52 rfl) rfl
theorem q153 : (Jvm.Cond.instanceMethod ({ cls := "BarredBooks", name := "<init>", desc := "()V" } : Jvm.MethodName)) ∈ lw_all := lw_g (lw_at lw_m1 54 rfl) rfl
theorem q154 : (Jvm.Cond.code ({ cls := "BarredBooks", name := "<init>", desc := "()V" } : Jvm.MethodName) prog_1_method_2_code (3 : Nat) (Option.none : Option Jvm.ClassFile.FieldType)) ∈ lw_all := lw_g (lw_at lw_m1 55 rfl) rfl
theorem q155 : (Jvm.Cond.methodLink "BarredBooks" (3 : Nat) ({ cls := "java/lang/Object", name := "<init>", desc := "()V" } : Jvm.MethodName)) ∈ lw_all := lw_g (lw_at lw_m1 56 rfl) rfl
theorem q158 : (Jvm.Cond.classLink "BarredBooks" (11 : Nat) "[[I") ∈ lw_all := lw_g (lw_at lw_m1 59 rfl) rfl
theorem q160 : (Jvm.Cond.classLink "BarredBooks" (16 : Nat) "BarredBooks$Person") ∈ lw_all := lw_g (lw_at lw_m1 61 rfl) rfl
theorem q162 : (Jvm.Cond.classLink "BarredBooks" (22 : Nat) "BarredBooks$Book") ∈ lw_all := lw_g (lw_at lw_m1 63 rfl) rfl
theorem q164 : (Jvm.Cond.classLink "BarredBooks" (28 : Nat) "BarredBooks$Edition") ∈ lw_all := lw_g (lw_at lw_m1 65 rfl) rfl
theorem q166 : (Jvm.Cond.classLink "BarredBooks" (34 : Nat) "BarredBooks$Card") ∈ lw_all := lw_g (lw_at lw_m1 67 rfl) rfl
theorem q168 : (Jvm.Cond.classLink "BarredBooks" (40 : Nat) "BarredBooks$Trace") ∈ lw_all := lw_g (lw_at lw_m1 69 rfl) rfl
theorem q170 : (Jvm.Cond.methodLinkNest "BarredBooks" (42 : Nat) ({ cls := "BarredBooks$Trace", name := "<init>", desc := "()V" } : Jvm.MethodName) "BarredBooks") ∈ lw_tbl := lw_at lw_m1 71 rfl
theorem q175 : (Jvm.Cond.fieldLinkNest "BarredBooks" (253 : Nat) "BarredBooks$Trace" "bodies" "[I" "BarredBooks") ∈ lw_tbl := lw_at lw_m1 76 rfl
theorem q177 : (Jvm.Cond.fieldLinkNest "BarredBooks" (240 : Nat) "BarredBooks$Trace" "count" "I" "BarredBooks") ∈ lw_tbl := lw_at lw_m1 78 rfl
theorem q184 : (Jvm.Cond.classLink "BarredBooks" (51 : Nat) "BarredBooks$Decree") ∈ lw_all := lw_g (lw_at lw_m1 85 rfl) rfl
theorem q186 : (Jvm.Cond.classLink "BarredBooks" (57 : Nat) "BarredBooks$Look") ∈ lw_all := lw_g (lw_at lw_m1 87 rfl) rfl
theorem q188 : (Jvm.Cond.methodLinkNest "BarredBooks" (59 : Nat) ({ cls := "BarredBooks$Look", name := "<init>", desc := "()V" } : Jvm.MethodName) "BarredBooks") ∈ lw_tbl := lw_at lw_m1 89 rfl
theorem q194 : (Jvm.Cond.fieldLinkNest "BarredBooks" (308 : Nat) "BarredBooks$Look" "edition" "LBarredBooks$Edition;" "BarredBooks") ∈ lw_tbl := lw_at lw_m1 95 rfl
theorem q196 : (Jvm.Cond.fieldLinkNest "BarredBooks" (312 : Nat) "BarredBooks$Look" "line" "I" "BarredBooks") ∈ lw_tbl := lw_at lw_m1 97 rfl
theorem q203 : (Jvm.Cond.classLink "BarredBooks" (64 : Nat) "BarredBooks$Tape") ∈ lw_all := lw_g (lw_at lw_m1 104 rfl) rfl
theorem q205 : (Jvm.Cond.classLink "BarredBooks" (83 : Nat) "BarredBooks$Slip") ∈ lw_all := lw_g (lw_at lw_m1 106 rfl) rfl
theorem q207 : (Jvm.Cond.classLink "BarredBooks" (98 : Nat) "BarredBooks$Clause") ∈ lw_all := lw_g (lw_at lw_m1 108 rfl) rfl
theorem q210 : (Jvm.Cond.methodLinkNest "BarredBooks" (122 : Nat) ({ cls := "BarredBooks$Tape", name := "<init>", desc := "()V" } : Jvm.MethodName) "BarredBooks") ∈ lw_tbl := lw_at lw_m1 111 rfl
theorem q215 : (Jvm.Cond.fieldLinkNest "BarredBooks" (471 : Nat) "BarredBooks$Tape" "row" "Ljava/lang/Object;" "BarredBooks") ∈ lw_tbl := lw_at lw_m1 116 rfl
theorem q219 : (Jvm.Cond.fieldLink "BarredBooks" (134 : Nat) "BarredBooks" "today" "I") ∈ lw_all := lw_g (lw_at lw_m1 120 rfl) rfl
theorem q220 : (Jvm.Cond.fieldLink "BarredBooks" (13 : Nat) "BarredBooks" "way" "[[I") ∈ lw_all := lw_g (lw_at lw_m1 121 rfl) rfl
theorem q221 : (Jvm.Cond.fieldLink "BarredBooks" (18 : Nat) "BarredBooks" "persons" "[LBarredBooks$Person;") ∈ lw_all := lw_g (lw_at lw_m1 122 rfl) rfl
theorem q222 : (Jvm.Cond.fieldLink "BarredBooks" (147 : Nat) "BarredBooks" "personMany" "I") ∈ lw_all := lw_g (lw_at lw_m1 123 rfl) rfl
theorem q223 : (Jvm.Cond.fieldLink "BarredBooks" (24 : Nat) "BarredBooks" "books" "[LBarredBooks$Book;") ∈ lw_all := lw_g (lw_at lw_m1 124 rfl) rfl
theorem q224 : (Jvm.Cond.fieldLink "BarredBooks" (131 : Nat) "BarredBooks" "bookMany" "I") ∈ lw_all := lw_g (lw_at lw_m1 125 rfl) rfl
theorem q225 : (Jvm.Cond.fieldLink "BarredBooks" (30 : Nat) "BarredBooks" "editions" "[LBarredBooks$Edition;") ∈ lw_all := lw_g (lw_at lw_m1 126 rfl) rfl
theorem q226 : (Jvm.Cond.fieldLink "BarredBooks" (127 : Nat) "BarredBooks" "editionMany" "I") ∈ lw_all := lw_g (lw_at lw_m1 127 rfl) rfl
theorem q227 : (Jvm.Cond.fieldLink "BarredBooks" (36 : Nat) "BarredBooks" "cards" "[LBarredBooks$Card;") ∈ lw_all := lw_g (lw_at lw_m1 128 rfl) rfl
theorem q228 : (Jvm.Cond.fieldLink "BarredBooks" (195 : Nat) "BarredBooks" "cardMany" "I") ∈ lw_all := lw_g (lw_at lw_m1 129 rfl) rfl
theorem q229 : (Jvm.Cond.fieldLink "BarredBooks" (43 : Nat) "BarredBooks" "trace" "LBarredBooks$Trace;") ∈ lw_all := lw_g (lw_at lw_m1 130 rfl) rfl
theorem q230 : (Jvm.Cond.fieldLink "BarredBooks" (47 : Nat) "BarredBooks" "text" "[B") ∈ lw_all := lw_g (lw_at lw_m1 131 rfl) rfl
theorem q231 : (Jvm.Cond.fieldLink "BarredBooks" (262 : Nat) "BarredBooks" "texted" "I") ∈ lw_all := lw_g (lw_at lw_m1 132 rfl) rfl
theorem q232 : (Jvm.Cond.fieldLink "BarredBooks" (53 : Nat) "BarredBooks" "decrees" "[LBarredBooks$Decree;") ∈ lw_all := lw_g (lw_at lw_m1 133 rfl) rfl
theorem q233 : (Jvm.Cond.fieldLink "BarredBooks" (274 : Nat) "BarredBooks" "decreeMany" "I") ∈ lw_all := lw_g (lw_at lw_m1 134 rfl) rfl
theorem q234 : (Jvm.Cond.fieldLink "BarredBooks" (60 : Nat) "BarredBooks" "look" "LBarredBooks$Look;") ∈ lw_all := lw_g (lw_at lw_m1 135 rfl) rfl
theorem q235 : (Jvm.Cond.fieldLink "BarredBooks" (66 : Nat) "BarredBooks" "tapes" "[LBarredBooks$Tape;") ∈ lw_all := lw_g (lw_at lw_m1 136 rfl) rfl
theorem q236 : (Jvm.Cond.fieldLink "BarredBooks" (70 : Nat) "BarredBooks" "leavePerson" "[I") ∈ lw_all := lw_g (lw_at lw_m1 137 rfl) rfl
theorem q237 : (Jvm.Cond.fieldLink "BarredBooks" (74 : Nat) "BarredBooks" "leaveBook" "[I") ∈ lw_all := lw_g (lw_at lw_m1 138 rfl) rfl
theorem q238 : (Jvm.Cond.fieldLink "BarredBooks" (77 : Nat) "BarredBooks" "leaveFrom" "[I") ∈ lw_all := lw_g (lw_at lw_m1 139 rfl) rfl
theorem q239 : (Jvm.Cond.fieldLink "BarredBooks" (80 : Nat) "BarredBooks" "leaveTo" "[I") ∈ lw_all := lw_g (lw_at lw_m1 140 rfl) rfl
theorem q240 : (Jvm.Cond.fieldLink "BarredBooks" (335 : Nat) "BarredBooks" "leaveMany" "I") ∈ lw_all := lw_g (lw_at lw_m1 141 rfl) rfl
theorem q241 : (Jvm.Cond.fieldLink "BarredBooks" (85 : Nat) "BarredBooks" "slips" "[LBarredBooks$Slip;") ∈ lw_all := lw_g (lw_at lw_m1 142 rfl) rfl
theorem q242 : (Jvm.Cond.fieldLink "BarredBooks" (361 : Nat) "BarredBooks" "slipMany" "I") ∈ lw_all := lw_g (lw_at lw_m1 143 rfl) rfl
theorem q243 : (Jvm.Cond.fieldLink "BarredBooks" (89 : Nat) "BarredBooks" "reader" "[I") ∈ lw_all := lw_g (lw_at lw_m1 144 rfl) rfl
theorem q244 : (Jvm.Cond.fieldLink "BarredBooks" (92 : Nat) "BarredBooks" "found" "[[I") ∈ lw_all := lw_g (lw_at lw_m1 145 rfl) rfl
theorem q245 : (Jvm.Cond.fieldLink "BarredBooks" (95 : Nat) "BarredBooks" "most" "[[I") ∈ lw_all := lw_g (lw_at lw_m1 146 rfl) rfl
theorem q246 : (Jvm.Cond.fieldLink "BarredBooks" (100 : Nat) "BarredBooks" "choices" "[LBarredBooks$Clause;") ∈ lw_all := lw_g (lw_at lw_m1 147 rfl) rfl
theorem q247 : (Jvm.Cond.fieldLink "BarredBooks" (415 : Nat) "BarredBooks" "choiceMany" "I") ∈ lw_all := lw_g (lw_at lw_m1 148 rfl) rfl
theorem q248 : (Jvm.Cond.fieldLink "BarredBooks" (104 : Nat) "BarredBooks" "aimEdition" "[I") ∈ lw_all := lw_g (lw_at lw_m1 149 rfl) rfl
theorem q249 : (Jvm.Cond.fieldLink "BarredBooks" (107 : Nat) "BarredBooks" "aimLine" "[I") ∈ lw_all := lw_g (lw_at lw_m1 150 rfl) rfl
theorem q250 : (Jvm.Cond.fieldLink "BarredBooks" (422 : Nat) "BarredBooks" "aimMany" "I") ∈ lw_all := lw_g (lw_at lw_m1 151 rfl) rfl
theorem q251 : (Jvm.Cond.fieldLink "BarredBooks" (429 : Nat) "BarredBooks" "metAims" "I") ∈ lw_all := lw_g (lw_at lw_m1 152 rfl) rfl
theorem q252 : (Jvm.Cond.fieldLink "BarredBooks" (432 : Nat) "BarredBooks" "loss" "I") ∈ lw_all := lw_g (lw_at lw_m1 153 rfl) rfl
theorem q253 : (Jvm.Cond.fieldLink "BarredBooks" (110 : Nat) "BarredBooks" "copies" "[LBarredBooks$Edition;") ∈ lw_all := lw_g (lw_at lw_m1 154 rfl) rfl
theorem q254 : (Jvm.Cond.fieldLink "BarredBooks" (441 : Nat) "BarredBooks" "copyMany" "I") ∈ lw_all := lw_g (lw_at lw_m1 155 rfl) rfl
theorem q255 : (Jvm.Cond.fieldLink "BarredBooks" (113 : Nat) "BarredBooks" "entryCopy" "[I") ∈ lw_all := lw_g (lw_at lw_m1 156 rfl) rfl
theorem q256 : (Jvm.Cond.fieldLink "BarredBooks" (116 : Nat) "BarredBooks" "entrySpot" "[I") ∈ lw_all := lw_g (lw_at lw_m1 157 rfl) rfl
theorem q257 : (Jvm.Cond.fieldLink "BarredBooks" (119 : Nat) "BarredBooks" "entryDay" "[I") ∈ lw_all := lw_g (lw_at lw_m1 158 rfl) rfl
theorem q258 : (Jvm.Cond.fieldLink "BarredBooks" (444 : Nat) "BarredBooks" "entries" "I") ∈ lw_all := lw_g (lw_at lw_m1 159 rfl) rfl
theorem q259 : (Jvm.Cond.lays "BarredBooks" "BarredBooks" "today" "I") ∈ lw_all := lw_g (lw_at lw_m1 160 rfl) rfl
theorem q260 : (Jvm.Cond.soleField "BarredBooks" "today") ∈ lw_all := lw_g (lw_at lw_m1 161 rfl) rfl
theorem q261 : (Jvm.Cond.laysFinal "BarredBooks" "BarredBooks" "way" "[[I") ∈ lw_all := lw_g (lw_at lw_m1 162 rfl) rfl
theorem q262 : (Jvm.Cond.soleField "BarredBooks" "way") ∈ lw_all := lw_g (lw_at lw_m1 163 rfl) rfl
theorem q263 : (Jvm.Cond.laysFinal "BarredBooks" "BarredBooks" "persons" "[LBarredBooks$Person;") ∈ lw_all := lw_g (lw_at lw_m1 164 rfl) rfl
theorem q264 : (Jvm.Cond.soleField "BarredBooks" "persons") ∈ lw_all := lw_g (lw_at lw_m1 165 rfl) rfl
theorem q265 : (Jvm.Cond.lays "BarredBooks" "BarredBooks" "personMany" "I") ∈ lw_all := lw_g (lw_at lw_m1 166 rfl) rfl
theorem q266 : (Jvm.Cond.soleField "BarredBooks" "personMany") ∈ lw_all := lw_g (lw_at lw_m1 167 rfl) rfl
theorem q267 : (Jvm.Cond.laysFinal "BarredBooks" "BarredBooks" "books" "[LBarredBooks$Book;") ∈ lw_all := lw_g (lw_at lw_m1 168 rfl) rfl
theorem q268 : (Jvm.Cond.soleField "BarredBooks" "books") ∈ lw_all := lw_g (lw_at lw_m1 169 rfl) rfl
theorem q269 : (Jvm.Cond.lays "BarredBooks" "BarredBooks" "bookMany" "I") ∈ lw_all := lw_g (lw_at lw_m1 170 rfl) rfl
theorem q270 : (Jvm.Cond.soleField "BarredBooks" "bookMany") ∈ lw_all := lw_g (lw_at lw_m1 171 rfl) rfl
theorem q271 : (Jvm.Cond.laysFinal "BarredBooks" "BarredBooks" "editions" "[LBarredBooks$Edition;") ∈ lw_all := lw_g (lw_at lw_m1 172 rfl) rfl
theorem q272 : (Jvm.Cond.soleField "BarredBooks" "editions") ∈ lw_all := lw_g (lw_at lw_m1 173 rfl) rfl
theorem q273 : (Jvm.Cond.lays "BarredBooks" "BarredBooks" "editionMany" "I") ∈ lw_all := lw_g (lw_at lw_m1 174 rfl) rfl
theorem q274 : (Jvm.Cond.soleField "BarredBooks" "editionMany") ∈ lw_all := lw_g (lw_at lw_m1 175 rfl) rfl
theorem q275 : (Jvm.Cond.laysFinal "BarredBooks" "BarredBooks" "cards" "[LBarredBooks$Card;") ∈ lw_all := lw_g (lw_at lw_m1 176 rfl) rfl
theorem q276 : (Jvm.Cond.soleField "BarredBooks" "cards") ∈ lw_all := lw_g (lw_at lw_m1 177 rfl) rfl
theorem q277 : (Jvm.Cond.lays "BarredBooks" "BarredBooks" "cardMany" "I") ∈ lw_all := lw_g (lw_at lw_m1 178 rfl) rfl
theorem q278 : (Jvm.Cond.soleField "BarredBooks" "cardMany") ∈ lw_all := lw_g (lw_at lw_m1 179 rfl) rfl
theorem q279 : (Jvm.Cond.laysFinal "BarredBooks" "BarredBooks" "trace" "LBarredBooks$Trace;") ∈ lw_all := lw_g (lw_at lw_m1 180 rfl) rfl
theorem q280 : (Jvm.Cond.soleField "BarredBooks" "trace") ∈ lw_all := lw_g (lw_at lw_m1 181 rfl) rfl
theorem q281 : (Jvm.Cond.laysFinal "BarredBooks" "BarredBooks" "text" "[B") ∈ lw_all := lw_g (lw_at lw_m1 182 rfl) rfl
theorem q282 : (Jvm.Cond.soleField "BarredBooks" "text") ∈ lw_all := lw_g (lw_at lw_m1 183 rfl) rfl
theorem q283 : (Jvm.Cond.lays "BarredBooks" "BarredBooks" "texted" "I") ∈ lw_all := lw_g (lw_at lw_m1 184 rfl) rfl
theorem q284 : (Jvm.Cond.soleField "BarredBooks" "texted") ∈ lw_all := lw_g (lw_at lw_m1 185 rfl) rfl
theorem q285 : (Jvm.Cond.laysFinal "BarredBooks" "BarredBooks" "decrees" "[LBarredBooks$Decree;") ∈ lw_all := lw_g (lw_at lw_m1 186 rfl) rfl
theorem q286 : (Jvm.Cond.soleField "BarredBooks" "decrees") ∈ lw_all := lw_g (lw_at lw_m1 187 rfl) rfl
theorem q287 : (Jvm.Cond.lays "BarredBooks" "BarredBooks" "decreeMany" "I") ∈ lw_all := lw_g (lw_at lw_m1 188 rfl) rfl
theorem q288 : (Jvm.Cond.soleField "BarredBooks" "decreeMany") ∈ lw_all := lw_g (lw_at lw_m1 189 rfl) rfl
theorem q289 : (Jvm.Cond.laysFinal "BarredBooks" "BarredBooks" "look" "LBarredBooks$Look;") ∈ lw_all := lw_g (lw_at lw_m1 190 rfl) rfl
theorem q290 : (Jvm.Cond.soleField "BarredBooks" "look") ∈ lw_all := lw_g (lw_at lw_m1 191 rfl) rfl
theorem q291 : (Jvm.Cond.laysFinal "BarredBooks" "BarredBooks" "tapes" "[LBarredBooks$Tape;") ∈ lw_all := lw_g (lw_at lw_m1 192 rfl) rfl
theorem q292 : (Jvm.Cond.soleField "BarredBooks" "tapes") ∈ lw_all := lw_g (lw_at lw_m1 193 rfl) rfl
theorem q293 : (Jvm.Cond.laysFinal "BarredBooks" "BarredBooks" "leavePerson" "[I") ∈ lw_all := lw_g (lw_at lw_m1 194 rfl) rfl
theorem q294 : (Jvm.Cond.soleField "BarredBooks" "leavePerson") ∈ lw_all := lw_g (lw_at lw_m1 195 rfl) rfl
theorem q295 : (Jvm.Cond.laysFinal "BarredBooks" "BarredBooks" "leaveBook" "[I") ∈ lw_all := lw_g (lw_at lw_m1 196 rfl) rfl
theorem q296 : (Jvm.Cond.soleField "BarredBooks" "leaveBook") ∈ lw_all := lw_g (lw_at lw_m1 197 rfl) rfl
theorem q297 : (Jvm.Cond.laysFinal "BarredBooks" "BarredBooks" "leaveFrom" "[I") ∈ lw_all := lw_g (lw_at lw_m1 198 rfl) rfl
theorem q298 : (Jvm.Cond.soleField "BarredBooks" "leaveFrom") ∈ lw_all := lw_g (lw_at lw_m1 199 rfl) rfl
theorem q299 : (Jvm.Cond.laysFinal "BarredBooks" "BarredBooks" "leaveTo" "[I") ∈ lw_all := lw_g (lw_at lw_m1 200 rfl) rfl
theorem q300 : (Jvm.Cond.soleField "BarredBooks" "leaveTo") ∈ lw_all := lw_g (lw_at lw_m1 201 rfl) rfl
theorem q301 : (Jvm.Cond.lays "BarredBooks" "BarredBooks" "leaveMany" "I") ∈ lw_all := lw_g (lw_at lw_m1 202 rfl) rfl
theorem q302 : (Jvm.Cond.soleField "BarredBooks" "leaveMany") ∈ lw_all := lw_g (lw_at lw_m1 203 rfl) rfl
theorem q303 : (Jvm.Cond.laysFinal "BarredBooks" "BarredBooks" "slips" "[LBarredBooks$Slip;") ∈ lw_all := lw_g (lw_at lw_m1 204 rfl) rfl
theorem q304 : (Jvm.Cond.soleField "BarredBooks" "slips") ∈ lw_all := lw_g (lw_at lw_m1 205 rfl) rfl
theorem q305 : (Jvm.Cond.lays "BarredBooks" "BarredBooks" "slipMany" "I") ∈ lw_all := lw_g (lw_at lw_m1 206 rfl) rfl
theorem q306 : (Jvm.Cond.soleField "BarredBooks" "slipMany") ∈ lw_all := lw_g (lw_at lw_m1 207 rfl) rfl
theorem q307 : (Jvm.Cond.laysFinal "BarredBooks" "BarredBooks" "reader" "[I") ∈ lw_all := lw_g (lw_at lw_m1 208 rfl) rfl
theorem q308 : (Jvm.Cond.soleField "BarredBooks" "reader") ∈ lw_all := lw_g (lw_at lw_m1 209 rfl) rfl
theorem q309 : (Jvm.Cond.laysFinal "BarredBooks" "BarredBooks" "found" "[[I") ∈ lw_all := lw_g (lw_at lw_m1 210 rfl) rfl
theorem q310 : (Jvm.Cond.soleField "BarredBooks" "found") ∈ lw_all := lw_g (lw_at lw_m1 211 rfl) rfl
theorem q311 : (Jvm.Cond.laysFinal "BarredBooks" "BarredBooks" "most" "[[I") ∈ lw_all := lw_g (lw_at lw_m1 212 rfl) rfl
theorem q312 : (Jvm.Cond.soleField "BarredBooks" "most") ∈ lw_all := lw_g (lw_at lw_m1 213 rfl) rfl
theorem q313 : (Jvm.Cond.laysFinal "BarredBooks" "BarredBooks" "choices" "[LBarredBooks$Clause;") ∈ lw_all := lw_g (lw_at lw_m1 214 rfl) rfl
theorem q314 : (Jvm.Cond.soleField "BarredBooks" "choices") ∈ lw_all := lw_g (lw_at lw_m1 215 rfl) rfl
theorem q315 : (Jvm.Cond.lays "BarredBooks" "BarredBooks" "choiceMany" "I") ∈ lw_all := lw_g (lw_at lw_m1 216 rfl) rfl
theorem q316 : (Jvm.Cond.soleField "BarredBooks" "choiceMany") ∈ lw_all := lw_g (lw_at lw_m1 217 rfl) rfl
theorem q317 : (Jvm.Cond.laysFinal "BarredBooks" "BarredBooks" "aimEdition" "[I") ∈ lw_all := lw_g (lw_at lw_m1 218 rfl) rfl
theorem q318 : (Jvm.Cond.soleField "BarredBooks" "aimEdition") ∈ lw_all := lw_g (lw_at lw_m1 219 rfl) rfl
theorem q319 : (Jvm.Cond.laysFinal "BarredBooks" "BarredBooks" "aimLine" "[I") ∈ lw_all := lw_g (lw_at lw_m1 220 rfl) rfl
theorem q320 : (Jvm.Cond.soleField "BarredBooks" "aimLine") ∈ lw_all := lw_g (lw_at lw_m1 221 rfl) rfl
theorem q321 : (Jvm.Cond.lays "BarredBooks" "BarredBooks" "aimMany" "I") ∈ lw_all := lw_g (lw_at lw_m1 222 rfl) rfl
theorem q322 : (Jvm.Cond.soleField "BarredBooks" "aimMany") ∈ lw_all := lw_g (lw_at lw_m1 223 rfl) rfl
theorem q323 : (Jvm.Cond.lays "BarredBooks" "BarredBooks" "metAims" "I") ∈ lw_all := lw_g (lw_at lw_m1 224 rfl) rfl
theorem q324 : (Jvm.Cond.soleField "BarredBooks" "metAims") ∈ lw_all := lw_g (lw_at lw_m1 225 rfl) rfl
theorem q325 : (Jvm.Cond.lays "BarredBooks" "BarredBooks" "loss" "I") ∈ lw_all := lw_g (lw_at lw_m1 226 rfl) rfl
theorem q326 : (Jvm.Cond.soleField "BarredBooks" "loss") ∈ lw_all := lw_g (lw_at lw_m1 227 rfl) rfl
theorem q327 : (Jvm.Cond.laysFinal "BarredBooks" "BarredBooks" "copies" "[LBarredBooks$Edition;") ∈ lw_all := lw_g (lw_at lw_m1 228 rfl) rfl
theorem q328 : (Jvm.Cond.soleField "BarredBooks" "copies") ∈ lw_all := lw_g (lw_at lw_m1 229 rfl) rfl
theorem q329 : (Jvm.Cond.lays "BarredBooks" "BarredBooks" "copyMany" "I") ∈ lw_all := lw_g (lw_at lw_m1 230 rfl) rfl
theorem q330 : (Jvm.Cond.soleField "BarredBooks" "copyMany") ∈ lw_all := lw_g (lw_at lw_m1 231 rfl) rfl
theorem q331 : (Jvm.Cond.laysFinal "BarredBooks" "BarredBooks" "entryCopy" "[I") ∈ lw_all := lw_g (lw_at lw_m1 232 rfl) rfl
theorem q332 : (Jvm.Cond.soleField "BarredBooks" "entryCopy") ∈ lw_all := lw_g (lw_at lw_m1 233 rfl) rfl
theorem q333 : (Jvm.Cond.laysFinal "BarredBooks" "BarredBooks" "entrySpot" "[I") ∈ lw_all := lw_g (lw_at lw_m1 234 rfl) rfl
theorem q334 : (Jvm.Cond.soleField "BarredBooks" "entrySpot") ∈ lw_all := lw_g (lw_at lw_m1 235 rfl) rfl
theorem q335 : (Jvm.Cond.laysFinal "BarredBooks" "BarredBooks" "entryDay" "[I") ∈ lw_all := lw_g (lw_at lw_m1 236 rfl) rfl
theorem q336 : (Jvm.Cond.soleField "BarredBooks" "entryDay") ∈ lw_all := lw_g (lw_at lw_m1 237 rfl) rfl
theorem q337 : (Jvm.Cond.lays "BarredBooks" "BarredBooks" "entries" "I") ∈ lw_all := lw_g (lw_at lw_m1 238 rfl) rfl
theorem q338 : (Jvm.Cond.soleField "BarredBooks" "entries") ∈ lw_all := lw_g (lw_at lw_m1 239 rfl) rfl
theorem q339 : (Jvm.Cond.superclass "BarredBooks" "java/lang/Object") ∈ lw_all := lw_g (lw_at lw_m2 0 rfl) rfl
theorem q341 : (Jvm.Cond.instanceMethod ({ cls := "BarredBooks", name := "pass", desc := "(I)I" } : Jvm.MethodName)) ∈ lw_all := lw_g (lw_at lw_m2 2 rfl) rfl
theorem q342 : (Jvm.Cond.selects "BarredBooks" ({ cls := "BarredBooks", name := "pass", desc := "(I)I" } : Jvm.MethodName) ({ cls := "BarredBooks", name := "pass", desc := "(I)I" } : Jvm.MethodName)) ∈ lw_all := lw_g (lw_at lw_m2 3 rfl) rfl
theorem q343 : (Jvm.Cond.code ({ cls := "BarredBooks", name := "pass", desc := "(I)I" } : Jvm.MethodName) prog_1_method_7_code (2 : Nat) (Option.some Jvm.ClassFile.FieldType.int)) ∈ lw_all := lw_g (lw_at lw_m2 4 rfl) rfl
theorem q344 : (Jvm.Cond.methodLink "BarredBooks" (123 : Nat) ({ cls := "BarredBooks", name := "in", desc := "(III)Z" } : Jvm.MethodName)) ∈ lw_all := lw_g (lw_at lw_m2 5 rfl) rfl
theorem q345 : (Jvm.Cond.static ({ cls := "BarredBooks", name := "in", desc := "(III)Z" } : Jvm.MethodName)) ∈ lw_all := lw_g (lw_at lw_m2 6 rfl) rfl
theorem q346 : (Jvm.Cond.code ({ cls := "BarredBooks", name := "in", desc := "(III)Z" } : Jvm.MethodName) prog_1_method_1_code (3 : Nat) (Option.some Jvm.ClassFile.FieldType.boolean)) ∈ lw_all := lw_g (lw_at lw_m2 7 rfl) rfl
theorem q348 : (Jvm.Cond.instanceMethod ({ cls := "BarredBooks", name := "road", desc := "(III)I" } : Jvm.MethodName)) ∈ lw_all := lw_g (lw_at lw_m2 9 rfl) rfl
theorem q349 : (Jvm.Cond.selects "BarredBooks" ({ cls := "BarredBooks", name := "road", desc := "(III)I" } : Jvm.MethodName) ({ cls := "BarredBooks", name := "road", desc := "(III)I" } : Jvm.MethodName)) ∈ lw_all := lw_g (lw_at lw_m2 10 rfl) rfl
theorem q350 : (Jvm.Cond.code ({ cls := "BarredBooks", name := "road", desc := "(III)I" } : Jvm.MethodName) prog_1_method_8_code (7 : Nat) (Option.some Jvm.ClassFile.FieldType.int)) ∈ lw_all := lw_g (lw_at lw_m2 11 rfl) rfl
theorem q351 : (Jvm.Cond.methodLink "BarredBooks" (137 : Nat) ({ cls := "BarredBooks", name := "isTown", desc := "(I)Z" } : Jvm.MethodName)) ∈ lw_all := lw_g (lw_at lw_m2 12 rfl) rfl
theorem q352 : (Jvm.Cond.static ({ cls := "BarredBooks", name := "isTown", desc := "(I)Z" } : Jvm.MethodName)) ∈ lw_all := lw_g (lw_at lw_m2 13 rfl) rfl
theorem q353 : (Jvm.Cond.code ({ cls := "BarredBooks", name := "isTown", desc := "(I)Z" } : Jvm.MethodName) prog_1_method_4_code (1 : Nat) (Option.some Jvm.ClassFile.FieldType.boolean)) ∈ lw_all := lw_g (lw_at lw_m2 14 rfl) rfl
theorem q354 : (Jvm.Cond.methodLink "BarredBooks" (141 : Nat) ({ cls := "java/lang/Math", name := "min", desc := "(II)I" } : Jvm.MethodName)) ∈ lw_all := lw_g (lw_at lw_m2 15 rfl) rfl
theorem q358 : (Jvm.Cond.instanceMethod ({ cls := "BarredBooks", name := "far", desc := "(I)I" } : Jvm.MethodName)) ∈ lw_all := lw_g (lw_at lw_m2 19 rfl) rfl
theorem q359 : (Jvm.Cond.selects "BarredBooks" ({ cls := "BarredBooks", name := "far", desc := "(I)I" } : Jvm.MethodName) ({ cls := "BarredBooks", name := "far", desc := "(I)I" } : Jvm.MethodName)) ∈ lw_all := lw_g (lw_at lw_m2 20 rfl) rfl
theorem q360 : (Jvm.Cond.code ({ cls := "BarredBooks", name := "far", desc := "(I)I" } : Jvm.MethodName) prog_1_method_9_code (2 : Nat) (Option.some Jvm.ClassFile.FieldType.int)) ∈ lw_all := lw_g (lw_at lw_m2 21 rfl) rfl
theorem q362 : (Jvm.Cond.instanceMethod ({ cls := "BarredBooks", name := "person", desc := "(II)I" } : Jvm.MethodName)) ∈ lw_all := lw_g (lw_at lw_m2 23 rfl) rfl
theorem q363 : (Jvm.Cond.selects "BarredBooks" ({ cls := "BarredBooks", name := "person", desc := "(II)I" } : Jvm.MethodName) ({ cls := "BarredBooks", name := "person", desc := "(II)I" } : Jvm.MethodName)) ∈ lw_all := lw_g (lw_at lw_m2 24 rfl) rfl
theorem q364 : (Jvm.Cond.code ({ cls := "BarredBooks", name := "person", desc := "(II)I" } : Jvm.MethodName) prog_1_method_10_code (3 : Nat) (Option.some Jvm.ClassFile.FieldType.int)) ∈ lw_all := lw_g (lw_at lw_m2 25 rfl) rfl
theorem q366 : (Jvm.Cond.methodLink "BarredBooks" (150 : Nat) ({ cls := "BarredBooks$Person", name := "<init>", desc := "(II)V" } : Jvm.MethodName)) ∈ lw_all := lw_g (lw_at lw_m2 27 rfl) rfl
theorem q371 : (Jvm.Cond.fieldLinkNest "BarredBooks" (354 : Nat) "BarredBooks$Person" "town" "I" "BarredBooks") ∈ lw_tbl := lw_at lw_m2 32 rfl
theorem q373 : (Jvm.Cond.fieldLinkNest "BarredBooks" (355 : Nat) "BarredBooks$Person" "rank" "I" "BarredBooks") ∈ lw_tbl := lw_at lw_m2 34 rfl
theorem q380 : (Jvm.Cond.instanceMethod ({ cls := "BarredBooks", name := "book", desc := "(III)I" } : Jvm.MethodName)) ∈ lw_all := lw_g (lw_at lw_m2 41 rfl) rfl
theorem q381 : (Jvm.Cond.selects "BarredBooks" ({ cls := "BarredBooks", name := "book", desc := "(III)I" } : Jvm.MethodName) ({ cls := "BarredBooks", name := "book", desc := "(III)I" } : Jvm.MethodName)) ∈ lw_all := lw_g (lw_at lw_m2 42 rfl) rfl
theorem q382 : (Jvm.Cond.code ({ cls := "BarredBooks", name := "book", desc := "(III)I" } : Jvm.MethodName) prog_1_method_11_code (4 : Nat) (Option.some Jvm.ClassFile.FieldType.int)) ∈ lw_all := lw_g (lw_at lw_m2 43 rfl) rfl
theorem q384 : (Jvm.Cond.methodLink "BarredBooks" (153 : Nat) ({ cls := "BarredBooks$Book", name := "<init>", desc := "(IIII)V" } : Jvm.MethodName)) ∈ lw_all := lw_g (lw_at lw_m2 45 rfl) rfl
theorem q389 : (Jvm.Cond.fieldLinkNest "BarredBooks" (176 : Nat) "BarredBooks$Book" "number" "I" "BarredBooks") ∈ lw_tbl := lw_at lw_m2 50 rfl
theorem q393 : (Jvm.Cond.fieldLinkNest "BarredBooks" (186 : Nat) "BarredBooks$Book" "title" "I" "BarredBooks") ∈ lw_tbl := lw_at lw_m2 54 rfl
theorem q398 : (Jvm.Cond.fieldLinkNest "BarredBooks" (189 : Nat) "BarredBooks$Book" "author" "I" "BarredBooks") ∈ lw_tbl := lw_at lw_m2 59 rfl
theorem q402 : (Jvm.Cond.fieldLinkNest "BarredBooks" (192 : Nat) "BarredBooks$Book" "year" "I" "BarredBooks") ∈ lw_tbl := lw_at lw_m2 63 rfl
theorem q405 : (Jvm.Cond.fieldLinkNest "BarredBooks" (163 : Nat) "BarredBooks$Book" "words" "[I" "BarredBooks") ∈ lw_tbl := lw_at lw_m2 66 rfl
theorem q406 : (Jvm.Cond.fieldLinkNest "BarredBooks" (160 : Nat) "BarredBooks$Book" "lines" "I" "BarredBooks") ∈ lw_tbl := lw_at lw_m2 67 rfl
theorem q408 : (Jvm.Cond.fieldLinkNest "BarredBooks" (390 : Nat) "BarredBooks$Book" "parted" "[I" "BarredBooks") ∈ lw_tbl := lw_at lw_m2 69 rfl
theorem q409 : (Jvm.Cond.fieldLinkNest "BarredBooks" (393 : Nat) "BarredBooks$Book" "pairs" "I" "BarredBooks") ∈ lw_tbl := lw_at lw_m2 70 rfl
theorem q428 : (Jvm.Cond.instanceMethod ({ cls := "BarredBooks", name := "line", desc := "(II)I" } : Jvm.MethodName)) ∈ lw_all := lw_g (lw_at lw_m2 89 rfl) rfl
theorem q429 : (Jvm.Cond.selects "BarredBooks" ({ cls := "BarredBooks", name := "line", desc := "(II)I" } : Jvm.MethodName) ({ cls := "BarredBooks", name := "line", desc := "(II)I" } : Jvm.MethodName)) ∈ lw_all := lw_g (lw_at lw_m2 90 rfl) rfl
theorem q430 : (Jvm.Cond.code ({ cls := "BarredBooks", name := "line", desc := "(II)I" } : Jvm.MethodName) prog_1_method_12_code (4 : Nat) (Option.some Jvm.ClassFile.FieldType.int)) ∈ lw_all := lw_g (lw_at lw_m2 91 rfl) rfl
theorem q431 : (Jvm.Cond.methodLink "BarredBooks" (156 : Nat) ({ cls := "BarredBooks", name := "isBook", desc := "(I)Z" } : Jvm.MethodName)) ∈ lw_all := lw_g (lw_at lw_m2 92 rfl) rfl
theorem q432 : (Jvm.Cond.privateMethod ({ cls := "BarredBooks", name := "isBook", desc := "(I)Z" } : Jvm.MethodName)) ∈ lw_tbl := lw_at lw_m2 93 rfl
theorem q433 : (Jvm.Cond.instanceMethod ({ cls := "BarredBooks", name := "isBook", desc := "(I)Z" } : Jvm.MethodName)) ∈ lw_all := lw_g (lw_at lw_m2 94 rfl) rfl
theorem q434 : (Jvm.Cond.code ({ cls := "BarredBooks", name := "isBook", desc := "(I)Z" } : Jvm.MethodName) prog_1_method_6_code (2 : Nat) (Option.some Jvm.ClassFile.FieldType.boolean)) ∈ lw_all := lw_g (lw_at lw_m2 95 rfl) rfl
theorem q435 : (Jvm.Cond.constant "BarredBooks" (159 : Nat) (65535 : Int32)) ∈ lw_all := lw_g (lw_at lw_m2 96 rfl) rfl
theorem q437 : (Jvm.Cond.instanceMethod ({ cls := "BarredBooks", name := "edition", desc := "(IIII)I" } : Jvm.MethodName)) ∈ lw_all := lw_g (lw_at lw_m2 98 rfl) rfl
theorem q438 : (Jvm.Cond.selects "BarredBooks" ({ cls := "BarredBooks", name := "edition", desc := "(IIII)I" } : Jvm.MethodName) ({ cls := "BarredBooks", name := "edition", desc := "(IIII)I" } : Jvm.MethodName)) ∈ lw_all := lw_g (lw_at lw_m2 99 rfl) rfl
theorem q439 : (Jvm.Cond.code ({ cls := "BarredBooks", name := "edition", desc := "(IIII)I" } : Jvm.MethodName) prog_1_method_13_code (6 : Nat) (Option.some Jvm.ClassFile.FieldType.int)) ∈ lw_all := lw_g (lw_at lw_m2 100 rfl) rfl
theorem q440 : (Jvm.Cond.methodLink "BarredBooks" (166 : Nat) ({ cls := "BarredBooks", name := "isEdition", desc := "(I)Z" } : Jvm.MethodName)) ∈ lw_all := lw_g (lw_at lw_m2 101 rfl) rfl
theorem q441 : (Jvm.Cond.privateMethod ({ cls := "BarredBooks", name := "isEdition", desc := "(I)Z" } : Jvm.MethodName)) ∈ lw_tbl := lw_at lw_m2 102 rfl
theorem q442 : (Jvm.Cond.instanceMethod ({ cls := "BarredBooks", name := "isEdition", desc := "(I)Z" } : Jvm.MethodName)) ∈ lw_all := lw_g (lw_at lw_m2 103 rfl) rfl
theorem q443 : (Jvm.Cond.code ({ cls := "BarredBooks", name := "isEdition", desc := "(I)Z" } : Jvm.MethodName) prog_1_method_5_code (2 : Nat) (Option.some Jvm.ClassFile.FieldType.boolean)) ∈ lw_all := lw_g (lw_at lw_m2 104 rfl) rfl
theorem q445 : (Jvm.Cond.methodLink "BarredBooks" (173 : Nat) ({ cls := "BarredBooks$Edition", name := "<init>", desc := "(ILBarredBooks$Book;III)V" } : Jvm.MethodName)) ∈ lw_all := lw_g (lw_at lw_m2 106 rfl) rfl
theorem q451 : (Jvm.Cond.fieldLinkNest "BarredBooks" (179 : Nat) "BarredBooks$Edition" "lines" "I" "BarredBooks") ∈ lw_tbl := lw_at lw_m2 112 rfl
theorem q453 : (Jvm.Cond.fieldLinkNest "BarredBooks" (180 : Nat) "BarredBooks$Edition" "town" "I" "BarredBooks") ∈ lw_tbl := lw_at lw_m2 114 rfl
theorem q458 : (Jvm.Cond.fieldLinkNest "BarredBooks" (169 : Nat) "BarredBooks$Edition" "book" "LBarredBooks$Book;" "BarredBooks") ∈ lw_tbl := lw_at lw_m2 119 rfl
theorem q460 : (Jvm.Cond.fieldLinkNest "BarredBooks" (183 : Nat) "BarredBooks$Edition" "from" "I" "BarredBooks") ∈ lw_tbl := lw_at lw_m2 121 rfl
theorem q473 : (Jvm.Cond.instanceMethod ({ cls := "BarredBooks", name := "of", desc := "(II)I" } : Jvm.MethodName)) ∈ lw_all := lw_g (lw_at lw_m2 134 rfl) rfl
theorem q474 : (Jvm.Cond.selects "BarredBooks" ({ cls := "BarredBooks", name := "of", desc := "(II)I" } : Jvm.MethodName) ({ cls := "BarredBooks", name := "of", desc := "(II)I" } : Jvm.MethodName)) ∈ lw_all := lw_g (lw_at lw_m2 135 rfl) rfl
theorem q475 : (Jvm.Cond.code ({ cls := "BarredBooks", name := "of", desc := "(II)I" } : Jvm.MethodName) prog_1_method_14_code (4 : Nat) (Option.some Jvm.ClassFile.FieldType.int)) ∈ lw_all := lw_g (lw_at lw_m2 136 rfl) rfl
theorem q477 : (Jvm.Cond.instanceMethod ({ cls := "BarredBooks", name := "card", desc := "(III)I" } : Jvm.MethodName)) ∈ lw_all := lw_g (lw_at lw_m2 138 rfl) rfl
theorem q478 : (Jvm.Cond.selects "BarredBooks" ({ cls := "BarredBooks", name := "card", desc := "(III)I" } : Jvm.MethodName) ({ cls := "BarredBooks", name := "card", desc := "(III)I" } : Jvm.MethodName)) ∈ lw_all := lw_g (lw_at lw_m2 139 rfl) rfl
theorem q479 : (Jvm.Cond.code ({ cls := "BarredBooks", name := "card", desc := "(III)I" } : Jvm.MethodName) prog_1_method_17_code (4 : Nat) (Option.some Jvm.ClassFile.FieldType.int)) ∈ lw_all := lw_g (lw_at lw_m2 140 rfl) rfl
theorem q480 : (Jvm.Cond.methodLink "BarredBooks" (216 : Nat) ({ cls := "BarredBooks", name := "made", desc := "(III)LBarredBooks$Card;" } : Jvm.MethodName)) ∈ lw_all := lw_g (lw_at lw_m2 141 rfl) rfl
theorem q481 : (Jvm.Cond.privateMethod ({ cls := "BarredBooks", name := "made", desc := "(III)LBarredBooks$Card;" } : Jvm.MethodName)) ∈ lw_tbl := lw_at lw_m2 142 rfl
theorem q482 : (Jvm.Cond.instanceMethod ({ cls := "BarredBooks", name := "made", desc := "(III)LBarredBooks$Card;" } : Jvm.MethodName)) ∈ lw_all := lw_g (lw_at lw_m2 143 rfl) rfl
theorem q483 : (Jvm.Cond.code ({ cls := "BarredBooks", name := "made", desc := "(III)LBarredBooks$Card;" } : Jvm.MethodName) prog_1_method_16_code (4 : Nat) (Option.some (Jvm.ClassFile.FieldType.object "BarredBooks$Card"))) ∈ lw_all := lw_g (lw_at lw_m2 144 rfl) rfl
theorem q485 : (Jvm.Cond.methodLink "BarredBooks" (198 : Nat) ({ cls := "BarredBooks$Card", name := "<init>", desc := "(LBarredBooks$Trace;III)V" } : Jvm.MethodName)) ∈ lw_all := lw_g (lw_at lw_m2 146 rfl) rfl
theorem q514 : (Jvm.Cond.fieldLink "BarredBooks" (228 : Nat) "BarredBooks$Struck" "v" "I") ∈ lw_all := lw_g (lw_at lw_m2 175 rfl) rfl
theorem q524 : (Jvm.Cond.classLink "BarredBooks" (201 : Nat) "BarredBooks$Printed") ∈ lw_all := lw_g (lw_at lw_m2 185 rfl) rfl
theorem q526 : (Jvm.Cond.methodLink "BarredBooks" (203 : Nat) ({ cls := "BarredBooks$Printed", name := "<init>", desc := "(LBarredBooks$Trace;III)V" } : Jvm.MethodName)) ∈ lw_all := lw_g (lw_at lw_m2 187 rfl) rfl
theorem q535 : (Jvm.Cond.classLink "BarredBooks" (204 : Nat) "BarredBooks$Barred") ∈ lw_all := lw_g (lw_at lw_m2 196 rfl) rfl
theorem q537 : (Jvm.Cond.methodLink "BarredBooks" (206 : Nat) ({ cls := "BarredBooks$Barred", name := "<init>", desc := "(LBarredBooks$Trace;III)V" } : Jvm.MethodName)) ∈ lw_all := lw_g (lw_at lw_m2 198 rfl) rfl
theorem q546 : (Jvm.Cond.classLink "BarredBooks" (207 : Nat) "BarredBooks$Struck") ∈ lw_all := lw_g (lw_at lw_m2 207 rfl) rfl
theorem q548 : (Jvm.Cond.methodLink "BarredBooks" (209 : Nat) ({ cls := "BarredBooks$Struck", name := "<init>", desc := "(LBarredBooks$Trace;III)V" } : Jvm.MethodName)) ∈ lw_all := lw_g (lw_at lw_m2 209 rfl) rfl
theorem q552 : (Jvm.Cond.fieldLinkNest "BarredBooks" (225 : Nat) "BarredBooks$Struck" "mended" "I" "BarredBooks") ∈ lw_tbl := lw_at lw_m2 213 rfl
theorem q560 : (Jvm.Cond.classLink "BarredBooks" (210 : Nat) "BarredBooks$Leave") ∈ lw_all := lw_g (lw_at lw_m2 221 rfl) rfl
theorem q562 : (Jvm.Cond.methodLink "BarredBooks" (212 : Nat) ({ cls := "BarredBooks$Leave", name := "<init>", desc := "(LBarredBooks$Trace;III)V" } : Jvm.MethodName)) ∈ lw_all := lw_g (lw_at lw_m2 223 rfl) rfl
theorem q571 : (Jvm.Cond.classLink "BarredBooks" (213 : Nat) "BarredBooks$Found") ∈ lw_all := lw_g (lw_at lw_m2 232 rfl) rfl
theorem q573 : (Jvm.Cond.methodLink "BarredBooks" (215 : Nat) ({ cls := "BarredBooks$Found", name := "<init>", desc := "(LBarredBooks$Trace;III)V" } : Jvm.MethodName)) ∈ lw_all := lw_g (lw_at lw_m2 234 rfl) rfl
theorem q583 : (Jvm.Cond.instanceMethod ({ cls := "BarredBooks", name := "mend", desc := "(II)I" } : Jvm.MethodName)) ∈ lw_all := lw_g (lw_at lw_m3 4 rfl) rfl
theorem q584 : (Jvm.Cond.selects "BarredBooks" ({ cls := "BarredBooks", name := "mend", desc := "(II)I" } : Jvm.MethodName) ({ cls := "BarredBooks", name := "mend", desc := "(II)I" } : Jvm.MethodName)) ∈ lw_all := lw_g (lw_at lw_m3 5 rfl) rfl
theorem q585 : (Jvm.Cond.codeWith ({ cls := "BarredBooks", name := "mend", desc := "(II)I" } : Jvm.MethodName) prog_1_method_18_code (4 : Nat) (Option.some Jvm.ClassFile.FieldType.int) [((23 : Nat), (42 : Nat), (99 : Nat), (234 : Nat)), ((43 : Nat), (58 : Nat), (99 : Nat), (234 : Nat)), ((59 : Nat), (98 : Nat), (99 : Nat), (234 : Nat))]) ∈ lw_all := lw_g (lw_at lw_m3 6 rfl) rfl
theorem q586 : (Jvm.Cond.classLink "BarredBooks" (234 : Nat) "java/lang/ClassCastException") ∈ lw_all := lw_g (lw_at lw_m3 7 rfl) rfl
theorem q672 : (Jvm.Cond.methodLink "BarredBooks" (220 : Nat) ({ cls := "BarredBooks", name := "isCard", desc := "(I)Z" } : Jvm.MethodName)) ∈ lw_all := lw_g (lw_at lw_m3 93 rfl) rfl
theorem q673 : (Jvm.Cond.privateMethod ({ cls := "BarredBooks", name := "isCard", desc := "(I)Z" } : Jvm.MethodName)) ∈ lw_tbl := lw_at lw_m3 94 rfl
theorem q674 : (Jvm.Cond.instanceMethod ({ cls := "BarredBooks", name := "isCard", desc := "(I)Z" } : Jvm.MethodName)) ∈ lw_all := lw_g (lw_at lw_m3 95 rfl) rfl
theorem q675 : (Jvm.Cond.code ({ cls := "BarredBooks", name := "isCard", desc := "(I)Z" } : Jvm.MethodName) prog_1_method_15_code (2 : Nat) (Option.some Jvm.ClassFile.FieldType.boolean)) ∈ lw_all := lw_g (lw_at lw_m3 96 rfl) rfl
theorem q676 : (Jvm.Cond.classLink "BarredBooks" (223 : Nat) "BarredBooks$Mended") ∈ lw_all := lw_g (lw_at lw_m3 97 rfl) rfl
theorem q678 : (Jvm.Cond.methodLink "BarredBooks" (231 : Nat) ({ cls := "BarredBooks$Mended", name := "<init>", desc := "(LBarredBooks$Struck;)V" } : Jvm.MethodName)) ∈ lw_all := lw_g (lw_at lw_m3 99 rfl) rfl
theorem q689 : (Jvm.Cond.instanceMethod ({ cls := "BarredBooks", name := "kind", desc := "(I)I" } : Jvm.MethodName)) ∈ lw_all := lw_g (lw_at lw_m3 110 rfl) rfl
theorem q690 : (Jvm.Cond.selects "BarredBooks" ({ cls := "BarredBooks", name := "kind", desc := "(I)I" } : Jvm.MethodName) ({ cls := "BarredBooks", name := "kind", desc := "(I)I" } : Jvm.MethodName)) ∈ lw_all := lw_g (lw_at lw_m3 111 rfl) rfl
theorem q691 : (Jvm.Cond.code ({ cls := "BarredBooks", name := "kind", desc := "(I)I" } : Jvm.MethodName) prog_1_method_19_code (2 : Nat) (Option.some Jvm.ClassFile.FieldType.int)) ∈ lw_all := lw_g (lw_at lw_m3 112 rfl) rfl
theorem q692 : (Jvm.Cond.methodLink "BarredBooks" (236 : Nat) ({ cls := "BarredBooks$Card", name := "kind", desc := "()I" } : Jvm.MethodName)) ∈ lw_all := lw_g (lw_at lw_m3 113 rfl) rfl
theorem q716 : (Jvm.Cond.instanceMethod ({ cls := "BarredBooks", name := "act", desc := "(III)I" } : Jvm.MethodName)) ∈ lw_all := lw_g (lw_at lw_m3 137 rfl) rfl
theorem q717 : (Jvm.Cond.selects "BarredBooks" ({ cls := "BarredBooks", name := "act", desc := "(III)I" } : Jvm.MethodName) ({ cls := "BarredBooks", name := "act", desc := "(III)I" } : Jvm.MethodName)) ∈ lw_all := lw_g (lw_at lw_m3 138 rfl) rfl
theorem q718 : (Jvm.Cond.code ({ cls := "BarredBooks", name := "act", desc := "(III)I" } : Jvm.MethodName) prog_1_method_20_code (5 : Nat) (Option.some Jvm.ClassFile.FieldType.int)) ∈ lw_all := lw_g (lw_at lw_m3 139 rfl) rfl
theorem q719 : (Jvm.Cond.methodLink "BarredBooks" (243 : Nat) ({ cls := "BarredBooks$Card", name := "bars", desc := "(I)I" } : Jvm.MethodName)) ∈ lw_all := lw_g (lw_at lw_m3 140 rfl) rfl
theorem q744 : (Jvm.Cond.methodLink "BarredBooks" (247 : Nat) ({ cls := "BarredBooks$Card", name := "hangs", desc := "(I)I" } : Jvm.MethodName)) ∈ lw_all := lw_g (lw_at lw_m3 165 rfl) rfl
theorem q764 : (Jvm.Cond.methodLink "BarredBooks" (250 : Nat) ({ cls := "BarredBooks$Card", name := "passes", desc := "(I)I" } : Jvm.MethodName)) ∈ lw_all := lw_g (lw_at lw_m3 185 rfl) rfl
theorem q798 : (Jvm.Cond.instanceMethod ({ cls := "BarredBooks", name := "trace", desc := "(I)I" } : Jvm.MethodName)) ∈ lw_all := lw_g (lw_at lw_m3 219 rfl) rfl
theorem q799 : (Jvm.Cond.selects "BarredBooks" ({ cls := "BarredBooks", name := "trace", desc := "(I)I" } : Jvm.MethodName) ({ cls := "BarredBooks", name := "trace", desc := "(I)I" } : Jvm.MethodName)) ∈ lw_all := lw_g (lw_at lw_m3 220 rfl) rfl
theorem q800 : (Jvm.Cond.code ({ cls := "BarredBooks", name := "trace", desc := "(I)I" } : Jvm.MethodName) prog_1_method_21_code (2 : Nat) (Option.some Jvm.ClassFile.FieldType.int)) ∈ lw_all := lw_g (lw_at lw_m3 221 rfl) rfl
theorem q802 : (Jvm.Cond.instanceMethod ({ cls := "BarredBooks", name := "taken", desc := "(II)I" } : Jvm.MethodName)) ∈ lw_all := lw_g (lw_at lw_m3 223 rfl) rfl
theorem q803 : (Jvm.Cond.selects "BarredBooks" ({ cls := "BarredBooks", name := "taken", desc := "(II)I" } : Jvm.MethodName) ({ cls := "BarredBooks", name := "taken", desc := "(II)I" } : Jvm.MethodName)) ∈ lw_all := lw_g (lw_at lw_m3 224 rfl) rfl
theorem q804 : (Jvm.Cond.codeWith ({ cls := "BarredBooks", name := "taken", desc := "(II)I" } : Jvm.MethodName) prog_1_method_23_code (4 : Nat) (Option.some Jvm.ClassFile.FieldType.int) [((13 : Nat), (38 : Nat), (39 : Nat), (260 : Nat)), ((13 : Nat), (38 : Nat), (43 : Nat), (234 : Nat))]) ∈ lw_all := lw_g (lw_at lw_m3 225 rfl) rfl
theorem q805 : (Jvm.Cond.classLink "BarredBooks" (260 : Nat) "java/lang/NullPointerException") ∈ lw_all := lw_g (lw_at lw_m3 226 rfl) rfl
theorem q830 : (Jvm.Cond.methodLink "BarredBooks" (256 : Nat) ({ cls := "BarredBooks", name := "takenFor", desc := "(LBarredBooks$Hangs;I)LBarredBooks$Card;" } : Jvm.MethodName)) ∈ lw_all := lw_g (lw_at lw_m4 11 rfl) rfl
theorem q831 : (Jvm.Cond.static ({ cls := "BarredBooks", name := "takenFor", desc := "(LBarredBooks$Hangs;I)LBarredBooks$Card;" } : Jvm.MethodName)) ∈ lw_all := lw_g (lw_at lw_m4 12 rfl) rfl
theorem q832 : (Jvm.Cond.code ({ cls := "BarredBooks", name := "takenFor", desc := "(LBarredBooks$Hangs;I)LBarredBooks$Card;" } : Jvm.MethodName) prog_1_method_22_code (2 : Nat) (Option.some (Jvm.ClassFile.FieldType.object "BarredBooks$Card"))) ∈ lw_all := lw_g (lw_at lw_m4 13 rfl) rfl
theorem q834 : (Jvm.Cond.instanceMethod ({ cls := "BarredBooks", name := "feed", desc := "(II)I" } : Jvm.MethodName)) ∈ lw_all := lw_g (lw_at lw_m4 15 rfl) rfl
theorem q835 : (Jvm.Cond.selects "BarredBooks" ({ cls := "BarredBooks", name := "feed", desc := "(II)I" } : Jvm.MethodName) ({ cls := "BarredBooks", name := "feed", desc := "(II)I" } : Jvm.MethodName)) ∈ lw_all := lw_g (lw_at lw_m4 16 rfl) rfl
theorem q836 : (Jvm.Cond.code ({ cls := "BarredBooks", name := "feed", desc := "(II)I" } : Jvm.MethodName) prog_1_method_24_code (4 : Nat) (Option.some Jvm.ClassFile.FieldType.int)) ∈ lw_all := lw_g (lw_at lw_m4 17 rfl) rfl
theorem q838 : (Jvm.Cond.instanceMethod ({ cls := "BarredBooks", name := "decree", desc := "()I" } : Jvm.MethodName)) ∈ lw_all := lw_g (lw_at lw_m4 19 rfl) rfl
theorem q839 : (Jvm.Cond.selects "BarredBooks" ({ cls := "BarredBooks", name := "decree", desc := "()I" } : Jvm.MethodName) ({ cls := "BarredBooks", name := "decree", desc := "()I" } : Jvm.MethodName)) ∈ lw_all := lw_g (lw_at lw_m4 20 rfl) rfl
theorem q840 : (Jvm.Cond.codeWith ({ cls := "BarredBooks", name := "decree", desc := "()I" } : Jvm.MethodName) prog_1_method_26_code (2 : Nat) (Option.some Jvm.ClassFile.FieldType.int) [((12 : Nat), (46 : Nat), (47 : Nat), (283 : Nat))]) ∈ lw_all := lw_g (lw_at lw_m4 21 rfl) rfl
theorem q841 : (Jvm.Cond.classLink "BarredBooks" (283 : Nat) "BarredBooks$Off") ∈ lw_all := lw_g (lw_at lw_m4 22 rfl) rfl
theorem q842 : (Jvm.Cond.methodLink "BarredBooks" (277 : Nat) ({ cls := "BarredBooks", name := "takesText", desc := "()LBarredBooks$Decree;" } : Jvm.MethodName)) ∈ lw_all := lw_g (lw_at lw_m4 23 rfl) rfl
theorem q843 : (Jvm.Cond.privateMethod ({ cls := "BarredBooks", name := "takesText", desc := "()LBarredBooks$Decree;" } : Jvm.MethodName)) ∈ lw_tbl := lw_at lw_m4 24 rfl
theorem q844 : (Jvm.Cond.instanceMethod ({ cls := "BarredBooks", name := "takesText", desc := "()LBarredBooks$Decree;" } : Jvm.MethodName)) ∈ lw_all := lw_g (lw_at lw_m4 25 rfl) rfl
theorem q845 : (Jvm.Cond.code ({ cls := "BarredBooks", name := "takesText", desc := "()LBarredBooks$Decree;" } : Jvm.MethodName) prog_1_method_25_code (2 : Nat) (Option.some (Jvm.ClassFile.FieldType.object "BarredBooks$Decree"))) ∈ lw_all := lw_g (lw_at lw_m4 26 rfl) rfl
theorem q846 : (Jvm.Cond.classLink "BarredBooks" (265 : Nat) "BarredBooks$Reader") ∈ lw_all := lw_g (lw_at lw_m4 27 rfl) rfl
theorem q848 : (Jvm.Cond.methodLink "BarredBooks" (267 : Nat) ({ cls := "BarredBooks$Reader", name := "<init>", desc := "([BI)V" } : Jvm.MethodName)) ∈ lw_all := lw_g (lw_at lw_m4 29 rfl) rfl
theorem q865 : (Jvm.Cond.methodLink "BarredBooks" (270 : Nat) ({ cls := "BarredBooks$Reader", name := "decree", desc := "()LBarredBooks$Decree;" } : Jvm.MethodName)) ∈ lw_all := lw_g (lw_at lw_m4 46 rfl) rfl
theorem q901 : (Jvm.Cond.fieldLinkNest "BarredBooks" (280 : Nat) "BarredBooks$Decree" "issued" "I" "BarredBooks") ∈ lw_tbl := lw_at lw_m4 82 rfl
theorem q903 : (Jvm.Cond.fieldLinkNest "BarredBooks" (291 : Nat) "BarredBooks$Decree" "revoked" "I" "BarredBooks") ∈ lw_tbl := lw_at lw_m4 84 rfl
theorem q906 : (Jvm.Cond.fieldLinkNest "BarredBooks" (338 : Nat) "BarredBooks$Decree" "clauses" "Ljava/util/ArrayList;" "BarredBooks") ∈ lw_tbl := lw_at lw_m4 87 rfl
theorem q997 : (Jvm.Cond.fieldLinkNest "BarredBooks" (285 : Nat) "BarredBooks$Off" "place" "I" "BarredBooks") ∈ lw_tbl := lw_at lw_m4 178 rfl
theorem q1020 : (Jvm.Cond.fieldLinkNest "BarredBooks" (411 : Nat) "BarredBooks$OfAuthor" "free" "Z" "BarredBooks") ∈ lw_tbl := lw_at lw_m4 201 rfl
theorem q1133 : (Jvm.Cond.selects "BarredBooks" ({ cls := "java/lang/Object", name := "getClass", desc := "()Ljava/lang/Class;" } : Jvm.MethodName) ({ cls := "java/lang/Object", name := "getClass", desc := "()Ljava/lang/Class;" } : Jvm.MethodName)) ∈ lw_all := lw_g (lw_at lw_m5 74 rfl) rfl
theorem q1206 : (Jvm.Cond.instanceMethod ({ cls := "BarredBooks", name := "revoke", desc := "(I)I" } : Jvm.MethodName)) ∈ lw_all := lw_g (lw_at lw_m5 147 rfl) rfl
theorem q1207 : (Jvm.Cond.selects "BarredBooks" ({ cls := "BarredBooks", name := "revoke", desc := "(I)I" } : Jvm.MethodName) ({ cls := "BarredBooks", name := "revoke", desc := "(I)I" } : Jvm.MethodName)) ∈ lw_all := lw_g (lw_at lw_m5 148 rfl) rfl
theorem q1208 : (Jvm.Cond.code ({ cls := "BarredBooks", name := "revoke", desc := "(I)I" } : Jvm.MethodName) prog_1_method_28_code (3 : Nat) (Option.some Jvm.ClassFile.FieldType.int)) ∈ lw_all := lw_g (lw_at lw_m5 149 rfl) rfl
theorem q1209 : (Jvm.Cond.methodLink "BarredBooks" (288 : Nat) ({ cls := "BarredBooks", name := "isDecree", desc := "(I)Z" } : Jvm.MethodName)) ∈ lw_all := lw_g (lw_at lw_m5 150 rfl) rfl
theorem q1210 : (Jvm.Cond.privateMethod ({ cls := "BarredBooks", name := "isDecree", desc := "(I)Z" } : Jvm.MethodName)) ∈ lw_tbl := lw_at lw_m5 151 rfl
theorem q1211 : (Jvm.Cond.instanceMethod ({ cls := "BarredBooks", name := "isDecree", desc := "(I)Z" } : Jvm.MethodName)) ∈ lw_all := lw_g (lw_at lw_m5 152 rfl) rfl
theorem q1212 : (Jvm.Cond.code ({ cls := "BarredBooks", name := "isDecree", desc := "(I)Z" } : Jvm.MethodName) prog_1_method_27_code (2 : Nat) (Option.some Jvm.ClassFile.FieldType.boolean)) ∈ lw_all := lw_g (lw_at lw_m5 153 rfl) rfl
theorem q1214 : (Jvm.Cond.instanceMethod ({ cls := "BarredBooks", name := "known", desc := "(III)I" } : Jvm.MethodName)) ∈ lw_all := lw_g (lw_at lw_m5 155 rfl) rfl
theorem q1215 : (Jvm.Cond.selects "BarredBooks" ({ cls := "BarredBooks", name := "known", desc := "(III)I" } : Jvm.MethodName) ({ cls := "BarredBooks", name := "known", desc := "(III)I" } : Jvm.MethodName)) ∈ lw_all := lw_g (lw_at lw_m5 156 rfl) rfl
theorem q1216 : (Jvm.Cond.code ({ cls := "BarredBooks", name := "known", desc := "(III)I" } : Jvm.MethodName) prog_1_method_30_code (4 : Nat) (Option.some Jvm.ClassFile.FieldType.int)) ∈ lw_all := lw_g (lw_at lw_m5 157 rfl) rfl
theorem q1217 : (Jvm.Cond.methodLink "BarredBooks" (294 : Nat) ({ cls := "BarredBooks", name := "isDay", desc := "(I)Z" } : Jvm.MethodName)) ∈ lw_all := lw_g (lw_at lw_m5 158 rfl) rfl
theorem q1218 : (Jvm.Cond.static ({ cls := "BarredBooks", name := "isDay", desc := "(I)Z" } : Jvm.MethodName)) ∈ lw_all := lw_g (lw_at lw_m5 159 rfl) rfl
theorem q1219 : (Jvm.Cond.code ({ cls := "BarredBooks", name := "isDay", desc := "(I)Z" } : Jvm.MethodName) prog_1_method_3_code (1 : Nat) (Option.some Jvm.ClassFile.FieldType.boolean)) ∈ lw_all := lw_g (lw_at lw_m5 160 rfl) rfl
theorem q1220 : (Jvm.Cond.methodLink "BarredBooks" (297 : Nat) ({ cls := "BarredBooks", name := "isKnown", desc := "(LBarredBooks$Decree;II)Z" } : Jvm.MethodName)) ∈ lw_all := lw_g (lw_at lw_m5 161 rfl) rfl
theorem q1221 : (Jvm.Cond.privateMethod ({ cls := "BarredBooks", name := "isKnown", desc := "(LBarredBooks$Decree;II)Z" } : Jvm.MethodName)) ∈ lw_tbl := lw_at lw_m5 162 rfl
theorem q1222 : (Jvm.Cond.instanceMethod ({ cls := "BarredBooks", name := "isKnown", desc := "(LBarredBooks$Decree;II)Z" } : Jvm.MethodName)) ∈ lw_all := lw_g (lw_at lw_m5 163 rfl) rfl
theorem q1223 : (Jvm.Cond.code ({ cls := "BarredBooks", name := "isKnown", desc := "(LBarredBooks$Decree;II)Z" } : Jvm.MethodName) prog_1_method_29_code (5 : Nat) (Option.some Jvm.ClassFile.FieldType.boolean)) ∈ lw_all := lw_g (lw_at lw_m5 164 rfl) rfl
theorem q1225 : (Jvm.Cond.instanceMethod ({ cls := "BarredBooks", name := "holds", desc := "(IIII)I" } : Jvm.MethodName)) ∈ lw_all := lw_g (lw_at lw_m5 166 rfl) rfl
theorem q1226 : (Jvm.Cond.selects "BarredBooks" ({ cls := "BarredBooks", name := "holds", desc := "(IIII)I" } : Jvm.MethodName) ({ cls := "BarredBooks", name := "holds", desc := "(IIII)I" } : Jvm.MethodName)) ∈ lw_all := lw_g (lw_at lw_m5 167 rfl) rfl
theorem q1227 : (Jvm.Cond.code ({ cls := "BarredBooks", name := "holds", desc := "(IIII)I" } : Jvm.MethodName) prog_1_method_35_code (8 : Nat) (Option.some Jvm.ClassFile.FieldType.int)) ∈ lw_all := lw_g (lw_at lw_m5 168 rfl) rfl
theorem q1228 : (Jvm.Cond.methodLink "BarredBooks" (325 : Nat) ({ cls := "BarredBooks", name := "isBarred", desc := "(LBarredBooks$Edition;II)Z" } : Jvm.MethodName)) ∈ lw_all := lw_g (lw_at lw_m5 169 rfl) rfl
theorem q1229 : (Jvm.Cond.privateMethod ({ cls := "BarredBooks", name := "isBarred", desc := "(LBarredBooks$Edition;II)Z" } : Jvm.MethodName)) ∈ lw_tbl := lw_at lw_m5 170 rfl
theorem q1230 : (Jvm.Cond.instanceMethod ({ cls := "BarredBooks", name := "isBarred", desc := "(LBarredBooks$Edition;II)Z" } : Jvm.MethodName)) ∈ lw_all := lw_g (lw_at lw_m5 171 rfl) rfl
theorem q1231 : (Jvm.Cond.code ({ cls := "BarredBooks", name := "isBarred", desc := "(LBarredBooks$Edition;II)Z" } : Jvm.MethodName) prog_1_method_32_code (5 : Nat) (Option.some Jvm.ClassFile.FieldType.boolean)) ∈ lw_all := lw_g (lw_at lw_m5 172 rfl) rfl
theorem q1232 : (Jvm.Cond.methodLink "BarredBooks" (304 : Nat) ({ cls := "BarredBooks", name := "saysOf", desc := "(LBarredBooks$Edition;II)I" } : Jvm.MethodName)) ∈ lw_all := lw_g (lw_at lw_m5 173 rfl) rfl
theorem q1233 : (Jvm.Cond.privateMethod ({ cls := "BarredBooks", name := "saysOf", desc := "(LBarredBooks$Edition;II)I" } : Jvm.MethodName)) ∈ lw_tbl := lw_at lw_m5 174 rfl
theorem q1234 : (Jvm.Cond.instanceMethod ({ cls := "BarredBooks", name := "saysOf", desc := "(LBarredBooks$Edition;II)I" } : Jvm.MethodName)) ∈ lw_all := lw_g (lw_at lw_m5 175 rfl) rfl
theorem q1235 : (Jvm.Cond.code ({ cls := "BarredBooks", name := "saysOf", desc := "(LBarredBooks$Edition;II)I" } : Jvm.MethodName) prog_1_method_31_code (6 : Nat) (Option.some Jvm.ClassFile.FieldType.int)) ∈ lw_all := lw_g (lw_at lw_m5 176 rfl) rfl
theorem q1236 : (Jvm.Cond.methodLink "BarredBooks" (301 : Nat) ({ cls := "BarredBooks$Decree", name := "bars", desc := "(LBarredBooks$Edition;)I" } : Jvm.MethodName)) ∈ lw_all := lw_g (lw_at lw_m5 177 rfl) rfl
theorem q1272 : (Jvm.Cond.methodLink "BarredBooks" (329 : Nat) ({ cls := "BarredBooks", name := "struckOf", desc := "(LBarredBooks$Edition;II)I" } : Jvm.MethodName)) ∈ lw_all := lw_g (lw_at lw_m5 213 rfl) rfl
theorem q1273 : (Jvm.Cond.privateMethod ({ cls := "BarredBooks", name := "struckOf", desc := "(LBarredBooks$Edition;II)I" } : Jvm.MethodName)) ∈ lw_tbl := lw_at lw_m5 214 rfl
theorem q1274 : (Jvm.Cond.instanceMethod ({ cls := "BarredBooks", name := "struckOf", desc := "(LBarredBooks$Edition;II)I" } : Jvm.MethodName)) ∈ lw_all := lw_g (lw_at lw_m5 215 rfl) rfl
theorem q1275 : (Jvm.Cond.code ({ cls := "BarredBooks", name := "struckOf", desc := "(LBarredBooks$Edition;II)I" } : Jvm.MethodName) prog_1_method_34_code (6 : Nat) (Option.some Jvm.ClassFile.FieldType.int)) ∈ lw_all := lw_g (lw_at lw_m5 216 rfl) rfl
theorem q1276 : (Jvm.Cond.methodLink "BarredBooks" (319 : Nat) ({ cls := "BarredBooks$Edition", name := "has", desc := "(I)Z" } : Jvm.MethodName)) ∈ lw_all := lw_g (lw_at lw_m5 217 rfl) rfl
theorem q1281 : (Jvm.Cond.methodLink "BarredBooks" (322 : Nat) ({ cls := "BarredBooks", name := "strikes", desc := "(LBarredBooks$Edition;III)I" } : Jvm.MethodName)) ∈ lw_all := lw_g (lw_at lw_m5 222 rfl) rfl
theorem q1282 : (Jvm.Cond.privateMethod ({ cls := "BarredBooks", name := "strikes", desc := "(LBarredBooks$Edition;III)I" } : Jvm.MethodName)) ∈ lw_tbl := lw_at lw_m5 223 rfl
theorem q1283 : (Jvm.Cond.instanceMethod ({ cls := "BarredBooks", name := "strikes", desc := "(LBarredBooks$Edition;III)I" } : Jvm.MethodName)) ∈ lw_all := lw_g (lw_at lw_m5 224 rfl) rfl
theorem q1284 : (Jvm.Cond.code ({ cls := "BarredBooks", name := "strikes", desc := "(LBarredBooks$Edition;III)I" } : Jvm.MethodName) prog_1_method_33_code (6 : Nat) (Option.some Jvm.ClassFile.FieldType.int)) ∈ lw_all := lw_g (lw_at lw_m5 225 rfl) rfl
theorem q1285 : (Jvm.Cond.methodLink "BarredBooks" (315 : Nat) ({ cls := "BarredBooks$Decree", name := "strikes", desc := "(LBarredBooks$Look;)Z" } : Jvm.MethodName)) ∈ lw_all := lw_g (lw_at lw_m5 226 rfl) rfl
theorem q1332 : (Jvm.Cond.instanceMethod ({ cls := "BarredBooks", name := "why", desc := "(IIII)I" } : Jvm.MethodName)) ∈ lw_all := lw_g (lw_at lw_m6 33 rfl) rfl
theorem q1333 : (Jvm.Cond.selects "BarredBooks" ({ cls := "BarredBooks", name := "why", desc := "(IIII)I" } : Jvm.MethodName) ({ cls := "BarredBooks", name := "why", desc := "(IIII)I" } : Jvm.MethodName)) ∈ lw_all := lw_g (lw_at lw_m6 34 rfl) rfl
theorem q1334 : (Jvm.Cond.code ({ cls := "BarredBooks", name := "why", desc := "(IIII)I" } : Jvm.MethodName) prog_1_method_36_code (6 : Nat) (Option.some Jvm.ClassFile.FieldType.int)) ∈ lw_all := lw_g (lw_at lw_m6 35 rfl) rfl
theorem q1336 : (Jvm.Cond.instanceMethod ({ cls := "BarredBooks", name := "leave", desc := "(IIII)I" } : Jvm.MethodName)) ∈ lw_all := lw_g (lw_at lw_m6 37 rfl) rfl
theorem q1337 : (Jvm.Cond.selects "BarredBooks" ({ cls := "BarredBooks", name := "leave", desc := "(IIII)I" } : Jvm.MethodName) ({ cls := "BarredBooks", name := "leave", desc := "(IIII)I" } : Jvm.MethodName)) ∈ lw_all := lw_g (lw_at lw_m6 38 rfl) rfl
theorem q1338 : (Jvm.Cond.code ({ cls := "BarredBooks", name := "leave", desc := "(IIII)I" } : Jvm.MethodName) prog_1_method_38_code (5 : Nat) (Option.some Jvm.ClassFile.FieldType.int)) ∈ lw_all := lw_g (lw_at lw_m6 39 rfl) rfl
theorem q1339 : (Jvm.Cond.methodLink "BarredBooks" (332 : Nat) ({ cls := "BarredBooks", name := "isPerson", desc := "(I)Z" } : Jvm.MethodName)) ∈ lw_all := lw_g (lw_at lw_m6 40 rfl) rfl
theorem q1340 : (Jvm.Cond.privateMethod ({ cls := "BarredBooks", name := "isPerson", desc := "(I)Z" } : Jvm.MethodName)) ∈ lw_tbl := lw_at lw_m6 41 rfl
theorem q1341 : (Jvm.Cond.instanceMethod ({ cls := "BarredBooks", name := "isPerson", desc := "(I)Z" } : Jvm.MethodName)) ∈ lw_all := lw_g (lw_at lw_m6 42 rfl) rfl
theorem q1342 : (Jvm.Cond.code ({ cls := "BarredBooks", name := "isPerson", desc := "(I)Z" } : Jvm.MethodName) prog_1_method_37_code (2 : Nat) (Option.some Jvm.ClassFile.FieldType.boolean)) ∈ lw_all := lw_g (lw_at lw_m6 43 rfl) rfl
theorem q1344 : (Jvm.Cond.instanceMethod ({ cls := "BarredBooks", name := "reads", desc := "(III)I" } : Jvm.MethodName)) ∈ lw_all := lw_g (lw_at lw_m6 45 rfl) rfl
theorem q1345 : (Jvm.Cond.selects "BarredBooks" ({ cls := "BarredBooks", name := "reads", desc := "(III)I" } : Jvm.MethodName) ({ cls := "BarredBooks", name := "reads", desc := "(III)I" } : Jvm.MethodName)) ∈ lw_all := lw_g (lw_at lw_m6 46 rfl) rfl
theorem q1346 : (Jvm.Cond.code ({ cls := "BarredBooks", name := "reads", desc := "(III)I" } : Jvm.MethodName) prog_1_method_40_code (7 : Nat) (Option.some Jvm.ClassFile.FieldType.int)) ∈ lw_all := lw_g (lw_at lw_m6 47 rfl) rfl
theorem q1347 : (Jvm.Cond.methodLink "BarredBooks" (358 : Nat) ({ cls := "BarredBooks", name := "lets", desc := "(LBarredBooks$Decree;III)Z" } : Jvm.MethodName)) ∈ lw_all := lw_g (lw_at lw_m6 48 rfl) rfl
theorem q1348 : (Jvm.Cond.privateMethod ({ cls := "BarredBooks", name := "lets", desc := "(LBarredBooks$Decree;III)Z" } : Jvm.MethodName)) ∈ lw_tbl := lw_at lw_m6 49 rfl
theorem q1349 : (Jvm.Cond.instanceMethod ({ cls := "BarredBooks", name := "lets", desc := "(LBarredBooks$Decree;III)Z" } : Jvm.MethodName)) ∈ lw_all := lw_g (lw_at lw_m6 50 rfl) rfl
theorem q1350 : (Jvm.Cond.code ({ cls := "BarredBooks", name := "lets", desc := "(LBarredBooks$Decree;III)Z" } : Jvm.MethodName) prog_1_method_39_code (7 : Nat) (Option.some Jvm.ClassFile.FieldType.boolean)) ∈ lw_all := lw_g (lw_at lw_m6 51 rfl) rfl
theorem q1351 : (Jvm.Cond.methodLink "BarredBooks" (342 : Nat) ({ cls := "java/util/ArrayList", name := "size", desc := "()I" } : Jvm.MethodName)) ∈ lw_all := lw_g (lw_at lw_m6 52 rfl) rfl
theorem q1352 : (Jvm.Cond.methodLink "BarredBooks" (347 : Nat) ({ cls := "java/util/ArrayList", name := "get", desc := "(I)Ljava/lang/Object;" } : Jvm.MethodName)) ∈ lw_all := lw_g (lw_at lw_m6 53 rfl) rfl
theorem q1353 : (Jvm.Cond.methodLink "BarredBooks" (351 : Nat) ({ cls := "BarredBooks$Clause", name := "lets", desc := "(I)I" } : Jvm.MethodName)) ∈ lw_all := lw_g (lw_at lw_m6 54 rfl) rfl
theorem q1364 : (Jvm.Cond.instanceMethod ({ cls := "BarredBooks", name := "slip", desc := "(IIII)I" } : Jvm.MethodName)) ∈ lw_all := lw_g (lw_at lw_m6 65 rfl) rfl
theorem q1365 : (Jvm.Cond.selects "BarredBooks" ({ cls := "BarredBooks", name := "slip", desc := "(IIII)I" } : Jvm.MethodName) ({ cls := "BarredBooks", name := "slip", desc := "(IIII)I" } : Jvm.MethodName)) ∈ lw_all := lw_g (lw_at lw_m6 66 rfl) rfl
theorem q1366 : (Jvm.Cond.code ({ cls := "BarredBooks", name := "slip", desc := "(IIII)I" } : Jvm.MethodName) prog_1_method_41_code (5 : Nat) (Option.some Jvm.ClassFile.FieldType.int)) ∈ lw_all := lw_g (lw_at lw_m6 67 rfl) rfl
theorem q1368 : (Jvm.Cond.methodLink "BarredBooks" (364 : Nat) ({ cls := "BarredBooks$Slip", name := "<init>", desc := "(IIIILBarredBooks$Slip;)V" } : Jvm.MethodName)) ∈ lw_all := lw_g (lw_at lw_m6 69 rfl) rfl
theorem q1373 : (Jvm.Cond.fieldLinkNest "BarredBooks" (383 : Nat) "BarredBooks$Slip" "number" "I" "BarredBooks") ∈ lw_tbl := lw_at lw_m6 74 rfl
theorem q1390 : (Jvm.Cond.instanceMethod ({ cls := "BarredBooks", name := "means", desc := "(II)I" } : Jvm.MethodName)) ∈ lw_all := lw_g (lw_at lw_m6 91 rfl) rfl
theorem q1391 : (Jvm.Cond.selects "BarredBooks" ({ cls := "BarredBooks", name := "means", desc := "(II)I" } : Jvm.MethodName) ({ cls := "BarredBooks", name := "means", desc := "(II)I" } : Jvm.MethodName)) ∈ lw_all := lw_g (lw_at lw_m6 92 rfl) rfl
theorem q1392 : (Jvm.Cond.code ({ cls := "BarredBooks", name := "means", desc := "(II)I" } : Jvm.MethodName) prog_1_method_42_code (6 : Nat) (Option.some Jvm.ClassFile.FieldType.int)) ∈ lw_all := lw_g (lw_at lw_m6 93 rfl) rfl
theorem q1393 : (Jvm.Cond.methodLink "BarredBooks" (367 : Nat) ({ cls := "BarredBooks$Slip", name := "means", desc := "(LBarredBooks$Book;)Z" } : Jvm.MethodName)) ∈ lw_all := lw_g (lw_at lw_m6 94 rfl) rfl
theorem q1397 : (Jvm.Cond.methodLink "BarredBooks" (371 : Nat) ({ cls := "BarredBooks$Slip", name := "isTrue", desc := "()Z" } : Jvm.MethodName)) ∈ lw_all := lw_g (lw_at lw_m6 98 rfl) rfl
theorem q1401 : (Jvm.Cond.methodLink "BarredBooks" (375 : Nat) ({ cls := "BarredBooks$Slip", name := "hangsOn", desc := "(LBarredBooks$Slip;)Z" } : Jvm.MethodName)) ∈ lw_all := lw_g (lw_at lw_m6 102 rfl) rfl
theorem q1406 : (Jvm.Cond.methodLink "BarredBooks" (379 : Nat) ({ cls := "BarredBooks$Slip", name := "root", desc := "()LBarredBooks$Slip;" } : Jvm.MethodName)) ∈ lw_all := lw_g (lw_at lw_m6 107 rfl) rfl
theorem q1411 : (Jvm.Cond.methodLink "BarredBooks" (384 : Nat) ({ cls := "BarredBooks$Slip", name := "where", desc := "()LBarredBooks$Slip;" } : Jvm.MethodName)) ∈ lw_all := lw_g (lw_at lw_m6 112 rfl) rfl
theorem q1418 : (Jvm.Cond.instanceMethod ({ cls := "BarredBooks", name := "unlike", desc := "(II)I" } : Jvm.MethodName)) ∈ lw_all := lw_g (lw_at lw_m6 119 rfl) rfl
theorem q1419 : (Jvm.Cond.selects "BarredBooks" ({ cls := "BarredBooks", name := "unlike", desc := "(II)I" } : Jvm.MethodName) ({ cls := "BarredBooks", name := "unlike", desc := "(II)I" } : Jvm.MethodName)) ∈ lw_all := lw_g (lw_at lw_m6 120 rfl) rfl
theorem q1420 : (Jvm.Cond.code ({ cls := "BarredBooks", name := "unlike", desc := "(II)I" } : Jvm.MethodName) prog_1_method_43_code (3 : Nat) (Option.some Jvm.ClassFile.FieldType.int)) ∈ lw_all := lw_g (lw_at lw_m6 121 rfl) rfl
theorem q1422 : (Jvm.Cond.instanceMethod ({ cls := "BarredBooks", name := "passes", desc := "(IIII)I" } : Jvm.MethodName)) ∈ lw_all := lw_g (lw_at lw_m6 123 rfl) rfl
theorem q1423 : (Jvm.Cond.selects "BarredBooks" ({ cls := "BarredBooks", name := "passes", desc := "(IIII)I" } : Jvm.MethodName) ({ cls := "BarredBooks", name := "passes", desc := "(IIII)I" } : Jvm.MethodName)) ∈ lw_all := lw_g (lw_at lw_m6 124 rfl) rfl
theorem q1424 : (Jvm.Cond.code ({ cls := "BarredBooks", name := "passes", desc := "(IIII)I" } : Jvm.MethodName) prog_1_method_44_code (7 : Nat) (Option.some Jvm.ClassFile.FieldType.int)) ∈ lw_all := lw_g (lw_at lw_m6 125 rfl) rfl
theorem q1425 : (Jvm.Cond.methodLink "BarredBooks" (387 : Nat) ({ cls := "BarredBooks", name := "unlike", desc := "(II)I" } : Jvm.MethodName)) ∈ lw_all := lw_g (lw_at lw_m6 126 rfl) rfl
theorem q1427 : (Jvm.Cond.instanceMethod ({ cls := "BarredBooks", name := "part", desc := "(III)I" } : Jvm.MethodName)) ∈ lw_all := lw_g (lw_at lw_m6 128 rfl) rfl
theorem q1428 : (Jvm.Cond.selects "BarredBooks" ({ cls := "BarredBooks", name := "part", desc := "(III)I" } : Jvm.MethodName) ({ cls := "BarredBooks", name := "part", desc := "(III)I" } : Jvm.MethodName)) ∈ lw_all := lw_g (lw_at lw_m6 129 rfl) rfl
theorem q1429 : (Jvm.Cond.code ({ cls := "BarredBooks", name := "part", desc := "(III)I" } : Jvm.MethodName) prog_1_method_45_code (5 : Nat) (Option.some Jvm.ClassFile.FieldType.int)) ∈ lw_all := lw_g (lw_at lw_m6 130 rfl) rfl
theorem q1431 : (Jvm.Cond.instanceMethod ({ cls := "BarredBooks", name := "blind", desc := "(II)I" } : Jvm.MethodName)) ∈ lw_all := lw_g (lw_at lw_m6 132 rfl) rfl
theorem q1432 : (Jvm.Cond.selects "BarredBooks" ({ cls := "BarredBooks", name := "blind", desc := "(II)I" } : Jvm.MethodName) ({ cls := "BarredBooks", name := "blind", desc := "(II)I" } : Jvm.MethodName)) ∈ lw_all := lw_g (lw_at lw_m6 133 rfl) rfl
theorem q1433 : (Jvm.Cond.code ({ cls := "BarredBooks", name := "blind", desc := "(II)I" } : Jvm.MethodName) prog_1_method_47_code (5 : Nat) (Option.some Jvm.ClassFile.FieldType.int)) ∈ lw_all := lw_g (lw_at lw_m6 134 rfl) rfl
theorem q1434 : (Jvm.Cond.methodLink "BarredBooks" (399 : Nat) ({ cls := "java/lang/Integer", name := "bitCount", desc := "(I)I" } : Jvm.MethodName)) ∈ lw_all := lw_g (lw_at lw_m6 135 rfl) rfl
theorem q1435 : (Jvm.Cond.methodLink "BarredBooks" (396 : Nat) ({ cls := "BarredBooks", name := "parts", desc := "(LBarredBooks$Edition;II)Z" } : Jvm.MethodName)) ∈ lw_all := lw_g (lw_at lw_m6 136 rfl) rfl
theorem q1436 : (Jvm.Cond.privateMethod ({ cls := "BarredBooks", name := "parts", desc := "(LBarredBooks$Edition;II)Z" } : Jvm.MethodName)) ∈ lw_tbl := lw_at lw_m6 137 rfl
theorem q1437 : (Jvm.Cond.instanceMethod ({ cls := "BarredBooks", name := "parts", desc := "(LBarredBooks$Edition;II)Z" } : Jvm.MethodName)) ∈ lw_all := lw_g (lw_at lw_m6 138 rfl) rfl
theorem q1438 : (Jvm.Cond.code ({ cls := "BarredBooks", name := "parts", desc := "(LBarredBooks$Edition;II)Z" } : Jvm.MethodName) prog_1_method_46_code (7 : Nat) (Option.some Jvm.ClassFile.FieldType.boolean)) ∈ lw_all := lw_g (lw_at lw_m6 139 rfl) rfl
theorem q1440 : (Jvm.Cond.instanceMethod ({ cls := "BarredBooks", name := "port", desc := "(III)I" } : Jvm.MethodName)) ∈ lw_all := lw_g (lw_at lw_m6 141 rfl) rfl
theorem q1441 : (Jvm.Cond.selects "BarredBooks" ({ cls := "BarredBooks", name := "port", desc := "(III)I" } : Jvm.MethodName) ({ cls := "BarredBooks", name := "port", desc := "(III)I" } : Jvm.MethodName)) ∈ lw_all := lw_g (lw_at lw_m6 142 rfl) rfl
theorem q1442 : (Jvm.Cond.code ({ cls := "BarredBooks", name := "port", desc := "(III)I" } : Jvm.MethodName) prog_1_method_48_code (5 : Nat) (Option.some Jvm.ClassFile.FieldType.int)) ∈ lw_all := lw_g (lw_at lw_m6 143 rfl) rfl
theorem q1444 : (Jvm.Cond.instanceMethod ({ cls := "BarredBooks", name := "search", desc := "(II)I" } : Jvm.MethodName)) ∈ lw_all := lw_g (lw_at lw_m6 145 rfl) rfl
theorem q1445 : (Jvm.Cond.selects "BarredBooks" ({ cls := "BarredBooks", name := "search", desc := "(II)I" } : Jvm.MethodName) ({ cls := "BarredBooks", name := "search", desc := "(II)I" } : Jvm.MethodName)) ∈ lw_all := lw_g (lw_at lw_m6 146 rfl) rfl
theorem q1446 : (Jvm.Cond.code ({ cls := "BarredBooks", name := "search", desc := "(II)I" } : Jvm.MethodName) prog_1_method_49_code (7 : Nat) (Option.some Jvm.ClassFile.FieldType.int)) ∈ lw_all := lw_g (lw_at lw_m6 147 rfl) rfl
theorem q1447 : (Jvm.Cond.methodLink "BarredBooks" (404 : Nat) ({ cls := "java/lang/Math", name := "max", desc := "(II)I" } : Jvm.MethodName)) ∈ lw_all := lw_g (lw_at lw_m6 148 rfl) rfl
theorem q1449 : (Jvm.Cond.instanceMethod ({ cls := "BarredBooks", name := "choice", desc := "()I" } : Jvm.MethodName)) ∈ lw_all := lw_g (lw_at lw_m6 150 rfl) rfl
theorem q1450 : (Jvm.Cond.selects "BarredBooks" ({ cls := "BarredBooks", name := "choice", desc := "()I" } : Jvm.MethodName) ({ cls := "BarredBooks", name := "choice", desc := "()I" } : Jvm.MethodName)) ∈ lw_all := lw_g (lw_at lw_m6 151 rfl) rfl
theorem q1451 : (Jvm.Cond.codeWith ({ cls := "BarredBooks", name := "choice", desc := "()I" } : Jvm.MethodName) prog_1_method_51_code (2 : Nat) (Option.some Jvm.ClassFile.FieldType.int) [((12 : Nat), (26 : Nat), (59 : Nat), (283 : Nat)), ((27 : Nat), (58 : Nat), (59 : Nat), (283 : Nat))]) ∈ lw_all := lw_g (lw_at lw_m6 152 rfl) rfl
theorem q1452 : (Jvm.Cond.methodLink "BarredBooks" (418 : Nat) ({ cls := "BarredBooks", name := "canBeChosen", desc := "(LBarredBooks$Decree;)Z" } : Jvm.MethodName)) ∈ lw_all := lw_g (lw_at lw_m6 153 rfl) rfl
theorem q1453 : (Jvm.Cond.static ({ cls := "BarredBooks", name := "canBeChosen", desc := "(LBarredBooks$Decree;)Z" } : Jvm.MethodName)) ∈ lw_all := lw_g (lw_at lw_m6 154 rfl) rfl
theorem q1454 : (Jvm.Cond.code ({ cls := "BarredBooks", name := "canBeChosen", desc := "(LBarredBooks$Decree;)Z" } : Jvm.MethodName) prog_1_method_50_code (3 : Nat) (Option.some Jvm.ClassFile.FieldType.boolean)) ∈ lw_all := lw_g (lw_at lw_m6 155 rfl) rfl
theorem q1455 : (Jvm.Cond.classLink "BarredBooks" (407 : Nat) "BarredBooks$OfLines") ∈ lw_all := lw_g (lw_at lw_m6 156 rfl) rfl
theorem q1456 : (Jvm.Cond.classLink "BarredBooks" (409 : Nat) "BarredBooks$OfAuthor") ∈ lw_all := lw_g (lw_at lw_m6 157 rfl) rfl
theorem q1458 : (Jvm.Cond.instanceMethod ({ cls := "BarredBooks", name := "aim", desc := "(II)I" } : Jvm.MethodName)) ∈ lw_all := lw_g (lw_at lw_m6 159 rfl) rfl
theorem q1459 : (Jvm.Cond.selects "BarredBooks" ({ cls := "BarredBooks", name := "aim", desc := "(II)I" } : Jvm.MethodName) ({ cls := "BarredBooks", name := "aim", desc := "(II)I" } : Jvm.MethodName)) ∈ lw_all := lw_g (lw_at lw_m6 160 rfl) rfl
theorem q1460 : (Jvm.Cond.code ({ cls := "BarredBooks", name := "aim", desc := "(II)I" } : Jvm.MethodName) prog_1_method_53_code (3 : Nat) (Option.some Jvm.ClassFile.FieldType.int)) ∈ lw_all := lw_g (lw_at lw_m6 161 rfl) rfl
theorem q1461 : (Jvm.Cond.methodLink "BarredBooks" (425 : Nat) ({ cls := "BarredBooks", name := "isAim", desc := "(II)Z" } : Jvm.MethodName)) ∈ lw_all := lw_g (lw_at lw_m6 162 rfl) rfl
theorem q1462 : (Jvm.Cond.privateMethod ({ cls := "BarredBooks", name := "isAim", desc := "(II)Z" } : Jvm.MethodName)) ∈ lw_tbl := lw_at lw_m6 163 rfl
theorem q1463 : (Jvm.Cond.instanceMethod ({ cls := "BarredBooks", name := "isAim", desc := "(II)Z" } : Jvm.MethodName)) ∈ lw_all := lw_g (lw_at lw_m6 164 rfl) rfl
theorem q1464 : (Jvm.Cond.code ({ cls := "BarredBooks", name := "isAim", desc := "(II)Z" } : Jvm.MethodName) prog_1_method_52_code (4 : Nat) (Option.some Jvm.ClassFile.FieldType.boolean)) ∈ lw_all := lw_g (lw_at lw_m6 165 rfl) rfl
theorem q1466 : (Jvm.Cond.instanceMethod ({ cls := "BarredBooks", name := "weigh", desc := "(II)I" } : Jvm.MethodName)) ∈ lw_all := lw_g (lw_at lw_m6 167 rfl) rfl
theorem q1467 : (Jvm.Cond.selects "BarredBooks" ({ cls := "BarredBooks", name := "weigh", desc := "(II)I" } : Jvm.MethodName) ({ cls := "BarredBooks", name := "weigh", desc := "(II)I" } : Jvm.MethodName)) ∈ lw_all := lw_g (lw_at lw_m6 168 rfl) rfl
theorem q1468 : (Jvm.Cond.code ({ cls := "BarredBooks", name := "weigh", desc := "(II)I" } : Jvm.MethodName) prog_1_method_55_code (3 : Nat) (Option.some Jvm.ClassFile.FieldType.int)) ∈ lw_all := lw_g (lw_at lw_m6 169 rfl) rfl
theorem q1469 : (Jvm.Cond.methodLink "BarredBooks" (437 : Nat) ({ cls := "BarredBooks", name := "weighs", desc := "(I)V" } : Jvm.MethodName)) ∈ lw_all := lw_g (lw_at lw_m6 170 rfl) rfl
theorem q1470 : (Jvm.Cond.privateMethod ({ cls := "BarredBooks", name := "weighs", desc := "(I)V" } : Jvm.MethodName)) ∈ lw_tbl := lw_at lw_m6 171 rfl
theorem q1471 : (Jvm.Cond.instanceMethod ({ cls := "BarredBooks", name := "weighs", desc := "(I)V" } : Jvm.MethodName)) ∈ lw_all := lw_g (lw_at lw_m6 172 rfl) rfl
theorem q1472 : (Jvm.Cond.code ({ cls := "BarredBooks", name := "weighs", desc := "(I)V" } : Jvm.MethodName) prog_1_method_54_code (7 : Nat) (Option.none : Option Jvm.ClassFile.FieldType)) ∈ lw_all := lw_g (lw_at lw_m6 173 rfl) rfl
theorem q1473 : (Jvm.Cond.methodLink "BarredBooks" (435 : Nat) ({ cls := "BarredBooks$Clause", name := "bars", desc := "(LBarredBooks$Edition;)I" } : Jvm.MethodName)) ∈ lw_all := lw_g (lw_at lw_m6 174 rfl) rfl
theorem q1474 : (Jvm.Cond.methodLink "BarredBooks" (436 : Nat) ({ cls := "BarredBooks$Clause", name := "strikes", desc := "(LBarredBooks$Look;)Z" } : Jvm.MethodName)) ∈ lw_all := lw_g (lw_at lw_m6 175 rfl) rfl
theorem q1476 : (Jvm.Cond.instanceMethod ({ cls := "BarredBooks", name := "best", desc := "()I" } : Jvm.MethodName)) ∈ lw_all := lw_g (lw_at lw_m6 177 rfl) rfl
theorem q1477 : (Jvm.Cond.selects "BarredBooks" ({ cls := "BarredBooks", name := "best", desc := "()I" } : Jvm.MethodName) ({ cls := "BarredBooks", name := "best", desc := "()I" } : Jvm.MethodName)) ∈ lw_all := lw_g (lw_at lw_m6 178 rfl) rfl
theorem q1478 : (Jvm.Cond.code ({ cls := "BarredBooks", name := "best", desc := "()I" } : Jvm.MethodName) prog_1_method_56_code (4 : Nat) (Option.some Jvm.ClassFile.FieldType.int)) ∈ lw_all := lw_g (lw_at lw_m6 179 rfl) rfl
theorem q1480 : (Jvm.Cond.instanceMethod ({ cls := "BarredBooks", name := "copy", desc := "(I)I" } : Jvm.MethodName)) ∈ lw_all := lw_g (lw_at lw_m6 181 rfl) rfl
theorem q1481 : (Jvm.Cond.selects "BarredBooks" ({ cls := "BarredBooks", name := "copy", desc := "(I)I" } : Jvm.MethodName) ({ cls := "BarredBooks", name := "copy", desc := "(I)I" } : Jvm.MethodName)) ∈ lw_all := lw_g (lw_at lw_m6 182 rfl) rfl
theorem q1482 : (Jvm.Cond.code ({ cls := "BarredBooks", name := "copy", desc := "(I)I" } : Jvm.MethodName) prog_1_method_60_code (3 : Nat) (Option.some Jvm.ClassFile.FieldType.int)) ∈ lw_all := lw_g (lw_at lw_m6 183 rfl) rfl
theorem q1483 : (Jvm.Cond.methodLink "BarredBooks" (447 : Nat) ({ cls := "BarredBooks", name := "enters", desc := "(III)I" } : Jvm.MethodName)) ∈ lw_all := lw_g (lw_at lw_m6 184 rfl) rfl
theorem q1484 : (Jvm.Cond.privateMethod ({ cls := "BarredBooks", name := "enters", desc := "(III)I" } : Jvm.MethodName)) ∈ lw_tbl := lw_at lw_m6 185 rfl
theorem q1485 : (Jvm.Cond.instanceMethod ({ cls := "BarredBooks", name := "enters", desc := "(III)I" } : Jvm.MethodName)) ∈ lw_all := lw_g (lw_at lw_m6 186 rfl) rfl
theorem q1486 : (Jvm.Cond.code ({ cls := "BarredBooks", name := "enters", desc := "(III)I" } : Jvm.MethodName) prog_1_method_59_code (4 : Nat) (Option.some Jvm.ClassFile.FieldType.int)) ∈ lw_all := lw_g (lw_at lw_m6 187 rfl) rfl
theorem q1488 : (Jvm.Cond.instanceMethod ({ cls := "BarredBooks", name := "moved", desc := "(III)I" } : Jvm.MethodName)) ∈ lw_all := lw_g (lw_at lw_m6 189 rfl) rfl
theorem q1489 : (Jvm.Cond.selects "BarredBooks" ({ cls := "BarredBooks", name := "moved", desc := "(III)I" } : Jvm.MethodName) ({ cls := "BarredBooks", name := "moved", desc := "(III)I" } : Jvm.MethodName)) ∈ lw_all := lw_g (lw_at lw_m6 190 rfl) rfl
theorem q1490 : (Jvm.Cond.code ({ cls := "BarredBooks", name := "moved", desc := "(III)I" } : Jvm.MethodName) prog_1_method_62_code (7 : Nat) (Option.some Jvm.ClassFile.FieldType.int)) ∈ lw_all := lw_g (lw_at lw_m6 191 rfl) rfl
theorem q1491 : (Jvm.Cond.methodLink "BarredBooks" (451 : Nat) ({ cls := "BarredBooks", name := "isCopy", desc := "(I)Z" } : Jvm.MethodName)) ∈ lw_all := lw_g (lw_at lw_m6 192 rfl) rfl
theorem q1492 : (Jvm.Cond.privateMethod ({ cls := "BarredBooks", name := "isCopy", desc := "(I)Z" } : Jvm.MethodName)) ∈ lw_tbl := lw_at lw_m6 193 rfl
theorem q1493 : (Jvm.Cond.instanceMethod ({ cls := "BarredBooks", name := "isCopy", desc := "(I)Z" } : Jvm.MethodName)) ∈ lw_all := lw_g (lw_at lw_m6 194 rfl) rfl
theorem q1494 : (Jvm.Cond.code ({ cls := "BarredBooks", name := "isCopy", desc := "(I)Z" } : Jvm.MethodName) prog_1_method_57_code (2 : Nat) (Option.some Jvm.ClassFile.FieldType.boolean)) ∈ lw_all := lw_g (lw_at lw_m6 195 rfl) rfl
theorem q1495 : (Jvm.Cond.methodLink "BarredBooks" (454 : Nat) ({ cls := "BarredBooks", name := "spotOf", desc := "(III)I" } : Jvm.MethodName)) ∈ lw_all := lw_g (lw_at lw_m6 196 rfl) rfl
theorem q1496 : (Jvm.Cond.privateMethod ({ cls := "BarredBooks", name := "spotOf", desc := "(III)I" } : Jvm.MethodName)) ∈ lw_tbl := lw_at lw_m6 197 rfl
theorem q1497 : (Jvm.Cond.instanceMethod ({ cls := "BarredBooks", name := "spotOf", desc := "(III)I" } : Jvm.MethodName)) ∈ lw_all := lw_g (lw_at lw_m6 198 rfl) rfl
theorem q1498 : (Jvm.Cond.code ({ cls := "BarredBooks", name := "spotOf", desc := "(III)I" } : Jvm.MethodName) prog_1_method_61_code (7 : Nat) (Option.some Jvm.ClassFile.FieldType.int)) ∈ lw_all := lw_g (lw_at lw_m6 199 rfl) rfl
theorem q1500 : (Jvm.Cond.instanceMethod ({ cls := "BarredBooks", name := "spot", desc := "(III)I" } : Jvm.MethodName)) ∈ lw_all := lw_g (lw_at lw_m6 201 rfl) rfl
theorem q1501 : (Jvm.Cond.selects "BarredBooks" ({ cls := "BarredBooks", name := "spot", desc := "(III)I" } : Jvm.MethodName) ({ cls := "BarredBooks", name := "spot", desc := "(III)I" } : Jvm.MethodName)) ∈ lw_all := lw_g (lw_at lw_m6 202 rfl) rfl
theorem q1502 : (Jvm.Cond.code ({ cls := "BarredBooks", name := "spot", desc := "(III)I" } : Jvm.MethodName) prog_1_method_63_code (4 : Nat) (Option.some Jvm.ClassFile.FieldType.int)) ∈ lw_all := lw_g (lw_at lw_m6 203 rfl) rfl
theorem q1503 : (Jvm.Cond.methodLink "BarredBooks" (457 : Nat) ({ cls := "BarredBooks", name := "isBy", desc := "(I)Z" } : Jvm.MethodName)) ∈ lw_all := lw_g (lw_at lw_m6 204 rfl) rfl
theorem q1504 : (Jvm.Cond.privateMethod ({ cls := "BarredBooks", name := "isBy", desc := "(I)Z" } : Jvm.MethodName)) ∈ lw_tbl := lw_at lw_m6 205 rfl
theorem q1505 : (Jvm.Cond.instanceMethod ({ cls := "BarredBooks", name := "isBy", desc := "(I)Z" } : Jvm.MethodName)) ∈ lw_all := lw_g (lw_at lw_m6 206 rfl) rfl
theorem q1506 : (Jvm.Cond.code ({ cls := "BarredBooks", name := "isBy", desc := "(I)Z" } : Jvm.MethodName) prog_1_method_58_code (2 : Nat) (Option.some Jvm.ClassFile.FieldType.boolean)) ∈ lw_all := lw_g (lw_at lw_m6 207 rfl) rfl
theorem q1508 : (Jvm.Cond.instanceMethod ({ cls := "BarredBooks", name := "lost", desc := "(III)I" } : Jvm.MethodName)) ∈ lw_all := lw_g (lw_at lw_m6 209 rfl) rfl
theorem q1509 : (Jvm.Cond.selects "BarredBooks" ({ cls := "BarredBooks", name := "lost", desc := "(III)I" } : Jvm.MethodName) ({ cls := "BarredBooks", name := "lost", desc := "(III)I" } : Jvm.MethodName)) ∈ lw_all := lw_g (lw_at lw_m6 210 rfl) rfl
theorem q1510 : (Jvm.Cond.code ({ cls := "BarredBooks", name := "lost", desc := "(III)I" } : Jvm.MethodName) prog_1_method_64_code (7 : Nat) (Option.some Jvm.ClassFile.FieldType.int)) ∈ lw_all := lw_g (lw_at lw_m6 211 rfl) rfl
theorem q1512 : (Jvm.Cond.instanceMethod ({ cls := "BarredBooks", name := "met", desc := "(III)I" } : Jvm.MethodName)) ∈ lw_all := lw_g (lw_at lw_m6 213 rfl) rfl
theorem q1513 : (Jvm.Cond.selects "BarredBooks" ({ cls := "BarredBooks", name := "met", desc := "(III)I" } : Jvm.MethodName) ({ cls := "BarredBooks", name := "met", desc := "(III)I" } : Jvm.MethodName)) ∈ lw_all := lw_g (lw_at lw_m6 214 rfl) rfl
theorem q1514 : (Jvm.Cond.code ({ cls := "BarredBooks", name := "met", desc := "(III)I" } : Jvm.MethodName) prog_1_method_65_code (6 : Nat) (Option.some Jvm.ClassFile.FieldType.int)) ∈ lw_all := lw_g (lw_at lw_m6 215 rfl) rfl
theorem q1516 : (Jvm.Cond.instanceMethod ({ cls := "BarredBooks", name := "catalogue", desc := "(IIII)J" } : Jvm.MethodName)) ∈ lw_all := lw_g (lw_at lw_m6 217 rfl) rfl
theorem q1517 : (Jvm.Cond.selects "BarredBooks" ({ cls := "BarredBooks", name := "catalogue", desc := "(IIII)J" } : Jvm.MethodName) ({ cls := "BarredBooks", name := "catalogue", desc := "(IIII)J" } : Jvm.MethodName)) ∈ lw_all := lw_g (lw_at lw_m6 218 rfl) rfl
theorem q1518 : (Jvm.Cond.codeWith ({ cls := "BarredBooks", name := "catalogue", desc := "(IIII)J" } : Jvm.MethodName) prog_1_method_67_code (6 : Nat) (Option.some Jvm.ClassFile.FieldType.long) [((29 : Nat), (49 : Nat), (50 : Nat), (234 : Nat))]) ∈ lw_all := lw_g (lw_at lw_m6 219 rfl) rfl
theorem q1519 : (Jvm.Cond.methodLink "BarredBooks" (466 : Nat) ({ cls := "BarredBooks", name := "isTape", desc := "(I)Z" } : Jvm.MethodName)) ∈ lw_all := lw_g (lw_at lw_m6 220 rfl) rfl
theorem q1520 : (Jvm.Cond.static ({ cls := "BarredBooks", name := "isTape", desc := "(I)Z" } : Jvm.MethodName)) ∈ lw_all := lw_g (lw_at lw_m6 221 rfl) rfl
theorem q1521 : (Jvm.Cond.code ({ cls := "BarredBooks", name := "isTape", desc := "(I)Z" } : Jvm.MethodName) prog_1_method_70_code (1 : Nat) (Option.some Jvm.ClassFile.FieldType.boolean)) ∈ lw_all := lw_g (lw_at lw_m6 222 rfl) rfl
theorem q1522 : (Jvm.Cond.constantLong "BarredBooks" (469 : Nat) (-9223372036854775808 : Int64)) ∈ lw_all := lw_g (lw_at lw_m6 223 rfl) rfl
theorem q1523 : (Jvm.Cond.classLink "BarredBooks" (475 : Nat) "[S") ∈ lw_all := lw_g (lw_at lw_m6 224 rfl) rfl
theorem q1524 : (Jvm.Cond.methodLink "BarredBooks" (477 : Nat) ({ cls := "BarredBooks", name := "looks", desc := "(I[SII)J" } : Jvm.MethodName)) ∈ lw_all := lw_g (lw_at lw_m6 225 rfl) rfl
theorem q1525 : (Jvm.Cond.privateMethod ({ cls := "BarredBooks", name := "looks", desc := "(I[SII)J" } : Jvm.MethodName)) ∈ lw_tbl := lw_at lw_m6 226 rfl
theorem q1526 : (Jvm.Cond.instanceMethod ({ cls := "BarredBooks", name := "looks", desc := "(I[SII)J" } : Jvm.MethodName)) ∈ lw_all := lw_g (lw_at lw_m6 227 rfl) rfl
theorem q1527 : (Jvm.Cond.codeWith ({ cls := "BarredBooks", name := "looks", desc := "(I[SII)J" } : Jvm.MethodName) prog_1_method_66_code (11 : Nat) (Option.some Jvm.ClassFile.FieldType.long) [((3 : Nat), (105 : Nat), (108 : Nat), (260 : Nat)), ((3 : Nat), (105 : Nat), (121 : Nat), (283 : Nat))]) ∈ lw_all := lw_g (lw_at lw_m6 228 rfl) rfl
theorem q1528 : (Jvm.Cond.methodLink "BarredBooks" (460 : Nat) ({ cls := "BarredBooks$Off", name := "<init>", desc := "(I)V" } : Jvm.MethodName)) ∈ lw_all := lw_g (lw_at lw_m6 229 rfl) rfl
theorem q1529 : (Jvm.Cond.constantLong "BarredBooks" (462 : Nat) (1000 : Int64)) ∈ lw_all := lw_g (lw_at lw_m6 230 rfl) rfl
theorem q1530 : (Jvm.Cond.constantLong "BarredBooks" (464 : Nat) (1000000 : Int64)) ∈ lw_all := lw_g (lw_at lw_m6 231 rfl) rfl
theorem q1531 : (Jvm.Cond.constantLong "BarredBooks" (481 : Nat) (-9223372036854775807 : Int64)) ∈ lw_all := lw_g (lw_at lw_m6 232 rfl) rfl
theorem q1533 : (Jvm.Cond.instanceMethod ({ cls := "BarredBooks", name := "count", desc := "(I)I" } : Jvm.MethodName)) ∈ lw_all := lw_g (lw_at lw_m6 234 rfl) rfl
theorem q1534 : (Jvm.Cond.selects "BarredBooks" ({ cls := "BarredBooks", name := "count", desc := "(I)I" } : Jvm.MethodName) ({ cls := "BarredBooks", name := "count", desc := "(I)I" } : Jvm.MethodName)) ∈ lw_all := lw_g (lw_at lw_m6 235 rfl) rfl
theorem q1535 : (Jvm.Cond.code ({ cls := "BarredBooks", name := "count", desc := "(I)I" } : Jvm.MethodName) prog_1_method_68_code (2 : Nat) (Option.some Jvm.ClassFile.FieldType.int)) ∈ lw_all := lw_g (lw_at lw_m6 236 rfl) rfl
theorem q1537 : (Jvm.Cond.instanceMethod ({ cls := "BarredBooks", name := "tape", desc := "(III)I" } : Jvm.MethodName)) ∈ lw_all := lw_g (lw_at lw_m6 238 rfl) rfl
theorem q1538 : (Jvm.Cond.selects "BarredBooks" ({ cls := "BarredBooks", name := "tape", desc := "(III)I" } : Jvm.MethodName) ({ cls := "BarredBooks", name := "tape", desc := "(III)I" } : Jvm.MethodName)) ∈ lw_all := lw_g (lw_at lw_m6 239 rfl) rfl
theorem q1539 : (Jvm.Cond.codeWith ({ cls := "BarredBooks", name := "tape", desc := "(III)I" } : Jvm.MethodName) prog_1_method_71_code (5 : Nat) (Option.some Jvm.ClassFile.FieldType.int) [((32 : Nat), (56 : Nat), (57 : Nat), (487 : Nat))]) ∈ lw_all := lw_g (lw_at lw_m7 0 rfl) rfl
theorem q1540 : (Jvm.Cond.classLink "BarredBooks" (487 : Nat) "java/lang/NegativeArraySizeException") ∈ lw_all := lw_g (lw_at lw_m7 1 rfl) rfl
theorem q1554 : (Jvm.Cond.methodLink "BarredBooks" (483 : Nat) ({ cls := "BarredBooks", name := "rowOf", desc := "(II)Ljava/lang/Object;" } : Jvm.MethodName)) ∈ lw_all := lw_g (lw_at lw_m7 15 rfl) rfl
theorem q1555 : (Jvm.Cond.static ({ cls := "BarredBooks", name := "rowOf", desc := "(II)Ljava/lang/Object;" } : Jvm.MethodName)) ∈ lw_all := lw_g (lw_at lw_m7 16 rfl) rfl
theorem q1556 : (Jvm.Cond.code ({ cls := "BarredBooks", name := "rowOf", desc := "(II)Ljava/lang/Object;" } : Jvm.MethodName) prog_1_method_69_code (2 : Nat) (Option.some (Jvm.ClassFile.FieldType.object "java/lang/Object"))) ∈ lw_all := lw_g (lw_at lw_m7 17 rfl) rfl
theorem q1561 : (Jvm.Cond.instanceMethod ({ cls := "BarredBooks", name := "item", desc := "(IIJ)I" } : Jvm.MethodName)) ∈ lw_all := lw_g (lw_at lw_m7 22 rfl) rfl
theorem q1562 : (Jvm.Cond.selects "BarredBooks" ({ cls := "BarredBooks", name := "item", desc := "(IIJ)I" } : Jvm.MethodName) ({ cls := "BarredBooks", name := "item", desc := "(IIJ)I" } : Jvm.MethodName)) ∈ lw_all := lw_g (lw_at lw_m7 23 rfl) rfl
theorem q1563 : (Jvm.Cond.codeWith ({ cls := "BarredBooks", name := "item", desc := "(IIJ)I" } : Jvm.MethodName) prog_1_method_72_code (11 : Nat) (Option.some Jvm.ClassFile.FieldType.int) [((17 : Nat), (23 : Nat), (26 : Nat), (283 : Nat))]) ∈ lw_all := lw_g (lw_at lw_m7 24 rfl) rfl
theorem q1564 : (Jvm.Cond.methodLinkNest "BarredBooks" (489 : Nat) ({ cls := "BarredBooks$Tape", name := "has", desc := "(I)V" } : Jvm.MethodName) "BarredBooks") ∈ lw_tbl := lw_at lw_m7 25 rfl
theorem q1580 : (Jvm.Cond.classLink "BarredBooks" (491 : Nat) "[B") ∈ lw_all := lw_g (lw_at lw_m7 41 rfl) rfl
theorem q1581 : (Jvm.Cond.classLink "BarredBooks" (492 : Nat) "[I") ∈ lw_all := lw_g (lw_at lw_m7 42 rfl) rfl
theorem q1582 : (Jvm.Cond.classLink "BarredBooks" (493 : Nat) "[J") ∈ lw_all := lw_g (lw_at lw_m7 43 rfl) rfl
theorem q1583 : (Jvm.Cond.classLink "BarredBooks" (495 : Nat) "[Z") ∈ lw_all := lw_g (lw_at lw_m7 44 rfl) rfl
theorem q1585 : (Jvm.Cond.instanceMethod ({ cls := "BarredBooks", name := "read", desc := "(II)J" } : Jvm.MethodName)) ∈ lw_all := lw_g (lw_at lw_m7 46 rfl) rfl
theorem q1586 : (Jvm.Cond.selects "BarredBooks" ({ cls := "BarredBooks", name := "read", desc := "(II)J" } : Jvm.MethodName) ({ cls := "BarredBooks", name := "read", desc := "(II)J" } : Jvm.MethodName)) ∈ lw_all := lw_g (lw_at lw_m7 47 rfl) rfl
theorem q1587 : (Jvm.Cond.code ({ cls := "BarredBooks", name := "read", desc := "(II)J" } : Jvm.MethodName) prog_1_method_73_code (6 : Nat) (Option.some Jvm.ClassFile.FieldType.long)) ∈ lw_all := lw_g (lw_at lw_m7 48 rfl) rfl
theorem q1588 : (Jvm.Cond.methodLinkNest "BarredBooks" (497 : Nat) ({ cls := "BarredBooks$Tape", name := "size", desc := "()I" } : Jvm.MethodName) "BarredBooks") ∈ lw_tbl := lw_at lw_m7 49 rfl
theorem q1590 : (Jvm.Cond.instanceMethod ({ cls := "BarredBooks", name := "shift", desc := "(IIIII)I" } : Jvm.MethodName)) ∈ lw_all := lw_g (lw_at lw_m7 51 rfl) rfl
theorem q1591 : (Jvm.Cond.selects "BarredBooks" ({ cls := "BarredBooks", name := "shift", desc := "(IIIII)I" } : Jvm.MethodName) ({ cls := "BarredBooks", name := "shift", desc := "(IIIII)I" } : Jvm.MethodName)) ∈ lw_all := lw_g (lw_at lw_m7 52 rfl) rfl
theorem q1592 : (Jvm.Cond.codeWith ({ cls := "BarredBooks", name := "shift", desc := "(IIIII)I" } : Jvm.MethodName) prog_1_method_74_code (7 : Nat) (Option.some Jvm.ClassFile.FieldType.int) [((16 : Nat), (44 : Nat), (45 : Nat), (260 : Nat)), ((16 : Nat), (44 : Nat), (50 : Nat), (504 : Nat)), ((16 : Nat), (44 : Nat), (55 : Nat), (506 : Nat))]) ∈ lw_all := lw_g (lw_at lw_m7 53 rfl) rfl
theorem q1593 : (Jvm.Cond.classLink "BarredBooks" (504 : Nat) "java/lang/ArrayStoreException") ∈ lw_all := lw_g (lw_at lw_m7 54 rfl) rfl
theorem q1607 : (Jvm.Cond.classLink "BarredBooks" (506 : Nat) "java/lang/IndexOutOfBoundsException") ∈ lw_all := lw_g (lw_at lw_m7 68 rfl) rfl
theorem q1626 : (Jvm.Cond.methodLink "BarredBooks" (498 : Nat) ({ cls := "java/lang/System", name := "arraycopy", desc := "(Ljava/lang/Object;ILjava/lang/Object;II)V" } : Jvm.MethodName)) ∈ lw_all := lw_g (lw_at lw_m7 87 rfl) rfl
theorem q2330 : (Jvm.Cond.castable "BarredBooks" "java/lang/Object") ∈ lw_tbl := lw_at lw_m10 71 rfl
theorem in_X0 : ∀ w ∈ wsX00, w ∈ lw_all := lw_in wsX00 [259, 261, 263, 265, 267, 269, 271, 273, 275, 277, 279, 281, 283, 285, 287, 289, 291, 293, 295, 297, 299, 301, 303, 305, 307, 309, 311, 313, 315, 317, 319, 321, 323, 325, 327, 329, 331, 333, 335, 337] (by decide +kernel) (by decide +kernel)
