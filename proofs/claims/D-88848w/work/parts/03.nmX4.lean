/-! BarredBooksModel -/
set_option maxRecDepth 100000
def RX4 : String := "BarredBooksModel"
def TX4 : u_T := fun k => match k with
  | 0 => ("BarredBooksModel", "today", "I", false)
  | 1 => ("BarredBooksModel", "persons", "I", false)
  | 2 => ("BarredBooksModel", "books", "I", false)
  | 3 => ("BarredBooksModel", "editions", "I", false)
  | 4 => ("BarredBooksModel", "road", "[I", true)
  | 5 => ("BarredBooksModel", "homeOf", "[I", true)
  | 6 => ("BarredBooksModel", "rankOf", "[I", true)
  | 7 => ("BarredBooksModel", "title", "[I", true)
  | 8 => ("BarredBooksModel", "author", "[I", true)
  | 9 => ("BarredBooksModel", "year", "[I", true)
  | 10 => ("BarredBooksModel", "lines", "[I", true)
  | 11 => ("BarredBooksModel", "words", "[I", true)
  | 12 => ("BarredBooksModel", "bookOf", "[I", true)
  | 13 => ("BarredBooksModel", "linesOf", "[I", true)
  | 14 => ("BarredBooksModel", "townOf", "[I", true)
  | 15 => ("BarredBooksModel", "fromOf", "[I", true)
  | 16 => ("BarredBooksModel", "fars", "[I", true)
  | 17 => ("BarredBooksModel", "cards", "I", false)
  | 18 => ("BarredBooksModel", "ran", "I", false)
  | 19 => ("BarredBooksModel", "cardKind", "[I", true)
  | 20 => ("BarredBooksModel", "cardEdition", "[I", true)
  | 21 => ("BarredBooksModel", "cardNumber", "[I", true)
  | 22 => ("BarredBooksModel", "righted", "[I", true)
  | 23 => ("BarredBooksModel", "bodies", "[I", true)
  | 24 => ("BarredBooksModel", "isMended", "[Z", true)
  | 25 => ("BarredBooksModel", "decrees", "I", false)
  | 26 => ("BarredBooksModel", "choices", "I", false)
  | 27 => ("BarredBooksModel", "fed", "I", false)
  | 28 => ("BarredBooksModel", "issued", "[I", true)
  | 29 => ("BarredBooksModel", "revoked", "[I", true)
  | 30 => ("BarredBooksModel", "text", "[I", true)
  | 31 => ("BarredBooksModel", "size", "[I", true)
  | 32 => ("BarredBooksModel", "askEdition", "I", false)
  | 33 => ("BarredBooksModel", "askLine", "I", false)
  | 34 => ("BarredBooksModel", "askRank", "I", false)
  | 35 => ("BarredBooksModel", "bars", "I", false)
  | 36 => ("BarredBooksModel", "leaveDays", "I", false)
  | 37 => ("BarredBooksModel", "clauses", "I", false)
  | 38 => ("BarredBooksModel", "base", "I", false)
  | 39 => ("BarredBooksModel", "many", "I", false)
  | 40 => ("BarredBooksModel", "at", "I", false)
  | 41 => ("BarredBooksModel", "isStruck", "Z", false)
  | 42 => ("BarredBooksModel", "isOther", "Z", false)
  | 43 => ("BarredBooksModel", "value", "I", false)
  | 44 => ("BarredBooksModel", "waits", "[I", true)
  | 45 => ("BarredBooksModel", "pile", "[Z", true)
  | 46 => ("BarredBooksModel", "waiting", "I", false)
  | 47 => ("BarredBooksModel", "piled", "I", false)
  | 48 => ("BarredBooksModel", "open", "I", false)
  | 49 => ("BarredBooksModel", "isBarring", "Z", false)
  | 50 => ("BarredBooksModel", "leaves", "I", false)
  | 51 => ("BarredBooksModel", "leaveOf", "[I", true)
  | 52 => ("BarredBooksModel", "leaveBook", "[I", true)
  | 53 => ("BarredBooksModel", "leaveFrom", "[I", true)
  | 54 => ("BarredBooksModel", "leaveTo", "[I", true)
  | 55 => ("BarredBooksModel", "slips", "I", false)
  | 56 => ("BarredBooksModel", "slipTitle", "[I", true)
  | 57 => ("BarredBooksModel", "slipAuthor", "[I", true)
  | 58 => ("BarredBooksModel", "slipYear", "[I", true)
  | 59 => ("BarredBooksModel", "slipFrom", "[I", true)
  | 60 => ("BarredBooksModel", "pairs", "[I", true)
  | 61 => ("BarredBooksModel", "apart", "[I", true)
  | 62 => ("BarredBooksModel", "lineAt", "[I", true)
  | 63 => ("BarredBooksModel", "reader", "[I", true)
  | 64 => ("BarredBooksModel", "lineMany", "I", false)
  | 65 => ("BarredBooksModel", "found", "[I", true)
  | 66 => ("BarredBooksModel", "most", "[I", true)
  | 67 => ("BarredBooksModel", "aims", "I", false)
  | 68 => ("BarredBooksModel", "aimSet", "[I", true)
  | 69 => ("BarredBooksModel", "hits", "[I", true)
  | 70 => ("BarredBooksModel", "copies", "I", false)
  | 71 => ("BarredBooksModel", "entries", "I", false)
  | 72 => ("BarredBooksModel", "copyOf", "[I", true)
  | 73 => ("BarredBooksModel", "entryCopy", "[I", true)
  | 74 => ("BarredBooksModel", "entrySpot", "[I", true)
  | 75 => ("BarredBooksModel", "entryDay", "[I", true)
  | 76 => ("BarredBooksModel", "sort", "[I", true)
  | 77 => ("BarredBooksModel", "length", "[I", true)
  | 78 => ("BarredBooksModel", "item", "[J", true)
  | _ => ("BarredBooksModel", "aside", "[J", true)
def tyX4 : Nat → FieldType := fun k => match k with
  | 0 => .int
  | 1 => .int
  | 2 => .int
  | 3 => .int
  | 4 => .array .int
  | 5 => .array .int
  | 6 => .array .int
  | 7 => .array .int
  | 8 => .array .int
  | 9 => .array .int
  | 10 => .array .int
  | 11 => .array .int
  | 12 => .array .int
  | 13 => .array .int
  | 14 => .array .int
  | 15 => .array .int
  | 16 => .array .int
  | 17 => .int
  | 18 => .int
  | 19 => .array .int
  | 20 => .array .int
  | 21 => .array .int
  | 22 => .array .int
  | 23 => .array .int
  | 24 => .array .boolean
  | 25 => .int
  | 26 => .int
  | 27 => .int
  | 28 => .array .int
  | 29 => .array .int
  | 30 => .array .int
  | 31 => .array .int
  | 32 => .int
  | 33 => .int
  | 34 => .int
  | 35 => .int
  | 36 => .int
  | 37 => .int
  | 38 => .int
  | 39 => .int
  | 40 => .int
  | 41 => .boolean
  | 42 => .boolean
  | 43 => .int
  | 44 => .array .int
  | 45 => .array .boolean
  | 46 => .int
  | 47 => .int
  | 48 => .int
  | 49 => .boolean
  | 50 => .int
  | 51 => .array .int
  | 52 => .array .int
  | 53 => .array .int
  | 54 => .array .int
  | 55 => .int
  | 56 => .array .int
  | 57 => .array .int
  | 58 => .array .int
  | 59 => .array .int
  | 60 => .array .int
  | 61 => .array .int
  | 62 => .array .int
  | 63 => .array .int
  | 64 => .int
  | 65 => .array .int
  | 66 => .array .int
  | 67 => .int
  | 68 => .array .int
  | 69 => .array .int
  | 70 => .int
  | 71 => .int
  | 72 => .array .int
  | 73 => .array .int
  | 74 => .array .int
  | 75 => .array .int
  | 76 => .array .int
  | 77 => .array .int
  | 78 => .array .long
  | _ => .array .long
abbrev wsX40 : List Cond := u_ws RX4 TX4 80
set_option maxRecDepth 100000 in
theorem nmX4 : ∀ a, a < 80 → ∀ b, b < 80 → a ≠ b → (TX4 a).2.1 ≠ (TX4 b).2.1 := by decide +kernel
set_option maxRecDepth 100000 in
theorem tyX4_ok : ∀ k, k < 80 → parseFieldDescriptor (TX4 k).2.2.1 = some (tyX4 k) := by decide +kernel
abbrev cX4_init : ByteArray := prog_30_method_4_code
def yX4_init : MethodName := ⟨RX4, "<init>", "()V"⟩
def dkwX4_init_26 : List UInt8 := [167, 0, 6, 17, 39, 15, 79, 132, 1, 1, 167, 255, 223, 177]
abbrev dktX4_init_26 : List UInt8 := dkwX4_init_26 ++ []
def dkwX4_init_25 : List UInt8 := [27, 16, 64, 162, 0, 33, 42, 180, 0, 26, 27, 27, 16, 8, 108, 27, 16, 8, 112, 160, 0, 7, 3]
abbrev dktX4_init_25 : List UInt8 := dkwX4_init_25 ++ dktX4_init_26
def dkwX4_init_24 : List UInt8 := [188, 10, 181, 0, 248, 42, 17, 1, 104, 188, 11, 181, 0, 251, 42, 16, 60, 188, 11, 181, 0, 255, 3, 60]
abbrev dktX4_init_24 : List UInt8 := dkwX4_init_24 ++ dktX4_init_25
def dkwX4_init_23 : List UInt8 := [79, 89, 5, 2, 79, 89, 6, 2, 79, 89, 7, 2, 79, 89, 8, 2, 79, 181, 0, 245, 42, 16, 6]
abbrev dktX4_init_23 : List UInt8 := dkwX4_init_23 ++ dktX4_init_24
def dkwX4_init_22 : List UInt8 := [181, 0, 239, 42, 17, 0, 200, 188, 10, 181, 0, 242, 42, 16, 6, 188, 10, 89, 3, 2, 79, 89, 4, 2]
abbrev dktX4_init_22 : List UInt8 := dkwX4_init_22 ++ dktX4_init_23
def dkwX4_init_21 : List UInt8 := [16, 60, 188, 10, 181, 0, 233, 42, 17, 0, 200, 188, 10, 181, 0, 236, 42, 17, 0, 200, 188, 10]
abbrev dktX4_init_21 : List UInt8 := dkwX4_init_21 ++ dktX4_init_22
def dkwX4_init_20 : List UInt8 := [181, 0, 221, 42, 17, 0, 192, 188, 10, 181, 0, 224, 42, 3, 181, 0, 227, 42, 3, 181, 0, 230, 42]
abbrev dktX4_init_20 : List UInt8 := dkwX4_init_20 ++ dktX4_init_21
def dkwX4_init_19 : List UInt8 := [181, 0, 212, 42, 17, 1, 23, 188, 10, 181, 0, 215, 42, 3, 181, 0, 218, 42, 16, 24, 188, 10]
abbrev dktX4_init_19 : List UInt8 := dkwX4_init_19 ++ dktX4_init_20
def dkwX4_init_18 : List UInt8 := [188, 10, 181, 0, 203, 42, 16, 9, 188, 10, 181, 0, 206, 42, 3, 181, 0, 209, 42, 16, 56, 188, 10]
abbrev dktX4_init_18 : List UInt8 := dkwX4_init_18 ++ dktX4_init_19
def dkwX4_init_17 : List UInt8 := [181, 0, 194, 42, 16, 16, 188, 10, 181, 0, 197, 42, 17, 1, 0, 188, 10, 181, 0, 200, 42, 16, 9]
abbrev dktX4_init_17 : List UInt8 := dkwX4_init_17 ++ dktX4_init_18
def dkwX4_init_16 : List UInt8 := [181, 0, 185, 42, 16, 40, 188, 10, 181, 0, 188, 42, 16, 40, 188, 10, 181, 0, 191, 42, 16, 40, 188, 10]
abbrev dktX4_init_16 : List UInt8 := dkwX4_init_16 ++ dktX4_init_17
def dkwX4_init_15 : List UInt8 := [188, 10, 181, 0, 176, 42, 16, 30, 188, 10, 181, 0, 179, 42, 3, 181, 0, 182, 42, 16, 40, 188, 10]
abbrev dktX4_init_15 : List UInt8 := dkwX4_init_15 ++ dktX4_init_16
def dkwX4_init_14 : List UInt8 := [3, 181, 0, 167, 42, 16, 30, 188, 10, 181, 0, 170, 42, 16, 30, 188, 10, 181, 0, 173, 42, 16, 30]
abbrev dktX4_init_14 : List UInt8 := dkwX4_init_14 ++ dktX4_init_15
def dkwX4_init_13 : List UInt8 := [181, 0, 152, 42, 3, 181, 0, 155, 42, 3, 181, 0, 158, 42, 3, 181, 0, 161, 42, 3, 181, 0, 164, 42]
abbrev dktX4_init_13 : List UInt8 := dkwX4_init_13 ++ dktX4_init_14
def dkwX4_init_12 : List UInt8 := [42, 3, 181, 0, 143, 42, 3, 181, 0, 146, 42, 16, 121, 188, 10, 181, 0, 149, 42, 16, 121, 188, 4]
abbrev dktX4_init_12 : List UInt8 := dkwX4_init_12 ++ dktX4_init_13
def dkwX4_init_11 : List UInt8 := [3, 181, 0, 127, 42, 3, 181, 0, 130, 42, 3, 181, 0, 133, 42, 3, 181, 0, 136, 42, 3, 181, 0, 139]
abbrev dktX4_init_11 : List UInt8 := dkwX4_init_11 ++ dktX4_init_12
def dkwX4_init_10 : List UInt8 := [181, 0, 112, 42, 2, 181, 0, 115, 42, 2, 181, 0, 118, 42, 2, 181, 0, 121, 42, 3, 181, 0, 124, 42]
abbrev dktX4_init_10 : List UInt8 := dkwX4_init_10 ++ dktX4_init_11
def dkwX4_init_9 : List UInt8 := [188, 10, 181, 0, 103, 42, 17, 11, 184, 188, 10, 181, 0, 106, 42, 16, 25, 188, 10, 181, 0, 109, 42, 2]
abbrev dktX4_init_9 : List UInt8 := dkwX4_init_9 ++ dktX4_init_10
def dkwX4_init_8 : List UInt8 := [181, 0, 91, 42, 3, 181, 0, 94, 42, 3, 181, 0, 97, 42, 16, 16, 188, 10, 181, 0, 100, 42, 16, 16]
abbrev dktX4_init_8 : List UInt8 := dkwX4_init_8 ++ dktX4_init_9
def dkwX4_init_7 : List UInt8 := [188, 10, 181, 0, 81, 42, 16, 20, 188, 10, 181, 0, 84, 42, 16, 50, 188, 4, 181, 0, 87, 42, 3]
abbrev dktX4_init_7 : List UInt8 := dkwX4_init_7 ++ dktX4_init_8
def dkwX4_init_6 : List UInt8 := [188, 10, 181, 0, 72, 42, 16, 50, 188, 10, 181, 0, 75, 42, 16, 50, 188, 10, 181, 0, 78, 42, 16, 50]
abbrev dktX4_init_6 : List UInt8 := dkwX4_init_6 ++ dktX4_init_7
def dkwX4_init_5 : List UInt8 := [181, 0, 60, 42, 16, 8, 188, 10, 181, 0, 63, 42, 3, 181, 0, 66, 42, 3, 181, 0, 69, 42, 16, 50]
abbrev dktX4_init_5 : List UInt8 := dkwX4_init_5 ++ dktX4_init_6
def dkwX4_init_4 : List UInt8 := [181, 0, 51, 42, 16, 24, 188, 10, 181, 0, 54, 42, 16, 24, 188, 10, 181, 0, 57, 42, 16, 24, 188, 10]
abbrev dktX4_init_4 : List UInt8 := dkwX4_init_4 ++ dktX4_init_5
def dkwX4_init_3 : List UInt8 := [42, 16, 16, 188, 10, 181, 0, 45, 42, 17, 1, 0, 188, 10, 181, 0, 48, 42, 16, 24, 188, 10]
abbrev dktX4_init_3 : List UInt8 := dkwX4_init_3 ++ dktX4_init_4
def dkwX4_init_2 : List UInt8 := [42, 16, 16, 188, 10, 181, 0, 36, 42, 16, 16, 188, 10, 181, 0, 39, 42, 16, 16, 188, 10, 181, 0, 42]
abbrev dktX4_init_2 : List UInt8 := dkwX4_init_2 ++ dktX4_init_3
def dkwX4_init_1 : List UInt8 := [42, 16, 64, 188, 10, 181, 0, 26, 42, 16, 16, 188, 10, 181, 0, 30, 42, 16, 16, 188, 10, 181, 0, 33]
abbrev dktX4_init_1 : List UInt8 := dkwX4_init_1 ++ dktX4_init_2
def dkwX4_init_0 : List UInt8 := [42, 183, 0, 7, 42, 3, 181, 0, 13, 42, 3, 181, 0, 17, 42, 3, 181, 0, 20, 42, 3, 181, 0, 23]
abbrev dktX4_init_0 : List UInt8 := dkwX4_init_0 ++ dktX4_init_1
theorem dksX4_init_0 : cX4_init.data.toList.drop 0 = dktX4_init_0 := by decide +kernel
theorem dksX4_init_1 : cX4_init.data.toList.drop 24 = dktX4_init_1 := dk_seg dksX4_init_0 24 rfl rfl
theorem dksX4_init_2 : cX4_init.data.toList.drop 48 = dktX4_init_2 := dk_seg dksX4_init_1 24 rfl rfl
theorem dksX4_init_3 : cX4_init.data.toList.drop 72 = dktX4_init_3 := dk_seg dksX4_init_2 24 rfl rfl
theorem dksX4_init_4 : cX4_init.data.toList.drop 94 = dktX4_init_4 := dk_seg dksX4_init_3 22 rfl rfl
theorem dksX4_init_5 : cX4_init.data.toList.drop 118 = dktX4_init_5 := dk_seg dksX4_init_4 24 rfl rfl
theorem dksX4_init_6 : cX4_init.data.toList.drop 142 = dktX4_init_6 := dk_seg dksX4_init_5 24 rfl rfl
theorem dksX4_init_7 : cX4_init.data.toList.drop 166 = dktX4_init_7 := dk_seg dksX4_init_6 24 rfl rfl
theorem dksX4_init_8 : cX4_init.data.toList.drop 189 = dktX4_init_8 := dk_seg dksX4_init_7 23 rfl rfl
theorem dksX4_init_9 : cX4_init.data.toList.drop 213 = dktX4_init_9 := dk_seg dksX4_init_8 24 rfl rfl
theorem dksX4_init_10 : cX4_init.data.toList.drop 237 = dktX4_init_10 := dk_seg dksX4_init_9 24 rfl rfl
theorem dksX4_init_11 : cX4_init.data.toList.drop 261 = dktX4_init_11 := dk_seg dksX4_init_10 24 rfl rfl
theorem dksX4_init_12 : cX4_init.data.toList.drop 285 = dktX4_init_12 := dk_seg dksX4_init_11 24 rfl rfl
theorem dksX4_init_13 : cX4_init.data.toList.drop 308 = dktX4_init_13 := dk_seg dksX4_init_12 23 rfl rfl
theorem dksX4_init_14 : cX4_init.data.toList.drop 332 = dktX4_init_14 := dk_seg dksX4_init_13 24 rfl rfl
theorem dksX4_init_15 : cX4_init.data.toList.drop 355 = dktX4_init_15 := dk_seg dksX4_init_14 23 rfl rfl
theorem dksX4_init_16 : cX4_init.data.toList.drop 378 = dktX4_init_16 := dk_seg dksX4_init_15 23 rfl rfl
theorem dksX4_init_17 : cX4_init.data.toList.drop 402 = dktX4_init_17 := dk_seg dksX4_init_16 24 rfl rfl
theorem dksX4_init_18 : cX4_init.data.toList.drop 425 = dktX4_init_18 := dk_seg dksX4_init_17 23 rfl rfl
theorem dksX4_init_19 : cX4_init.data.toList.drop 448 = dktX4_init_19 := dk_seg dksX4_init_18 23 rfl rfl
theorem dksX4_init_20 : cX4_init.data.toList.drop 470 = dktX4_init_20 := dk_seg dksX4_init_19 22 rfl rfl
theorem dksX4_init_21 : cX4_init.data.toList.drop 493 = dktX4_init_21 := dk_seg dksX4_init_20 23 rfl rfl
theorem dksX4_init_22 : cX4_init.data.toList.drop 515 = dktX4_init_22 := dk_seg dksX4_init_21 22 rfl rfl
theorem dksX4_init_23 : cX4_init.data.toList.drop 539 = dktX4_init_23 := dk_seg dksX4_init_22 24 rfl rfl
theorem dksX4_init_24 : cX4_init.data.toList.drop 562 = dktX4_init_24 := dk_seg dksX4_init_23 23 rfl rfl
theorem dksX4_init_25 : cX4_init.data.toList.drop 586 = dktX4_init_25 := dk_seg dksX4_init_24 24 rfl rfl
theorem dksX4_init_26 : cX4_init.data.toList.drop 609 = dktX4_init_26 := dk_seg dksX4_init_25 23 rfl rfl
theorem dX4_init_0 : decode cX4_init 0 = .ok (.aload_n 0, 1) := dk_42 (dk_at dksX4_init_0 0 rfl rfl)
theorem dX4_init_1 : decode cX4_init 1 = .ok (.invokespecial 7, 3) := dk_183 0 7 (dk_at dksX4_init_0 1 rfl rfl)
theorem dX4_init_4 : decode cX4_init 4 = .ok (.aload_n 0, 1) := dk_42 (dk_at dksX4_init_0 4 rfl rfl)
theorem dX4_init_5 : decode cX4_init 5 = .ok (.iconst 0, 1) := dk_3 (dk_at dksX4_init_0 5 rfl rfl)
theorem dX4_init_6 : decode cX4_init 6 = .ok (.putfield 13, 3) := dk_181 0 13 (dk_at dksX4_init_0 6 rfl rfl)
theorem dX4_init_9 : decode cX4_init 9 = .ok (.aload_n 0, 1) := dk_42 (dk_at dksX4_init_0 9 rfl rfl)
theorem dX4_init_10 : decode cX4_init 10 = .ok (.iconst 0, 1) := dk_3 (dk_at dksX4_init_0 10 rfl rfl)
theorem dX4_init_11 : decode cX4_init 11 = .ok (.putfield 17, 3) := dk_181 0 17 (dk_at dksX4_init_0 11 rfl rfl)
theorem dX4_init_14 : decode cX4_init 14 = .ok (.aload_n 0, 1) := dk_42 (dk_at dksX4_init_0 14 rfl rfl)
theorem dX4_init_15 : decode cX4_init 15 = .ok (.iconst 0, 1) := dk_3 (dk_at dksX4_init_0 15 rfl rfl)
theorem dX4_init_16 : decode cX4_init 16 = .ok (.putfield 20, 3) := dk_181 0 20 (dk_at dksX4_init_0 16 rfl rfl)
theorem dX4_init_19 : decode cX4_init 19 = .ok (.aload_n 0, 1) := dk_42 (dk_at dksX4_init_0 19 rfl rfl)
theorem dX4_init_20 : decode cX4_init 20 = .ok (.iconst 0, 1) := dk_3 (dk_at dksX4_init_0 20 rfl rfl)
theorem dX4_init_21 : decode cX4_init 21 = .ok (.putfield 23, 3) := dk_181 0 23 (dk_at dksX4_init_0 21 rfl rfl)
theorem dX4_init_24 : decode cX4_init 24 = .ok (.aload_n 0, 1) := dk_42 (dk_at dksX4_init_1 0 rfl rfl)
theorem dX4_init_25 : decode cX4_init 25 = .ok (.bipush 64, 2) := dk_16 64 (dk_at dksX4_init_1 1 rfl rfl)
theorem dX4_init_27 : decode cX4_init 27 = .ok (.newarray .int, 2) := dk_188_10 (dk_at dksX4_init_1 3 rfl rfl)
theorem dX4_init_29 : decode cX4_init 29 = .ok (.putfield 26, 3) := dk_181 0 26 (dk_at dksX4_init_1 5 rfl rfl)
theorem dX4_init_32 : decode cX4_init 32 = .ok (.aload_n 0, 1) := dk_42 (dk_at dksX4_init_1 8 rfl rfl)
theorem dX4_init_33 : decode cX4_init 33 = .ok (.bipush 16, 2) := dk_16 16 (dk_at dksX4_init_1 9 rfl rfl)
theorem dX4_init_35 : decode cX4_init 35 = .ok (.newarray .int, 2) := dk_188_10 (dk_at dksX4_init_1 11 rfl rfl)
theorem dX4_init_37 : decode cX4_init 37 = .ok (.putfield 30, 3) := dk_181 0 30 (dk_at dksX4_init_1 13 rfl rfl)
theorem dX4_init_40 : decode cX4_init 40 = .ok (.aload_n 0, 1) := dk_42 (dk_at dksX4_init_1 16 rfl rfl)
theorem dX4_init_41 : decode cX4_init 41 = .ok (.bipush 16, 2) := dk_16 16 (dk_at dksX4_init_1 17 rfl rfl)
theorem dX4_init_43 : decode cX4_init 43 = .ok (.newarray .int, 2) := dk_188_10 (dk_at dksX4_init_1 19 rfl rfl)
theorem dX4_init_45 : decode cX4_init 45 = .ok (.putfield 33, 3) := dk_181 0 33 (dk_at dksX4_init_1 21 rfl rfl)
theorem dX4_init_48 : decode cX4_init 48 = .ok (.aload_n 0, 1) := dk_42 (dk_at dksX4_init_2 0 rfl rfl)
theorem dX4_init_49 : decode cX4_init 49 = .ok (.bipush 16, 2) := dk_16 16 (dk_at dksX4_init_2 1 rfl rfl)
theorem dX4_init_51 : decode cX4_init 51 = .ok (.newarray .int, 2) := dk_188_10 (dk_at dksX4_init_2 3 rfl rfl)
theorem dX4_init_53 : decode cX4_init 53 = .ok (.putfield 36, 3) := dk_181 0 36 (dk_at dksX4_init_2 5 rfl rfl)
theorem dX4_init_56 : decode cX4_init 56 = .ok (.aload_n 0, 1) := dk_42 (dk_at dksX4_init_2 8 rfl rfl)
theorem dX4_init_57 : decode cX4_init 57 = .ok (.bipush 16, 2) := dk_16 16 (dk_at dksX4_init_2 9 rfl rfl)
theorem dX4_init_59 : decode cX4_init 59 = .ok (.newarray .int, 2) := dk_188_10 (dk_at dksX4_init_2 11 rfl rfl)
theorem dX4_init_61 : decode cX4_init 61 = .ok (.putfield 39, 3) := dk_181 0 39 (dk_at dksX4_init_2 13 rfl rfl)
theorem dX4_init_64 : decode cX4_init 64 = .ok (.aload_n 0, 1) := dk_42 (dk_at dksX4_init_2 16 rfl rfl)
theorem dX4_init_65 : decode cX4_init 65 = .ok (.bipush 16, 2) := dk_16 16 (dk_at dksX4_init_2 17 rfl rfl)
theorem dX4_init_67 : decode cX4_init 67 = .ok (.newarray .int, 2) := dk_188_10 (dk_at dksX4_init_2 19 rfl rfl)
theorem dX4_init_69 : decode cX4_init 69 = .ok (.putfield 42, 3) := dk_181 0 42 (dk_at dksX4_init_2 21 rfl rfl)
theorem dX4_init_72 : decode cX4_init 72 = .ok (.aload_n 0, 1) := dk_42 (dk_at dksX4_init_3 0 rfl rfl)
theorem dX4_init_73 : decode cX4_init 73 = .ok (.bipush 16, 2) := dk_16 16 (dk_at dksX4_init_3 1 rfl rfl)
theorem dX4_init_75 : decode cX4_init 75 = .ok (.newarray .int, 2) := dk_188_10 (dk_at dksX4_init_3 3 rfl rfl)
theorem dX4_init_77 : decode cX4_init 77 = .ok (.putfield 45, 3) := dk_181 0 45 (dk_at dksX4_init_3 5 rfl rfl)
theorem dX4_init_80 : decode cX4_init 80 = .ok (.aload_n 0, 1) := dk_42 (dk_at dksX4_init_3 8 rfl rfl)
theorem dX4_init_81 : decode cX4_init 81 = .ok (.sipush 256, 3) := dk_17 1 0 (dk_at dksX4_init_3 9 rfl rfl)
theorem dX4_init_84 : decode cX4_init 84 = .ok (.newarray .int, 2) := dk_188_10 (dk_at dksX4_init_3 12 rfl rfl)
theorem dX4_init_86 : decode cX4_init 86 = .ok (.putfield 48, 3) := dk_181 0 48 (dk_at dksX4_init_3 14 rfl rfl)
theorem dX4_init_89 : decode cX4_init 89 = .ok (.aload_n 0, 1) := dk_42 (dk_at dksX4_init_3 17 rfl rfl)
theorem dX4_init_90 : decode cX4_init 90 = .ok (.bipush 24, 2) := dk_16 24 (dk_at dksX4_init_3 18 rfl rfl)
theorem dX4_init_92 : decode cX4_init 92 = .ok (.newarray .int, 2) := dk_188_10 (dk_at dksX4_init_3 20 rfl rfl)
theorem dX4_init_94 : decode cX4_init 94 = .ok (.putfield 51, 3) := dk_181 0 51 (dk_at dksX4_init_4 0 rfl rfl)
theorem dX4_init_97 : decode cX4_init 97 = .ok (.aload_n 0, 1) := dk_42 (dk_at dksX4_init_4 3 rfl rfl)
theorem dX4_init_98 : decode cX4_init 98 = .ok (.bipush 24, 2) := dk_16 24 (dk_at dksX4_init_4 4 rfl rfl)
theorem dX4_init_100 : decode cX4_init 100 = .ok (.newarray .int, 2) := dk_188_10 (dk_at dksX4_init_4 6 rfl rfl)
theorem dX4_init_102 : decode cX4_init 102 = .ok (.putfield 54, 3) := dk_181 0 54 (dk_at dksX4_init_4 8 rfl rfl)
theorem dX4_init_105 : decode cX4_init 105 = .ok (.aload_n 0, 1) := dk_42 (dk_at dksX4_init_4 11 rfl rfl)
theorem dX4_init_106 : decode cX4_init 106 = .ok (.bipush 24, 2) := dk_16 24 (dk_at dksX4_init_4 12 rfl rfl)
theorem dX4_init_108 : decode cX4_init 108 = .ok (.newarray .int, 2) := dk_188_10 (dk_at dksX4_init_4 14 rfl rfl)
theorem dX4_init_110 : decode cX4_init 110 = .ok (.putfield 57, 3) := dk_181 0 57 (dk_at dksX4_init_4 16 rfl rfl)
theorem dX4_init_113 : decode cX4_init 113 = .ok (.aload_n 0, 1) := dk_42 (dk_at dksX4_init_4 19 rfl rfl)
theorem dX4_init_114 : decode cX4_init 114 = .ok (.bipush 24, 2) := dk_16 24 (dk_at dksX4_init_4 20 rfl rfl)
theorem dX4_init_116 : decode cX4_init 116 = .ok (.newarray .int, 2) := dk_188_10 (dk_at dksX4_init_4 22 rfl rfl)
theorem dX4_init_118 : decode cX4_init 118 = .ok (.putfield 60, 3) := dk_181 0 60 (dk_at dksX4_init_5 0 rfl rfl)
theorem dX4_init_121 : decode cX4_init 121 = .ok (.aload_n 0, 1) := dk_42 (dk_at dksX4_init_5 3 rfl rfl)
theorem dX4_init_122 : decode cX4_init 122 = .ok (.bipush 8, 2) := dk_16 8 (dk_at dksX4_init_5 4 rfl rfl)
theorem dX4_init_124 : decode cX4_init 124 = .ok (.newarray .int, 2) := dk_188_10 (dk_at dksX4_init_5 6 rfl rfl)
theorem dX4_init_126 : decode cX4_init 126 = .ok (.putfield 63, 3) := dk_181 0 63 (dk_at dksX4_init_5 8 rfl rfl)
theorem dX4_init_129 : decode cX4_init 129 = .ok (.aload_n 0, 1) := dk_42 (dk_at dksX4_init_5 11 rfl rfl)
theorem dX4_init_130 : decode cX4_init 130 = .ok (.iconst 0, 1) := dk_3 (dk_at dksX4_init_5 12 rfl rfl)
theorem dX4_init_131 : decode cX4_init 131 = .ok (.putfield 66, 3) := dk_181 0 66 (dk_at dksX4_init_5 13 rfl rfl)
theorem dX4_init_134 : decode cX4_init 134 = .ok (.aload_n 0, 1) := dk_42 (dk_at dksX4_init_5 16 rfl rfl)
theorem dX4_init_135 : decode cX4_init 135 = .ok (.iconst 0, 1) := dk_3 (dk_at dksX4_init_5 17 rfl rfl)
theorem dX4_init_136 : decode cX4_init 136 = .ok (.putfield 69, 3) := dk_181 0 69 (dk_at dksX4_init_5 18 rfl rfl)
theorem dX4_init_139 : decode cX4_init 139 = .ok (.aload_n 0, 1) := dk_42 (dk_at dksX4_init_5 21 rfl rfl)
theorem dX4_init_140 : decode cX4_init 140 = .ok (.bipush 50, 2) := dk_16 50 (dk_at dksX4_init_5 22 rfl rfl)
theorem dX4_init_142 : decode cX4_init 142 = .ok (.newarray .int, 2) := dk_188_10 (dk_at dksX4_init_6 0 rfl rfl)
theorem dX4_init_144 : decode cX4_init 144 = .ok (.putfield 72, 3) := dk_181 0 72 (dk_at dksX4_init_6 2 rfl rfl)
theorem dX4_init_147 : decode cX4_init 147 = .ok (.aload_n 0, 1) := dk_42 (dk_at dksX4_init_6 5 rfl rfl)
theorem dX4_init_148 : decode cX4_init 148 = .ok (.bipush 50, 2) := dk_16 50 (dk_at dksX4_init_6 6 rfl rfl)
theorem dX4_init_150 : decode cX4_init 150 = .ok (.newarray .int, 2) := dk_188_10 (dk_at dksX4_init_6 8 rfl rfl)
theorem dX4_init_152 : decode cX4_init 152 = .ok (.putfield 75, 3) := dk_181 0 75 (dk_at dksX4_init_6 10 rfl rfl)
theorem dX4_init_155 : decode cX4_init 155 = .ok (.aload_n 0, 1) := dk_42 (dk_at dksX4_init_6 13 rfl rfl)
theorem dX4_init_156 : decode cX4_init 156 = .ok (.bipush 50, 2) := dk_16 50 (dk_at dksX4_init_6 14 rfl rfl)
theorem dX4_init_158 : decode cX4_init 158 = .ok (.newarray .int, 2) := dk_188_10 (dk_at dksX4_init_6 16 rfl rfl)
theorem dX4_init_160 : decode cX4_init 160 = .ok (.putfield 78, 3) := dk_181 0 78 (dk_at dksX4_init_6 18 rfl rfl)
theorem dX4_init_163 : decode cX4_init 163 = .ok (.aload_n 0, 1) := dk_42 (dk_at dksX4_init_6 21 rfl rfl)
theorem dX4_init_164 : decode cX4_init 164 = .ok (.bipush 50, 2) := dk_16 50 (dk_at dksX4_init_6 22 rfl rfl)
theorem dX4_init_166 : decode cX4_init 166 = .ok (.newarray .int, 2) := dk_188_10 (dk_at dksX4_init_7 0 rfl rfl)
theorem dX4_init_168 : decode cX4_init 168 = .ok (.putfield 81, 3) := dk_181 0 81 (dk_at dksX4_init_7 2 rfl rfl)
theorem dX4_init_171 : decode cX4_init 171 = .ok (.aload_n 0, 1) := dk_42 (dk_at dksX4_init_7 5 rfl rfl)
theorem dX4_init_172 : decode cX4_init 172 = .ok (.bipush 20, 2) := dk_16 20 (dk_at dksX4_init_7 6 rfl rfl)
theorem dX4_init_174 : decode cX4_init 174 = .ok (.newarray .int, 2) := dk_188_10 (dk_at dksX4_init_7 8 rfl rfl)
theorem dX4_init_176 : decode cX4_init 176 = .ok (.putfield 84, 3) := dk_181 0 84 (dk_at dksX4_init_7 10 rfl rfl)
theorem dX4_init_179 : decode cX4_init 179 = .ok (.aload_n 0, 1) := dk_42 (dk_at dksX4_init_7 13 rfl rfl)
theorem dX4_init_180 : decode cX4_init 180 = .ok (.bipush 50, 2) := dk_16 50 (dk_at dksX4_init_7 14 rfl rfl)
theorem dX4_init_182 : decode cX4_init 182 = .ok (.newarray .boolean, 2) := dk_188_4 (dk_at dksX4_init_7 16 rfl rfl)
theorem dX4_init_184 : decode cX4_init 184 = .ok (.putfield 87, 3) := dk_181 0 87 (dk_at dksX4_init_7 18 rfl rfl)
theorem dX4_init_187 : decode cX4_init 187 = .ok (.aload_n 0, 1) := dk_42 (dk_at dksX4_init_7 21 rfl rfl)
theorem dX4_init_188 : decode cX4_init 188 = .ok (.iconst 0, 1) := dk_3 (dk_at dksX4_init_7 22 rfl rfl)
theorem dX4_init_189 : decode cX4_init 189 = .ok (.putfield 91, 3) := dk_181 0 91 (dk_at dksX4_init_8 0 rfl rfl)
theorem dX4_init_192 : decode cX4_init 192 = .ok (.aload_n 0, 1) := dk_42 (dk_at dksX4_init_8 3 rfl rfl)
theorem dX4_init_193 : decode cX4_init 193 = .ok (.iconst 0, 1) := dk_3 (dk_at dksX4_init_8 4 rfl rfl)
theorem dX4_init_194 : decode cX4_init 194 = .ok (.putfield 94, 3) := dk_181 0 94 (dk_at dksX4_init_8 5 rfl rfl)
theorem dX4_init_197 : decode cX4_init 197 = .ok (.aload_n 0, 1) := dk_42 (dk_at dksX4_init_8 8 rfl rfl)
theorem dX4_init_198 : decode cX4_init 198 = .ok (.iconst 0, 1) := dk_3 (dk_at dksX4_init_8 9 rfl rfl)
theorem dX4_init_199 : decode cX4_init 199 = .ok (.putfield 97, 3) := dk_181 0 97 (dk_at dksX4_init_8 10 rfl rfl)
theorem dX4_init_202 : decode cX4_init 202 = .ok (.aload_n 0, 1) := dk_42 (dk_at dksX4_init_8 13 rfl rfl)
theorem dX4_init_203 : decode cX4_init 203 = .ok (.bipush 16, 2) := dk_16 16 (dk_at dksX4_init_8 14 rfl rfl)
theorem dX4_init_205 : decode cX4_init 205 = .ok (.newarray .int, 2) := dk_188_10 (dk_at dksX4_init_8 16 rfl rfl)
theorem dX4_init_207 : decode cX4_init 207 = .ok (.putfield 100, 3) := dk_181 0 100 (dk_at dksX4_init_8 18 rfl rfl)
theorem dX4_init_210 : decode cX4_init 210 = .ok (.aload_n 0, 1) := dk_42 (dk_at dksX4_init_8 21 rfl rfl)
theorem dX4_init_211 : decode cX4_init 211 = .ok (.bipush 16, 2) := dk_16 16 (dk_at dksX4_init_8 22 rfl rfl)
theorem dX4_init_213 : decode cX4_init 213 = .ok (.newarray .int, 2) := dk_188_10 (dk_at dksX4_init_9 0 rfl rfl)
theorem dX4_init_215 : decode cX4_init 215 = .ok (.putfield 103, 3) := dk_181 0 103 (dk_at dksX4_init_9 2 rfl rfl)
theorem dX4_init_218 : decode cX4_init 218 = .ok (.aload_n 0, 1) := dk_42 (dk_at dksX4_init_9 5 rfl rfl)
theorem dX4_init_219 : decode cX4_init 219 = .ok (.sipush 3000, 3) := dk_17 11 184 (dk_at dksX4_init_9 6 rfl rfl)
theorem dX4_init_222 : decode cX4_init 222 = .ok (.newarray .int, 2) := dk_188_10 (dk_at dksX4_init_9 9 rfl rfl)
theorem dX4_init_224 : decode cX4_init 224 = .ok (.putfield 106, 3) := dk_181 0 106 (dk_at dksX4_init_9 11 rfl rfl)
theorem dX4_init_227 : decode cX4_init 227 = .ok (.aload_n 0, 1) := dk_42 (dk_at dksX4_init_9 14 rfl rfl)
theorem dX4_init_228 : decode cX4_init 228 = .ok (.bipush 25, 2) := dk_16 25 (dk_at dksX4_init_9 15 rfl rfl)
theorem dX4_init_230 : decode cX4_init 230 = .ok (.newarray .int, 2) := dk_188_10 (dk_at dksX4_init_9 17 rfl rfl)
theorem dX4_init_232 : decode cX4_init 232 = .ok (.putfield 109, 3) := dk_181 0 109 (dk_at dksX4_init_9 19 rfl rfl)
theorem dX4_init_235 : decode cX4_init 235 = .ok (.aload_n 0, 1) := dk_42 (dk_at dksX4_init_9 22 rfl rfl)
theorem dX4_init_236 : decode cX4_init 236 = .ok (.iconst (-1), 1) := dk_2 (dk_at dksX4_init_9 23 rfl rfl)
theorem dX4_init_237 : decode cX4_init 237 = .ok (.putfield 112, 3) := dk_181 0 112 (dk_at dksX4_init_10 0 rfl rfl)
theorem dX4_init_240 : decode cX4_init 240 = .ok (.aload_n 0, 1) := dk_42 (dk_at dksX4_init_10 3 rfl rfl)
theorem dX4_init_241 : decode cX4_init 241 = .ok (.iconst (-1), 1) := dk_2 (dk_at dksX4_init_10 4 rfl rfl)
theorem dX4_init_242 : decode cX4_init 242 = .ok (.putfield 115, 3) := dk_181 0 115 (dk_at dksX4_init_10 5 rfl rfl)
theorem dX4_init_245 : decode cX4_init 245 = .ok (.aload_n 0, 1) := dk_42 (dk_at dksX4_init_10 8 rfl rfl)
theorem dX4_init_246 : decode cX4_init 246 = .ok (.iconst (-1), 1) := dk_2 (dk_at dksX4_init_10 9 rfl rfl)
theorem dX4_init_247 : decode cX4_init 247 = .ok (.putfield 118, 3) := dk_181 0 118 (dk_at dksX4_init_10 10 rfl rfl)
theorem dX4_init_250 : decode cX4_init 250 = .ok (.aload_n 0, 1) := dk_42 (dk_at dksX4_init_10 13 rfl rfl)
theorem dX4_init_251 : decode cX4_init 251 = .ok (.iconst (-1), 1) := dk_2 (dk_at dksX4_init_10 14 rfl rfl)
theorem dX4_init_252 : decode cX4_init 252 = .ok (.putfield 121, 3) := dk_181 0 121 (dk_at dksX4_init_10 15 rfl rfl)
theorem dX4_init_255 : decode cX4_init 255 = .ok (.aload_n 0, 1) := dk_42 (dk_at dksX4_init_10 18 rfl rfl)
theorem dX4_init_256 : decode cX4_init 256 = .ok (.iconst 0, 1) := dk_3 (dk_at dksX4_init_10 19 rfl rfl)
theorem dX4_init_257 : decode cX4_init 257 = .ok (.putfield 124, 3) := dk_181 0 124 (dk_at dksX4_init_10 20 rfl rfl)
theorem dX4_init_260 : decode cX4_init 260 = .ok (.aload_n 0, 1) := dk_42 (dk_at dksX4_init_10 23 rfl rfl)
theorem dX4_init_261 : decode cX4_init 261 = .ok (.iconst 0, 1) := dk_3 (dk_at dksX4_init_11 0 rfl rfl)
theorem dX4_init_262 : decode cX4_init 262 = .ok (.putfield 127, 3) := dk_181 0 127 (dk_at dksX4_init_11 1 rfl rfl)
theorem dX4_init_265 : decode cX4_init 265 = .ok (.aload_n 0, 1) := dk_42 (dk_at dksX4_init_11 4 rfl rfl)
theorem dX4_init_266 : decode cX4_init 266 = .ok (.iconst 0, 1) := dk_3 (dk_at dksX4_init_11 5 rfl rfl)
theorem dX4_init_267 : decode cX4_init 267 = .ok (.putfield 130, 3) := dk_181 0 130 (dk_at dksX4_init_11 6 rfl rfl)
theorem dX4_init_270 : decode cX4_init 270 = .ok (.aload_n 0, 1) := dk_42 (dk_at dksX4_init_11 9 rfl rfl)
theorem dX4_init_271 : decode cX4_init 271 = .ok (.iconst 0, 1) := dk_3 (dk_at dksX4_init_11 10 rfl rfl)
theorem dX4_init_272 : decode cX4_init 272 = .ok (.putfield 133, 3) := dk_181 0 133 (dk_at dksX4_init_11 11 rfl rfl)
theorem dX4_init_275 : decode cX4_init 275 = .ok (.aload_n 0, 1) := dk_42 (dk_at dksX4_init_11 14 rfl rfl)
theorem dX4_init_276 : decode cX4_init 276 = .ok (.iconst 0, 1) := dk_3 (dk_at dksX4_init_11 15 rfl rfl)
theorem dX4_init_277 : decode cX4_init 277 = .ok (.putfield 136, 3) := dk_181 0 136 (dk_at dksX4_init_11 16 rfl rfl)
theorem dX4_init_280 : decode cX4_init 280 = .ok (.aload_n 0, 1) := dk_42 (dk_at dksX4_init_11 19 rfl rfl)
theorem dX4_init_281 : decode cX4_init 281 = .ok (.iconst 0, 1) := dk_3 (dk_at dksX4_init_11 20 rfl rfl)
theorem dX4_init_282 : decode cX4_init 282 = .ok (.putfield 139, 3) := dk_181 0 139 (dk_at dksX4_init_11 21 rfl rfl)
theorem dX4_init_285 : decode cX4_init 285 = .ok (.aload_n 0, 1) := dk_42 (dk_at dksX4_init_12 0 rfl rfl)
theorem dX4_init_286 : decode cX4_init 286 = .ok (.iconst 0, 1) := dk_3 (dk_at dksX4_init_12 1 rfl rfl)
theorem dX4_init_287 : decode cX4_init 287 = .ok (.putfield 143, 3) := dk_181 0 143 (dk_at dksX4_init_12 2 rfl rfl)
theorem dX4_init_290 : decode cX4_init 290 = .ok (.aload_n 0, 1) := dk_42 (dk_at dksX4_init_12 5 rfl rfl)
theorem dX4_init_291 : decode cX4_init 291 = .ok (.iconst 0, 1) := dk_3 (dk_at dksX4_init_12 6 rfl rfl)
theorem dX4_init_292 : decode cX4_init 292 = .ok (.putfield 146, 3) := dk_181 0 146 (dk_at dksX4_init_12 7 rfl rfl)
theorem dX4_init_295 : decode cX4_init 295 = .ok (.aload_n 0, 1) := dk_42 (dk_at dksX4_init_12 10 rfl rfl)
theorem dX4_init_296 : decode cX4_init 296 = .ok (.bipush 121, 2) := dk_16 121 (dk_at dksX4_init_12 11 rfl rfl)
theorem dX4_init_298 : decode cX4_init 298 = .ok (.newarray .int, 2) := dk_188_10 (dk_at dksX4_init_12 13 rfl rfl)
theorem dX4_init_300 : decode cX4_init 300 = .ok (.putfield 149, 3) := dk_181 0 149 (dk_at dksX4_init_12 15 rfl rfl)
theorem dX4_init_303 : decode cX4_init 303 = .ok (.aload_n 0, 1) := dk_42 (dk_at dksX4_init_12 18 rfl rfl)
theorem dX4_init_304 : decode cX4_init 304 = .ok (.bipush 121, 2) := dk_16 121 (dk_at dksX4_init_12 19 rfl rfl)
theorem dX4_init_306 : decode cX4_init 306 = .ok (.newarray .boolean, 2) := dk_188_4 (dk_at dksX4_init_12 21 rfl rfl)
theorem dX4_init_308 : decode cX4_init 308 = .ok (.putfield 152, 3) := dk_181 0 152 (dk_at dksX4_init_13 0 rfl rfl)
theorem dX4_init_311 : decode cX4_init 311 = .ok (.aload_n 0, 1) := dk_42 (dk_at dksX4_init_13 3 rfl rfl)
theorem dX4_init_312 : decode cX4_init 312 = .ok (.iconst 0, 1) := dk_3 (dk_at dksX4_init_13 4 rfl rfl)
theorem dX4_init_313 : decode cX4_init 313 = .ok (.putfield 155, 3) := dk_181 0 155 (dk_at dksX4_init_13 5 rfl rfl)
theorem dX4_init_316 : decode cX4_init 316 = .ok (.aload_n 0, 1) := dk_42 (dk_at dksX4_init_13 8 rfl rfl)
theorem dX4_init_317 : decode cX4_init 317 = .ok (.iconst 0, 1) := dk_3 (dk_at dksX4_init_13 9 rfl rfl)
theorem dX4_init_318 : decode cX4_init 318 = .ok (.putfield 158, 3) := dk_181 0 158 (dk_at dksX4_init_13 10 rfl rfl)
theorem dX4_init_321 : decode cX4_init 321 = .ok (.aload_n 0, 1) := dk_42 (dk_at dksX4_init_13 13 rfl rfl)
theorem dX4_init_322 : decode cX4_init 322 = .ok (.iconst 0, 1) := dk_3 (dk_at dksX4_init_13 14 rfl rfl)
theorem dX4_init_323 : decode cX4_init 323 = .ok (.putfield 161, 3) := dk_181 0 161 (dk_at dksX4_init_13 15 rfl rfl)
theorem dX4_init_326 : decode cX4_init 326 = .ok (.aload_n 0, 1) := dk_42 (dk_at dksX4_init_13 18 rfl rfl)
theorem dX4_init_327 : decode cX4_init 327 = .ok (.iconst 0, 1) := dk_3 (dk_at dksX4_init_13 19 rfl rfl)
theorem dX4_init_328 : decode cX4_init 328 = .ok (.putfield 164, 3) := dk_181 0 164 (dk_at dksX4_init_13 20 rfl rfl)
theorem dX4_init_331 : decode cX4_init 331 = .ok (.aload_n 0, 1) := dk_42 (dk_at dksX4_init_13 23 rfl rfl)
theorem dX4_init_332 : decode cX4_init 332 = .ok (.iconst 0, 1) := dk_3 (dk_at dksX4_init_14 0 rfl rfl)
theorem dX4_init_333 : decode cX4_init 333 = .ok (.putfield 167, 3) := dk_181 0 167 (dk_at dksX4_init_14 1 rfl rfl)
theorem dX4_init_336 : decode cX4_init 336 = .ok (.aload_n 0, 1) := dk_42 (dk_at dksX4_init_14 4 rfl rfl)
theorem dX4_init_337 : decode cX4_init 337 = .ok (.bipush 30, 2) := dk_16 30 (dk_at dksX4_init_14 5 rfl rfl)
theorem dX4_init_339 : decode cX4_init 339 = .ok (.newarray .int, 2) := dk_188_10 (dk_at dksX4_init_14 7 rfl rfl)
theorem dX4_init_341 : decode cX4_init 341 = .ok (.putfield 170, 3) := dk_181 0 170 (dk_at dksX4_init_14 9 rfl rfl)
theorem dX4_init_344 : decode cX4_init 344 = .ok (.aload_n 0, 1) := dk_42 (dk_at dksX4_init_14 12 rfl rfl)
theorem dX4_init_345 : decode cX4_init 345 = .ok (.bipush 30, 2) := dk_16 30 (dk_at dksX4_init_14 13 rfl rfl)
theorem dX4_init_347 : decode cX4_init 347 = .ok (.newarray .int, 2) := dk_188_10 (dk_at dksX4_init_14 15 rfl rfl)
theorem dX4_init_349 : decode cX4_init 349 = .ok (.putfield 173, 3) := dk_181 0 173 (dk_at dksX4_init_14 17 rfl rfl)
theorem dX4_init_352 : decode cX4_init 352 = .ok (.aload_n 0, 1) := dk_42 (dk_at dksX4_init_14 20 rfl rfl)
theorem dX4_init_353 : decode cX4_init 353 = .ok (.bipush 30, 2) := dk_16 30 (dk_at dksX4_init_14 21 rfl rfl)
theorem dX4_init_355 : decode cX4_init 355 = .ok (.newarray .int, 2) := dk_188_10 (dk_at dksX4_init_15 0 rfl rfl)
theorem dX4_init_357 : decode cX4_init 357 = .ok (.putfield 176, 3) := dk_181 0 176 (dk_at dksX4_init_15 2 rfl rfl)
theorem dX4_init_360 : decode cX4_init 360 = .ok (.aload_n 0, 1) := dk_42 (dk_at dksX4_init_15 5 rfl rfl)
theorem dX4_init_361 : decode cX4_init 361 = .ok (.bipush 30, 2) := dk_16 30 (dk_at dksX4_init_15 6 rfl rfl)
theorem dX4_init_363 : decode cX4_init 363 = .ok (.newarray .int, 2) := dk_188_10 (dk_at dksX4_init_15 8 rfl rfl)
theorem dX4_init_365 : decode cX4_init 365 = .ok (.putfield 179, 3) := dk_181 0 179 (dk_at dksX4_init_15 10 rfl rfl)
theorem dX4_init_368 : decode cX4_init 368 = .ok (.aload_n 0, 1) := dk_42 (dk_at dksX4_init_15 13 rfl rfl)
theorem dX4_init_369 : decode cX4_init 369 = .ok (.iconst 0, 1) := dk_3 (dk_at dksX4_init_15 14 rfl rfl)
theorem dX4_init_370 : decode cX4_init 370 = .ok (.putfield 182, 3) := dk_181 0 182 (dk_at dksX4_init_15 15 rfl rfl)
theorem dX4_init_373 : decode cX4_init 373 = .ok (.aload_n 0, 1) := dk_42 (dk_at dksX4_init_15 18 rfl rfl)
theorem dX4_init_374 : decode cX4_init 374 = .ok (.bipush 40, 2) := dk_16 40 (dk_at dksX4_init_15 19 rfl rfl)
theorem dX4_init_376 : decode cX4_init 376 = .ok (.newarray .int, 2) := dk_188_10 (dk_at dksX4_init_15 21 rfl rfl)
theorem dX4_init_378 : decode cX4_init 378 = .ok (.putfield 185, 3) := dk_181 0 185 (dk_at dksX4_init_16 0 rfl rfl)
theorem dX4_init_381 : decode cX4_init 381 = .ok (.aload_n 0, 1) := dk_42 (dk_at dksX4_init_16 3 rfl rfl)
theorem dX4_init_382 : decode cX4_init 382 = .ok (.bipush 40, 2) := dk_16 40 (dk_at dksX4_init_16 4 rfl rfl)
theorem dX4_init_384 : decode cX4_init 384 = .ok (.newarray .int, 2) := dk_188_10 (dk_at dksX4_init_16 6 rfl rfl)
theorem dX4_init_386 : decode cX4_init 386 = .ok (.putfield 188, 3) := dk_181 0 188 (dk_at dksX4_init_16 8 rfl rfl)
theorem dX4_init_389 : decode cX4_init 389 = .ok (.aload_n 0, 1) := dk_42 (dk_at dksX4_init_16 11 rfl rfl)
theorem dX4_init_390 : decode cX4_init 390 = .ok (.bipush 40, 2) := dk_16 40 (dk_at dksX4_init_16 12 rfl rfl)
theorem dX4_init_392 : decode cX4_init 392 = .ok (.newarray .int, 2) := dk_188_10 (dk_at dksX4_init_16 14 rfl rfl)
theorem dX4_init_394 : decode cX4_init 394 = .ok (.putfield 191, 3) := dk_181 0 191 (dk_at dksX4_init_16 16 rfl rfl)
theorem dX4_init_397 : decode cX4_init 397 = .ok (.aload_n 0, 1) := dk_42 (dk_at dksX4_init_16 19 rfl rfl)
theorem dX4_init_398 : decode cX4_init 398 = .ok (.bipush 40, 2) := dk_16 40 (dk_at dksX4_init_16 20 rfl rfl)
theorem dX4_init_400 : decode cX4_init 400 = .ok (.newarray .int, 2) := dk_188_10 (dk_at dksX4_init_16 22 rfl rfl)
theorem dX4_init_402 : decode cX4_init 402 = .ok (.putfield 194, 3) := dk_181 0 194 (dk_at dksX4_init_17 0 rfl rfl)
theorem dX4_init_405 : decode cX4_init 405 = .ok (.aload_n 0, 1) := dk_42 (dk_at dksX4_init_17 3 rfl rfl)
theorem dX4_init_406 : decode cX4_init 406 = .ok (.bipush 16, 2) := dk_16 16 (dk_at dksX4_init_17 4 rfl rfl)
theorem dX4_init_408 : decode cX4_init 408 = .ok (.newarray .int, 2) := dk_188_10 (dk_at dksX4_init_17 6 rfl rfl)
theorem dX4_init_410 : decode cX4_init 410 = .ok (.putfield 197, 3) := dk_181 0 197 (dk_at dksX4_init_17 8 rfl rfl)
theorem dX4_init_413 : decode cX4_init 413 = .ok (.aload_n 0, 1) := dk_42 (dk_at dksX4_init_17 11 rfl rfl)
theorem dX4_init_414 : decode cX4_init 414 = .ok (.sipush 256, 3) := dk_17 1 0 (dk_at dksX4_init_17 12 rfl rfl)
theorem dX4_init_417 : decode cX4_init 417 = .ok (.newarray .int, 2) := dk_188_10 (dk_at dksX4_init_17 15 rfl rfl)
theorem dX4_init_419 : decode cX4_init 419 = .ok (.putfield 200, 3) := dk_181 0 200 (dk_at dksX4_init_17 17 rfl rfl)
theorem dX4_init_422 : decode cX4_init 422 = .ok (.aload_n 0, 1) := dk_42 (dk_at dksX4_init_17 20 rfl rfl)
theorem dX4_init_423 : decode cX4_init 423 = .ok (.bipush 9, 2) := dk_16 9 (dk_at dksX4_init_17 21 rfl rfl)
theorem dX4_init_425 : decode cX4_init 425 = .ok (.newarray .int, 2) := dk_188_10 (dk_at dksX4_init_18 0 rfl rfl)
theorem dX4_init_427 : decode cX4_init 427 = .ok (.putfield 203, 3) := dk_181 0 203 (dk_at dksX4_init_18 2 rfl rfl)
theorem dX4_init_430 : decode cX4_init 430 = .ok (.aload_n 0, 1) := dk_42 (dk_at dksX4_init_18 5 rfl rfl)
theorem dX4_init_431 : decode cX4_init 431 = .ok (.bipush 9, 2) := dk_16 9 (dk_at dksX4_init_18 6 rfl rfl)
theorem dX4_init_433 : decode cX4_init 433 = .ok (.newarray .int, 2) := dk_188_10 (dk_at dksX4_init_18 8 rfl rfl)
theorem dX4_init_435 : decode cX4_init 435 = .ok (.putfield 206, 3) := dk_181 0 206 (dk_at dksX4_init_18 10 rfl rfl)
theorem dX4_init_438 : decode cX4_init 438 = .ok (.aload_n 0, 1) := dk_42 (dk_at dksX4_init_18 13 rfl rfl)
theorem dX4_init_439 : decode cX4_init 439 = .ok (.iconst 0, 1) := dk_3 (dk_at dksX4_init_18 14 rfl rfl)
theorem dX4_init_440 : decode cX4_init 440 = .ok (.putfield 209, 3) := dk_181 0 209 (dk_at dksX4_init_18 15 rfl rfl)
theorem dX4_init_443 : decode cX4_init 443 = .ok (.aload_n 0, 1) := dk_42 (dk_at dksX4_init_18 18 rfl rfl)
theorem dX4_init_444 : decode cX4_init 444 = .ok (.bipush 56, 2) := dk_16 56 (dk_at dksX4_init_18 19 rfl rfl)
theorem dX4_init_446 : decode cX4_init 446 = .ok (.newarray .int, 2) := dk_188_10 (dk_at dksX4_init_18 21 rfl rfl)
theorem dX4_init_448 : decode cX4_init 448 = .ok (.putfield 212, 3) := dk_181 0 212 (dk_at dksX4_init_19 0 rfl rfl)
theorem dX4_init_451 : decode cX4_init 451 = .ok (.aload_n 0, 1) := dk_42 (dk_at dksX4_init_19 3 rfl rfl)
theorem dX4_init_452 : decode cX4_init 452 = .ok (.sipush 279, 3) := dk_17 1 23 (dk_at dksX4_init_19 4 rfl rfl)
theorem dX4_init_455 : decode cX4_init 455 = .ok (.newarray .int, 2) := dk_188_10 (dk_at dksX4_init_19 7 rfl rfl)
theorem dX4_init_457 : decode cX4_init 457 = .ok (.putfield 215, 3) := dk_181 0 215 (dk_at dksX4_init_19 9 rfl rfl)
theorem dX4_init_460 : decode cX4_init 460 = .ok (.aload_n 0, 1) := dk_42 (dk_at dksX4_init_19 12 rfl rfl)
theorem dX4_init_461 : decode cX4_init 461 = .ok (.iconst 0, 1) := dk_3 (dk_at dksX4_init_19 13 rfl rfl)
theorem dX4_init_462 : decode cX4_init 462 = .ok (.putfield 218, 3) := dk_181 0 218 (dk_at dksX4_init_19 14 rfl rfl)
theorem dX4_init_465 : decode cX4_init 465 = .ok (.aload_n 0, 1) := dk_42 (dk_at dksX4_init_19 17 rfl rfl)
theorem dX4_init_466 : decode cX4_init 466 = .ok (.bipush 24, 2) := dk_16 24 (dk_at dksX4_init_19 18 rfl rfl)
theorem dX4_init_468 : decode cX4_init 468 = .ok (.newarray .int, 2) := dk_188_10 (dk_at dksX4_init_19 20 rfl rfl)
theorem dX4_init_470 : decode cX4_init 470 = .ok (.putfield 221, 3) := dk_181 0 221 (dk_at dksX4_init_20 0 rfl rfl)
theorem dX4_init_473 : decode cX4_init 473 = .ok (.aload_n 0, 1) := dk_42 (dk_at dksX4_init_20 3 rfl rfl)
theorem dX4_init_474 : decode cX4_init 474 = .ok (.sipush 192, 3) := dk_17 0 192 (dk_at dksX4_init_20 4 rfl rfl)
theorem dX4_init_477 : decode cX4_init 477 = .ok (.newarray .int, 2) := dk_188_10 (dk_at dksX4_init_20 7 rfl rfl)
theorem dX4_init_479 : decode cX4_init 479 = .ok (.putfield 224, 3) := dk_181 0 224 (dk_at dksX4_init_20 9 rfl rfl)
theorem dX4_init_482 : decode cX4_init 482 = .ok (.aload_n 0, 1) := dk_42 (dk_at dksX4_init_20 12 rfl rfl)
theorem dX4_init_483 : decode cX4_init 483 = .ok (.iconst 0, 1) := dk_3 (dk_at dksX4_init_20 13 rfl rfl)
theorem dX4_init_484 : decode cX4_init 484 = .ok (.putfield 227, 3) := dk_181 0 227 (dk_at dksX4_init_20 14 rfl rfl)
theorem dX4_init_487 : decode cX4_init 487 = .ok (.aload_n 0, 1) := dk_42 (dk_at dksX4_init_20 17 rfl rfl)
theorem dX4_init_488 : decode cX4_init 488 = .ok (.iconst 0, 1) := dk_3 (dk_at dksX4_init_20 18 rfl rfl)
theorem dX4_init_489 : decode cX4_init 489 = .ok (.putfield 230, 3) := dk_181 0 230 (dk_at dksX4_init_20 19 rfl rfl)
theorem dX4_init_492 : decode cX4_init 492 = .ok (.aload_n 0, 1) := dk_42 (dk_at dksX4_init_20 22 rfl rfl)
theorem dX4_init_493 : decode cX4_init 493 = .ok (.bipush 60, 2) := dk_16 60 (dk_at dksX4_init_21 0 rfl rfl)
theorem dX4_init_495 : decode cX4_init 495 = .ok (.newarray .int, 2) := dk_188_10 (dk_at dksX4_init_21 2 rfl rfl)
theorem dX4_init_497 : decode cX4_init 497 = .ok (.putfield 233, 3) := dk_181 0 233 (dk_at dksX4_init_21 4 rfl rfl)
theorem dX4_init_500 : decode cX4_init 500 = .ok (.aload_n 0, 1) := dk_42 (dk_at dksX4_init_21 7 rfl rfl)
theorem dX4_init_501 : decode cX4_init 501 = .ok (.sipush 200, 3) := dk_17 0 200 (dk_at dksX4_init_21 8 rfl rfl)
theorem dX4_init_504 : decode cX4_init 504 = .ok (.newarray .int, 2) := dk_188_10 (dk_at dksX4_init_21 11 rfl rfl)
theorem dX4_init_506 : decode cX4_init 506 = .ok (.putfield 236, 3) := dk_181 0 236 (dk_at dksX4_init_21 13 rfl rfl)
theorem dX4_init_509 : decode cX4_init 509 = .ok (.aload_n 0, 1) := dk_42 (dk_at dksX4_init_21 16 rfl rfl)
theorem dX4_init_510 : decode cX4_init 510 = .ok (.sipush 200, 3) := dk_17 0 200 (dk_at dksX4_init_21 17 rfl rfl)
theorem dX4_init_513 : decode cX4_init 513 = .ok (.newarray .int, 2) := dk_188_10 (dk_at dksX4_init_21 20 rfl rfl)
theorem dX4_init_515 : decode cX4_init 515 = .ok (.putfield 239, 3) := dk_181 0 239 (dk_at dksX4_init_22 0 rfl rfl)
theorem dX4_init_518 : decode cX4_init 518 = .ok (.aload_n 0, 1) := dk_42 (dk_at dksX4_init_22 3 rfl rfl)
theorem dX4_init_519 : decode cX4_init 519 = .ok (.sipush 200, 3) := dk_17 0 200 (dk_at dksX4_init_22 4 rfl rfl)
theorem dX4_init_522 : decode cX4_init 522 = .ok (.newarray .int, 2) := dk_188_10 (dk_at dksX4_init_22 7 rfl rfl)
theorem dX4_init_524 : decode cX4_init 524 = .ok (.putfield 242, 3) := dk_181 0 242 (dk_at dksX4_init_22 9 rfl rfl)
theorem dX4_init_527 : decode cX4_init 527 = .ok (.aload_n 0, 1) := dk_42 (dk_at dksX4_init_22 12 rfl rfl)
theorem dX4_init_528 : decode cX4_init 528 = .ok (.bipush 6, 2) := dk_16 6 (dk_at dksX4_init_22 13 rfl rfl)
theorem dX4_init_530 : decode cX4_init 530 = .ok (.newarray .int, 2) := dk_188_10 (dk_at dksX4_init_22 15 rfl rfl)
theorem dX4_init_532 : decode cX4_init 532 = .ok (.dup, 1) := dk_89 (dk_at dksX4_init_22 17 rfl rfl)
theorem dX4_init_533 : decode cX4_init 533 = .ok (.iconst 0, 1) := dk_3 (dk_at dksX4_init_22 18 rfl rfl)
theorem dX4_init_534 : decode cX4_init 534 = .ok (.iconst (-1), 1) := dk_2 (dk_at dksX4_init_22 19 rfl rfl)
theorem dX4_init_535 : decode cX4_init 535 = .ok (.iastore, 1) := dk_79 (dk_at dksX4_init_22 20 rfl rfl)
theorem dX4_init_536 : decode cX4_init 536 = .ok (.dup, 1) := dk_89 (dk_at dksX4_init_22 21 rfl rfl)
theorem dX4_init_537 : decode cX4_init 537 = .ok (.iconst 1, 1) := dk_4 (dk_at dksX4_init_22 22 rfl rfl)
theorem dX4_init_538 : decode cX4_init 538 = .ok (.iconst (-1), 1) := dk_2 (dk_at dksX4_init_22 23 rfl rfl)
theorem dX4_init_539 : decode cX4_init 539 = .ok (.iastore, 1) := dk_79 (dk_at dksX4_init_23 0 rfl rfl)
theorem dX4_init_540 : decode cX4_init 540 = .ok (.dup, 1) := dk_89 (dk_at dksX4_init_23 1 rfl rfl)
theorem dX4_init_541 : decode cX4_init 541 = .ok (.iconst 2, 1) := dk_5 (dk_at dksX4_init_23 2 rfl rfl)
theorem dX4_init_542 : decode cX4_init 542 = .ok (.iconst (-1), 1) := dk_2 (dk_at dksX4_init_23 3 rfl rfl)
theorem dX4_init_543 : decode cX4_init 543 = .ok (.iastore, 1) := dk_79 (dk_at dksX4_init_23 4 rfl rfl)
theorem dX4_init_544 : decode cX4_init 544 = .ok (.dup, 1) := dk_89 (dk_at dksX4_init_23 5 rfl rfl)
theorem dX4_init_545 : decode cX4_init 545 = .ok (.iconst 3, 1) := dk_6 (dk_at dksX4_init_23 6 rfl rfl)
theorem dX4_init_546 : decode cX4_init 546 = .ok (.iconst (-1), 1) := dk_2 (dk_at dksX4_init_23 7 rfl rfl)
theorem dX4_init_547 : decode cX4_init 547 = .ok (.iastore, 1) := dk_79 (dk_at dksX4_init_23 8 rfl rfl)
theorem dX4_init_548 : decode cX4_init 548 = .ok (.dup, 1) := dk_89 (dk_at dksX4_init_23 9 rfl rfl)
theorem dX4_init_549 : decode cX4_init 549 = .ok (.iconst 4, 1) := dk_7 (dk_at dksX4_init_23 10 rfl rfl)
theorem dX4_init_550 : decode cX4_init 550 = .ok (.iconst (-1), 1) := dk_2 (dk_at dksX4_init_23 11 rfl rfl)
theorem dX4_init_551 : decode cX4_init 551 = .ok (.iastore, 1) := dk_79 (dk_at dksX4_init_23 12 rfl rfl)
theorem dX4_init_552 : decode cX4_init 552 = .ok (.dup, 1) := dk_89 (dk_at dksX4_init_23 13 rfl rfl)
theorem dX4_init_553 : decode cX4_init 553 = .ok (.iconst 5, 1) := dk_8 (dk_at dksX4_init_23 14 rfl rfl)
theorem dX4_init_554 : decode cX4_init 554 = .ok (.iconst (-1), 1) := dk_2 (dk_at dksX4_init_23 15 rfl rfl)
theorem dX4_init_555 : decode cX4_init 555 = .ok (.iastore, 1) := dk_79 (dk_at dksX4_init_23 16 rfl rfl)
theorem dX4_init_556 : decode cX4_init 556 = .ok (.putfield 245, 3) := dk_181 0 245 (dk_at dksX4_init_23 17 rfl rfl)
theorem dX4_init_559 : decode cX4_init 559 = .ok (.aload_n 0, 1) := dk_42 (dk_at dksX4_init_23 20 rfl rfl)
theorem dX4_init_560 : decode cX4_init 560 = .ok (.bipush 6, 2) := dk_16 6 (dk_at dksX4_init_23 21 rfl rfl)
theorem dX4_init_562 : decode cX4_init 562 = .ok (.newarray .int, 2) := dk_188_10 (dk_at dksX4_init_24 0 rfl rfl)
theorem dX4_init_564 : decode cX4_init 564 = .ok (.putfield 248, 3) := dk_181 0 248 (dk_at dksX4_init_24 2 rfl rfl)
theorem dX4_init_567 : decode cX4_init 567 = .ok (.aload_n 0, 1) := dk_42 (dk_at dksX4_init_24 5 rfl rfl)
theorem dX4_init_568 : decode cX4_init 568 = .ok (.sipush 360, 3) := dk_17 1 104 (dk_at dksX4_init_24 6 rfl rfl)
theorem dX4_init_571 : decode cX4_init 571 = .ok (.newarray .long, 2) := dk_188_11 (dk_at dksX4_init_24 9 rfl rfl)
theorem dX4_init_573 : decode cX4_init 573 = .ok (.putfield 251, 3) := dk_181 0 251 (dk_at dksX4_init_24 11 rfl rfl)
theorem dX4_init_576 : decode cX4_init 576 = .ok (.aload_n 0, 1) := dk_42 (dk_at dksX4_init_24 14 rfl rfl)
theorem dX4_init_577 : decode cX4_init 577 = .ok (.bipush 60, 2) := dk_16 60 (dk_at dksX4_init_24 15 rfl rfl)
theorem dX4_init_579 : decode cX4_init 579 = .ok (.newarray .long, 2) := dk_188_11 (dk_at dksX4_init_24 17 rfl rfl)
theorem dX4_init_581 : decode cX4_init 581 = .ok (.putfield 255, 3) := dk_181 0 255 (dk_at dksX4_init_24 19 rfl rfl)
theorem dX4_init_584 : decode cX4_init 584 = .ok (.iconst 0, 1) := dk_3 (dk_at dksX4_init_24 22 rfl rfl)
theorem dX4_init_585 : decode cX4_init 585 = .ok (.istore_n 1, 1) := dk_60 (dk_at dksX4_init_24 23 rfl rfl)
theorem dX4_init_586 : decode cX4_init 586 = .ok (.iload_n 1, 1) := dk_27 (dk_at dksX4_init_25 0 rfl rfl)
theorem dX4_init_587 : decode cX4_init 587 = .ok (.bipush 64, 2) := dk_16 64 (dk_at dksX4_init_25 1 rfl rfl)
theorem dX4_init_589 : decode cX4_init 589 = .ok (.if_icmp .ge 33, 3) := dk_162 0 33 (dk_at dksX4_init_25 3 rfl rfl)
theorem dX4_init_592 : decode cX4_init 592 = .ok (.aload_n 0, 1) := dk_42 (dk_at dksX4_init_25 6 rfl rfl)
theorem dX4_init_593 : decode cX4_init 593 = .ok (.getfield 26, 3) := dk_180 0 26 (dk_at dksX4_init_25 7 rfl rfl)
theorem dX4_init_596 : decode cX4_init 596 = .ok (.iload_n 1, 1) := dk_27 (dk_at dksX4_init_25 10 rfl rfl)
theorem dX4_init_597 : decode cX4_init 597 = .ok (.iload_n 1, 1) := dk_27 (dk_at dksX4_init_25 11 rfl rfl)
theorem dX4_init_598 : decode cX4_init 598 = .ok (.bipush 8, 2) := dk_16 8 (dk_at dksX4_init_25 12 rfl rfl)
theorem dX4_init_600 : decode cX4_init 600 = .ok (.idiv, 1) := dk_108 (dk_at dksX4_init_25 14 rfl rfl)
theorem dX4_init_601 : decode cX4_init 601 = .ok (.iload_n 1, 1) := dk_27 (dk_at dksX4_init_25 15 rfl rfl)
theorem dX4_init_602 : decode cX4_init 602 = .ok (.bipush 8, 2) := dk_16 8 (dk_at dksX4_init_25 16 rfl rfl)
theorem dX4_init_604 : decode cX4_init 604 = .ok (.irem, 1) := dk_112 (dk_at dksX4_init_25 18 rfl rfl)
theorem dX4_init_605 : decode cX4_init 605 = .ok (.if_icmp .ne 7, 3) := dk_160 0 7 (dk_at dksX4_init_25 19 rfl rfl)
theorem dX4_init_608 : decode cX4_init 608 = .ok (.iconst 0, 1) := dk_3 (dk_at dksX4_init_25 22 rfl rfl)
theorem dX4_init_609 : decode cX4_init 609 = .ok (.goto 6, 3) := dk_167 0 6 (dk_at dksX4_init_26 0 rfl rfl)
theorem dX4_init_612 : decode cX4_init 612 = .ok (.sipush 9999, 3) := dk_17 39 15 (dk_at dksX4_init_26 3 rfl rfl)
theorem dX4_init_615 : decode cX4_init 615 = .ok (.iastore, 1) := dk_79 (dk_at dksX4_init_26 6 rfl rfl)
theorem dX4_init_616 : decode cX4_init 616 = .ok (.iinc 1 1, 3) := dk_132 1 1 (dk_at dksX4_init_26 7 rfl rfl)
theorem dX4_init_619 : decode cX4_init 619 = .ok (.goto (-33), 3) := dk_167 255 223 (dk_at dksX4_init_26 10 rfl rfl)
theorem dX4_init_622 : decode cX4_init 622 = .ok (.return_, 1) := dk_177 (dk_at dksX4_init_26 13 rfl rfl)
abbrev cX4_pass : ByteArray := prog_30_method_6_code
def yX4_pass : MethodName := ⟨RX4, "pass", "(I)I"⟩
def dkwX4_pass_1 : List UInt8 := [16, 254, 172, 42, 89, 180, 0, 13, 27, 96, 181, 0, 13, 42, 180, 0, 13, 172]
abbrev dktX4_pass_1 : List UInt8 := dkwX4_pass_1 ++ []
def dkwX4_pass_0 : List UInt8 := [42, 27, 4, 17, 1, 144, 182, 0, 3, 153, 0, 15, 42, 180, 0, 13, 27, 96, 17, 39, 15, 164, 0, 6]
abbrev dktX4_pass_0 : List UInt8 := dkwX4_pass_0 ++ dktX4_pass_1
theorem dksX4_pass_0 : cX4_pass.data.toList.drop 0 = dktX4_pass_0 := by decide +kernel
theorem dksX4_pass_1 : cX4_pass.data.toList.drop 24 = dktX4_pass_1 := dk_seg dksX4_pass_0 24 rfl rfl
theorem dX4_pass_0 : decode cX4_pass 0 = .ok (.aload_n 0, 1) := dk_42 (dk_at dksX4_pass_0 0 rfl rfl)
theorem dX4_pass_1 : decode cX4_pass 1 = .ok (.iload_n 1, 1) := dk_27 (dk_at dksX4_pass_0 1 rfl rfl)
theorem dX4_pass_2 : decode cX4_pass 2 = .ok (.iconst 1, 1) := dk_4 (dk_at dksX4_pass_0 2 rfl rfl)
theorem dX4_pass_3 : decode cX4_pass 3 = .ok (.sipush 400, 3) := dk_17 1 144 (dk_at dksX4_pass_0 3 rfl rfl)
theorem dX4_pass_6 : decode cX4_pass 6 = .ok (.invokevirtual 3, 3) := dk_182 0 3 (dk_at dksX4_pass_0 6 rfl rfl)
theorem dX4_pass_9 : decode cX4_pass 9 = .ok (.ifCond .eq 15, 3) := dk_153 0 15 (dk_at dksX4_pass_0 9 rfl rfl)
theorem dX4_pass_12 : decode cX4_pass 12 = .ok (.aload_n 0, 1) := dk_42 (dk_at dksX4_pass_0 12 rfl rfl)
theorem dX4_pass_13 : decode cX4_pass 13 = .ok (.getfield 13, 3) := dk_180 0 13 (dk_at dksX4_pass_0 13 rfl rfl)
theorem dX4_pass_16 : decode cX4_pass 16 = .ok (.iload_n 1, 1) := dk_27 (dk_at dksX4_pass_0 16 rfl rfl)
theorem dX4_pass_17 : decode cX4_pass 17 = .ok (.iadd, 1) := dk_96 (dk_at dksX4_pass_0 17 rfl rfl)
theorem dX4_pass_18 : decode cX4_pass 18 = .ok (.sipush 9999, 3) := dk_17 39 15 (dk_at dksX4_pass_0 18 rfl rfl)
theorem dX4_pass_21 : decode cX4_pass 21 = .ok (.if_icmp .le 6, 3) := dk_164 0 6 (dk_at dksX4_pass_0 21 rfl rfl)
theorem dX4_pass_24 : decode cX4_pass 24 = .ok (.bipush (-2), 2) := dk_16 254 (dk_at dksX4_pass_1 0 rfl rfl)
theorem dX4_pass_26 : decode cX4_pass 26 = .ok (.ireturn, 1) := dk_172 (dk_at dksX4_pass_1 2 rfl rfl)
theorem dX4_pass_27 : decode cX4_pass 27 = .ok (.aload_n 0, 1) := dk_42 (dk_at dksX4_pass_1 3 rfl rfl)
theorem dX4_pass_28 : decode cX4_pass 28 = .ok (.dup, 1) := dk_89 (dk_at dksX4_pass_1 4 rfl rfl)
theorem dX4_pass_29 : decode cX4_pass 29 = .ok (.getfield 13, 3) := dk_180 0 13 (dk_at dksX4_pass_1 5 rfl rfl)
theorem dX4_pass_32 : decode cX4_pass 32 = .ok (.iload_n 1, 1) := dk_27 (dk_at dksX4_pass_1 8 rfl rfl)
theorem dX4_pass_33 : decode cX4_pass 33 = .ok (.iadd, 1) := dk_96 (dk_at dksX4_pass_1 9 rfl rfl)
theorem dX4_pass_34 : decode cX4_pass 34 = .ok (.putfield 13, 3) := dk_181 0 13 (dk_at dksX4_pass_1 10 rfl rfl)
theorem dX4_pass_37 : decode cX4_pass 37 = .ok (.aload_n 0, 1) := dk_42 (dk_at dksX4_pass_1 13 rfl rfl)
theorem dX4_pass_38 : decode cX4_pass 38 = .ok (.getfield 13, 3) := dk_180 0 13 (dk_at dksX4_pass_1 14 rfl rfl)
theorem dX4_pass_41 : decode cX4_pass 41 = .ok (.ireturn, 1) := dk_172 (dk_at dksX4_pass_1 17 rfl rfl)
abbrev cX4_in : ByteArray := prog_30_method_1_code
def yX4_in : MethodName := ⟨RX4, "in", "(III)Z"⟩
def dkwX4_in_0 : List UInt8 := [27, 28, 161, 0, 12, 27, 29, 163, 0, 7, 4, 167, 0, 4, 3, 172]
abbrev dktX4_in_0 : List UInt8 := dkwX4_in_0 ++ []
theorem dksX4_in_0 : cX4_in.data.toList.drop 0 = dktX4_in_0 := by decide +kernel
theorem dX4_in_0 : decode cX4_in 0 = .ok (.iload_n 1, 1) := dk_27 (dk_at dksX4_in_0 0 rfl rfl)
theorem dX4_in_1 : decode cX4_in 1 = .ok (.iload_n 2, 1) := dk_28 (dk_at dksX4_in_0 1 rfl rfl)
theorem dX4_in_2 : decode cX4_in 2 = .ok (.if_icmp .lt 12, 3) := dk_161 0 12 (dk_at dksX4_in_0 2 rfl rfl)
theorem dX4_in_5 : decode cX4_in 5 = .ok (.iload_n 1, 1) := dk_27 (dk_at dksX4_in_0 5 rfl rfl)
theorem dX4_in_6 : decode cX4_in 6 = .ok (.iload_n 3, 1) := dk_29 (dk_at dksX4_in_0 6 rfl rfl)
theorem dX4_in_7 : decode cX4_in 7 = .ok (.if_icmp .gt 7, 3) := dk_163 0 7 (dk_at dksX4_in_0 7 rfl rfl)
theorem dX4_in_10 : decode cX4_in 10 = .ok (.iconst 1, 1) := dk_4 (dk_at dksX4_in_0 10 rfl rfl)
theorem dX4_in_11 : decode cX4_in 11 = .ok (.goto 4, 3) := dk_167 0 4 (dk_at dksX4_in_0 11 rfl rfl)
theorem dX4_in_14 : decode cX4_in 14 = .ok (.iconst 0, 1) := dk_3 (dk_at dksX4_in_0 14 rfl rfl)
theorem dX4_in_15 : decode cX4_in 15 = .ok (.ireturn, 1) := dk_172 (dk_at dksX4_in_0 15 rfl rfl)
abbrev cX4_road : ByteArray := prog_30_method_7_code
def yX4_road : MethodName := ⟨RX4, "road", "(III)I"⟩
def dkwX4_road_3 : List UInt8 := [27, 96, 29, 79, 4, 172]
abbrev dktX4_road_3 : List UInt8 := dkwX4_road_3 ++ []
def dkwX4_road_2 : List UInt8 := [46, 162, 0, 27, 42, 180, 0, 26, 16, 8, 27, 104, 28, 96, 29, 79, 42, 180, 0, 26, 16, 8, 28, 104]
abbrev dktX4_road_2 : List UInt8 := dkwX4_road_2 ++ dktX4_road_3
def dkwX4_road_1 : List UInt8 := [29, 4, 16, 60, 182, 0, 3, 154, 0, 6, 16, 254, 172, 29, 42, 180, 0, 26, 16, 8, 27, 104, 28, 96]
abbrev dktX4_road_1 : List UInt8 := dkwX4_road_1 ++ dktX4_road_2
def dkwX4_road_0 : List UInt8 := [42, 27, 182, 1, 2, 153, 0, 11, 42, 28, 182, 1, 2, 154, 0, 5, 2, 172, 27, 28, 159, 0, 14, 42]
abbrev dktX4_road_0 : List UInt8 := dkwX4_road_0 ++ dktX4_road_1
theorem dksX4_road_0 : cX4_road.data.toList.drop 0 = dktX4_road_0 := by decide +kernel
theorem dksX4_road_1 : cX4_road.data.toList.drop 24 = dktX4_road_1 := dk_seg dksX4_road_0 24 rfl rfl
theorem dksX4_road_2 : cX4_road.data.toList.drop 48 = dktX4_road_2 := dk_seg dksX4_road_1 24 rfl rfl
theorem dksX4_road_3 : cX4_road.data.toList.drop 72 = dktX4_road_3 := dk_seg dksX4_road_2 24 rfl rfl
theorem dX4_road_0 : decode cX4_road 0 = .ok (.aload_n 0, 1) := dk_42 (dk_at dksX4_road_0 0 rfl rfl)
theorem dX4_road_1 : decode cX4_road 1 = .ok (.iload_n 1, 1) := dk_27 (dk_at dksX4_road_0 1 rfl rfl)
theorem dX4_road_2 : decode cX4_road 2 = .ok (.invokevirtual 258, 3) := dk_182 1 2 (dk_at dksX4_road_0 2 rfl rfl)
theorem dX4_road_5 : decode cX4_road 5 = .ok (.ifCond .eq 11, 3) := dk_153 0 11 (dk_at dksX4_road_0 5 rfl rfl)
theorem dX4_road_8 : decode cX4_road 8 = .ok (.aload_n 0, 1) := dk_42 (dk_at dksX4_road_0 8 rfl rfl)
theorem dX4_road_9 : decode cX4_road 9 = .ok (.iload_n 2, 1) := dk_28 (dk_at dksX4_road_0 9 rfl rfl)
theorem dX4_road_10 : decode cX4_road 10 = .ok (.invokevirtual 258, 3) := dk_182 1 2 (dk_at dksX4_road_0 10 rfl rfl)
theorem dX4_road_13 : decode cX4_road 13 = .ok (.ifCond .ne 5, 3) := dk_154 0 5 (dk_at dksX4_road_0 13 rfl rfl)
theorem dX4_road_16 : decode cX4_road 16 = .ok (.iconst (-1), 1) := dk_2 (dk_at dksX4_road_0 16 rfl rfl)
theorem dX4_road_17 : decode cX4_road 17 = .ok (.ireturn, 1) := dk_172 (dk_at dksX4_road_0 17 rfl rfl)
theorem dX4_road_18 : decode cX4_road 18 = .ok (.iload_n 1, 1) := dk_27 (dk_at dksX4_road_0 18 rfl rfl)
theorem dX4_road_19 : decode cX4_road 19 = .ok (.iload_n 2, 1) := dk_28 (dk_at dksX4_road_0 19 rfl rfl)
theorem dX4_road_20 : decode cX4_road 20 = .ok (.if_icmp .eq 14, 3) := dk_159 0 14 (dk_at dksX4_road_0 20 rfl rfl)
theorem dX4_road_23 : decode cX4_road 23 = .ok (.aload_n 0, 1) := dk_42 (dk_at dksX4_road_0 23 rfl rfl)
theorem dX4_road_24 : decode cX4_road 24 = .ok (.iload_n 3, 1) := dk_29 (dk_at dksX4_road_1 0 rfl rfl)
theorem dX4_road_25 : decode cX4_road 25 = .ok (.iconst 1, 1) := dk_4 (dk_at dksX4_road_1 1 rfl rfl)
theorem dX4_road_26 : decode cX4_road 26 = .ok (.bipush 60, 2) := dk_16 60 (dk_at dksX4_road_1 2 rfl rfl)
theorem dX4_road_28 : decode cX4_road 28 = .ok (.invokevirtual 3, 3) := dk_182 0 3 (dk_at dksX4_road_1 4 rfl rfl)
theorem dX4_road_31 : decode cX4_road 31 = .ok (.ifCond .ne 6, 3) := dk_154 0 6 (dk_at dksX4_road_1 7 rfl rfl)
theorem dX4_road_34 : decode cX4_road 34 = .ok (.bipush (-2), 2) := dk_16 254 (dk_at dksX4_road_1 10 rfl rfl)
theorem dX4_road_36 : decode cX4_road 36 = .ok (.ireturn, 1) := dk_172 (dk_at dksX4_road_1 12 rfl rfl)
theorem dX4_road_37 : decode cX4_road 37 = .ok (.iload_n 3, 1) := dk_29 (dk_at dksX4_road_1 13 rfl rfl)
theorem dX4_road_38 : decode cX4_road 38 = .ok (.aload_n 0, 1) := dk_42 (dk_at dksX4_road_1 14 rfl rfl)
theorem dX4_road_39 : decode cX4_road 39 = .ok (.getfield 26, 3) := dk_180 0 26 (dk_at dksX4_road_1 15 rfl rfl)
theorem dX4_road_42 : decode cX4_road 42 = .ok (.bipush 8, 2) := dk_16 8 (dk_at dksX4_road_1 18 rfl rfl)
theorem dX4_road_44 : decode cX4_road 44 = .ok (.iload_n 1, 1) := dk_27 (dk_at dksX4_road_1 20 rfl rfl)
theorem dX4_road_45 : decode cX4_road 45 = .ok (.imul, 1) := dk_104 (dk_at dksX4_road_1 21 rfl rfl)
theorem dX4_road_46 : decode cX4_road 46 = .ok (.iload_n 2, 1) := dk_28 (dk_at dksX4_road_1 22 rfl rfl)
theorem dX4_road_47 : decode cX4_road 47 = .ok (.iadd, 1) := dk_96 (dk_at dksX4_road_1 23 rfl rfl)
theorem dX4_road_48 : decode cX4_road 48 = .ok (.iaload, 1) := dk_46 (dk_at dksX4_road_2 0 rfl rfl)
theorem dX4_road_49 : decode cX4_road 49 = .ok (.if_icmp .ge 27, 3) := dk_162 0 27 (dk_at dksX4_road_2 1 rfl rfl)
theorem dX4_road_52 : decode cX4_road 52 = .ok (.aload_n 0, 1) := dk_42 (dk_at dksX4_road_2 4 rfl rfl)
theorem dX4_road_53 : decode cX4_road 53 = .ok (.getfield 26, 3) := dk_180 0 26 (dk_at dksX4_road_2 5 rfl rfl)
theorem dX4_road_56 : decode cX4_road 56 = .ok (.bipush 8, 2) := dk_16 8 (dk_at dksX4_road_2 8 rfl rfl)
theorem dX4_road_58 : decode cX4_road 58 = .ok (.iload_n 1, 1) := dk_27 (dk_at dksX4_road_2 10 rfl rfl)
theorem dX4_road_59 : decode cX4_road 59 = .ok (.imul, 1) := dk_104 (dk_at dksX4_road_2 11 rfl rfl)
theorem dX4_road_60 : decode cX4_road 60 = .ok (.iload_n 2, 1) := dk_28 (dk_at dksX4_road_2 12 rfl rfl)
theorem dX4_road_61 : decode cX4_road 61 = .ok (.iadd, 1) := dk_96 (dk_at dksX4_road_2 13 rfl rfl)
theorem dX4_road_62 : decode cX4_road 62 = .ok (.iload_n 3, 1) := dk_29 (dk_at dksX4_road_2 14 rfl rfl)
theorem dX4_road_63 : decode cX4_road 63 = .ok (.iastore, 1) := dk_79 (dk_at dksX4_road_2 15 rfl rfl)
theorem dX4_road_64 : decode cX4_road 64 = .ok (.aload_n 0, 1) := dk_42 (dk_at dksX4_road_2 16 rfl rfl)
theorem dX4_road_65 : decode cX4_road 65 = .ok (.getfield 26, 3) := dk_180 0 26 (dk_at dksX4_road_2 17 rfl rfl)
theorem dX4_road_68 : decode cX4_road 68 = .ok (.bipush 8, 2) := dk_16 8 (dk_at dksX4_road_2 20 rfl rfl)
theorem dX4_road_70 : decode cX4_road 70 = .ok (.iload_n 2, 1) := dk_28 (dk_at dksX4_road_2 22 rfl rfl)
theorem dX4_road_71 : decode cX4_road 71 = .ok (.imul, 1) := dk_104 (dk_at dksX4_road_2 23 rfl rfl)
theorem dX4_road_72 : decode cX4_road 72 = .ok (.iload_n 1, 1) := dk_27 (dk_at dksX4_road_3 0 rfl rfl)
theorem dX4_road_73 : decode cX4_road 73 = .ok (.iadd, 1) := dk_96 (dk_at dksX4_road_3 1 rfl rfl)
theorem dX4_road_74 : decode cX4_road 74 = .ok (.iload_n 3, 1) := dk_29 (dk_at dksX4_road_3 2 rfl rfl)
theorem dX4_road_75 : decode cX4_road 75 = .ok (.iastore, 1) := dk_79 (dk_at dksX4_road_3 3 rfl rfl)
theorem dX4_road_76 : decode cX4_road 76 = .ok (.iconst 1, 1) := dk_4 (dk_at dksX4_road_3 4 rfl rfl)
theorem dX4_road_77 : decode cX4_road 77 = .ok (.ireturn, 1) := dk_172 (dk_at dksX4_road_3 5 rfl rfl)
abbrev cX4_isTown : ByteArray := prog_30_method_5_code
def yX4_isTown : MethodName := ⟨RX4, "isTown", "(I)Z"⟩
def dkwX4_isTown_0 : List UInt8 := [42, 27, 3, 16, 7, 182, 0, 3, 172]
abbrev dktX4_isTown_0 : List UInt8 := dkwX4_isTown_0 ++ []
theorem dksX4_isTown_0 : cX4_isTown.data.toList.drop 0 = dktX4_isTown_0 := by decide +kernel
theorem dX4_isTown_0 : decode cX4_isTown 0 = .ok (.aload_n 0, 1) := dk_42 (dk_at dksX4_isTown_0 0 rfl rfl)
theorem dX4_isTown_1 : decode cX4_isTown 1 = .ok (.iload_n 1, 1) := dk_27 (dk_at dksX4_isTown_0 1 rfl rfl)
theorem dX4_isTown_2 : decode cX4_isTown 2 = .ok (.iconst 0, 1) := dk_3 (dk_at dksX4_isTown_0 2 rfl rfl)
theorem dX4_isTown_3 : decode cX4_isTown 3 = .ok (.bipush 7, 2) := dk_16 7 (dk_at dksX4_isTown_0 3 rfl rfl)
theorem dX4_isTown_5 : decode cX4_isTown 5 = .ok (.invokevirtual 3, 3) := dk_182 0 3 (dk_at dksX4_isTown_0 5 rfl rfl)
theorem dX4_isTown_8 : decode cX4_isTown 8 = .ok (.ireturn, 1) := dk_172 (dk_at dksX4_isTown_0 8 rfl rfl)
abbrev cX4_far : ByteArray := prog_30_method_9_code
def yX4_far : MethodName := ⟨RX4, "far", "(I)I"⟩
def dkwX4_far_0 : List UInt8 := [42, 27, 182, 1, 2, 153, 0, 11, 42, 27, 182, 1, 6, 167, 0, 4, 2, 172]
abbrev dktX4_far_0 : List UInt8 := dkwX4_far_0 ++ []
theorem dksX4_far_0 : cX4_far.data.toList.drop 0 = dktX4_far_0 := by decide +kernel
theorem dX4_far_0 : decode cX4_far 0 = .ok (.aload_n 0, 1) := dk_42 (dk_at dksX4_far_0 0 rfl rfl)
theorem dX4_far_1 : decode cX4_far 1 = .ok (.iload_n 1, 1) := dk_27 (dk_at dksX4_far_0 1 rfl rfl)
theorem dX4_far_2 : decode cX4_far 2 = .ok (.invokevirtual 258, 3) := dk_182 1 2 (dk_at dksX4_far_0 2 rfl rfl)
theorem dX4_far_5 : decode cX4_far 5 = .ok (.ifCond .eq 11, 3) := dk_153 0 11 (dk_at dksX4_far_0 5 rfl rfl)
theorem dX4_far_8 : decode cX4_far 8 = .ok (.aload_n 0, 1) := dk_42 (dk_at dksX4_far_0 8 rfl rfl)
theorem dX4_far_9 : decode cX4_far 9 = .ok (.iload_n 1, 1) := dk_27 (dk_at dksX4_far_0 9 rfl rfl)
theorem dX4_far_10 : decode cX4_far 10 = .ok (.invokevirtual 262, 3) := dk_182 1 6 (dk_at dksX4_far_0 10 rfl rfl)
theorem dX4_far_13 : decode cX4_far 13 = .ok (.goto 4, 3) := dk_167 0 4 (dk_at dksX4_far_0 13 rfl rfl)
theorem dX4_far_16 : decode cX4_far 16 = .ok (.iconst (-1), 1) := dk_2 (dk_at dksX4_far_0 16 rfl rfl)
theorem dX4_far_17 : decode cX4_far 17 = .ok (.ireturn, 1) := dk_172 (dk_at dksX4_far_0 17 rfl rfl)
abbrev cX4_farOf : ByteArray := prog_30_method_8_code
def yX4_farOf : MethodName := ⟨RX4, "farOf", "(I)I"⟩
def dkwX4_farOf_4 : List UInt8 := [29, 46, 96, 79, 132, 3, 1, 167, 255, 194, 132, 2, 1, 167, 255, 180, 42, 180, 0, 63, 27, 46, 172]
abbrev dktX4_farOf_4 : List UInt8 := dkwX4_farOf_4 ++ []
def dkwX4_farOf_3 : List UInt8 := [162, 0, 28, 42, 180, 0, 63, 29, 16, 8, 112, 42, 180, 0, 63, 29, 16, 8, 108, 46, 42, 180, 0, 26]
abbrev dktX4_farOf_3 : List UInt8 := dkwX4_farOf_3 ++ dktX4_farOf_4
def dkwX4_farOf_2 : List UInt8 := [180, 0, 63, 29, 16, 8, 108, 46, 42, 180, 0, 26, 29, 46, 96, 42, 180, 0, 63, 29, 16, 8, 112, 46]
abbrev dktX4_farOf_2 : List UInt8 := dkwX4_farOf_2 ++ dktX4_farOf_3
def dkwX4_farOf_1 : List UInt8 := [79, 132, 2, 1, 167, 255, 230, 3, 61, 28, 16, 8, 162, 0, 76, 3, 62, 29, 16, 64, 162, 0, 62, 42]
abbrev dktX4_farOf_1 : List UInt8 := dkwX4_farOf_1 ++ dktX4_farOf_2
def dkwX4_farOf_0 : List UInt8 := [3, 61, 28, 16, 8, 162, 0, 26, 42, 180, 0, 63, 28, 28, 154, 0, 7, 3, 167, 0, 6, 17, 39, 15]
abbrev dktX4_farOf_0 : List UInt8 := dkwX4_farOf_0 ++ dktX4_farOf_1
theorem dksX4_farOf_0 : cX4_farOf.data.toList.drop 0 = dktX4_farOf_0 := by decide +kernel
theorem dksX4_farOf_1 : cX4_farOf.data.toList.drop 24 = dktX4_farOf_1 := dk_seg dksX4_farOf_0 24 rfl rfl
theorem dksX4_farOf_2 : cX4_farOf.data.toList.drop 48 = dktX4_farOf_2 := dk_seg dksX4_farOf_1 24 rfl rfl
theorem dksX4_farOf_3 : cX4_farOf.data.toList.drop 72 = dktX4_farOf_3 := dk_seg dksX4_farOf_2 24 rfl rfl
theorem dksX4_farOf_4 : cX4_farOf.data.toList.drop 96 = dktX4_farOf_4 := dk_seg dksX4_farOf_3 24 rfl rfl
theorem dX4_farOf_0 : decode cX4_farOf 0 = .ok (.iconst 0, 1) := dk_3 (dk_at dksX4_farOf_0 0 rfl rfl)
theorem dX4_farOf_1 : decode cX4_farOf 1 = .ok (.istore_n 2, 1) := dk_61 (dk_at dksX4_farOf_0 1 rfl rfl)
theorem dX4_farOf_2 : decode cX4_farOf 2 = .ok (.iload_n 2, 1) := dk_28 (dk_at dksX4_farOf_0 2 rfl rfl)
theorem dX4_farOf_3 : decode cX4_farOf 3 = .ok (.bipush 8, 2) := dk_16 8 (dk_at dksX4_farOf_0 3 rfl rfl)
theorem dX4_farOf_5 : decode cX4_farOf 5 = .ok (.if_icmp .ge 26, 3) := dk_162 0 26 (dk_at dksX4_farOf_0 5 rfl rfl)
theorem dX4_farOf_8 : decode cX4_farOf 8 = .ok (.aload_n 0, 1) := dk_42 (dk_at dksX4_farOf_0 8 rfl rfl)
theorem dX4_farOf_9 : decode cX4_farOf 9 = .ok (.getfield 63, 3) := dk_180 0 63 (dk_at dksX4_farOf_0 9 rfl rfl)
theorem dX4_farOf_12 : decode cX4_farOf 12 = .ok (.iload_n 2, 1) := dk_28 (dk_at dksX4_farOf_0 12 rfl rfl)
theorem dX4_farOf_13 : decode cX4_farOf 13 = .ok (.iload_n 2, 1) := dk_28 (dk_at dksX4_farOf_0 13 rfl rfl)
theorem dX4_farOf_14 : decode cX4_farOf 14 = .ok (.ifCond .ne 7, 3) := dk_154 0 7 (dk_at dksX4_farOf_0 14 rfl rfl)
theorem dX4_farOf_17 : decode cX4_farOf 17 = .ok (.iconst 0, 1) := dk_3 (dk_at dksX4_farOf_0 17 rfl rfl)
theorem dX4_farOf_18 : decode cX4_farOf 18 = .ok (.goto 6, 3) := dk_167 0 6 (dk_at dksX4_farOf_0 18 rfl rfl)
theorem dX4_farOf_21 : decode cX4_farOf 21 = .ok (.sipush 9999, 3) := dk_17 39 15 (dk_at dksX4_farOf_0 21 rfl rfl)
theorem dX4_farOf_24 : decode cX4_farOf 24 = .ok (.iastore, 1) := dk_79 (dk_at dksX4_farOf_1 0 rfl rfl)
theorem dX4_farOf_25 : decode cX4_farOf 25 = .ok (.iinc 2 1, 3) := dk_132 2 1 (dk_at dksX4_farOf_1 1 rfl rfl)
theorem dX4_farOf_28 : decode cX4_farOf 28 = .ok (.goto (-26), 3) := dk_167 255 230 (dk_at dksX4_farOf_1 4 rfl rfl)
theorem dX4_farOf_31 : decode cX4_farOf 31 = .ok (.iconst 0, 1) := dk_3 (dk_at dksX4_farOf_1 7 rfl rfl)
theorem dX4_farOf_32 : decode cX4_farOf 32 = .ok (.istore_n 2, 1) := dk_61 (dk_at dksX4_farOf_1 8 rfl rfl)
theorem dX4_farOf_33 : decode cX4_farOf 33 = .ok (.iload_n 2, 1) := dk_28 (dk_at dksX4_farOf_1 9 rfl rfl)
theorem dX4_farOf_34 : decode cX4_farOf 34 = .ok (.bipush 8, 2) := dk_16 8 (dk_at dksX4_farOf_1 10 rfl rfl)
theorem dX4_farOf_36 : decode cX4_farOf 36 = .ok (.if_icmp .ge 76, 3) := dk_162 0 76 (dk_at dksX4_farOf_1 12 rfl rfl)
theorem dX4_farOf_39 : decode cX4_farOf 39 = .ok (.iconst 0, 1) := dk_3 (dk_at dksX4_farOf_1 15 rfl rfl)
theorem dX4_farOf_40 : decode cX4_farOf 40 = .ok (.istore_n 3, 1) := dk_62 (dk_at dksX4_farOf_1 16 rfl rfl)
theorem dX4_farOf_41 : decode cX4_farOf 41 = .ok (.iload_n 3, 1) := dk_29 (dk_at dksX4_farOf_1 17 rfl rfl)
theorem dX4_farOf_42 : decode cX4_farOf 42 = .ok (.bipush 64, 2) := dk_16 64 (dk_at dksX4_farOf_1 18 rfl rfl)
theorem dX4_farOf_44 : decode cX4_farOf 44 = .ok (.if_icmp .ge 62, 3) := dk_162 0 62 (dk_at dksX4_farOf_1 20 rfl rfl)
theorem dX4_farOf_47 : decode cX4_farOf 47 = .ok (.aload_n 0, 1) := dk_42 (dk_at dksX4_farOf_1 23 rfl rfl)
theorem dX4_farOf_48 : decode cX4_farOf 48 = .ok (.getfield 63, 3) := dk_180 0 63 (dk_at dksX4_farOf_2 0 rfl rfl)
theorem dX4_farOf_51 : decode cX4_farOf 51 = .ok (.iload_n 3, 1) := dk_29 (dk_at dksX4_farOf_2 3 rfl rfl)
theorem dX4_farOf_52 : decode cX4_farOf 52 = .ok (.bipush 8, 2) := dk_16 8 (dk_at dksX4_farOf_2 4 rfl rfl)
theorem dX4_farOf_54 : decode cX4_farOf 54 = .ok (.idiv, 1) := dk_108 (dk_at dksX4_farOf_2 6 rfl rfl)
theorem dX4_farOf_55 : decode cX4_farOf 55 = .ok (.iaload, 1) := dk_46 (dk_at dksX4_farOf_2 7 rfl rfl)
theorem dX4_farOf_56 : decode cX4_farOf 56 = .ok (.aload_n 0, 1) := dk_42 (dk_at dksX4_farOf_2 8 rfl rfl)
theorem dX4_farOf_57 : decode cX4_farOf 57 = .ok (.getfield 26, 3) := dk_180 0 26 (dk_at dksX4_farOf_2 9 rfl rfl)
theorem dX4_farOf_60 : decode cX4_farOf 60 = .ok (.iload_n 3, 1) := dk_29 (dk_at dksX4_farOf_2 12 rfl rfl)
theorem dX4_farOf_61 : decode cX4_farOf 61 = .ok (.iaload, 1) := dk_46 (dk_at dksX4_farOf_2 13 rfl rfl)
theorem dX4_farOf_62 : decode cX4_farOf 62 = .ok (.iadd, 1) := dk_96 (dk_at dksX4_farOf_2 14 rfl rfl)
theorem dX4_farOf_63 : decode cX4_farOf 63 = .ok (.aload_n 0, 1) := dk_42 (dk_at dksX4_farOf_2 15 rfl rfl)
theorem dX4_farOf_64 : decode cX4_farOf 64 = .ok (.getfield 63, 3) := dk_180 0 63 (dk_at dksX4_farOf_2 16 rfl rfl)
theorem dX4_farOf_67 : decode cX4_farOf 67 = .ok (.iload_n 3, 1) := dk_29 (dk_at dksX4_farOf_2 19 rfl rfl)
theorem dX4_farOf_68 : decode cX4_farOf 68 = .ok (.bipush 8, 2) := dk_16 8 (dk_at dksX4_farOf_2 20 rfl rfl)
theorem dX4_farOf_70 : decode cX4_farOf 70 = .ok (.irem, 1) := dk_112 (dk_at dksX4_farOf_2 22 rfl rfl)
theorem dX4_farOf_71 : decode cX4_farOf 71 = .ok (.iaload, 1) := dk_46 (dk_at dksX4_farOf_2 23 rfl rfl)
theorem dX4_farOf_72 : decode cX4_farOf 72 = .ok (.if_icmp .ge 28, 3) := dk_162 0 28 (dk_at dksX4_farOf_3 0 rfl rfl)
theorem dX4_farOf_75 : decode cX4_farOf 75 = .ok (.aload_n 0, 1) := dk_42 (dk_at dksX4_farOf_3 3 rfl rfl)
theorem dX4_farOf_76 : decode cX4_farOf 76 = .ok (.getfield 63, 3) := dk_180 0 63 (dk_at dksX4_farOf_3 4 rfl rfl)
theorem dX4_farOf_79 : decode cX4_farOf 79 = .ok (.iload_n 3, 1) := dk_29 (dk_at dksX4_farOf_3 7 rfl rfl)
theorem dX4_farOf_80 : decode cX4_farOf 80 = .ok (.bipush 8, 2) := dk_16 8 (dk_at dksX4_farOf_3 8 rfl rfl)
theorem dX4_farOf_82 : decode cX4_farOf 82 = .ok (.irem, 1) := dk_112 (dk_at dksX4_farOf_3 10 rfl rfl)
theorem dX4_farOf_83 : decode cX4_farOf 83 = .ok (.aload_n 0, 1) := dk_42 (dk_at dksX4_farOf_3 11 rfl rfl)
theorem dX4_farOf_84 : decode cX4_farOf 84 = .ok (.getfield 63, 3) := dk_180 0 63 (dk_at dksX4_farOf_3 12 rfl rfl)
theorem dX4_farOf_87 : decode cX4_farOf 87 = .ok (.iload_n 3, 1) := dk_29 (dk_at dksX4_farOf_3 15 rfl rfl)
theorem dX4_farOf_88 : decode cX4_farOf 88 = .ok (.bipush 8, 2) := dk_16 8 (dk_at dksX4_farOf_3 16 rfl rfl)
theorem dX4_farOf_90 : decode cX4_farOf 90 = .ok (.idiv, 1) := dk_108 (dk_at dksX4_farOf_3 18 rfl rfl)
theorem dX4_farOf_91 : decode cX4_farOf 91 = .ok (.iaload, 1) := dk_46 (dk_at dksX4_farOf_3 19 rfl rfl)
theorem dX4_farOf_92 : decode cX4_farOf 92 = .ok (.aload_n 0, 1) := dk_42 (dk_at dksX4_farOf_3 20 rfl rfl)
theorem dX4_farOf_93 : decode cX4_farOf 93 = .ok (.getfield 26, 3) := dk_180 0 26 (dk_at dksX4_farOf_3 21 rfl rfl)
theorem dX4_farOf_96 : decode cX4_farOf 96 = .ok (.iload_n 3, 1) := dk_29 (dk_at dksX4_farOf_4 0 rfl rfl)
theorem dX4_farOf_97 : decode cX4_farOf 97 = .ok (.iaload, 1) := dk_46 (dk_at dksX4_farOf_4 1 rfl rfl)
theorem dX4_farOf_98 : decode cX4_farOf 98 = .ok (.iadd, 1) := dk_96 (dk_at dksX4_farOf_4 2 rfl rfl)
theorem dX4_farOf_99 : decode cX4_farOf 99 = .ok (.iastore, 1) := dk_79 (dk_at dksX4_farOf_4 3 rfl rfl)
theorem dX4_farOf_100 : decode cX4_farOf 100 = .ok (.iinc 3 1, 3) := dk_132 3 1 (dk_at dksX4_farOf_4 4 rfl rfl)
theorem dX4_farOf_103 : decode cX4_farOf 103 = .ok (.goto (-62), 3) := dk_167 255 194 (dk_at dksX4_farOf_4 7 rfl rfl)
theorem dX4_farOf_106 : decode cX4_farOf 106 = .ok (.iinc 2 1, 3) := dk_132 2 1 (dk_at dksX4_farOf_4 10 rfl rfl)
theorem dX4_farOf_109 : decode cX4_farOf 109 = .ok (.goto (-76), 3) := dk_167 255 180 (dk_at dksX4_farOf_4 13 rfl rfl)
theorem dX4_farOf_112 : decode cX4_farOf 112 = .ok (.aload_n 0, 1) := dk_42 (dk_at dksX4_farOf_4 16 rfl rfl)
theorem dX4_farOf_113 : decode cX4_farOf 113 = .ok (.getfield 63, 3) := dk_180 0 63 (dk_at dksX4_farOf_4 17 rfl rfl)
theorem dX4_farOf_116 : decode cX4_farOf 116 = .ok (.iload_n 1, 1) := dk_27 (dk_at dksX4_farOf_4 20 rfl rfl)
theorem dX4_farOf_117 : decode cX4_farOf 117 = .ok (.iaload, 1) := dk_46 (dk_at dksX4_farOf_4 21 rfl rfl)
theorem dX4_farOf_118 : decode cX4_farOf 118 = .ok (.ireturn, 1) := dk_172 (dk_at dksX4_farOf_4 22 rfl rfl)
abbrev cX4_person : ByteArray := prog_30_method_10_code
def yX4_person : MethodName := ⟨RX4, "person", "(II)I"⟩
def dkwX4_person_3 : List UInt8 := [100, 172]
abbrev dktX4_person_3 : List UInt8 := dkwX4_person_3 ++ []
def dkwX4_person_2 : List UInt8 := [180, 0, 33, 42, 180, 0, 17, 28, 79, 42, 89, 180, 0, 17, 4, 96, 181, 0, 17, 42, 180, 0, 17, 4]
abbrev dktX4_person_2 : List UInt8 := dkwX4_person_2 ++ dktX4_person_3
def dkwX4_person_1 : List UInt8 := [180, 0, 17, 16, 16, 160, 0, 6, 16, 252, 172, 42, 180, 0, 30, 42, 180, 0, 17, 27, 79, 42]
abbrev dktX4_person_1 : List UInt8 := dkwX4_person_1 ++ dktX4_person_2
def dkwX4_person_0 : List UInt8 := [42, 27, 182, 1, 2, 154, 0, 5, 2, 172, 42, 28, 3, 8, 182, 0, 3, 154, 0, 6, 16, 254, 172, 42]
abbrev dktX4_person_0 : List UInt8 := dkwX4_person_0 ++ dktX4_person_1
theorem dksX4_person_0 : cX4_person.data.toList.drop 0 = dktX4_person_0 := by decide +kernel
theorem dksX4_person_1 : cX4_person.data.toList.drop 24 = dktX4_person_1 := dk_seg dksX4_person_0 24 rfl rfl
theorem dksX4_person_2 : cX4_person.data.toList.drop 46 = dktX4_person_2 := dk_seg dksX4_person_1 22 rfl rfl
theorem dksX4_person_3 : cX4_person.data.toList.drop 70 = dktX4_person_3 := dk_seg dksX4_person_2 24 rfl rfl
theorem dX4_person_0 : decode cX4_person 0 = .ok (.aload_n 0, 1) := dk_42 (dk_at dksX4_person_0 0 rfl rfl)
theorem dX4_person_1 : decode cX4_person 1 = .ok (.iload_n 1, 1) := dk_27 (dk_at dksX4_person_0 1 rfl rfl)
theorem dX4_person_2 : decode cX4_person 2 = .ok (.invokevirtual 258, 3) := dk_182 1 2 (dk_at dksX4_person_0 2 rfl rfl)
theorem dX4_person_5 : decode cX4_person 5 = .ok (.ifCond .ne 5, 3) := dk_154 0 5 (dk_at dksX4_person_0 5 rfl rfl)
theorem dX4_person_8 : decode cX4_person 8 = .ok (.iconst (-1), 1) := dk_2 (dk_at dksX4_person_0 8 rfl rfl)
theorem dX4_person_9 : decode cX4_person 9 = .ok (.ireturn, 1) := dk_172 (dk_at dksX4_person_0 9 rfl rfl)
theorem dX4_person_10 : decode cX4_person 10 = .ok (.aload_n 0, 1) := dk_42 (dk_at dksX4_person_0 10 rfl rfl)
theorem dX4_person_11 : decode cX4_person 11 = .ok (.iload_n 2, 1) := dk_28 (dk_at dksX4_person_0 11 rfl rfl)
theorem dX4_person_12 : decode cX4_person 12 = .ok (.iconst 0, 1) := dk_3 (dk_at dksX4_person_0 12 rfl rfl)
theorem dX4_person_13 : decode cX4_person 13 = .ok (.iconst 5, 1) := dk_8 (dk_at dksX4_person_0 13 rfl rfl)
theorem dX4_person_14 : decode cX4_person 14 = .ok (.invokevirtual 3, 3) := dk_182 0 3 (dk_at dksX4_person_0 14 rfl rfl)
theorem dX4_person_17 : decode cX4_person 17 = .ok (.ifCond .ne 6, 3) := dk_154 0 6 (dk_at dksX4_person_0 17 rfl rfl)
theorem dX4_person_20 : decode cX4_person 20 = .ok (.bipush (-2), 2) := dk_16 254 (dk_at dksX4_person_0 20 rfl rfl)
theorem dX4_person_22 : decode cX4_person 22 = .ok (.ireturn, 1) := dk_172 (dk_at dksX4_person_0 22 rfl rfl)
theorem dX4_person_23 : decode cX4_person 23 = .ok (.aload_n 0, 1) := dk_42 (dk_at dksX4_person_0 23 rfl rfl)
theorem dX4_person_24 : decode cX4_person 24 = .ok (.getfield 17, 3) := dk_180 0 17 (dk_at dksX4_person_1 0 rfl rfl)
theorem dX4_person_27 : decode cX4_person 27 = .ok (.bipush 16, 2) := dk_16 16 (dk_at dksX4_person_1 3 rfl rfl)
theorem dX4_person_29 : decode cX4_person 29 = .ok (.if_icmp .ne 6, 3) := dk_160 0 6 (dk_at dksX4_person_1 5 rfl rfl)
theorem dX4_person_32 : decode cX4_person 32 = .ok (.bipush (-4), 2) := dk_16 252 (dk_at dksX4_person_1 8 rfl rfl)
theorem dX4_person_34 : decode cX4_person 34 = .ok (.ireturn, 1) := dk_172 (dk_at dksX4_person_1 10 rfl rfl)
theorem dX4_person_35 : decode cX4_person 35 = .ok (.aload_n 0, 1) := dk_42 (dk_at dksX4_person_1 11 rfl rfl)
theorem dX4_person_36 : decode cX4_person 36 = .ok (.getfield 30, 3) := dk_180 0 30 (dk_at dksX4_person_1 12 rfl rfl)
theorem dX4_person_39 : decode cX4_person 39 = .ok (.aload_n 0, 1) := dk_42 (dk_at dksX4_person_1 15 rfl rfl)
theorem dX4_person_40 : decode cX4_person 40 = .ok (.getfield 17, 3) := dk_180 0 17 (dk_at dksX4_person_1 16 rfl rfl)
theorem dX4_person_43 : decode cX4_person 43 = .ok (.iload_n 1, 1) := dk_27 (dk_at dksX4_person_1 19 rfl rfl)
theorem dX4_person_44 : decode cX4_person 44 = .ok (.iastore, 1) := dk_79 (dk_at dksX4_person_1 20 rfl rfl)
theorem dX4_person_45 : decode cX4_person 45 = .ok (.aload_n 0, 1) := dk_42 (dk_at dksX4_person_1 21 rfl rfl)
theorem dX4_person_46 : decode cX4_person 46 = .ok (.getfield 33, 3) := dk_180 0 33 (dk_at dksX4_person_2 0 rfl rfl)
theorem dX4_person_49 : decode cX4_person 49 = .ok (.aload_n 0, 1) := dk_42 (dk_at dksX4_person_2 3 rfl rfl)
theorem dX4_person_50 : decode cX4_person 50 = .ok (.getfield 17, 3) := dk_180 0 17 (dk_at dksX4_person_2 4 rfl rfl)
theorem dX4_person_53 : decode cX4_person 53 = .ok (.iload_n 2, 1) := dk_28 (dk_at dksX4_person_2 7 rfl rfl)
theorem dX4_person_54 : decode cX4_person 54 = .ok (.iastore, 1) := dk_79 (dk_at dksX4_person_2 8 rfl rfl)
theorem dX4_person_55 : decode cX4_person 55 = .ok (.aload_n 0, 1) := dk_42 (dk_at dksX4_person_2 9 rfl rfl)
theorem dX4_person_56 : decode cX4_person 56 = .ok (.dup, 1) := dk_89 (dk_at dksX4_person_2 10 rfl rfl)
theorem dX4_person_57 : decode cX4_person 57 = .ok (.getfield 17, 3) := dk_180 0 17 (dk_at dksX4_person_2 11 rfl rfl)
theorem dX4_person_60 : decode cX4_person 60 = .ok (.iconst 1, 1) := dk_4 (dk_at dksX4_person_2 14 rfl rfl)
theorem dX4_person_61 : decode cX4_person 61 = .ok (.iadd, 1) := dk_96 (dk_at dksX4_person_2 15 rfl rfl)
theorem dX4_person_62 : decode cX4_person 62 = .ok (.putfield 17, 3) := dk_181 0 17 (dk_at dksX4_person_2 16 rfl rfl)
theorem dX4_person_65 : decode cX4_person 65 = .ok (.aload_n 0, 1) := dk_42 (dk_at dksX4_person_2 19 rfl rfl)
theorem dX4_person_66 : decode cX4_person 66 = .ok (.getfield 17, 3) := dk_180 0 17 (dk_at dksX4_person_2 20 rfl rfl)
theorem dX4_person_69 : decode cX4_person 69 = .ok (.iconst 1, 1) := dk_4 (dk_at dksX4_person_2 23 rfl rfl)
theorem dX4_person_70 : decode cX4_person 70 = .ok (.isub, 1) := dk_100 (dk_at dksX4_person_3 0 rfl rfl)
theorem dX4_person_71 : decode cX4_person 71 = .ok (.ireturn, 1) := dk_172 (dk_at dksX4_person_3 1 rfl rfl)
abbrev cX4_book : ByteArray := prog_30_method_12_code
def yX4_book : MethodName := ⟨RX4, "book", "(III)I"⟩
def dkwX4_book_4 : List UInt8 := [4, 96, 181, 0, 20, 42, 180, 0, 20, 4, 100, 172]
abbrev dktX4_book_4 : List UInt8 := dkwX4_book_4 ++ []
def dkwX4_book_3 : List UInt8 := [180, 0, 42, 42, 180, 0, 20, 29, 79, 42, 180, 0, 45, 42, 180, 0, 20, 3, 79, 42, 89, 180, 0, 20]
abbrev dktX4_book_3 : List UInt8 := dkwX4_book_3 ++ dktX4_book_4
def dkwX4_book_2 : List UInt8 := [172, 42, 180, 0, 36, 42, 180, 0, 20, 27, 79, 42, 180, 0, 39, 42, 180, 0, 20, 28, 79, 42]
abbrev dktX4_book_2 : List UInt8 := dkwX4_book_2 ++ dktX4_book_3
def dkwX4_book_1 : List UInt8 := [3, 17, 7, 208, 182, 0, 3, 154, 0, 6, 16, 254, 172, 42, 180, 0, 20, 16, 16, 160, 0, 6, 16, 252]
abbrev dktX4_book_1 : List UInt8 := dkwX4_book_1 ++ dktX4_book_2
def dkwX4_book_0 : List UInt8 := [42, 27, 3, 16, 99, 182, 0, 3, 153, 0, 26, 42, 28, 3, 16, 19, 182, 0, 3, 153, 0, 15, 42, 29]
abbrev dktX4_book_0 : List UInt8 := dkwX4_book_0 ++ dktX4_book_1
theorem dksX4_book_0 : cX4_book.data.toList.drop 0 = dktX4_book_0 := by decide +kernel
theorem dksX4_book_1 : cX4_book.data.toList.drop 24 = dktX4_book_1 := dk_seg dksX4_book_0 24 rfl rfl
theorem dksX4_book_2 : cX4_book.data.toList.drop 48 = dktX4_book_2 := dk_seg dksX4_book_1 24 rfl rfl
theorem dksX4_book_3 : cX4_book.data.toList.drop 70 = dktX4_book_3 := dk_seg dksX4_book_2 22 rfl rfl
theorem dksX4_book_4 : cX4_book.data.toList.drop 94 = dktX4_book_4 := dk_seg dksX4_book_3 24 rfl rfl
theorem dX4_book_0 : decode cX4_book 0 = .ok (.aload_n 0, 1) := dk_42 (dk_at dksX4_book_0 0 rfl rfl)
theorem dX4_book_1 : decode cX4_book 1 = .ok (.iload_n 1, 1) := dk_27 (dk_at dksX4_book_0 1 rfl rfl)
theorem dX4_book_2 : decode cX4_book 2 = .ok (.iconst 0, 1) := dk_3 (dk_at dksX4_book_0 2 rfl rfl)
theorem dX4_book_3 : decode cX4_book 3 = .ok (.bipush 99, 2) := dk_16 99 (dk_at dksX4_book_0 3 rfl rfl)
theorem dX4_book_5 : decode cX4_book 5 = .ok (.invokevirtual 3, 3) := dk_182 0 3 (dk_at dksX4_book_0 5 rfl rfl)
theorem dX4_book_8 : decode cX4_book 8 = .ok (.ifCond .eq 26, 3) := dk_153 0 26 (dk_at dksX4_book_0 8 rfl rfl)
theorem dX4_book_11 : decode cX4_book 11 = .ok (.aload_n 0, 1) := dk_42 (dk_at dksX4_book_0 11 rfl rfl)
theorem dX4_book_12 : decode cX4_book 12 = .ok (.iload_n 2, 1) := dk_28 (dk_at dksX4_book_0 12 rfl rfl)
theorem dX4_book_13 : decode cX4_book 13 = .ok (.iconst 0, 1) := dk_3 (dk_at dksX4_book_0 13 rfl rfl)
theorem dX4_book_14 : decode cX4_book 14 = .ok (.bipush 19, 2) := dk_16 19 (dk_at dksX4_book_0 14 rfl rfl)
theorem dX4_book_16 : decode cX4_book 16 = .ok (.invokevirtual 3, 3) := dk_182 0 3 (dk_at dksX4_book_0 16 rfl rfl)
theorem dX4_book_19 : decode cX4_book 19 = .ok (.ifCond .eq 15, 3) := dk_153 0 15 (dk_at dksX4_book_0 19 rfl rfl)
theorem dX4_book_22 : decode cX4_book 22 = .ok (.aload_n 0, 1) := dk_42 (dk_at dksX4_book_0 22 rfl rfl)
theorem dX4_book_23 : decode cX4_book 23 = .ok (.iload_n 3, 1) := dk_29 (dk_at dksX4_book_0 23 rfl rfl)
theorem dX4_book_24 : decode cX4_book 24 = .ok (.iconst 0, 1) := dk_3 (dk_at dksX4_book_1 0 rfl rfl)
theorem dX4_book_25 : decode cX4_book 25 = .ok (.sipush 2000, 3) := dk_17 7 208 (dk_at dksX4_book_1 1 rfl rfl)
theorem dX4_book_28 : decode cX4_book 28 = .ok (.invokevirtual 3, 3) := dk_182 0 3 (dk_at dksX4_book_1 4 rfl rfl)
theorem dX4_book_31 : decode cX4_book 31 = .ok (.ifCond .ne 6, 3) := dk_154 0 6 (dk_at dksX4_book_1 7 rfl rfl)
theorem dX4_book_34 : decode cX4_book 34 = .ok (.bipush (-2), 2) := dk_16 254 (dk_at dksX4_book_1 10 rfl rfl)
theorem dX4_book_36 : decode cX4_book 36 = .ok (.ireturn, 1) := dk_172 (dk_at dksX4_book_1 12 rfl rfl)
theorem dX4_book_37 : decode cX4_book 37 = .ok (.aload_n 0, 1) := dk_42 (dk_at dksX4_book_1 13 rfl rfl)
theorem dX4_book_38 : decode cX4_book 38 = .ok (.getfield 20, 3) := dk_180 0 20 (dk_at dksX4_book_1 14 rfl rfl)
theorem dX4_book_41 : decode cX4_book 41 = .ok (.bipush 16, 2) := dk_16 16 (dk_at dksX4_book_1 17 rfl rfl)
theorem dX4_book_43 : decode cX4_book 43 = .ok (.if_icmp .ne 6, 3) := dk_160 0 6 (dk_at dksX4_book_1 19 rfl rfl)
theorem dX4_book_46 : decode cX4_book 46 = .ok (.bipush (-4), 2) := dk_16 252 (dk_at dksX4_book_1 22 rfl rfl)
theorem dX4_book_48 : decode cX4_book 48 = .ok (.ireturn, 1) := dk_172 (dk_at dksX4_book_2 0 rfl rfl)
theorem dX4_book_49 : decode cX4_book 49 = .ok (.aload_n 0, 1) := dk_42 (dk_at dksX4_book_2 1 rfl rfl)
theorem dX4_book_50 : decode cX4_book 50 = .ok (.getfield 36, 3) := dk_180 0 36 (dk_at dksX4_book_2 2 rfl rfl)
theorem dX4_book_53 : decode cX4_book 53 = .ok (.aload_n 0, 1) := dk_42 (dk_at dksX4_book_2 5 rfl rfl)
theorem dX4_book_54 : decode cX4_book 54 = .ok (.getfield 20, 3) := dk_180 0 20 (dk_at dksX4_book_2 6 rfl rfl)
theorem dX4_book_57 : decode cX4_book 57 = .ok (.iload_n 1, 1) := dk_27 (dk_at dksX4_book_2 9 rfl rfl)
theorem dX4_book_58 : decode cX4_book 58 = .ok (.iastore, 1) := dk_79 (dk_at dksX4_book_2 10 rfl rfl)
theorem dX4_book_59 : decode cX4_book 59 = .ok (.aload_n 0, 1) := dk_42 (dk_at dksX4_book_2 11 rfl rfl)
theorem dX4_book_60 : decode cX4_book 60 = .ok (.getfield 39, 3) := dk_180 0 39 (dk_at dksX4_book_2 12 rfl rfl)
theorem dX4_book_63 : decode cX4_book 63 = .ok (.aload_n 0, 1) := dk_42 (dk_at dksX4_book_2 15 rfl rfl)
theorem dX4_book_64 : decode cX4_book 64 = .ok (.getfield 20, 3) := dk_180 0 20 (dk_at dksX4_book_2 16 rfl rfl)
theorem dX4_book_67 : decode cX4_book 67 = .ok (.iload_n 2, 1) := dk_28 (dk_at dksX4_book_2 19 rfl rfl)
theorem dX4_book_68 : decode cX4_book 68 = .ok (.iastore, 1) := dk_79 (dk_at dksX4_book_2 20 rfl rfl)
theorem dX4_book_69 : decode cX4_book 69 = .ok (.aload_n 0, 1) := dk_42 (dk_at dksX4_book_2 21 rfl rfl)
theorem dX4_book_70 : decode cX4_book 70 = .ok (.getfield 42, 3) := dk_180 0 42 (dk_at dksX4_book_3 0 rfl rfl)
theorem dX4_book_73 : decode cX4_book 73 = .ok (.aload_n 0, 1) := dk_42 (dk_at dksX4_book_3 3 rfl rfl)
theorem dX4_book_74 : decode cX4_book 74 = .ok (.getfield 20, 3) := dk_180 0 20 (dk_at dksX4_book_3 4 rfl rfl)
theorem dX4_book_77 : decode cX4_book 77 = .ok (.iload_n 3, 1) := dk_29 (dk_at dksX4_book_3 7 rfl rfl)
theorem dX4_book_78 : decode cX4_book 78 = .ok (.iastore, 1) := dk_79 (dk_at dksX4_book_3 8 rfl rfl)
theorem dX4_book_79 : decode cX4_book 79 = .ok (.aload_n 0, 1) := dk_42 (dk_at dksX4_book_3 9 rfl rfl)
theorem dX4_book_80 : decode cX4_book 80 = .ok (.getfield 45, 3) := dk_180 0 45 (dk_at dksX4_book_3 10 rfl rfl)
theorem dX4_book_83 : decode cX4_book 83 = .ok (.aload_n 0, 1) := dk_42 (dk_at dksX4_book_3 13 rfl rfl)
theorem dX4_book_84 : decode cX4_book 84 = .ok (.getfield 20, 3) := dk_180 0 20 (dk_at dksX4_book_3 14 rfl rfl)
theorem dX4_book_87 : decode cX4_book 87 = .ok (.iconst 0, 1) := dk_3 (dk_at dksX4_book_3 17 rfl rfl)
theorem dX4_book_88 : decode cX4_book 88 = .ok (.iastore, 1) := dk_79 (dk_at dksX4_book_3 18 rfl rfl)
theorem dX4_book_89 : decode cX4_book 89 = .ok (.aload_n 0, 1) := dk_42 (dk_at dksX4_book_3 19 rfl rfl)
theorem dX4_book_90 : decode cX4_book 90 = .ok (.dup, 1) := dk_89 (dk_at dksX4_book_3 20 rfl rfl)
theorem dX4_book_91 : decode cX4_book 91 = .ok (.getfield 20, 3) := dk_180 0 20 (dk_at dksX4_book_3 21 rfl rfl)
theorem dX4_book_94 : decode cX4_book 94 = .ok (.iconst 1, 1) := dk_4 (dk_at dksX4_book_4 0 rfl rfl)
theorem dX4_book_95 : decode cX4_book 95 = .ok (.iadd, 1) := dk_96 (dk_at dksX4_book_4 1 rfl rfl)
theorem dX4_book_96 : decode cX4_book 96 = .ok (.putfield 20, 3) := dk_181 0 20 (dk_at dksX4_book_4 2 rfl rfl)
theorem dX4_book_99 : decode cX4_book 99 = .ok (.aload_n 0, 1) := dk_42 (dk_at dksX4_book_4 5 rfl rfl)
theorem dX4_book_100 : decode cX4_book 100 = .ok (.getfield 20, 3) := dk_180 0 20 (dk_at dksX4_book_4 6 rfl rfl)
theorem dX4_book_103 : decode cX4_book 103 = .ok (.iconst 1, 1) := dk_4 (dk_at dksX4_book_4 9 rfl rfl)
theorem dX4_book_104 : decode cX4_book 104 = .ok (.isub, 1) := dk_100 (dk_at dksX4_book_4 10 rfl rfl)
theorem dX4_book_105 : decode cX4_book 105 = .ok (.ireturn, 1) := dk_172 (dk_at dksX4_book_4 11 rfl rfl)
abbrev cX4_line : ByteArray := prog_30_method_13_code
def yX4_line : MethodName := ⟨RX4, "line", "(II)I"⟩
def dkwX4_line_3 : List UInt8 := [4, 100, 172]
abbrev dktX4_line_3 : List UInt8 := dkwX4_line_3 ++ []
def dkwX4_line_2 : List UInt8 := [180, 0, 45, 27, 46, 96, 28, 79, 42, 180, 0, 45, 27, 92, 46, 4, 96, 79, 42, 180, 0, 45, 27, 46]
abbrev dktX4_line_2 : List UInt8 := dkwX4_line_2 ++ dktX4_line_3
def dkwX4_line_1 : List UInt8 := [172, 42, 180, 0, 45, 27, 46, 16, 16, 160, 0, 6, 16, 252, 172, 42, 180, 0, 48, 16, 16, 27, 104, 42]
abbrev dktX4_line_1 : List UInt8 := dkwX4_line_1 ++ dktX4_line_2
def dkwX4_line_0 : List UInt8 := [42, 27, 182, 1, 10, 154, 0, 5, 2, 172, 42, 28, 4, 19, 1, 13, 182, 0, 3, 154, 0, 6, 16, 254]
abbrev dktX4_line_0 : List UInt8 := dkwX4_line_0 ++ dktX4_line_1
theorem dksX4_line_0 : cX4_line.data.toList.drop 0 = dktX4_line_0 := by decide +kernel
theorem dksX4_line_1 : cX4_line.data.toList.drop 24 = dktX4_line_1 := dk_seg dksX4_line_0 24 rfl rfl
theorem dksX4_line_2 : cX4_line.data.toList.drop 48 = dktX4_line_2 := dk_seg dksX4_line_1 24 rfl rfl
theorem dksX4_line_3 : cX4_line.data.toList.drop 72 = dktX4_line_3 := dk_seg dksX4_line_2 24 rfl rfl
theorem dX4_line_0 : decode cX4_line 0 = .ok (.aload_n 0, 1) := dk_42 (dk_at dksX4_line_0 0 rfl rfl)
theorem dX4_line_1 : decode cX4_line 1 = .ok (.iload_n 1, 1) := dk_27 (dk_at dksX4_line_0 1 rfl rfl)
theorem dX4_line_2 : decode cX4_line 2 = .ok (.invokevirtual 266, 3) := dk_182 1 10 (dk_at dksX4_line_0 2 rfl rfl)
theorem dX4_line_5 : decode cX4_line 5 = .ok (.ifCond .ne 5, 3) := dk_154 0 5 (dk_at dksX4_line_0 5 rfl rfl)
theorem dX4_line_8 : decode cX4_line 8 = .ok (.iconst (-1), 1) := dk_2 (dk_at dksX4_line_0 8 rfl rfl)
theorem dX4_line_9 : decode cX4_line 9 = .ok (.ireturn, 1) := dk_172 (dk_at dksX4_line_0 9 rfl rfl)
theorem dX4_line_10 : decode cX4_line 10 = .ok (.aload_n 0, 1) := dk_42 (dk_at dksX4_line_0 10 rfl rfl)
theorem dX4_line_11 : decode cX4_line 11 = .ok (.iload_n 2, 1) := dk_28 (dk_at dksX4_line_0 11 rfl rfl)
theorem dX4_line_12 : decode cX4_line 12 = .ok (.iconst 1, 1) := dk_4 (dk_at dksX4_line_0 12 rfl rfl)
theorem dX4_line_13 : decode cX4_line 13 = .ok (.ldc_w 269, 3) := dk_19 1 13 (dk_at dksX4_line_0 13 rfl rfl)
theorem dX4_line_16 : decode cX4_line 16 = .ok (.invokevirtual 3, 3) := dk_182 0 3 (dk_at dksX4_line_0 16 rfl rfl)
theorem dX4_line_19 : decode cX4_line 19 = .ok (.ifCond .ne 6, 3) := dk_154 0 6 (dk_at dksX4_line_0 19 rfl rfl)
theorem dX4_line_22 : decode cX4_line 22 = .ok (.bipush (-2), 2) := dk_16 254 (dk_at dksX4_line_0 22 rfl rfl)
theorem dX4_line_24 : decode cX4_line 24 = .ok (.ireturn, 1) := dk_172 (dk_at dksX4_line_1 0 rfl rfl)
theorem dX4_line_25 : decode cX4_line 25 = .ok (.aload_n 0, 1) := dk_42 (dk_at dksX4_line_1 1 rfl rfl)
theorem dX4_line_26 : decode cX4_line 26 = .ok (.getfield 45, 3) := dk_180 0 45 (dk_at dksX4_line_1 2 rfl rfl)
theorem dX4_line_29 : decode cX4_line 29 = .ok (.iload_n 1, 1) := dk_27 (dk_at dksX4_line_1 5 rfl rfl)
theorem dX4_line_30 : decode cX4_line 30 = .ok (.iaload, 1) := dk_46 (dk_at dksX4_line_1 6 rfl rfl)
theorem dX4_line_31 : decode cX4_line 31 = .ok (.bipush 16, 2) := dk_16 16 (dk_at dksX4_line_1 7 rfl rfl)
theorem dX4_line_33 : decode cX4_line 33 = .ok (.if_icmp .ne 6, 3) := dk_160 0 6 (dk_at dksX4_line_1 9 rfl rfl)
theorem dX4_line_36 : decode cX4_line 36 = .ok (.bipush (-4), 2) := dk_16 252 (dk_at dksX4_line_1 12 rfl rfl)
theorem dX4_line_38 : decode cX4_line 38 = .ok (.ireturn, 1) := dk_172 (dk_at dksX4_line_1 14 rfl rfl)
theorem dX4_line_39 : decode cX4_line 39 = .ok (.aload_n 0, 1) := dk_42 (dk_at dksX4_line_1 15 rfl rfl)
theorem dX4_line_40 : decode cX4_line 40 = .ok (.getfield 48, 3) := dk_180 0 48 (dk_at dksX4_line_1 16 rfl rfl)
theorem dX4_line_43 : decode cX4_line 43 = .ok (.bipush 16, 2) := dk_16 16 (dk_at dksX4_line_1 19 rfl rfl)
theorem dX4_line_45 : decode cX4_line 45 = .ok (.iload_n 1, 1) := dk_27 (dk_at dksX4_line_1 21 rfl rfl)
theorem dX4_line_46 : decode cX4_line 46 = .ok (.imul, 1) := dk_104 (dk_at dksX4_line_1 22 rfl rfl)
theorem dX4_line_47 : decode cX4_line 47 = .ok (.aload_n 0, 1) := dk_42 (dk_at dksX4_line_1 23 rfl rfl)
theorem dX4_line_48 : decode cX4_line 48 = .ok (.getfield 45, 3) := dk_180 0 45 (dk_at dksX4_line_2 0 rfl rfl)
theorem dX4_line_51 : decode cX4_line 51 = .ok (.iload_n 1, 1) := dk_27 (dk_at dksX4_line_2 3 rfl rfl)
theorem dX4_line_52 : decode cX4_line 52 = .ok (.iaload, 1) := dk_46 (dk_at dksX4_line_2 4 rfl rfl)
theorem dX4_line_53 : decode cX4_line 53 = .ok (.iadd, 1) := dk_96 (dk_at dksX4_line_2 5 rfl rfl)
theorem dX4_line_54 : decode cX4_line 54 = .ok (.iload_n 2, 1) := dk_28 (dk_at dksX4_line_2 6 rfl rfl)
theorem dX4_line_55 : decode cX4_line 55 = .ok (.iastore, 1) := dk_79 (dk_at dksX4_line_2 7 rfl rfl)
theorem dX4_line_56 : decode cX4_line 56 = .ok (.aload_n 0, 1) := dk_42 (dk_at dksX4_line_2 8 rfl rfl)
theorem dX4_line_57 : decode cX4_line 57 = .ok (.getfield 45, 3) := dk_180 0 45 (dk_at dksX4_line_2 9 rfl rfl)
theorem dX4_line_60 : decode cX4_line 60 = .ok (.iload_n 1, 1) := dk_27 (dk_at dksX4_line_2 12 rfl rfl)
theorem dX4_line_61 : decode cX4_line 61 = .ok (.dup2, 1) := dk_92 (dk_at dksX4_line_2 13 rfl rfl)
theorem dX4_line_62 : decode cX4_line 62 = .ok (.iaload, 1) := dk_46 (dk_at dksX4_line_2 14 rfl rfl)
theorem dX4_line_63 : decode cX4_line 63 = .ok (.iconst 1, 1) := dk_4 (dk_at dksX4_line_2 15 rfl rfl)
theorem dX4_line_64 : decode cX4_line 64 = .ok (.iadd, 1) := dk_96 (dk_at dksX4_line_2 16 rfl rfl)
theorem dX4_line_65 : decode cX4_line 65 = .ok (.iastore, 1) := dk_79 (dk_at dksX4_line_2 17 rfl rfl)
theorem dX4_line_66 : decode cX4_line 66 = .ok (.aload_n 0, 1) := dk_42 (dk_at dksX4_line_2 18 rfl rfl)
theorem dX4_line_67 : decode cX4_line 67 = .ok (.getfield 45, 3) := dk_180 0 45 (dk_at dksX4_line_2 19 rfl rfl)
theorem dX4_line_70 : decode cX4_line 70 = .ok (.iload_n 1, 1) := dk_27 (dk_at dksX4_line_2 22 rfl rfl)
theorem dX4_line_71 : decode cX4_line 71 = .ok (.iaload, 1) := dk_46 (dk_at dksX4_line_2 23 rfl rfl)
theorem dX4_line_72 : decode cX4_line 72 = .ok (.iconst 1, 1) := dk_4 (dk_at dksX4_line_3 0 rfl rfl)
theorem dX4_line_73 : decode cX4_line 73 = .ok (.isub, 1) := dk_100 (dk_at dksX4_line_3 1 rfl rfl)
theorem dX4_line_74 : decode cX4_line 74 = .ok (.ireturn, 1) := dk_172 (dk_at dksX4_line_3 2 rfl rfl)
abbrev cX4_isBook : ByteArray := prog_30_method_11_code
def yX4_isBook : MethodName := ⟨RX4, "isBook", "(I)Z"⟩
def dkwX4_isBook_0 : List UInt8 := [42, 27, 3, 42, 180, 0, 20, 4, 100, 182, 0, 3, 172]
abbrev dktX4_isBook_0 : List UInt8 := dkwX4_isBook_0 ++ []
theorem dksX4_isBook_0 : cX4_isBook.data.toList.drop 0 = dktX4_isBook_0 := by decide +kernel
theorem dX4_isBook_0 : decode cX4_isBook 0 = .ok (.aload_n 0, 1) := dk_42 (dk_at dksX4_isBook_0 0 rfl rfl)
theorem dX4_isBook_1 : decode cX4_isBook 1 = .ok (.iload_n 1, 1) := dk_27 (dk_at dksX4_isBook_0 1 rfl rfl)
theorem dX4_isBook_2 : decode cX4_isBook 2 = .ok (.iconst 0, 1) := dk_3 (dk_at dksX4_isBook_0 2 rfl rfl)
theorem dX4_isBook_3 : decode cX4_isBook 3 = .ok (.aload_n 0, 1) := dk_42 (dk_at dksX4_isBook_0 3 rfl rfl)
theorem dX4_isBook_4 : decode cX4_isBook 4 = .ok (.getfield 20, 3) := dk_180 0 20 (dk_at dksX4_isBook_0 4 rfl rfl)
theorem dX4_isBook_7 : decode cX4_isBook 7 = .ok (.iconst 1, 1) := dk_4 (dk_at dksX4_isBook_0 7 rfl rfl)
theorem dX4_isBook_8 : decode cX4_isBook 8 = .ok (.isub, 1) := dk_100 (dk_at dksX4_isBook_0 8 rfl rfl)
theorem dX4_isBook_9 : decode cX4_isBook 9 = .ok (.invokevirtual 3, 3) := dk_182 0 3 (dk_at dksX4_isBook_0 9 rfl rfl)
theorem dX4_isBook_12 : decode cX4_isBook 12 = .ok (.ireturn, 1) := dk_172 (dk_at dksX4_isBook_0 12 rfl rfl)
abbrev cX4_edition : ByteArray := prog_30_method_15_code
def yX4_edition : MethodName := ⟨RX4, "edition", "(IIII)I"⟩
def dkwX4_edition_6 : List UInt8 := [180, 0, 23, 4, 100, 172]
abbrev dktX4_edition_6 : List UInt8 := dkwX4_edition_6 ++ []
def dkwX4_edition_5 : List UInt8 := [79, 42, 180, 0, 60, 42, 180, 0, 23, 21, 4, 79, 42, 89, 180, 0, 23, 4, 96, 181, 0, 23, 42]
abbrev dktX4_edition_5 : List UInt8 := dkwX4_edition_5 ++ dktX4_edition_6
def dkwX4_edition_4 : List UInt8 := [180, 0, 23, 27, 79, 42, 180, 0, 54, 42, 180, 0, 23, 28, 79, 42, 180, 0, 57, 42, 180, 0, 23, 29]
abbrev dktX4_edition_4 : List UInt8 := dkwX4_edition_4 ++ dktX4_edition_5
def dkwX4_edition_3 : List UInt8 := [159, 0, 6, 16, 253, 172, 42, 180, 0, 23, 16, 24, 160, 0, 6, 16, 252, 172, 42, 180, 0, 51, 42]
abbrev dktX4_edition_3 : List UInt8 := dkwX4_edition_3 ++ dktX4_edition_4
def dkwX4_edition_2 : List UInt8 := [182, 0, 3, 154, 0, 6, 16, 254, 172, 21, 4, 155, 0, 17, 42, 180, 0, 51, 21, 4, 46, 27]
abbrev dktX4_edition_2 : List UInt8 := dkwX4_edition_2 ++ dktX4_edition_3
def dkwX4_edition_1 : List UInt8 := [21, 4, 182, 1, 14, 154, 0, 5, 2, 172, 42, 28, 4, 4, 42, 180, 0, 45, 27, 46, 120, 4, 100]
abbrev dktX4_edition_1 : List UInt8 := dkwX4_edition_1 ++ dktX4_edition_2
def dkwX4_edition_0 : List UInt8 := [42, 27, 182, 1, 10, 153, 0, 26, 42, 29, 182, 1, 2, 153, 0, 18, 21, 4, 2, 159, 0, 14, 42]
abbrev dktX4_edition_0 : List UInt8 := dkwX4_edition_0 ++ dktX4_edition_1
theorem dksX4_edition_0 : cX4_edition.data.toList.drop 0 = dktX4_edition_0 := by decide +kernel
theorem dksX4_edition_1 : cX4_edition.data.toList.drop 23 = dktX4_edition_1 := dk_seg dksX4_edition_0 23 rfl rfl
theorem dksX4_edition_2 : cX4_edition.data.toList.drop 46 = dktX4_edition_2 := dk_seg dksX4_edition_1 23 rfl rfl
theorem dksX4_edition_3 : cX4_edition.data.toList.drop 68 = dktX4_edition_3 := dk_seg dksX4_edition_2 22 rfl rfl
theorem dksX4_edition_4 : cX4_edition.data.toList.drop 91 = dktX4_edition_4 := dk_seg dksX4_edition_3 23 rfl rfl
theorem dksX4_edition_5 : cX4_edition.data.toList.drop 115 = dktX4_edition_5 := dk_seg dksX4_edition_4 24 rfl rfl
theorem dksX4_edition_6 : cX4_edition.data.toList.drop 138 = dktX4_edition_6 := dk_seg dksX4_edition_5 23 rfl rfl
theorem dX4_edition_0 : decode cX4_edition 0 = .ok (.aload_n 0, 1) := dk_42 (dk_at dksX4_edition_0 0 rfl rfl)
theorem dX4_edition_1 : decode cX4_edition 1 = .ok (.iload_n 1, 1) := dk_27 (dk_at dksX4_edition_0 1 rfl rfl)
theorem dX4_edition_2 : decode cX4_edition 2 = .ok (.invokevirtual 266, 3) := dk_182 1 10 (dk_at dksX4_edition_0 2 rfl rfl)
theorem dX4_edition_5 : decode cX4_edition 5 = .ok (.ifCond .eq 26, 3) := dk_153 0 26 (dk_at dksX4_edition_0 5 rfl rfl)
theorem dX4_edition_8 : decode cX4_edition 8 = .ok (.aload_n 0, 1) := dk_42 (dk_at dksX4_edition_0 8 rfl rfl)
theorem dX4_edition_9 : decode cX4_edition 9 = .ok (.iload_n 3, 1) := dk_29 (dk_at dksX4_edition_0 9 rfl rfl)
theorem dX4_edition_10 : decode cX4_edition 10 = .ok (.invokevirtual 258, 3) := dk_182 1 2 (dk_at dksX4_edition_0 10 rfl rfl)
theorem dX4_edition_13 : decode cX4_edition 13 = .ok (.ifCond .eq 18, 3) := dk_153 0 18 (dk_at dksX4_edition_0 13 rfl rfl)
theorem dX4_edition_16 : decode cX4_edition 16 = .ok (.iload 4, 2) := dk_21 4 (dk_at dksX4_edition_0 16 rfl rfl)
theorem dX4_edition_18 : decode cX4_edition 18 = .ok (.iconst (-1), 1) := dk_2 (dk_at dksX4_edition_0 18 rfl rfl)
theorem dX4_edition_19 : decode cX4_edition 19 = .ok (.if_icmp .eq 14, 3) := dk_159 0 14 (dk_at dksX4_edition_0 19 rfl rfl)
theorem dX4_edition_22 : decode cX4_edition 22 = .ok (.aload_n 0, 1) := dk_42 (dk_at dksX4_edition_0 22 rfl rfl)
theorem dX4_edition_23 : decode cX4_edition 23 = .ok (.iload 4, 2) := dk_21 4 (dk_at dksX4_edition_1 0 rfl rfl)
theorem dX4_edition_25 : decode cX4_edition 25 = .ok (.invokevirtual 270, 3) := dk_182 1 14 (dk_at dksX4_edition_1 2 rfl rfl)
theorem dX4_edition_28 : decode cX4_edition 28 = .ok (.ifCond .ne 5, 3) := dk_154 0 5 (dk_at dksX4_edition_1 5 rfl rfl)
theorem dX4_edition_31 : decode cX4_edition 31 = .ok (.iconst (-1), 1) := dk_2 (dk_at dksX4_edition_1 8 rfl rfl)
theorem dX4_edition_32 : decode cX4_edition 32 = .ok (.ireturn, 1) := dk_172 (dk_at dksX4_edition_1 9 rfl rfl)
theorem dX4_edition_33 : decode cX4_edition 33 = .ok (.aload_n 0, 1) := dk_42 (dk_at dksX4_edition_1 10 rfl rfl)
theorem dX4_edition_34 : decode cX4_edition 34 = .ok (.iload_n 2, 1) := dk_28 (dk_at dksX4_edition_1 11 rfl rfl)
theorem dX4_edition_35 : decode cX4_edition 35 = .ok (.iconst 1, 1) := dk_4 (dk_at dksX4_edition_1 12 rfl rfl)
theorem dX4_edition_36 : decode cX4_edition 36 = .ok (.iconst 1, 1) := dk_4 (dk_at dksX4_edition_1 13 rfl rfl)
theorem dX4_edition_37 : decode cX4_edition 37 = .ok (.aload_n 0, 1) := dk_42 (dk_at dksX4_edition_1 14 rfl rfl)
theorem dX4_edition_38 : decode cX4_edition 38 = .ok (.getfield 45, 3) := dk_180 0 45 (dk_at dksX4_edition_1 15 rfl rfl)
theorem dX4_edition_41 : decode cX4_edition 41 = .ok (.iload_n 1, 1) := dk_27 (dk_at dksX4_edition_1 18 rfl rfl)
theorem dX4_edition_42 : decode cX4_edition 42 = .ok (.iaload, 1) := dk_46 (dk_at dksX4_edition_1 19 rfl rfl)
theorem dX4_edition_43 : decode cX4_edition 43 = .ok (.ishl, 1) := dk_120 (dk_at dksX4_edition_1 20 rfl rfl)
theorem dX4_edition_44 : decode cX4_edition 44 = .ok (.iconst 1, 1) := dk_4 (dk_at dksX4_edition_1 21 rfl rfl)
theorem dX4_edition_45 : decode cX4_edition 45 = .ok (.isub, 1) := dk_100 (dk_at dksX4_edition_1 22 rfl rfl)
theorem dX4_edition_46 : decode cX4_edition 46 = .ok (.invokevirtual 3, 3) := dk_182 0 3 (dk_at dksX4_edition_2 0 rfl rfl)
theorem dX4_edition_49 : decode cX4_edition 49 = .ok (.ifCond .ne 6, 3) := dk_154 0 6 (dk_at dksX4_edition_2 3 rfl rfl)
theorem dX4_edition_52 : decode cX4_edition 52 = .ok (.bipush (-2), 2) := dk_16 254 (dk_at dksX4_edition_2 6 rfl rfl)
theorem dX4_edition_54 : decode cX4_edition 54 = .ok (.ireturn, 1) := dk_172 (dk_at dksX4_edition_2 8 rfl rfl)
theorem dX4_edition_55 : decode cX4_edition 55 = .ok (.iload 4, 2) := dk_21 4 (dk_at dksX4_edition_2 9 rfl rfl)
theorem dX4_edition_57 : decode cX4_edition 57 = .ok (.ifCond .lt 17, 3) := dk_155 0 17 (dk_at dksX4_edition_2 11 rfl rfl)
theorem dX4_edition_60 : decode cX4_edition 60 = .ok (.aload_n 0, 1) := dk_42 (dk_at dksX4_edition_2 14 rfl rfl)
theorem dX4_edition_61 : decode cX4_edition 61 = .ok (.getfield 51, 3) := dk_180 0 51 (dk_at dksX4_edition_2 15 rfl rfl)
theorem dX4_edition_64 : decode cX4_edition 64 = .ok (.iload 4, 2) := dk_21 4 (dk_at dksX4_edition_2 18 rfl rfl)
theorem dX4_edition_66 : decode cX4_edition 66 = .ok (.iaload, 1) := dk_46 (dk_at dksX4_edition_2 20 rfl rfl)
theorem dX4_edition_67 : decode cX4_edition 67 = .ok (.iload_n 1, 1) := dk_27 (dk_at dksX4_edition_2 21 rfl rfl)
theorem dX4_edition_68 : decode cX4_edition 68 = .ok (.if_icmp .eq 6, 3) := dk_159 0 6 (dk_at dksX4_edition_3 0 rfl rfl)
theorem dX4_edition_71 : decode cX4_edition 71 = .ok (.bipush (-3), 2) := dk_16 253 (dk_at dksX4_edition_3 3 rfl rfl)
theorem dX4_edition_73 : decode cX4_edition 73 = .ok (.ireturn, 1) := dk_172 (dk_at dksX4_edition_3 5 rfl rfl)
theorem dX4_edition_74 : decode cX4_edition 74 = .ok (.aload_n 0, 1) := dk_42 (dk_at dksX4_edition_3 6 rfl rfl)
theorem dX4_edition_75 : decode cX4_edition 75 = .ok (.getfield 23, 3) := dk_180 0 23 (dk_at dksX4_edition_3 7 rfl rfl)
theorem dX4_edition_78 : decode cX4_edition 78 = .ok (.bipush 24, 2) := dk_16 24 (dk_at dksX4_edition_3 10 rfl rfl)
theorem dX4_edition_80 : decode cX4_edition 80 = .ok (.if_icmp .ne 6, 3) := dk_160 0 6 (dk_at dksX4_edition_3 12 rfl rfl)
theorem dX4_edition_83 : decode cX4_edition 83 = .ok (.bipush (-4), 2) := dk_16 252 (dk_at dksX4_edition_3 15 rfl rfl)
theorem dX4_edition_85 : decode cX4_edition 85 = .ok (.ireturn, 1) := dk_172 (dk_at dksX4_edition_3 17 rfl rfl)
theorem dX4_edition_86 : decode cX4_edition 86 = .ok (.aload_n 0, 1) := dk_42 (dk_at dksX4_edition_3 18 rfl rfl)
theorem dX4_edition_87 : decode cX4_edition 87 = .ok (.getfield 51, 3) := dk_180 0 51 (dk_at dksX4_edition_3 19 rfl rfl)
theorem dX4_edition_90 : decode cX4_edition 90 = .ok (.aload_n 0, 1) := dk_42 (dk_at dksX4_edition_3 22 rfl rfl)
theorem dX4_edition_91 : decode cX4_edition 91 = .ok (.getfield 23, 3) := dk_180 0 23 (dk_at dksX4_edition_4 0 rfl rfl)
theorem dX4_edition_94 : decode cX4_edition 94 = .ok (.iload_n 1, 1) := dk_27 (dk_at dksX4_edition_4 3 rfl rfl)
theorem dX4_edition_95 : decode cX4_edition 95 = .ok (.iastore, 1) := dk_79 (dk_at dksX4_edition_4 4 rfl rfl)
theorem dX4_edition_96 : decode cX4_edition 96 = .ok (.aload_n 0, 1) := dk_42 (dk_at dksX4_edition_4 5 rfl rfl)
theorem dX4_edition_97 : decode cX4_edition 97 = .ok (.getfield 54, 3) := dk_180 0 54 (dk_at dksX4_edition_4 6 rfl rfl)
theorem dX4_edition_100 : decode cX4_edition 100 = .ok (.aload_n 0, 1) := dk_42 (dk_at dksX4_edition_4 9 rfl rfl)
theorem dX4_edition_101 : decode cX4_edition 101 = .ok (.getfield 23, 3) := dk_180 0 23 (dk_at dksX4_edition_4 10 rfl rfl)
theorem dX4_edition_104 : decode cX4_edition 104 = .ok (.iload_n 2, 1) := dk_28 (dk_at dksX4_edition_4 13 rfl rfl)
theorem dX4_edition_105 : decode cX4_edition 105 = .ok (.iastore, 1) := dk_79 (dk_at dksX4_edition_4 14 rfl rfl)
theorem dX4_edition_106 : decode cX4_edition 106 = .ok (.aload_n 0, 1) := dk_42 (dk_at dksX4_edition_4 15 rfl rfl)
theorem dX4_edition_107 : decode cX4_edition 107 = .ok (.getfield 57, 3) := dk_180 0 57 (dk_at dksX4_edition_4 16 rfl rfl)
theorem dX4_edition_110 : decode cX4_edition 110 = .ok (.aload_n 0, 1) := dk_42 (dk_at dksX4_edition_4 19 rfl rfl)
theorem dX4_edition_111 : decode cX4_edition 111 = .ok (.getfield 23, 3) := dk_180 0 23 (dk_at dksX4_edition_4 20 rfl rfl)
theorem dX4_edition_114 : decode cX4_edition 114 = .ok (.iload_n 3, 1) := dk_29 (dk_at dksX4_edition_4 23 rfl rfl)
theorem dX4_edition_115 : decode cX4_edition 115 = .ok (.iastore, 1) := dk_79 (dk_at dksX4_edition_5 0 rfl rfl)
theorem dX4_edition_116 : decode cX4_edition 116 = .ok (.aload_n 0, 1) := dk_42 (dk_at dksX4_edition_5 1 rfl rfl)
theorem dX4_edition_117 : decode cX4_edition 117 = .ok (.getfield 60, 3) := dk_180 0 60 (dk_at dksX4_edition_5 2 rfl rfl)
theorem dX4_edition_120 : decode cX4_edition 120 = .ok (.aload_n 0, 1) := dk_42 (dk_at dksX4_edition_5 5 rfl rfl)
theorem dX4_edition_121 : decode cX4_edition 121 = .ok (.getfield 23, 3) := dk_180 0 23 (dk_at dksX4_edition_5 6 rfl rfl)
theorem dX4_edition_124 : decode cX4_edition 124 = .ok (.iload 4, 2) := dk_21 4 (dk_at dksX4_edition_5 9 rfl rfl)
theorem dX4_edition_126 : decode cX4_edition 126 = .ok (.iastore, 1) := dk_79 (dk_at dksX4_edition_5 11 rfl rfl)
theorem dX4_edition_127 : decode cX4_edition 127 = .ok (.aload_n 0, 1) := dk_42 (dk_at dksX4_edition_5 12 rfl rfl)
theorem dX4_edition_128 : decode cX4_edition 128 = .ok (.dup, 1) := dk_89 (dk_at dksX4_edition_5 13 rfl rfl)
theorem dX4_edition_129 : decode cX4_edition 129 = .ok (.getfield 23, 3) := dk_180 0 23 (dk_at dksX4_edition_5 14 rfl rfl)
theorem dX4_edition_132 : decode cX4_edition 132 = .ok (.iconst 1, 1) := dk_4 (dk_at dksX4_edition_5 17 rfl rfl)
theorem dX4_edition_133 : decode cX4_edition 133 = .ok (.iadd, 1) := dk_96 (dk_at dksX4_edition_5 18 rfl rfl)
theorem dX4_edition_134 : decode cX4_edition 134 = .ok (.putfield 23, 3) := dk_181 0 23 (dk_at dksX4_edition_5 19 rfl rfl)
theorem dX4_edition_137 : decode cX4_edition 137 = .ok (.aload_n 0, 1) := dk_42 (dk_at dksX4_edition_5 22 rfl rfl)
theorem dX4_edition_138 : decode cX4_edition 138 = .ok (.getfield 23, 3) := dk_180 0 23 (dk_at dksX4_edition_6 0 rfl rfl)
theorem dX4_edition_141 : decode cX4_edition 141 = .ok (.iconst 1, 1) := dk_4 (dk_at dksX4_edition_6 3 rfl rfl)
theorem dX4_edition_142 : decode cX4_edition 142 = .ok (.isub, 1) := dk_100 (dk_at dksX4_edition_6 4 rfl rfl)
theorem dX4_edition_143 : decode cX4_edition 143 = .ok (.ireturn, 1) := dk_172 (dk_at dksX4_edition_6 5 rfl rfl)
abbrev cX4_isEdition : ByteArray := prog_30_method_14_code
def yX4_isEdition : MethodName := ⟨RX4, "isEdition", "(I)Z"⟩
def dkwX4_isEdition_0 : List UInt8 := [42, 27, 3, 42, 180, 0, 23, 4, 100, 182, 0, 3, 172]
abbrev dktX4_isEdition_0 : List UInt8 := dkwX4_isEdition_0 ++ []
theorem dksX4_isEdition_0 : cX4_isEdition.data.toList.drop 0 = dktX4_isEdition_0 := by decide +kernel
theorem dX4_isEdition_0 : decode cX4_isEdition 0 = .ok (.aload_n 0, 1) := dk_42 (dk_at dksX4_isEdition_0 0 rfl rfl)
theorem dX4_isEdition_1 : decode cX4_isEdition 1 = .ok (.iload_n 1, 1) := dk_27 (dk_at dksX4_isEdition_0 1 rfl rfl)
theorem dX4_isEdition_2 : decode cX4_isEdition 2 = .ok (.iconst 0, 1) := dk_3 (dk_at dksX4_isEdition_0 2 rfl rfl)
theorem dX4_isEdition_3 : decode cX4_isEdition 3 = .ok (.aload_n 0, 1) := dk_42 (dk_at dksX4_isEdition_0 3 rfl rfl)
theorem dX4_isEdition_4 : decode cX4_isEdition 4 = .ok (.getfield 23, 3) := dk_180 0 23 (dk_at dksX4_isEdition_0 4 rfl rfl)
theorem dX4_isEdition_7 : decode cX4_isEdition 7 = .ok (.iconst 1, 1) := dk_4 (dk_at dksX4_isEdition_0 7 rfl rfl)
theorem dX4_isEdition_8 : decode cX4_isEdition 8 = .ok (.isub, 1) := dk_100 (dk_at dksX4_isEdition_0 8 rfl rfl)
theorem dX4_isEdition_9 : decode cX4_isEdition 9 = .ok (.invokevirtual 3, 3) := dk_182 0 3 (dk_at dksX4_isEdition_0 9 rfl rfl)
theorem dX4_isEdition_12 : decode cX4_isEdition 12 = .ok (.ireturn, 1) := dk_172 (dk_at dksX4_isEdition_0 12 rfl rfl)
abbrev cX4_of : ByteArray := prog_30_method_16_code
def yX4_of : MethodName := ⟨RX4, "of", "(II)I"⟩
def dkwX4_of_4 : List UInt8 := [180, 0, 51, 27, 46, 46, 172, 42, 180, 0, 42, 42, 180, 0, 51, 27, 46, 46, 172, 2, 172]
abbrev dktX4_of_4 : List UInt8 := dkwX4_of_4 ++ []
def dkwX4_of_3 : List UInt8 := [180, 0, 60, 27, 46, 172, 42, 180, 0, 36, 42, 180, 0, 51, 27, 46, 46, 172, 42, 180, 0, 39, 42]
abbrev dktX4_of_3 : List UInt8 := dkwX4_of_3 ++ dktX4_of_4
def dkwX4_of_2 : List UInt8 := [42, 180, 0, 51, 27, 46, 172, 42, 180, 0, 54, 27, 46, 172, 42, 180, 0, 57, 27, 46, 172, 42]
abbrev dktX4_of_2 : List UInt8 := dkwX4_of_2 ++ dktX4_of_3
def dkwX4_of_1 : List UInt8 := [170, 0, 0, 0, 105, 0, 0, 0, 0, 0, 0, 0, 6, 0, 0, 0, 41, 0, 0, 0, 48, 0, 0, 0, 55, 0, 0, 0, 62, 0, 0, 0, 69, 0, 0, 0, 81, 0, 0, 0, 93]
abbrev dktX4_of_1 : List UInt8 := dkwX4_of_1 ++ dktX4_of_2
def dkwX4_of_0 : List UInt8 := [42, 27, 182, 1, 14, 154, 0, 5, 2, 172, 28]
abbrev dktX4_of_0 : List UInt8 := dkwX4_of_0 ++ dktX4_of_1
theorem dksX4_of_0 : cX4_of.data.toList.drop 0 = dktX4_of_0 := by decide +kernel
theorem dksX4_of_1 : cX4_of.data.toList.drop 11 = dktX4_of_1 := dk_seg dksX4_of_0 11 rfl rfl
theorem dksX4_of_2 : cX4_of.data.toList.drop 52 = dktX4_of_2 := dk_seg dksX4_of_1 41 rfl rfl
theorem dksX4_of_3 : cX4_of.data.toList.drop 74 = dktX4_of_3 := dk_seg dksX4_of_2 22 rfl rfl
theorem dksX4_of_4 : cX4_of.data.toList.drop 97 = dktX4_of_4 := dk_seg dksX4_of_3 23 rfl rfl
theorem dX4_of_0 : decode cX4_of 0 = .ok (.aload_n 0, 1) := dk_42 (dk_at dksX4_of_0 0 rfl rfl)
theorem dX4_of_1 : decode cX4_of 1 = .ok (.iload_n 1, 1) := dk_27 (dk_at dksX4_of_0 1 rfl rfl)
theorem dX4_of_2 : decode cX4_of 2 = .ok (.invokevirtual 270, 3) := dk_182 1 14 (dk_at dksX4_of_0 2 rfl rfl)
theorem dX4_of_5 : decode cX4_of 5 = .ok (.ifCond .ne 5, 3) := dk_154 0 5 (dk_at dksX4_of_0 5 rfl rfl)
theorem dX4_of_8 : decode cX4_of 8 = .ok (.iconst (-1), 1) := dk_2 (dk_at dksX4_of_0 8 rfl rfl)
theorem dX4_of_9 : decode cX4_of 9 = .ok (.ireturn, 1) := dk_172 (dk_at dksX4_of_0 9 rfl rfl)
theorem dX4_of_10 : decode cX4_of 10 = .ok (.iload_n 2, 1) := dk_28 (dk_at dksX4_of_0 10 rfl rfl)
theorem dX4_of_11 : decode cX4_of 11 = .ok (.tableswitch 105 0 6 #[41, 48, 55, 62, 69, 81, 93], 41) := by decide +kernel
theorem dX4_of_52 : decode cX4_of 52 = .ok (.aload_n 0, 1) := dk_42 (dk_at dksX4_of_2 0 rfl rfl)
theorem dX4_of_53 : decode cX4_of 53 = .ok (.getfield 51, 3) := dk_180 0 51 (dk_at dksX4_of_2 1 rfl rfl)
theorem dX4_of_56 : decode cX4_of 56 = .ok (.iload_n 1, 1) := dk_27 (dk_at dksX4_of_2 4 rfl rfl)
theorem dX4_of_57 : decode cX4_of 57 = .ok (.iaload, 1) := dk_46 (dk_at dksX4_of_2 5 rfl rfl)
theorem dX4_of_58 : decode cX4_of 58 = .ok (.ireturn, 1) := dk_172 (dk_at dksX4_of_2 6 rfl rfl)
theorem dX4_of_59 : decode cX4_of 59 = .ok (.aload_n 0, 1) := dk_42 (dk_at dksX4_of_2 7 rfl rfl)
theorem dX4_of_60 : decode cX4_of 60 = .ok (.getfield 54, 3) := dk_180 0 54 (dk_at dksX4_of_2 8 rfl rfl)
theorem dX4_of_63 : decode cX4_of 63 = .ok (.iload_n 1, 1) := dk_27 (dk_at dksX4_of_2 11 rfl rfl)
theorem dX4_of_64 : decode cX4_of 64 = .ok (.iaload, 1) := dk_46 (dk_at dksX4_of_2 12 rfl rfl)
theorem dX4_of_65 : decode cX4_of 65 = .ok (.ireturn, 1) := dk_172 (dk_at dksX4_of_2 13 rfl rfl)
theorem dX4_of_66 : decode cX4_of 66 = .ok (.aload_n 0, 1) := dk_42 (dk_at dksX4_of_2 14 rfl rfl)
theorem dX4_of_67 : decode cX4_of 67 = .ok (.getfield 57, 3) := dk_180 0 57 (dk_at dksX4_of_2 15 rfl rfl)
theorem dX4_of_70 : decode cX4_of 70 = .ok (.iload_n 1, 1) := dk_27 (dk_at dksX4_of_2 18 rfl rfl)
theorem dX4_of_71 : decode cX4_of 71 = .ok (.iaload, 1) := dk_46 (dk_at dksX4_of_2 19 rfl rfl)
theorem dX4_of_72 : decode cX4_of 72 = .ok (.ireturn, 1) := dk_172 (dk_at dksX4_of_2 20 rfl rfl)
theorem dX4_of_73 : decode cX4_of 73 = .ok (.aload_n 0, 1) := dk_42 (dk_at dksX4_of_2 21 rfl rfl)
theorem dX4_of_74 : decode cX4_of 74 = .ok (.getfield 60, 3) := dk_180 0 60 (dk_at dksX4_of_3 0 rfl rfl)
theorem dX4_of_77 : decode cX4_of 77 = .ok (.iload_n 1, 1) := dk_27 (dk_at dksX4_of_3 3 rfl rfl)
theorem dX4_of_78 : decode cX4_of 78 = .ok (.iaload, 1) := dk_46 (dk_at dksX4_of_3 4 rfl rfl)
theorem dX4_of_79 : decode cX4_of 79 = .ok (.ireturn, 1) := dk_172 (dk_at dksX4_of_3 5 rfl rfl)
theorem dX4_of_80 : decode cX4_of 80 = .ok (.aload_n 0, 1) := dk_42 (dk_at dksX4_of_3 6 rfl rfl)
theorem dX4_of_81 : decode cX4_of 81 = .ok (.getfield 36, 3) := dk_180 0 36 (dk_at dksX4_of_3 7 rfl rfl)
theorem dX4_of_84 : decode cX4_of 84 = .ok (.aload_n 0, 1) := dk_42 (dk_at dksX4_of_3 10 rfl rfl)
theorem dX4_of_85 : decode cX4_of 85 = .ok (.getfield 51, 3) := dk_180 0 51 (dk_at dksX4_of_3 11 rfl rfl)
theorem dX4_of_88 : decode cX4_of 88 = .ok (.iload_n 1, 1) := dk_27 (dk_at dksX4_of_3 14 rfl rfl)
theorem dX4_of_89 : decode cX4_of 89 = .ok (.iaload, 1) := dk_46 (dk_at dksX4_of_3 15 rfl rfl)
theorem dX4_of_90 : decode cX4_of 90 = .ok (.iaload, 1) := dk_46 (dk_at dksX4_of_3 16 rfl rfl)
theorem dX4_of_91 : decode cX4_of 91 = .ok (.ireturn, 1) := dk_172 (dk_at dksX4_of_3 17 rfl rfl)
theorem dX4_of_92 : decode cX4_of 92 = .ok (.aload_n 0, 1) := dk_42 (dk_at dksX4_of_3 18 rfl rfl)
theorem dX4_of_93 : decode cX4_of 93 = .ok (.getfield 39, 3) := dk_180 0 39 (dk_at dksX4_of_3 19 rfl rfl)
theorem dX4_of_96 : decode cX4_of 96 = .ok (.aload_n 0, 1) := dk_42 (dk_at dksX4_of_3 22 rfl rfl)
theorem dX4_of_97 : decode cX4_of 97 = .ok (.getfield 51, 3) := dk_180 0 51 (dk_at dksX4_of_4 0 rfl rfl)
theorem dX4_of_100 : decode cX4_of 100 = .ok (.iload_n 1, 1) := dk_27 (dk_at dksX4_of_4 3 rfl rfl)
theorem dX4_of_101 : decode cX4_of 101 = .ok (.iaload, 1) := dk_46 (dk_at dksX4_of_4 4 rfl rfl)
theorem dX4_of_102 : decode cX4_of 102 = .ok (.iaload, 1) := dk_46 (dk_at dksX4_of_4 5 rfl rfl)
theorem dX4_of_103 : decode cX4_of 103 = .ok (.ireturn, 1) := dk_172 (dk_at dksX4_of_4 6 rfl rfl)
theorem dX4_of_104 : decode cX4_of 104 = .ok (.aload_n 0, 1) := dk_42 (dk_at dksX4_of_4 7 rfl rfl)
theorem dX4_of_105 : decode cX4_of 105 = .ok (.getfield 42, 3) := dk_180 0 42 (dk_at dksX4_of_4 8 rfl rfl)
theorem dX4_of_108 : decode cX4_of 108 = .ok (.aload_n 0, 1) := dk_42 (dk_at dksX4_of_4 11 rfl rfl)
theorem dX4_of_109 : decode cX4_of 109 = .ok (.getfield 51, 3) := dk_180 0 51 (dk_at dksX4_of_4 12 rfl rfl)
theorem dX4_of_112 : decode cX4_of 112 = .ok (.iload_n 1, 1) := dk_27 (dk_at dksX4_of_4 15 rfl rfl)
theorem dX4_of_113 : decode cX4_of 113 = .ok (.iaload, 1) := dk_46 (dk_at dksX4_of_4 16 rfl rfl)
theorem dX4_of_114 : decode cX4_of 114 = .ok (.iaload, 1) := dk_46 (dk_at dksX4_of_4 17 rfl rfl)
theorem dX4_of_115 : decode cX4_of 115 = .ok (.ireturn, 1) := dk_172 (dk_at dksX4_of_4 18 rfl rfl)
theorem dX4_of_116 : decode cX4_of 116 = .ok (.iconst (-1), 1) := dk_2 (dk_at dksX4_of_4 19 rfl rfl)
theorem dX4_of_117 : decode cX4_of 117 = .ok (.ireturn, 1) := dk_172 (dk_at dksX4_of_4 20 rfl rfl)
abbrev cX4_card : ByteArray := prog_30_method_19_code
def yX4_card : MethodName := ⟨RX4, "card", "(III)I"⟩
def dkwX4_card_4 : List UInt8 := [180, 0, 66, 4, 96, 181, 0, 66, 42, 180, 0, 66, 4, 100, 172]
abbrev dktX4_card_4 : List UInt8 := dkwX4_card_4 ++ []
def dkwX4_card_3 : List UInt8 := [28, 79, 42, 180, 0, 78, 42, 180, 0, 66, 29, 79, 42, 180, 0, 81, 42, 180, 0, 66, 3, 79, 42, 89]
abbrev dktX4_card_3 : List UInt8 := dkwX4_card_3 ++ dktX4_card_4
def dkwX4_card_2 : List UInt8 := [160, 0, 6, 16, 252, 172, 42, 180, 0, 72, 42, 180, 0, 66, 27, 79, 42, 180, 0, 75, 42, 180, 0, 66]
abbrev dktX4_card_2 : List UInt8 := dkwX4_card_2 ++ dktX4_card_3
def dkwX4_card_1 : List UInt8 := [2, 172, 42, 29, 3, 17, 3, 231, 182, 0, 3, 154, 0, 6, 16, 254, 172, 42, 180, 0, 66, 16, 50]
abbrev dktX4_card_1 : List UInt8 := dkwX4_card_1 ++ dktX4_card_2
def dkwX4_card_0 : List UInt8 := [42, 27, 3, 16, 6, 182, 0, 3, 153, 0, 16, 27, 7, 159, 0, 11, 42, 28, 182, 1, 14, 154, 0, 5]
abbrev dktX4_card_0 : List UInt8 := dkwX4_card_0 ++ dktX4_card_1
theorem dksX4_card_0 : cX4_card.data.toList.drop 0 = dktX4_card_0 := by decide +kernel
theorem dksX4_card_1 : cX4_card.data.toList.drop 24 = dktX4_card_1 := dk_seg dksX4_card_0 24 rfl rfl
theorem dksX4_card_2 : cX4_card.data.toList.drop 47 = dktX4_card_2 := dk_seg dksX4_card_1 23 rfl rfl
theorem dksX4_card_3 : cX4_card.data.toList.drop 71 = dktX4_card_3 := dk_seg dksX4_card_2 24 rfl rfl
theorem dksX4_card_4 : cX4_card.data.toList.drop 95 = dktX4_card_4 := dk_seg dksX4_card_3 24 rfl rfl
theorem dX4_card_0 : decode cX4_card 0 = .ok (.aload_n 0, 1) := dk_42 (dk_at dksX4_card_0 0 rfl rfl)
theorem dX4_card_1 : decode cX4_card 1 = .ok (.iload_n 1, 1) := dk_27 (dk_at dksX4_card_0 1 rfl rfl)
theorem dX4_card_2 : decode cX4_card 2 = .ok (.iconst 0, 1) := dk_3 (dk_at dksX4_card_0 2 rfl rfl)
theorem dX4_card_3 : decode cX4_card 3 = .ok (.bipush 6, 2) := dk_16 6 (dk_at dksX4_card_0 3 rfl rfl)
theorem dX4_card_5 : decode cX4_card 5 = .ok (.invokevirtual 3, 3) := dk_182 0 3 (dk_at dksX4_card_0 5 rfl rfl)
theorem dX4_card_8 : decode cX4_card 8 = .ok (.ifCond .eq 16, 3) := dk_153 0 16 (dk_at dksX4_card_0 8 rfl rfl)
theorem dX4_card_11 : decode cX4_card 11 = .ok (.iload_n 1, 1) := dk_27 (dk_at dksX4_card_0 11 rfl rfl)
theorem dX4_card_12 : decode cX4_card 12 = .ok (.iconst 4, 1) := dk_7 (dk_at dksX4_card_0 12 rfl rfl)
theorem dX4_card_13 : decode cX4_card 13 = .ok (.if_icmp .eq 11, 3) := dk_159 0 11 (dk_at dksX4_card_0 13 rfl rfl)
theorem dX4_card_16 : decode cX4_card 16 = .ok (.aload_n 0, 1) := dk_42 (dk_at dksX4_card_0 16 rfl rfl)
theorem dX4_card_17 : decode cX4_card 17 = .ok (.iload_n 2, 1) := dk_28 (dk_at dksX4_card_0 17 rfl rfl)
theorem dX4_card_18 : decode cX4_card 18 = .ok (.invokevirtual 270, 3) := dk_182 1 14 (dk_at dksX4_card_0 18 rfl rfl)
theorem dX4_card_21 : decode cX4_card 21 = .ok (.ifCond .ne 5, 3) := dk_154 0 5 (dk_at dksX4_card_0 21 rfl rfl)
theorem dX4_card_24 : decode cX4_card 24 = .ok (.iconst (-1), 1) := dk_2 (dk_at dksX4_card_1 0 rfl rfl)
theorem dX4_card_25 : decode cX4_card 25 = .ok (.ireturn, 1) := dk_172 (dk_at dksX4_card_1 1 rfl rfl)
theorem dX4_card_26 : decode cX4_card 26 = .ok (.aload_n 0, 1) := dk_42 (dk_at dksX4_card_1 2 rfl rfl)
theorem dX4_card_27 : decode cX4_card 27 = .ok (.iload_n 3, 1) := dk_29 (dk_at dksX4_card_1 3 rfl rfl)
theorem dX4_card_28 : decode cX4_card 28 = .ok (.iconst 0, 1) := dk_3 (dk_at dksX4_card_1 4 rfl rfl)
theorem dX4_card_29 : decode cX4_card 29 = .ok (.sipush 999, 3) := dk_17 3 231 (dk_at dksX4_card_1 5 rfl rfl)
theorem dX4_card_32 : decode cX4_card 32 = .ok (.invokevirtual 3, 3) := dk_182 0 3 (dk_at dksX4_card_1 8 rfl rfl)
theorem dX4_card_35 : decode cX4_card 35 = .ok (.ifCond .ne 6, 3) := dk_154 0 6 (dk_at dksX4_card_1 11 rfl rfl)
theorem dX4_card_38 : decode cX4_card 38 = .ok (.bipush (-2), 2) := dk_16 254 (dk_at dksX4_card_1 14 rfl rfl)
theorem dX4_card_40 : decode cX4_card 40 = .ok (.ireturn, 1) := dk_172 (dk_at dksX4_card_1 16 rfl rfl)
theorem dX4_card_41 : decode cX4_card 41 = .ok (.aload_n 0, 1) := dk_42 (dk_at dksX4_card_1 17 rfl rfl)
theorem dX4_card_42 : decode cX4_card 42 = .ok (.getfield 66, 3) := dk_180 0 66 (dk_at dksX4_card_1 18 rfl rfl)
theorem dX4_card_45 : decode cX4_card 45 = .ok (.bipush 50, 2) := dk_16 50 (dk_at dksX4_card_1 21 rfl rfl)
theorem dX4_card_47 : decode cX4_card 47 = .ok (.if_icmp .ne 6, 3) := dk_160 0 6 (dk_at dksX4_card_2 0 rfl rfl)
theorem dX4_card_50 : decode cX4_card 50 = .ok (.bipush (-4), 2) := dk_16 252 (dk_at dksX4_card_2 3 rfl rfl)
theorem dX4_card_52 : decode cX4_card 52 = .ok (.ireturn, 1) := dk_172 (dk_at dksX4_card_2 5 rfl rfl)
theorem dX4_card_53 : decode cX4_card 53 = .ok (.aload_n 0, 1) := dk_42 (dk_at dksX4_card_2 6 rfl rfl)
theorem dX4_card_54 : decode cX4_card 54 = .ok (.getfield 72, 3) := dk_180 0 72 (dk_at dksX4_card_2 7 rfl rfl)
theorem dX4_card_57 : decode cX4_card 57 = .ok (.aload_n 0, 1) := dk_42 (dk_at dksX4_card_2 10 rfl rfl)
theorem dX4_card_58 : decode cX4_card 58 = .ok (.getfield 66, 3) := dk_180 0 66 (dk_at dksX4_card_2 11 rfl rfl)
theorem dX4_card_61 : decode cX4_card 61 = .ok (.iload_n 1, 1) := dk_27 (dk_at dksX4_card_2 14 rfl rfl)
theorem dX4_card_62 : decode cX4_card 62 = .ok (.iastore, 1) := dk_79 (dk_at dksX4_card_2 15 rfl rfl)
theorem dX4_card_63 : decode cX4_card 63 = .ok (.aload_n 0, 1) := dk_42 (dk_at dksX4_card_2 16 rfl rfl)
theorem dX4_card_64 : decode cX4_card 64 = .ok (.getfield 75, 3) := dk_180 0 75 (dk_at dksX4_card_2 17 rfl rfl)
theorem dX4_card_67 : decode cX4_card 67 = .ok (.aload_n 0, 1) := dk_42 (dk_at dksX4_card_2 20 rfl rfl)
theorem dX4_card_68 : decode cX4_card 68 = .ok (.getfield 66, 3) := dk_180 0 66 (dk_at dksX4_card_2 21 rfl rfl)
theorem dX4_card_71 : decode cX4_card 71 = .ok (.iload_n 2, 1) := dk_28 (dk_at dksX4_card_3 0 rfl rfl)
theorem dX4_card_72 : decode cX4_card 72 = .ok (.iastore, 1) := dk_79 (dk_at dksX4_card_3 1 rfl rfl)
theorem dX4_card_73 : decode cX4_card 73 = .ok (.aload_n 0, 1) := dk_42 (dk_at dksX4_card_3 2 rfl rfl)
theorem dX4_card_74 : decode cX4_card 74 = .ok (.getfield 78, 3) := dk_180 0 78 (dk_at dksX4_card_3 3 rfl rfl)
theorem dX4_card_77 : decode cX4_card 77 = .ok (.aload_n 0, 1) := dk_42 (dk_at dksX4_card_3 6 rfl rfl)
theorem dX4_card_78 : decode cX4_card 78 = .ok (.getfield 66, 3) := dk_180 0 66 (dk_at dksX4_card_3 7 rfl rfl)
theorem dX4_card_81 : decode cX4_card 81 = .ok (.iload_n 3, 1) := dk_29 (dk_at dksX4_card_3 10 rfl rfl)
theorem dX4_card_82 : decode cX4_card 82 = .ok (.iastore, 1) := dk_79 (dk_at dksX4_card_3 11 rfl rfl)
theorem dX4_card_83 : decode cX4_card 83 = .ok (.aload_n 0, 1) := dk_42 (dk_at dksX4_card_3 12 rfl rfl)
theorem dX4_card_84 : decode cX4_card 84 = .ok (.getfield 81, 3) := dk_180 0 81 (dk_at dksX4_card_3 13 rfl rfl)
theorem dX4_card_87 : decode cX4_card 87 = .ok (.aload_n 0, 1) := dk_42 (dk_at dksX4_card_3 16 rfl rfl)
theorem dX4_card_88 : decode cX4_card 88 = .ok (.getfield 66, 3) := dk_180 0 66 (dk_at dksX4_card_3 17 rfl rfl)
theorem dX4_card_91 : decode cX4_card 91 = .ok (.iconst 0, 1) := dk_3 (dk_at dksX4_card_3 20 rfl rfl)
theorem dX4_card_92 : decode cX4_card 92 = .ok (.iastore, 1) := dk_79 (dk_at dksX4_card_3 21 rfl rfl)
theorem dX4_card_93 : decode cX4_card 93 = .ok (.aload_n 0, 1) := dk_42 (dk_at dksX4_card_3 22 rfl rfl)
theorem dX4_card_94 : decode cX4_card 94 = .ok (.dup, 1) := dk_89 (dk_at dksX4_card_3 23 rfl rfl)
theorem dX4_card_95 : decode cX4_card 95 = .ok (.getfield 66, 3) := dk_180 0 66 (dk_at dksX4_card_4 0 rfl rfl)
theorem dX4_card_98 : decode cX4_card 98 = .ok (.iconst 1, 1) := dk_4 (dk_at dksX4_card_4 3 rfl rfl)
theorem dX4_card_99 : decode cX4_card 99 = .ok (.iadd, 1) := dk_96 (dk_at dksX4_card_4 4 rfl rfl)
theorem dX4_card_100 : decode cX4_card 100 = .ok (.putfield 66, 3) := dk_181 0 66 (dk_at dksX4_card_4 5 rfl rfl)
theorem dX4_card_103 : decode cX4_card 103 = .ok (.aload_n 0, 1) := dk_42 (dk_at dksX4_card_4 8 rfl rfl)
theorem dX4_card_104 : decode cX4_card 104 = .ok (.getfield 66, 3) := dk_180 0 66 (dk_at dksX4_card_4 9 rfl rfl)
theorem dX4_card_107 : decode cX4_card 107 = .ok (.iconst 1, 1) := dk_4 (dk_at dksX4_card_4 12 rfl rfl)
theorem dX4_card_108 : decode cX4_card 108 = .ok (.isub, 1) := dk_100 (dk_at dksX4_card_4 13 rfl rfl)
theorem dX4_card_109 : decode cX4_card 109 = .ok (.ireturn, 1) := dk_172 (dk_at dksX4_card_4 14 rfl rfl)
abbrev cX4_mend : ByteArray := prog_30_method_20_code
def yX4_mend : MethodName := ⟨RX4, "mend", "(II)I"⟩
def dkwX4_mend_4 : List UInt8 := [27, 46, 172]
abbrev dktX4_mend_4 : List UInt8 := dkwX4_mend_4 ++ []
def dkwX4_mend_3 : List UInt8 := [180, 0, 81, 27, 46, 42, 180, 0, 78, 27, 46, 160, 0, 7, 4, 167, 0, 4, 3, 84, 42, 180, 0, 81]
abbrev dktX4_mend_3 : List UInt8 := dkwX4_mend_3 ++ dktX4_mend_4
def dkwX4_mend_2 : List UInt8 := [27, 46, 164, 0, 6, 16, 253, 172, 42, 180, 0, 81, 27, 92, 46, 28, 96, 79, 42, 180, 0, 87, 27, 42]
abbrev dktX4_mend_2 : List UInt8 := dkwX4_mend_2 ++ dktX4_mend_3
def dkwX4_mend_1 : List UInt8 := [42, 27, 182, 1, 20, 6, 159, 0, 6, 16, 244, 172, 42, 180, 0, 81, 27, 46, 28, 96, 42, 180, 0, 78]
abbrev dktX4_mend_1 : List UInt8 := dkwX4_mend_1 ++ dktX4_mend_2
def dkwX4_mend_0 : List UInt8 := [42, 27, 182, 1, 17, 154, 0, 5, 2, 172, 42, 28, 3, 16, 99, 182, 0, 3, 154, 0, 6, 16, 254, 172]
abbrev dktX4_mend_0 : List UInt8 := dkwX4_mend_0 ++ dktX4_mend_1
theorem dksX4_mend_0 : cX4_mend.data.toList.drop 0 = dktX4_mend_0 := by decide +kernel
theorem dksX4_mend_1 : cX4_mend.data.toList.drop 24 = dktX4_mend_1 := dk_seg dksX4_mend_0 24 rfl rfl
theorem dksX4_mend_2 : cX4_mend.data.toList.drop 48 = dktX4_mend_2 := dk_seg dksX4_mend_1 24 rfl rfl
theorem dksX4_mend_3 : cX4_mend.data.toList.drop 72 = dktX4_mend_3 := dk_seg dksX4_mend_2 24 rfl rfl
theorem dksX4_mend_4 : cX4_mend.data.toList.drop 96 = dktX4_mend_4 := dk_seg dksX4_mend_3 24 rfl rfl
theorem dX4_mend_0 : decode cX4_mend 0 = .ok (.aload_n 0, 1) := dk_42 (dk_at dksX4_mend_0 0 rfl rfl)
theorem dX4_mend_1 : decode cX4_mend 1 = .ok (.iload_n 1, 1) := dk_27 (dk_at dksX4_mend_0 1 rfl rfl)
theorem dX4_mend_2 : decode cX4_mend 2 = .ok (.invokevirtual 273, 3) := dk_182 1 17 (dk_at dksX4_mend_0 2 rfl rfl)
theorem dX4_mend_5 : decode cX4_mend 5 = .ok (.ifCond .ne 5, 3) := dk_154 0 5 (dk_at dksX4_mend_0 5 rfl rfl)
theorem dX4_mend_8 : decode cX4_mend 8 = .ok (.iconst (-1), 1) := dk_2 (dk_at dksX4_mend_0 8 rfl rfl)
theorem dX4_mend_9 : decode cX4_mend 9 = .ok (.ireturn, 1) := dk_172 (dk_at dksX4_mend_0 9 rfl rfl)
theorem dX4_mend_10 : decode cX4_mend 10 = .ok (.aload_n 0, 1) := dk_42 (dk_at dksX4_mend_0 10 rfl rfl)
theorem dX4_mend_11 : decode cX4_mend 11 = .ok (.iload_n 2, 1) := dk_28 (dk_at dksX4_mend_0 11 rfl rfl)
theorem dX4_mend_12 : decode cX4_mend 12 = .ok (.iconst 0, 1) := dk_3 (dk_at dksX4_mend_0 12 rfl rfl)
theorem dX4_mend_13 : decode cX4_mend 13 = .ok (.bipush 99, 2) := dk_16 99 (dk_at dksX4_mend_0 13 rfl rfl)
theorem dX4_mend_15 : decode cX4_mend 15 = .ok (.invokevirtual 3, 3) := dk_182 0 3 (dk_at dksX4_mend_0 15 rfl rfl)
theorem dX4_mend_18 : decode cX4_mend 18 = .ok (.ifCond .ne 6, 3) := dk_154 0 6 (dk_at dksX4_mend_0 18 rfl rfl)
theorem dX4_mend_21 : decode cX4_mend 21 = .ok (.bipush (-2), 2) := dk_16 254 (dk_at dksX4_mend_0 21 rfl rfl)
theorem dX4_mend_23 : decode cX4_mend 23 = .ok (.ireturn, 1) := dk_172 (dk_at dksX4_mend_0 23 rfl rfl)
theorem dX4_mend_24 : decode cX4_mend 24 = .ok (.aload_n 0, 1) := dk_42 (dk_at dksX4_mend_1 0 rfl rfl)
theorem dX4_mend_25 : decode cX4_mend 25 = .ok (.iload_n 1, 1) := dk_27 (dk_at dksX4_mend_1 1 rfl rfl)
theorem dX4_mend_26 : decode cX4_mend 26 = .ok (.invokevirtual 276, 3) := dk_182 1 20 (dk_at dksX4_mend_1 2 rfl rfl)
theorem dX4_mend_29 : decode cX4_mend 29 = .ok (.iconst 3, 1) := dk_6 (dk_at dksX4_mend_1 5 rfl rfl)
theorem dX4_mend_30 : decode cX4_mend 30 = .ok (.if_icmp .eq 6, 3) := dk_159 0 6 (dk_at dksX4_mend_1 6 rfl rfl)
theorem dX4_mend_33 : decode cX4_mend 33 = .ok (.bipush (-12), 2) := dk_16 244 (dk_at dksX4_mend_1 9 rfl rfl)
theorem dX4_mend_35 : decode cX4_mend 35 = .ok (.ireturn, 1) := dk_172 (dk_at dksX4_mend_1 11 rfl rfl)
theorem dX4_mend_36 : decode cX4_mend 36 = .ok (.aload_n 0, 1) := dk_42 (dk_at dksX4_mend_1 12 rfl rfl)
theorem dX4_mend_37 : decode cX4_mend 37 = .ok (.getfield 81, 3) := dk_180 0 81 (dk_at dksX4_mend_1 13 rfl rfl)
theorem dX4_mend_40 : decode cX4_mend 40 = .ok (.iload_n 1, 1) := dk_27 (dk_at dksX4_mend_1 16 rfl rfl)
theorem dX4_mend_41 : decode cX4_mend 41 = .ok (.iaload, 1) := dk_46 (dk_at dksX4_mend_1 17 rfl rfl)
theorem dX4_mend_42 : decode cX4_mend 42 = .ok (.iload_n 2, 1) := dk_28 (dk_at dksX4_mend_1 18 rfl rfl)
theorem dX4_mend_43 : decode cX4_mend 43 = .ok (.iadd, 1) := dk_96 (dk_at dksX4_mend_1 19 rfl rfl)
theorem dX4_mend_44 : decode cX4_mend 44 = .ok (.aload_n 0, 1) := dk_42 (dk_at dksX4_mend_1 20 rfl rfl)
theorem dX4_mend_45 : decode cX4_mend 45 = .ok (.getfield 78, 3) := dk_180 0 78 (dk_at dksX4_mend_1 21 rfl rfl)
theorem dX4_mend_48 : decode cX4_mend 48 = .ok (.iload_n 1, 1) := dk_27 (dk_at dksX4_mend_2 0 rfl rfl)
theorem dX4_mend_49 : decode cX4_mend 49 = .ok (.iaload, 1) := dk_46 (dk_at dksX4_mend_2 1 rfl rfl)
theorem dX4_mend_50 : decode cX4_mend 50 = .ok (.if_icmp .le 6, 3) := dk_164 0 6 (dk_at dksX4_mend_2 2 rfl rfl)
theorem dX4_mend_53 : decode cX4_mend 53 = .ok (.bipush (-3), 2) := dk_16 253 (dk_at dksX4_mend_2 5 rfl rfl)
theorem dX4_mend_55 : decode cX4_mend 55 = .ok (.ireturn, 1) := dk_172 (dk_at dksX4_mend_2 7 rfl rfl)
theorem dX4_mend_56 : decode cX4_mend 56 = .ok (.aload_n 0, 1) := dk_42 (dk_at dksX4_mend_2 8 rfl rfl)
theorem dX4_mend_57 : decode cX4_mend 57 = .ok (.getfield 81, 3) := dk_180 0 81 (dk_at dksX4_mend_2 9 rfl rfl)
theorem dX4_mend_60 : decode cX4_mend 60 = .ok (.iload_n 1, 1) := dk_27 (dk_at dksX4_mend_2 12 rfl rfl)
theorem dX4_mend_61 : decode cX4_mend 61 = .ok (.dup2, 1) := dk_92 (dk_at dksX4_mend_2 13 rfl rfl)
theorem dX4_mend_62 : decode cX4_mend 62 = .ok (.iaload, 1) := dk_46 (dk_at dksX4_mend_2 14 rfl rfl)
theorem dX4_mend_63 : decode cX4_mend 63 = .ok (.iload_n 2, 1) := dk_28 (dk_at dksX4_mend_2 15 rfl rfl)
theorem dX4_mend_64 : decode cX4_mend 64 = .ok (.iadd, 1) := dk_96 (dk_at dksX4_mend_2 16 rfl rfl)
theorem dX4_mend_65 : decode cX4_mend 65 = .ok (.iastore, 1) := dk_79 (dk_at dksX4_mend_2 17 rfl rfl)
theorem dX4_mend_66 : decode cX4_mend 66 = .ok (.aload_n 0, 1) := dk_42 (dk_at dksX4_mend_2 18 rfl rfl)
theorem dX4_mend_67 : decode cX4_mend 67 = .ok (.getfield 87, 3) := dk_180 0 87 (dk_at dksX4_mend_2 19 rfl rfl)
theorem dX4_mend_70 : decode cX4_mend 70 = .ok (.iload_n 1, 1) := dk_27 (dk_at dksX4_mend_2 22 rfl rfl)
theorem dX4_mend_71 : decode cX4_mend 71 = .ok (.aload_n 0, 1) := dk_42 (dk_at dksX4_mend_2 23 rfl rfl)
theorem dX4_mend_72 : decode cX4_mend 72 = .ok (.getfield 81, 3) := dk_180 0 81 (dk_at dksX4_mend_3 0 rfl rfl)
theorem dX4_mend_75 : decode cX4_mend 75 = .ok (.iload_n 1, 1) := dk_27 (dk_at dksX4_mend_3 3 rfl rfl)
theorem dX4_mend_76 : decode cX4_mend 76 = .ok (.iaload, 1) := dk_46 (dk_at dksX4_mend_3 4 rfl rfl)
theorem dX4_mend_77 : decode cX4_mend 77 = .ok (.aload_n 0, 1) := dk_42 (dk_at dksX4_mend_3 5 rfl rfl)
theorem dX4_mend_78 : decode cX4_mend 78 = .ok (.getfield 78, 3) := dk_180 0 78 (dk_at dksX4_mend_3 6 rfl rfl)
theorem dX4_mend_81 : decode cX4_mend 81 = .ok (.iload_n 1, 1) := dk_27 (dk_at dksX4_mend_3 9 rfl rfl)
theorem dX4_mend_82 : decode cX4_mend 82 = .ok (.iaload, 1) := dk_46 (dk_at dksX4_mend_3 10 rfl rfl)
theorem dX4_mend_83 : decode cX4_mend 83 = .ok (.if_icmp .ne 7, 3) := dk_160 0 7 (dk_at dksX4_mend_3 11 rfl rfl)
theorem dX4_mend_86 : decode cX4_mend 86 = .ok (.iconst 1, 1) := dk_4 (dk_at dksX4_mend_3 14 rfl rfl)
theorem dX4_mend_87 : decode cX4_mend 87 = .ok (.goto 4, 3) := dk_167 0 4 (dk_at dksX4_mend_3 15 rfl rfl)
theorem dX4_mend_90 : decode cX4_mend 90 = .ok (.iconst 0, 1) := dk_3 (dk_at dksX4_mend_3 18 rfl rfl)
theorem dX4_mend_91 : decode cX4_mend 91 = .ok (.bastore, 1) := dk_84 (dk_at dksX4_mend_3 19 rfl rfl)
theorem dX4_mend_92 : decode cX4_mend 92 = .ok (.aload_n 0, 1) := dk_42 (dk_at dksX4_mend_3 20 rfl rfl)
theorem dX4_mend_93 : decode cX4_mend 93 = .ok (.getfield 81, 3) := dk_180 0 81 (dk_at dksX4_mend_3 21 rfl rfl)
theorem dX4_mend_96 : decode cX4_mend 96 = .ok (.iload_n 1, 1) := dk_27 (dk_at dksX4_mend_4 0 rfl rfl)
theorem dX4_mend_97 : decode cX4_mend 97 = .ok (.iaload, 1) := dk_46 (dk_at dksX4_mend_4 1 rfl rfl)
theorem dX4_mend_98 : decode cX4_mend 98 = .ok (.ireturn, 1) := dk_172 (dk_at dksX4_mend_4 2 rfl rfl)
abbrev cX4_isCard : ByteArray := prog_30_method_17_code
def yX4_isCard : MethodName := ⟨RX4, "isCard", "(I)Z"⟩
def dkwX4_isCard_0 : List UInt8 := [42, 27, 3, 42, 180, 0, 66, 4, 100, 182, 0, 3, 172]
abbrev dktX4_isCard_0 : List UInt8 := dkwX4_isCard_0 ++ []
theorem dksX4_isCard_0 : cX4_isCard.data.toList.drop 0 = dktX4_isCard_0 := by decide +kernel
theorem dX4_isCard_0 : decode cX4_isCard 0 = .ok (.aload_n 0, 1) := dk_42 (dk_at dksX4_isCard_0 0 rfl rfl)
theorem dX4_isCard_1 : decode cX4_isCard 1 = .ok (.iload_n 1, 1) := dk_27 (dk_at dksX4_isCard_0 1 rfl rfl)
theorem dX4_isCard_2 : decode cX4_isCard 2 = .ok (.iconst 0, 1) := dk_3 (dk_at dksX4_isCard_0 2 rfl rfl)
theorem dX4_isCard_3 : decode cX4_isCard 3 = .ok (.aload_n 0, 1) := dk_42 (dk_at dksX4_isCard_0 3 rfl rfl)
theorem dX4_isCard_4 : decode cX4_isCard 4 = .ok (.getfield 66, 3) := dk_180 0 66 (dk_at dksX4_isCard_0 4 rfl rfl)
theorem dX4_isCard_7 : decode cX4_isCard 7 = .ok (.iconst 1, 1) := dk_4 (dk_at dksX4_isCard_0 7 rfl rfl)
theorem dX4_isCard_8 : decode cX4_isCard 8 = .ok (.isub, 1) := dk_100 (dk_at dksX4_isCard_0 8 rfl rfl)
theorem dX4_isCard_9 : decode cX4_isCard 9 = .ok (.invokevirtual 3, 3) := dk_182 0 3 (dk_at dksX4_isCard_0 9 rfl rfl)
theorem dX4_isCard_12 : decode cX4_isCard 12 = .ok (.ireturn, 1) := dk_172 (dk_at dksX4_isCard_0 12 rfl rfl)
abbrev cX4_kindOf : ByteArray := prog_30_method_18_code
def yX4_kindOf : MethodName := ⟨RX4, "kindOf", "(I)I"⟩
def dkwX4_kindOf_0 : List UInt8 := [42, 180, 0, 87, 27, 51, 153, 0, 7, 7, 167, 0, 9, 42, 180, 0, 72, 27, 46, 172]
abbrev dktX4_kindOf_0 : List UInt8 := dkwX4_kindOf_0 ++ []
theorem dksX4_kindOf_0 : cX4_kindOf.data.toList.drop 0 = dktX4_kindOf_0 := by decide +kernel
theorem dX4_kindOf_0 : decode cX4_kindOf 0 = .ok (.aload_n 0, 1) := dk_42 (dk_at dksX4_kindOf_0 0 rfl rfl)
theorem dX4_kindOf_1 : decode cX4_kindOf 1 = .ok (.getfield 87, 3) := dk_180 0 87 (dk_at dksX4_kindOf_0 1 rfl rfl)
theorem dX4_kindOf_4 : decode cX4_kindOf 4 = .ok (.iload_n 1, 1) := dk_27 (dk_at dksX4_kindOf_0 4 rfl rfl)
theorem dX4_kindOf_5 : decode cX4_kindOf 5 = .ok (.baload, 1) := dk_51 (dk_at dksX4_kindOf_0 5 rfl rfl)
theorem dX4_kindOf_6 : decode cX4_kindOf 6 = .ok (.ifCond .eq 7, 3) := dk_153 0 7 (dk_at dksX4_kindOf_0 6 rfl rfl)
theorem dX4_kindOf_9 : decode cX4_kindOf 9 = .ok (.iconst 4, 1) := dk_7 (dk_at dksX4_kindOf_0 9 rfl rfl)
theorem dX4_kindOf_10 : decode cX4_kindOf 10 = .ok (.goto 9, 3) := dk_167 0 9 (dk_at dksX4_kindOf_0 10 rfl rfl)
theorem dX4_kindOf_13 : decode cX4_kindOf 13 = .ok (.aload_n 0, 1) := dk_42 (dk_at dksX4_kindOf_0 13 rfl rfl)
theorem dX4_kindOf_14 : decode cX4_kindOf 14 = .ok (.getfield 72, 3) := dk_180 0 72 (dk_at dksX4_kindOf_0 14 rfl rfl)
theorem dX4_kindOf_17 : decode cX4_kindOf 17 = .ok (.iload_n 1, 1) := dk_27 (dk_at dksX4_kindOf_0 17 rfl rfl)
theorem dX4_kindOf_18 : decode cX4_kindOf 18 = .ok (.iaload, 1) := dk_46 (dk_at dksX4_kindOf_0 18 rfl rfl)
theorem dX4_kindOf_19 : decode cX4_kindOf 19 = .ok (.ireturn, 1) := dk_172 (dk_at dksX4_kindOf_0 19 rfl rfl)
abbrev cX4_kind : ByteArray := prog_30_method_21_code
def yX4_kind : MethodName := ⟨RX4, "kind", "(I)I"⟩
def dkwX4_kind_0 : List UInt8 := [42, 27, 182, 1, 17, 153, 0, 11, 42, 27, 182, 1, 20, 167, 0, 4, 2, 172]
abbrev dktX4_kind_0 : List UInt8 := dkwX4_kind_0 ++ []
theorem dksX4_kind_0 : cX4_kind.data.toList.drop 0 = dktX4_kind_0 := by decide +kernel
theorem dX4_kind_0 : decode cX4_kind 0 = .ok (.aload_n 0, 1) := dk_42 (dk_at dksX4_kind_0 0 rfl rfl)
theorem dX4_kind_1 : decode cX4_kind 1 = .ok (.iload_n 1, 1) := dk_27 (dk_at dksX4_kind_0 1 rfl rfl)
theorem dX4_kind_2 : decode cX4_kind 2 = .ok (.invokevirtual 273, 3) := dk_182 1 17 (dk_at dksX4_kind_0 2 rfl rfl)
theorem dX4_kind_5 : decode cX4_kind 5 = .ok (.ifCond .eq 11, 3) := dk_153 0 11 (dk_at dksX4_kind_0 5 rfl rfl)
theorem dX4_kind_8 : decode cX4_kind 8 = .ok (.aload_n 0, 1) := dk_42 (dk_at dksX4_kind_0 8 rfl rfl)
theorem dX4_kind_9 : decode cX4_kind 9 = .ok (.iload_n 1, 1) := dk_27 (dk_at dksX4_kind_0 9 rfl rfl)
theorem dX4_kind_10 : decode cX4_kind 10 = .ok (.invokevirtual 276, 3) := dk_182 1 20 (dk_at dksX4_kind_0 10 rfl rfl)
theorem dX4_kind_13 : decode cX4_kind 13 = .ok (.goto 4, 3) := dk_167 0 4 (dk_at dksX4_kind_0 13 rfl rfl)
theorem dX4_kind_16 : decode cX4_kind 16 = .ok (.iconst (-1), 1) := dk_2 (dk_at dksX4_kind_0 16 rfl rfl)
theorem dX4_kind_17 : decode cX4_kind 17 = .ok (.ireturn, 1) := dk_172 (dk_at dksX4_kind_0 17 rfl rfl)
abbrev cX4_act : ByteArray := prog_30_method_30_code
def yX4_act : MethodName := ⟨RX4, "act", "(III)I"⟩
def dkwX4_act_2 : List UInt8 := [4, 160, 0, 14, 42, 27, 21, 4, 29, 182, 1, 38, 167, 0, 11, 42, 27, 21, 4, 29, 182, 1, 47, 172]
abbrev dktX4_act_2 : List UInt8 := dkwX4_act_2 ++ []
def dkwX4_act_1 : List UInt8 := [172, 42, 27, 182, 1, 20, 54, 4, 28, 154, 0, 14, 42, 27, 21, 4, 29, 182, 1, 31, 167, 0, 27, 28]
abbrev dktX4_act_1 : List UInt8 := dkwX4_act_1 ++ dktX4_act_2
def dkwX4_act_0 : List UInt8 := [42, 3, 181, 0, 69, 42, 27, 182, 1, 17, 153, 0, 13, 42, 28, 3, 5, 182, 0, 3, 154, 0, 5, 3]
abbrev dktX4_act_0 : List UInt8 := dkwX4_act_0 ++ dktX4_act_1
theorem dksX4_act_0 : cX4_act.data.toList.drop 0 = dktX4_act_0 := by decide +kernel
theorem dksX4_act_1 : cX4_act.data.toList.drop 24 = dktX4_act_1 := dk_seg dksX4_act_0 24 rfl rfl
theorem dksX4_act_2 : cX4_act.data.toList.drop 48 = dktX4_act_2 := dk_seg dksX4_act_1 24 rfl rfl
theorem dX4_act_0 : decode cX4_act 0 = .ok (.aload_n 0, 1) := dk_42 (dk_at dksX4_act_0 0 rfl rfl)
theorem dX4_act_1 : decode cX4_act 1 = .ok (.iconst 0, 1) := dk_3 (dk_at dksX4_act_0 1 rfl rfl)
theorem dX4_act_2 : decode cX4_act 2 = .ok (.putfield 69, 3) := dk_181 0 69 (dk_at dksX4_act_0 2 rfl rfl)
theorem dX4_act_5 : decode cX4_act 5 = .ok (.aload_n 0, 1) := dk_42 (dk_at dksX4_act_0 5 rfl rfl)
theorem dX4_act_6 : decode cX4_act 6 = .ok (.iload_n 1, 1) := dk_27 (dk_at dksX4_act_0 6 rfl rfl)
theorem dX4_act_7 : decode cX4_act 7 = .ok (.invokevirtual 273, 3) := dk_182 1 17 (dk_at dksX4_act_0 7 rfl rfl)
theorem dX4_act_10 : decode cX4_act 10 = .ok (.ifCond .eq 13, 3) := dk_153 0 13 (dk_at dksX4_act_0 10 rfl rfl)
theorem dX4_act_13 : decode cX4_act 13 = .ok (.aload_n 0, 1) := dk_42 (dk_at dksX4_act_0 13 rfl rfl)
theorem dX4_act_14 : decode cX4_act 14 = .ok (.iload_n 2, 1) := dk_28 (dk_at dksX4_act_0 14 rfl rfl)
theorem dX4_act_15 : decode cX4_act 15 = .ok (.iconst 0, 1) := dk_3 (dk_at dksX4_act_0 15 rfl rfl)
theorem dX4_act_16 : decode cX4_act 16 = .ok (.iconst 2, 1) := dk_5 (dk_at dksX4_act_0 16 rfl rfl)
theorem dX4_act_17 : decode cX4_act 17 = .ok (.invokevirtual 3, 3) := dk_182 0 3 (dk_at dksX4_act_0 17 rfl rfl)
theorem dX4_act_20 : decode cX4_act 20 = .ok (.ifCond .ne 5, 3) := dk_154 0 5 (dk_at dksX4_act_0 20 rfl rfl)
theorem dX4_act_23 : decode cX4_act 23 = .ok (.iconst 0, 1) := dk_3 (dk_at dksX4_act_0 23 rfl rfl)
theorem dX4_act_24 : decode cX4_act 24 = .ok (.ireturn, 1) := dk_172 (dk_at dksX4_act_1 0 rfl rfl)
theorem dX4_act_25 : decode cX4_act 25 = .ok (.aload_n 0, 1) := dk_42 (dk_at dksX4_act_1 1 rfl rfl)
theorem dX4_act_26 : decode cX4_act 26 = .ok (.iload_n 1, 1) := dk_27 (dk_at dksX4_act_1 2 rfl rfl)
theorem dX4_act_27 : decode cX4_act 27 = .ok (.invokevirtual 276, 3) := dk_182 1 20 (dk_at dksX4_act_1 3 rfl rfl)
theorem dX4_act_30 : decode cX4_act 30 = .ok (.istore 4, 2) := dk_54 4 (dk_at dksX4_act_1 6 rfl rfl)
theorem dX4_act_32 : decode cX4_act 32 = .ok (.iload_n 2, 1) := dk_28 (dk_at dksX4_act_1 8 rfl rfl)
theorem dX4_act_33 : decode cX4_act 33 = .ok (.ifCond .ne 14, 3) := dk_154 0 14 (dk_at dksX4_act_1 9 rfl rfl)
theorem dX4_act_36 : decode cX4_act 36 = .ok (.aload_n 0, 1) := dk_42 (dk_at dksX4_act_1 12 rfl rfl)
theorem dX4_act_37 : decode cX4_act 37 = .ok (.iload_n 1, 1) := dk_27 (dk_at dksX4_act_1 13 rfl rfl)
theorem dX4_act_38 : decode cX4_act 38 = .ok (.iload 4, 2) := dk_21 4 (dk_at dksX4_act_1 14 rfl rfl)
theorem dX4_act_40 : decode cX4_act 40 = .ok (.iload_n 3, 1) := dk_29 (dk_at dksX4_act_1 16 rfl rfl)
theorem dX4_act_41 : decode cX4_act 41 = .ok (.invokevirtual 287, 3) := dk_182 1 31 (dk_at dksX4_act_1 17 rfl rfl)
theorem dX4_act_44 : decode cX4_act 44 = .ok (.goto 27, 3) := dk_167 0 27 (dk_at dksX4_act_1 20 rfl rfl)
theorem dX4_act_47 : decode cX4_act 47 = .ok (.iload_n 2, 1) := dk_28 (dk_at dksX4_act_1 23 rfl rfl)
theorem dX4_act_48 : decode cX4_act 48 = .ok (.iconst 1, 1) := dk_4 (dk_at dksX4_act_2 0 rfl rfl)
theorem dX4_act_49 : decode cX4_act 49 = .ok (.if_icmp .ne 14, 3) := dk_160 0 14 (dk_at dksX4_act_2 1 rfl rfl)
theorem dX4_act_52 : decode cX4_act 52 = .ok (.aload_n 0, 1) := dk_42 (dk_at dksX4_act_2 4 rfl rfl)
theorem dX4_act_53 : decode cX4_act 53 = .ok (.iload_n 1, 1) := dk_27 (dk_at dksX4_act_2 5 rfl rfl)
theorem dX4_act_54 : decode cX4_act 54 = .ok (.iload 4, 2) := dk_21 4 (dk_at dksX4_act_2 6 rfl rfl)
theorem dX4_act_56 : decode cX4_act 56 = .ok (.iload_n 3, 1) := dk_29 (dk_at dksX4_act_2 8 rfl rfl)
theorem dX4_act_57 : decode cX4_act 57 = .ok (.invokevirtual 294, 3) := dk_182 1 38 (dk_at dksX4_act_2 9 rfl rfl)
theorem dX4_act_60 : decode cX4_act 60 = .ok (.goto 11, 3) := dk_167 0 11 (dk_at dksX4_act_2 12 rfl rfl)
theorem dX4_act_63 : decode cX4_act 63 = .ok (.aload_n 0, 1) := dk_42 (dk_at dksX4_act_2 15 rfl rfl)
theorem dX4_act_64 : decode cX4_act 64 = .ok (.iload_n 1, 1) := dk_27 (dk_at dksX4_act_2 16 rfl rfl)
theorem dX4_act_65 : decode cX4_act 65 = .ok (.iload 4, 2) := dk_21 4 (dk_at dksX4_act_2 17 rfl rfl)
theorem dX4_act_67 : decode cX4_act 67 = .ok (.iload_n 3, 1) := dk_29 (dk_at dksX4_act_2 19 rfl rfl)
theorem dX4_act_68 : decode cX4_act 68 = .ok (.invokevirtual 303, 3) := dk_182 1 47 (dk_at dksX4_act_2 20 rfl rfl)
theorem dX4_act_71 : decode cX4_act 71 = .ok (.ireturn, 1) := dk_172 (dk_at dksX4_act_2 23 rfl rfl)
abbrev cX4_barsOf : ByteArray := prog_30_method_24_code
def yX4_barsOf : MethodName := ⟨RX4, "barsOf", "(III)I"⟩
def dkwX4_barsOf_2 : List UInt8 := [182, 1, 27, 172]
abbrev dktX4_barsOf_2 : List UInt8 := dkwX4_barsOf_2 ++ []
def dkwX4_barsOf_1 : List UInt8 := [28, 7, 160, 0, 18, 42, 16, 41, 182, 1, 23, 42, 27, 29, 4, 96, 182, 1, 27, 172, 42, 27, 29]
abbrev dktX4_barsOf_1 : List UInt8 := dkwX4_barsOf_1 ++ dktX4_barsOf_2
def dkwX4_barsOf_0 : List UInt8 := [28, 5, 160, 0, 17, 42, 16, 30, 182, 1, 23, 42, 27, 29, 182, 1, 27, 116, 172, 28, 6, 159, 0, 8]
abbrev dktX4_barsOf_0 : List UInt8 := dkwX4_barsOf_0 ++ dktX4_barsOf_1
theorem dksX4_barsOf_0 : cX4_barsOf.data.toList.drop 0 = dktX4_barsOf_0 := by decide +kernel
theorem dksX4_barsOf_1 : cX4_barsOf.data.toList.drop 24 = dktX4_barsOf_1 := dk_seg dksX4_barsOf_0 24 rfl rfl
theorem dksX4_barsOf_2 : cX4_barsOf.data.toList.drop 47 = dktX4_barsOf_2 := dk_seg dksX4_barsOf_1 23 rfl rfl
theorem dX4_barsOf_0 : decode cX4_barsOf 0 = .ok (.iload_n 2, 1) := dk_28 (dk_at dksX4_barsOf_0 0 rfl rfl)
theorem dX4_barsOf_1 : decode cX4_barsOf 1 = .ok (.iconst 2, 1) := dk_5 (dk_at dksX4_barsOf_0 1 rfl rfl)
theorem dX4_barsOf_2 : decode cX4_barsOf 2 = .ok (.if_icmp .ne 17, 3) := dk_160 0 17 (dk_at dksX4_barsOf_0 2 rfl rfl)
theorem dX4_barsOf_5 : decode cX4_barsOf 5 = .ok (.aload_n 0, 1) := dk_42 (dk_at dksX4_barsOf_0 5 rfl rfl)
theorem dX4_barsOf_6 : decode cX4_barsOf 6 = .ok (.bipush 30, 2) := dk_16 30 (dk_at dksX4_barsOf_0 6 rfl rfl)
theorem dX4_barsOf_8 : decode cX4_barsOf 8 = .ok (.invokevirtual 279, 3) := dk_182 1 23 (dk_at dksX4_barsOf_0 8 rfl rfl)
theorem dX4_barsOf_11 : decode cX4_barsOf 11 = .ok (.aload_n 0, 1) := dk_42 (dk_at dksX4_barsOf_0 11 rfl rfl)
theorem dX4_barsOf_12 : decode cX4_barsOf 12 = .ok (.iload_n 1, 1) := dk_27 (dk_at dksX4_barsOf_0 12 rfl rfl)
theorem dX4_barsOf_13 : decode cX4_barsOf 13 = .ok (.iload_n 3, 1) := dk_29 (dk_at dksX4_barsOf_0 13 rfl rfl)
theorem dX4_barsOf_14 : decode cX4_barsOf 14 = .ok (.invokevirtual 283, 3) := dk_182 1 27 (dk_at dksX4_barsOf_0 14 rfl rfl)
theorem dX4_barsOf_17 : decode cX4_barsOf 17 = .ok (.ineg, 1) := dk_116 (dk_at dksX4_barsOf_0 17 rfl rfl)
theorem dX4_barsOf_18 : decode cX4_barsOf 18 = .ok (.ireturn, 1) := dk_172 (dk_at dksX4_barsOf_0 18 rfl rfl)
theorem dX4_barsOf_19 : decode cX4_barsOf 19 = .ok (.iload_n 2, 1) := dk_28 (dk_at dksX4_barsOf_0 19 rfl rfl)
theorem dX4_barsOf_20 : decode cX4_barsOf 20 = .ok (.iconst 3, 1) := dk_6 (dk_at dksX4_barsOf_0 20 rfl rfl)
theorem dX4_barsOf_21 : decode cX4_barsOf 21 = .ok (.if_icmp .eq 8, 3) := dk_159 0 8 (dk_at dksX4_barsOf_0 21 rfl rfl)
theorem dX4_barsOf_24 : decode cX4_barsOf 24 = .ok (.iload_n 2, 1) := dk_28 (dk_at dksX4_barsOf_1 0 rfl rfl)
theorem dX4_barsOf_25 : decode cX4_barsOf 25 = .ok (.iconst 4, 1) := dk_7 (dk_at dksX4_barsOf_1 1 rfl rfl)
theorem dX4_barsOf_26 : decode cX4_barsOf 26 = .ok (.if_icmp .ne 18, 3) := dk_160 0 18 (dk_at dksX4_barsOf_1 2 rfl rfl)
theorem dX4_barsOf_29 : decode cX4_barsOf 29 = .ok (.aload_n 0, 1) := dk_42 (dk_at dksX4_barsOf_1 5 rfl rfl)
theorem dX4_barsOf_30 : decode cX4_barsOf 30 = .ok (.bipush 41, 2) := dk_16 41 (dk_at dksX4_barsOf_1 6 rfl rfl)
theorem dX4_barsOf_32 : decode cX4_barsOf 32 = .ok (.invokevirtual 279, 3) := dk_182 1 23 (dk_at dksX4_barsOf_1 8 rfl rfl)
theorem dX4_barsOf_35 : decode cX4_barsOf 35 = .ok (.aload_n 0, 1) := dk_42 (dk_at dksX4_barsOf_1 11 rfl rfl)
theorem dX4_barsOf_36 : decode cX4_barsOf 36 = .ok (.iload_n 1, 1) := dk_27 (dk_at dksX4_barsOf_1 12 rfl rfl)
theorem dX4_barsOf_37 : decode cX4_barsOf 37 = .ok (.iload_n 3, 1) := dk_29 (dk_at dksX4_barsOf_1 13 rfl rfl)
theorem dX4_barsOf_38 : decode cX4_barsOf 38 = .ok (.iconst 1, 1) := dk_4 (dk_at dksX4_barsOf_1 14 rfl rfl)
theorem dX4_barsOf_39 : decode cX4_barsOf 39 = .ok (.iadd, 1) := dk_96 (dk_at dksX4_barsOf_1 15 rfl rfl)
theorem dX4_barsOf_40 : decode cX4_barsOf 40 = .ok (.invokevirtual 283, 3) := dk_182 1 27 (dk_at dksX4_barsOf_1 16 rfl rfl)
theorem dX4_barsOf_43 : decode cX4_barsOf 43 = .ok (.ireturn, 1) := dk_172 (dk_at dksX4_barsOf_1 19 rfl rfl)
theorem dX4_barsOf_44 : decode cX4_barsOf 44 = .ok (.aload_n 0, 1) := dk_42 (dk_at dksX4_barsOf_1 20 rfl rfl)
theorem dX4_barsOf_45 : decode cX4_barsOf 45 = .ok (.iload_n 1, 1) := dk_27 (dk_at dksX4_barsOf_1 21 rfl rfl)
theorem dX4_barsOf_46 : decode cX4_barsOf 46 = .ok (.iload_n 3, 1) := dk_29 (dk_at dksX4_barsOf_1 22 rfl rfl)
theorem dX4_barsOf_47 : decode cX4_barsOf 47 = .ok (.invokevirtual 283, 3) := dk_182 1 27 (dk_at dksX4_barsOf_2 0 rfl rfl)
theorem dX4_barsOf_50 : decode cX4_barsOf 50 = .ok (.ireturn, 1) := dk_172 (dk_at dksX4_barsOf_2 3 rfl rfl)
abbrev cX4_body : ByteArray := prog_30_method_22_code
def yX4_body : MethodName := ⟨RX4, "body", "(I)V"⟩
def dkwX4_body_1 : List UInt8 := [4, 96, 181, 0, 69, 177]
abbrev dktX4_body_1 : List UInt8 := dkwX4_body_1 ++ []
def dkwX4_body_0 : List UInt8 := [42, 180, 0, 69, 16, 20, 162, 0, 13, 42, 180, 0, 84, 42, 180, 0, 69, 27, 79, 42, 89, 180, 0, 69]
abbrev dktX4_body_0 : List UInt8 := dkwX4_body_0 ++ dktX4_body_1
theorem dksX4_body_0 : cX4_body.data.toList.drop 0 = dktX4_body_0 := by decide +kernel
theorem dksX4_body_1 : cX4_body.data.toList.drop 24 = dktX4_body_1 := dk_seg dksX4_body_0 24 rfl rfl
theorem dX4_body_0 : decode cX4_body 0 = .ok (.aload_n 0, 1) := dk_42 (dk_at dksX4_body_0 0 rfl rfl)
theorem dX4_body_1 : decode cX4_body 1 = .ok (.getfield 69, 3) := dk_180 0 69 (dk_at dksX4_body_0 1 rfl rfl)
theorem dX4_body_4 : decode cX4_body 4 = .ok (.bipush 20, 2) := dk_16 20 (dk_at dksX4_body_0 4 rfl rfl)
theorem dX4_body_6 : decode cX4_body 6 = .ok (.if_icmp .ge 13, 3) := dk_162 0 13 (dk_at dksX4_body_0 6 rfl rfl)
theorem dX4_body_9 : decode cX4_body 9 = .ok (.aload_n 0, 1) := dk_42 (dk_at dksX4_body_0 9 rfl rfl)
theorem dX4_body_10 : decode cX4_body 10 = .ok (.getfield 84, 3) := dk_180 0 84 (dk_at dksX4_body_0 10 rfl rfl)
theorem dX4_body_13 : decode cX4_body 13 = .ok (.aload_n 0, 1) := dk_42 (dk_at dksX4_body_0 13 rfl rfl)
theorem dX4_body_14 : decode cX4_body 14 = .ok (.getfield 69, 3) := dk_180 0 69 (dk_at dksX4_body_0 14 rfl rfl)
theorem dX4_body_17 : decode cX4_body 17 = .ok (.iload_n 1, 1) := dk_27 (dk_at dksX4_body_0 17 rfl rfl)
theorem dX4_body_18 : decode cX4_body 18 = .ok (.iastore, 1) := dk_79 (dk_at dksX4_body_0 18 rfl rfl)
theorem dX4_body_19 : decode cX4_body 19 = .ok (.aload_n 0, 1) := dk_42 (dk_at dksX4_body_0 19 rfl rfl)
theorem dX4_body_20 : decode cX4_body 20 = .ok (.dup, 1) := dk_89 (dk_at dksX4_body_0 20 rfl rfl)
theorem dX4_body_21 : decode cX4_body 21 = .ok (.getfield 69, 3) := dk_180 0 69 (dk_at dksX4_body_0 21 rfl rfl)
theorem dX4_body_24 : decode cX4_body 24 = .ok (.iconst 1, 1) := dk_4 (dk_at dksX4_body_1 0 rfl rfl)
theorem dX4_body_25 : decode cX4_body 25 = .ok (.iadd, 1) := dk_96 (dk_at dksX4_body_1 1 rfl rfl)
theorem dX4_body_26 : decode cX4_body 26 = .ok (.putfield 69, 3) := dk_181 0 69 (dk_at dksX4_body_1 2 rfl rfl)
theorem dX4_body_29 : decode cX4_body 29 = .ok (.return_, 1) := dk_177 (dk_at dksX4_body_1 5 rfl rfl)
abbrev cX4_plainBars : ByteArray := prog_30_method_23_code
def yX4_plainBars : MethodName := ⟨RX4, "plainBars", "(II)I"⟩
def dkwX4_plainBars_0 : List UInt8 := [42, 16, 10, 182, 1, 23, 28, 42, 180, 0, 78, 27, 46, 96, 172]
abbrev dktX4_plainBars_0 : List UInt8 := dkwX4_plainBars_0 ++ []
theorem dksX4_plainBars_0 : cX4_plainBars.data.toList.drop 0 = dktX4_plainBars_0 := by decide +kernel
theorem dX4_plainBars_0 : decode cX4_plainBars 0 = .ok (.aload_n 0, 1) := dk_42 (dk_at dksX4_plainBars_0 0 rfl rfl)
theorem dX4_plainBars_1 : decode cX4_plainBars 1 = .ok (.bipush 10, 2) := dk_16 10 (dk_at dksX4_plainBars_0 1 rfl rfl)
theorem dX4_plainBars_3 : decode cX4_plainBars 3 = .ok (.invokevirtual 279, 3) := dk_182 1 23 (dk_at dksX4_plainBars_0 3 rfl rfl)
theorem dX4_plainBars_6 : decode cX4_plainBars 6 = .ok (.iload_n 2, 1) := dk_28 (dk_at dksX4_plainBars_0 6 rfl rfl)
theorem dX4_plainBars_7 : decode cX4_plainBars 7 = .ok (.aload_n 0, 1) := dk_42 (dk_at dksX4_plainBars_0 7 rfl rfl)
theorem dX4_plainBars_8 : decode cX4_plainBars 8 = .ok (.getfield 78, 3) := dk_180 0 78 (dk_at dksX4_plainBars_0 8 rfl rfl)
theorem dX4_plainBars_11 : decode cX4_plainBars 11 = .ok (.iload_n 1, 1) := dk_27 (dk_at dksX4_plainBars_0 11 rfl rfl)
theorem dX4_plainBars_12 : decode cX4_plainBars 12 = .ok (.iaload, 1) := dk_46 (dk_at dksX4_plainBars_0 12 rfl rfl)
theorem dX4_plainBars_13 : decode cX4_plainBars 13 = .ok (.iadd, 1) := dk_96 (dk_at dksX4_plainBars_0 13 rfl rfl)
theorem dX4_plainBars_14 : decode cX4_plainBars 14 = .ok (.ireturn, 1) := dk_172 (dk_at dksX4_plainBars_0 14 rfl rfl)
abbrev cX4_hangsOf : ByteArray := prog_30_method_26_code
def yX4_hangsOf : MethodName := ⟨RX4, "hangsOf", "(III)I"⟩
def dkwX4_hangsOf_2 : List UInt8 := [27, 28, 29, 182, 1, 35, 172]
abbrev dktX4_hangsOf_2 : List UInt8 := dkwX4_hangsOf_2 ++ []
def dkwX4_hangsOf_1 : List UInt8 := [130, 172, 28, 8, 160, 0, 19, 42, 16, 60, 182, 1, 23, 42, 27, 28, 29, 6, 104, 182, 1, 35, 172, 42]
abbrev dktX4_hangsOf_1 : List UInt8 := dkwX4_hangsOf_1 ++ dktX4_hangsOf_2
def dkwX4_hangsOf_0 : List UInt8 := [42, 28, 4, 7, 182, 0, 3, 153, 0, 19, 42, 16, 20, 182, 1, 23, 42, 27, 28, 29, 182, 1, 35, 27]
abbrev dktX4_hangsOf_0 : List UInt8 := dkwX4_hangsOf_0 ++ dktX4_hangsOf_1
theorem dksX4_hangsOf_0 : cX4_hangsOf.data.toList.drop 0 = dktX4_hangsOf_0 := by decide +kernel
theorem dksX4_hangsOf_1 : cX4_hangsOf.data.toList.drop 24 = dktX4_hangsOf_1 := dk_seg dksX4_hangsOf_0 24 rfl rfl
theorem dksX4_hangsOf_2 : cX4_hangsOf.data.toList.drop 48 = dktX4_hangsOf_2 := dk_seg dksX4_hangsOf_1 24 rfl rfl
theorem dX4_hangsOf_0 : decode cX4_hangsOf 0 = .ok (.aload_n 0, 1) := dk_42 (dk_at dksX4_hangsOf_0 0 rfl rfl)
theorem dX4_hangsOf_1 : decode cX4_hangsOf 1 = .ok (.iload_n 2, 1) := dk_28 (dk_at dksX4_hangsOf_0 1 rfl rfl)
theorem dX4_hangsOf_2 : decode cX4_hangsOf 2 = .ok (.iconst 1, 1) := dk_4 (dk_at dksX4_hangsOf_0 2 rfl rfl)
theorem dX4_hangsOf_3 : decode cX4_hangsOf 3 = .ok (.iconst 4, 1) := dk_7 (dk_at dksX4_hangsOf_0 3 rfl rfl)
theorem dX4_hangsOf_4 : decode cX4_hangsOf 4 = .ok (.invokevirtual 3, 3) := dk_182 0 3 (dk_at dksX4_hangsOf_0 4 rfl rfl)
theorem dX4_hangsOf_7 : decode cX4_hangsOf 7 = .ok (.ifCond .eq 19, 3) := dk_153 0 19 (dk_at dksX4_hangsOf_0 7 rfl rfl)
theorem dX4_hangsOf_10 : decode cX4_hangsOf 10 = .ok (.aload_n 0, 1) := dk_42 (dk_at dksX4_hangsOf_0 10 rfl rfl)
theorem dX4_hangsOf_11 : decode cX4_hangsOf 11 = .ok (.bipush 20, 2) := dk_16 20 (dk_at dksX4_hangsOf_0 11 rfl rfl)
theorem dX4_hangsOf_13 : decode cX4_hangsOf 13 = .ok (.invokevirtual 279, 3) := dk_182 1 23 (dk_at dksX4_hangsOf_0 13 rfl rfl)
theorem dX4_hangsOf_16 : decode cX4_hangsOf 16 = .ok (.aload_n 0, 1) := dk_42 (dk_at dksX4_hangsOf_0 16 rfl rfl)
theorem dX4_hangsOf_17 : decode cX4_hangsOf 17 = .ok (.iload_n 1, 1) := dk_27 (dk_at dksX4_hangsOf_0 17 rfl rfl)
theorem dX4_hangsOf_18 : decode cX4_hangsOf 18 = .ok (.iload_n 2, 1) := dk_28 (dk_at dksX4_hangsOf_0 18 rfl rfl)
theorem dX4_hangsOf_19 : decode cX4_hangsOf 19 = .ok (.iload_n 3, 1) := dk_29 (dk_at dksX4_hangsOf_0 19 rfl rfl)
theorem dX4_hangsOf_20 : decode cX4_hangsOf 20 = .ok (.invokevirtual 291, 3) := dk_182 1 35 (dk_at dksX4_hangsOf_0 20 rfl rfl)
theorem dX4_hangsOf_23 : decode cX4_hangsOf 23 = .ok (.iload_n 1, 1) := dk_27 (dk_at dksX4_hangsOf_0 23 rfl rfl)
theorem dX4_hangsOf_24 : decode cX4_hangsOf 24 = .ok (.ixor, 1) := dk_130 (dk_at dksX4_hangsOf_1 0 rfl rfl)
theorem dX4_hangsOf_25 : decode cX4_hangsOf 25 = .ok (.ireturn, 1) := dk_172 (dk_at dksX4_hangsOf_1 1 rfl rfl)
theorem dX4_hangsOf_26 : decode cX4_hangsOf 26 = .ok (.iload_n 2, 1) := dk_28 (dk_at dksX4_hangsOf_1 2 rfl rfl)
theorem dX4_hangsOf_27 : decode cX4_hangsOf 27 = .ok (.iconst 5, 1) := dk_8 (dk_at dksX4_hangsOf_1 3 rfl rfl)
theorem dX4_hangsOf_28 : decode cX4_hangsOf 28 = .ok (.if_icmp .ne 19, 3) := dk_160 0 19 (dk_at dksX4_hangsOf_1 4 rfl rfl)
theorem dX4_hangsOf_31 : decode cX4_hangsOf 31 = .ok (.aload_n 0, 1) := dk_42 (dk_at dksX4_hangsOf_1 7 rfl rfl)
theorem dX4_hangsOf_32 : decode cX4_hangsOf 32 = .ok (.bipush 60, 2) := dk_16 60 (dk_at dksX4_hangsOf_1 8 rfl rfl)
theorem dX4_hangsOf_34 : decode cX4_hangsOf 34 = .ok (.invokevirtual 279, 3) := dk_182 1 23 (dk_at dksX4_hangsOf_1 10 rfl rfl)
theorem dX4_hangsOf_37 : decode cX4_hangsOf 37 = .ok (.aload_n 0, 1) := dk_42 (dk_at dksX4_hangsOf_1 13 rfl rfl)
theorem dX4_hangsOf_38 : decode cX4_hangsOf 38 = .ok (.iload_n 1, 1) := dk_27 (dk_at dksX4_hangsOf_1 14 rfl rfl)
theorem dX4_hangsOf_39 : decode cX4_hangsOf 39 = .ok (.iload_n 2, 1) := dk_28 (dk_at dksX4_hangsOf_1 15 rfl rfl)
theorem dX4_hangsOf_40 : decode cX4_hangsOf 40 = .ok (.iload_n 3, 1) := dk_29 (dk_at dksX4_hangsOf_1 16 rfl rfl)
theorem dX4_hangsOf_41 : decode cX4_hangsOf 41 = .ok (.iconst 3, 1) := dk_6 (dk_at dksX4_hangsOf_1 17 rfl rfl)
theorem dX4_hangsOf_42 : decode cX4_hangsOf 42 = .ok (.imul, 1) := dk_104 (dk_at dksX4_hangsOf_1 18 rfl rfl)
theorem dX4_hangsOf_43 : decode cX4_hangsOf 43 = .ok (.invokevirtual 291, 3) := dk_182 1 35 (dk_at dksX4_hangsOf_1 19 rfl rfl)
theorem dX4_hangsOf_46 : decode cX4_hangsOf 46 = .ok (.ireturn, 1) := dk_172 (dk_at dksX4_hangsOf_1 22 rfl rfl)
theorem dX4_hangsOf_47 : decode cX4_hangsOf 47 = .ok (.aload_n 0, 1) := dk_42 (dk_at dksX4_hangsOf_1 23 rfl rfl)
theorem dX4_hangsOf_48 : decode cX4_hangsOf 48 = .ok (.iload_n 1, 1) := dk_27 (dk_at dksX4_hangsOf_2 0 rfl rfl)
theorem dX4_hangsOf_49 : decode cX4_hangsOf 49 = .ok (.iload_n 2, 1) := dk_28 (dk_at dksX4_hangsOf_2 1 rfl rfl)
theorem dX4_hangsOf_50 : decode cX4_hangsOf 50 = .ok (.iload_n 3, 1) := dk_29 (dk_at dksX4_hangsOf_2 2 rfl rfl)
theorem dX4_hangsOf_51 : decode cX4_hangsOf 51 = .ok (.invokevirtual 291, 3) := dk_182 1 35 (dk_at dksX4_hangsOf_2 3 rfl rfl)
theorem dX4_hangsOf_54 : decode cX4_hangsOf 54 = .ok (.ireturn, 1) := dk_172 (dk_at dksX4_hangsOf_2 6 rfl rfl)
abbrev cX4_plainHangs : ByteArray := prog_30_method_25_code
def yX4_plainHangs : MethodName := ⟨RX4, "plainHangs", "(III)I"⟩
def dkwX4_plainHangs_0 : List UInt8 := [42, 16, 11, 182, 1, 23, 42, 27, 28, 29, 182, 1, 31, 42, 180, 0, 75, 27, 46, 100, 172]
abbrev dktX4_plainHangs_0 : List UInt8 := dkwX4_plainHangs_0 ++ []
theorem dksX4_plainHangs_0 : cX4_plainHangs.data.toList.drop 0 = dktX4_plainHangs_0 := by decide +kernel
theorem dX4_plainHangs_0 : decode cX4_plainHangs 0 = .ok (.aload_n 0, 1) := dk_42 (dk_at dksX4_plainHangs_0 0 rfl rfl)
theorem dX4_plainHangs_1 : decode cX4_plainHangs 1 = .ok (.bipush 11, 2) := dk_16 11 (dk_at dksX4_plainHangs_0 1 rfl rfl)
theorem dX4_plainHangs_3 : decode cX4_plainHangs 3 = .ok (.invokevirtual 279, 3) := dk_182 1 23 (dk_at dksX4_plainHangs_0 3 rfl rfl)
theorem dX4_plainHangs_6 : decode cX4_plainHangs 6 = .ok (.aload_n 0, 1) := dk_42 (dk_at dksX4_plainHangs_0 6 rfl rfl)
theorem dX4_plainHangs_7 : decode cX4_plainHangs 7 = .ok (.iload_n 1, 1) := dk_27 (dk_at dksX4_plainHangs_0 7 rfl rfl)
theorem dX4_plainHangs_8 : decode cX4_plainHangs 8 = .ok (.iload_n 2, 1) := dk_28 (dk_at dksX4_plainHangs_0 8 rfl rfl)
theorem dX4_plainHangs_9 : decode cX4_plainHangs 9 = .ok (.iload_n 3, 1) := dk_29 (dk_at dksX4_plainHangs_0 9 rfl rfl)
theorem dX4_plainHangs_10 : decode cX4_plainHangs 10 = .ok (.invokevirtual 287, 3) := dk_182 1 31 (dk_at dksX4_plainHangs_0 10 rfl rfl)
theorem dX4_plainHangs_13 : decode cX4_plainHangs 13 = .ok (.aload_n 0, 1) := dk_42 (dk_at dksX4_plainHangs_0 13 rfl rfl)
theorem dX4_plainHangs_14 : decode cX4_plainHangs 14 = .ok (.getfield 75, 3) := dk_180 0 75 (dk_at dksX4_plainHangs_0 14 rfl rfl)
theorem dX4_plainHangs_17 : decode cX4_plainHangs 17 = .ok (.iload_n 1, 1) := dk_27 (dk_at dksX4_plainHangs_0 17 rfl rfl)
theorem dX4_plainHangs_18 : decode cX4_plainHangs 18 = .ok (.iaload, 1) := dk_46 (dk_at dksX4_plainHangs_0 18 rfl rfl)
theorem dX4_plainHangs_19 : decode cX4_plainHangs 19 = .ok (.isub, 1) := dk_100 (dk_at dksX4_plainHangs_0 19 rfl rfl)
theorem dX4_plainHangs_20 : decode cX4_plainHangs 20 = .ok (.ireturn, 1) := dk_172 (dk_at dksX4_plainHangs_0 20 rfl rfl)
abbrev cX4_passesOf : ByteArray := prog_30_method_29_code
def yX4_passesOf : MethodName := ⟨RX4, "passesOf", "(III)I"⟩
def dkwX4_passesOf_3 : List UInt8 := [182, 1, 41, 130, 172, 42, 27, 28, 29, 182, 1, 41, 172]
abbrev dktX4_passesOf_3 : List UInt8 := dkwX4_passesOf_3 ++ []
def dkwX4_passesOf_2 : List UInt8 := [160, 0, 29, 42, 16, 70, 182, 1, 23, 42, 27, 28, 29, 182, 1, 31, 54, 4, 21, 4, 42, 27, 28, 29]
abbrev dktX4_passesOf_2 : List UInt8 := dkwX4_passesOf_2 ++ dktX4_passesOf_3
def dkwX4_passesOf_1 : List UInt8 := [42, 27, 28, 29, 182, 1, 44, 54, 4, 21, 4, 42, 27, 28, 4, 182, 1, 38, 100, 172, 28, 16, 6]
abbrev dktX4_passesOf_1 : List UInt8 := dkwX4_passesOf_1 ++ dktX4_passesOf_2
def dkwX4_passesOf_0 : List UInt8 := [28, 6, 160, 0, 11, 42, 27, 28, 29, 182, 1, 44, 172, 28, 7, 160, 0, 29, 42, 16, 50, 182, 1, 23]
abbrev dktX4_passesOf_0 : List UInt8 := dkwX4_passesOf_0 ++ dktX4_passesOf_1
theorem dksX4_passesOf_0 : cX4_passesOf.data.toList.drop 0 = dktX4_passesOf_0 := by decide +kernel
theorem dksX4_passesOf_1 : cX4_passesOf.data.toList.drop 24 = dktX4_passesOf_1 := dk_seg dksX4_passesOf_0 24 rfl rfl
theorem dksX4_passesOf_2 : cX4_passesOf.data.toList.drop 47 = dktX4_passesOf_2 := dk_seg dksX4_passesOf_1 23 rfl rfl
theorem dksX4_passesOf_3 : cX4_passesOf.data.toList.drop 71 = dktX4_passesOf_3 := dk_seg dksX4_passesOf_2 24 rfl rfl
theorem dX4_passesOf_0 : decode cX4_passesOf 0 = .ok (.iload_n 2, 1) := dk_28 (dk_at dksX4_passesOf_0 0 rfl rfl)
theorem dX4_passesOf_1 : decode cX4_passesOf 1 = .ok (.iconst 3, 1) := dk_6 (dk_at dksX4_passesOf_0 1 rfl rfl)
theorem dX4_passesOf_2 : decode cX4_passesOf 2 = .ok (.if_icmp .ne 11, 3) := dk_160 0 11 (dk_at dksX4_passesOf_0 2 rfl rfl)
theorem dX4_passesOf_5 : decode cX4_passesOf 5 = .ok (.aload_n 0, 1) := dk_42 (dk_at dksX4_passesOf_0 5 rfl rfl)
theorem dX4_passesOf_6 : decode cX4_passesOf 6 = .ok (.iload_n 1, 1) := dk_27 (dk_at dksX4_passesOf_0 6 rfl rfl)
theorem dX4_passesOf_7 : decode cX4_passesOf 7 = .ok (.iload_n 2, 1) := dk_28 (dk_at dksX4_passesOf_0 7 rfl rfl)
theorem dX4_passesOf_8 : decode cX4_passesOf 8 = .ok (.iload_n 3, 1) := dk_29 (dk_at dksX4_passesOf_0 8 rfl rfl)
theorem dX4_passesOf_9 : decode cX4_passesOf 9 = .ok (.invokevirtual 300, 3) := dk_182 1 44 (dk_at dksX4_passesOf_0 9 rfl rfl)
theorem dX4_passesOf_12 : decode cX4_passesOf 12 = .ok (.ireturn, 1) := dk_172 (dk_at dksX4_passesOf_0 12 rfl rfl)
theorem dX4_passesOf_13 : decode cX4_passesOf 13 = .ok (.iload_n 2, 1) := dk_28 (dk_at dksX4_passesOf_0 13 rfl rfl)
theorem dX4_passesOf_14 : decode cX4_passesOf 14 = .ok (.iconst 4, 1) := dk_7 (dk_at dksX4_passesOf_0 14 rfl rfl)
theorem dX4_passesOf_15 : decode cX4_passesOf 15 = .ok (.if_icmp .ne 29, 3) := dk_160 0 29 (dk_at dksX4_passesOf_0 15 rfl rfl)
theorem dX4_passesOf_18 : decode cX4_passesOf 18 = .ok (.aload_n 0, 1) := dk_42 (dk_at dksX4_passesOf_0 18 rfl rfl)
theorem dX4_passesOf_19 : decode cX4_passesOf 19 = .ok (.bipush 50, 2) := dk_16 50 (dk_at dksX4_passesOf_0 19 rfl rfl)
theorem dX4_passesOf_21 : decode cX4_passesOf 21 = .ok (.invokevirtual 279, 3) := dk_182 1 23 (dk_at dksX4_passesOf_0 21 rfl rfl)
theorem dX4_passesOf_24 : decode cX4_passesOf 24 = .ok (.aload_n 0, 1) := dk_42 (dk_at dksX4_passesOf_1 0 rfl rfl)
theorem dX4_passesOf_25 : decode cX4_passesOf 25 = .ok (.iload_n 1, 1) := dk_27 (dk_at dksX4_passesOf_1 1 rfl rfl)
theorem dX4_passesOf_26 : decode cX4_passesOf 26 = .ok (.iload_n 2, 1) := dk_28 (dk_at dksX4_passesOf_1 2 rfl rfl)
theorem dX4_passesOf_27 : decode cX4_passesOf 27 = .ok (.iload_n 3, 1) := dk_29 (dk_at dksX4_passesOf_1 3 rfl rfl)
theorem dX4_passesOf_28 : decode cX4_passesOf 28 = .ok (.invokevirtual 300, 3) := dk_182 1 44 (dk_at dksX4_passesOf_1 4 rfl rfl)
theorem dX4_passesOf_31 : decode cX4_passesOf 31 = .ok (.istore 4, 2) := dk_54 4 (dk_at dksX4_passesOf_1 7 rfl rfl)
theorem dX4_passesOf_33 : decode cX4_passesOf 33 = .ok (.iload 4, 2) := dk_21 4 (dk_at dksX4_passesOf_1 9 rfl rfl)
theorem dX4_passesOf_35 : decode cX4_passesOf 35 = .ok (.aload_n 0, 1) := dk_42 (dk_at dksX4_passesOf_1 11 rfl rfl)
theorem dX4_passesOf_36 : decode cX4_passesOf 36 = .ok (.iload_n 1, 1) := dk_27 (dk_at dksX4_passesOf_1 12 rfl rfl)
theorem dX4_passesOf_37 : decode cX4_passesOf 37 = .ok (.iload_n 2, 1) := dk_28 (dk_at dksX4_passesOf_1 13 rfl rfl)
theorem dX4_passesOf_38 : decode cX4_passesOf 38 = .ok (.iconst 1, 1) := dk_4 (dk_at dksX4_passesOf_1 14 rfl rfl)
theorem dX4_passesOf_39 : decode cX4_passesOf 39 = .ok (.invokevirtual 294, 3) := dk_182 1 38 (dk_at dksX4_passesOf_1 15 rfl rfl)
theorem dX4_passesOf_42 : decode cX4_passesOf 42 = .ok (.isub, 1) := dk_100 (dk_at dksX4_passesOf_1 18 rfl rfl)
theorem dX4_passesOf_43 : decode cX4_passesOf 43 = .ok (.ireturn, 1) := dk_172 (dk_at dksX4_passesOf_1 19 rfl rfl)
theorem dX4_passesOf_44 : decode cX4_passesOf 44 = .ok (.iload_n 2, 1) := dk_28 (dk_at dksX4_passesOf_1 20 rfl rfl)
theorem dX4_passesOf_45 : decode cX4_passesOf 45 = .ok (.bipush 6, 2) := dk_16 6 (dk_at dksX4_passesOf_1 21 rfl rfl)
theorem dX4_passesOf_47 : decode cX4_passesOf 47 = .ok (.if_icmp .ne 29, 3) := dk_160 0 29 (dk_at dksX4_passesOf_2 0 rfl rfl)
theorem dX4_passesOf_50 : decode cX4_passesOf 50 = .ok (.aload_n 0, 1) := dk_42 (dk_at dksX4_passesOf_2 3 rfl rfl)
theorem dX4_passesOf_51 : decode cX4_passesOf 51 = .ok (.bipush 70, 2) := dk_16 70 (dk_at dksX4_passesOf_2 4 rfl rfl)
theorem dX4_passesOf_53 : decode cX4_passesOf 53 = .ok (.invokevirtual 279, 3) := dk_182 1 23 (dk_at dksX4_passesOf_2 6 rfl rfl)
theorem dX4_passesOf_56 : decode cX4_passesOf 56 = .ok (.aload_n 0, 1) := dk_42 (dk_at dksX4_passesOf_2 9 rfl rfl)
theorem dX4_passesOf_57 : decode cX4_passesOf 57 = .ok (.iload_n 1, 1) := dk_27 (dk_at dksX4_passesOf_2 10 rfl rfl)
theorem dX4_passesOf_58 : decode cX4_passesOf 58 = .ok (.iload_n 2, 1) := dk_28 (dk_at dksX4_passesOf_2 11 rfl rfl)
theorem dX4_passesOf_59 : decode cX4_passesOf 59 = .ok (.iload_n 3, 1) := dk_29 (dk_at dksX4_passesOf_2 12 rfl rfl)
theorem dX4_passesOf_60 : decode cX4_passesOf 60 = .ok (.invokevirtual 287, 3) := dk_182 1 31 (dk_at dksX4_passesOf_2 13 rfl rfl)
theorem dX4_passesOf_63 : decode cX4_passesOf 63 = .ok (.istore 4, 2) := dk_54 4 (dk_at dksX4_passesOf_2 16 rfl rfl)
theorem dX4_passesOf_65 : decode cX4_passesOf 65 = .ok (.iload 4, 2) := dk_21 4 (dk_at dksX4_passesOf_2 18 rfl rfl)
theorem dX4_passesOf_67 : decode cX4_passesOf 67 = .ok (.aload_n 0, 1) := dk_42 (dk_at dksX4_passesOf_2 20 rfl rfl)
theorem dX4_passesOf_68 : decode cX4_passesOf 68 = .ok (.iload_n 1, 1) := dk_27 (dk_at dksX4_passesOf_2 21 rfl rfl)
theorem dX4_passesOf_69 : decode cX4_passesOf 69 = .ok (.iload_n 2, 1) := dk_28 (dk_at dksX4_passesOf_2 22 rfl rfl)
theorem dX4_passesOf_70 : decode cX4_passesOf 70 = .ok (.iload_n 3, 1) := dk_29 (dk_at dksX4_passesOf_2 23 rfl rfl)
theorem dX4_passesOf_71 : decode cX4_passesOf 71 = .ok (.invokevirtual 297, 3) := dk_182 1 41 (dk_at dksX4_passesOf_3 0 rfl rfl)
theorem dX4_passesOf_74 : decode cX4_passesOf 74 = .ok (.ixor, 1) := dk_130 (dk_at dksX4_passesOf_3 3 rfl rfl)
theorem dX4_passesOf_75 : decode cX4_passesOf 75 = .ok (.ireturn, 1) := dk_172 (dk_at dksX4_passesOf_3 4 rfl rfl)
theorem dX4_passesOf_76 : decode cX4_passesOf 76 = .ok (.aload_n 0, 1) := dk_42 (dk_at dksX4_passesOf_3 5 rfl rfl)
theorem dX4_passesOf_77 : decode cX4_passesOf 77 = .ok (.iload_n 1, 1) := dk_27 (dk_at dksX4_passesOf_3 6 rfl rfl)
theorem dX4_passesOf_78 : decode cX4_passesOf 78 = .ok (.iload_n 2, 1) := dk_28 (dk_at dksX4_passesOf_3 7 rfl rfl)
theorem dX4_passesOf_79 : decode cX4_passesOf 79 = .ok (.iload_n 3, 1) := dk_29 (dk_at dksX4_passesOf_3 8 rfl rfl)
theorem dX4_passesOf_80 : decode cX4_passesOf 80 = .ok (.invokevirtual 297, 3) := dk_182 1 41 (dk_at dksX4_passesOf_3 9 rfl rfl)
theorem dX4_passesOf_83 : decode cX4_passesOf 83 = .ok (.ireturn, 1) := dk_172 (dk_at dksX4_passesOf_3 12 rfl rfl)
abbrev cX4_struckPasses : ByteArray := prog_30_method_28_code
def yX4_struckPasses : MethodName := ⟨RX4, "struckPasses", "(III)I"⟩
def dkwX4_struckPasses_1 : List UInt8 := [96, 172]
abbrev dktX4_struckPasses_1 : List UInt8 := dkwX4_struckPasses_1 ++ []
def dkwX4_struckPasses_0 : List UInt8 := [42, 16, 40, 182, 1, 23, 42, 27, 28, 29, 182, 1, 41, 54, 4, 21, 4, 42, 27, 28, 29, 182, 1, 31]
abbrev dktX4_struckPasses_0 : List UInt8 := dkwX4_struckPasses_0 ++ dktX4_struckPasses_1
theorem dksX4_struckPasses_0 : cX4_struckPasses.data.toList.drop 0 = dktX4_struckPasses_0 := by decide +kernel
theorem dksX4_struckPasses_1 : cX4_struckPasses.data.toList.drop 24 = dktX4_struckPasses_1 := dk_seg dksX4_struckPasses_0 24 rfl rfl
theorem dX4_struckPasses_0 : decode cX4_struckPasses 0 = .ok (.aload_n 0, 1) := dk_42 (dk_at dksX4_struckPasses_0 0 rfl rfl)
theorem dX4_struckPasses_1 : decode cX4_struckPasses 1 = .ok (.bipush 40, 2) := dk_16 40 (dk_at dksX4_struckPasses_0 1 rfl rfl)
theorem dX4_struckPasses_3 : decode cX4_struckPasses 3 = .ok (.invokevirtual 279, 3) := dk_182 1 23 (dk_at dksX4_struckPasses_0 3 rfl rfl)
theorem dX4_struckPasses_6 : decode cX4_struckPasses 6 = .ok (.aload_n 0, 1) := dk_42 (dk_at dksX4_struckPasses_0 6 rfl rfl)
theorem dX4_struckPasses_7 : decode cX4_struckPasses 7 = .ok (.iload_n 1, 1) := dk_27 (dk_at dksX4_struckPasses_0 7 rfl rfl)
theorem dX4_struckPasses_8 : decode cX4_struckPasses 8 = .ok (.iload_n 2, 1) := dk_28 (dk_at dksX4_struckPasses_0 8 rfl rfl)
theorem dX4_struckPasses_9 : decode cX4_struckPasses 9 = .ok (.iload_n 3, 1) := dk_29 (dk_at dksX4_struckPasses_0 9 rfl rfl)
theorem dX4_struckPasses_10 : decode cX4_struckPasses 10 = .ok (.invokevirtual 297, 3) := dk_182 1 41 (dk_at dksX4_struckPasses_0 10 rfl rfl)
theorem dX4_struckPasses_13 : decode cX4_struckPasses 13 = .ok (.istore 4, 2) := dk_54 4 (dk_at dksX4_struckPasses_0 13 rfl rfl)
theorem dX4_struckPasses_15 : decode cX4_struckPasses 15 = .ok (.iload 4, 2) := dk_21 4 (dk_at dksX4_struckPasses_0 15 rfl rfl)
theorem dX4_struckPasses_17 : decode cX4_struckPasses 17 = .ok (.aload_n 0, 1) := dk_42 (dk_at dksX4_struckPasses_0 17 rfl rfl)
theorem dX4_struckPasses_18 : decode cX4_struckPasses 18 = .ok (.iload_n 1, 1) := dk_27 (dk_at dksX4_struckPasses_0 18 rfl rfl)
theorem dX4_struckPasses_19 : decode cX4_struckPasses 19 = .ok (.iload_n 2, 1) := dk_28 (dk_at dksX4_struckPasses_0 19 rfl rfl)
theorem dX4_struckPasses_20 : decode cX4_struckPasses 20 = .ok (.iload_n 3, 1) := dk_29 (dk_at dksX4_struckPasses_0 20 rfl rfl)
theorem dX4_struckPasses_21 : decode cX4_struckPasses 21 = .ok (.invokevirtual 287, 3) := dk_182 1 31 (dk_at dksX4_struckPasses_0 21 rfl rfl)
theorem dX4_struckPasses_24 : decode cX4_struckPasses 24 = .ok (.iadd, 1) := dk_96 (dk_at dksX4_struckPasses_1 0 rfl rfl)
theorem dX4_struckPasses_25 : decode cX4_struckPasses 25 = .ok (.ireturn, 1) := dk_172 (dk_at dksX4_struckPasses_1 1 rfl rfl)
abbrev cX4_plainPasses : ByteArray := prog_30_method_27_code
def yX4_plainPasses : MethodName := ⟨RX4, "plainPasses", "(III)I"⟩
def dkwX4_plainPasses_0 : List UInt8 := [42, 16, 12, 182, 1, 23, 42, 27, 28, 29, 182, 1, 38, 5, 104, 172]
abbrev dktX4_plainPasses_0 : List UInt8 := dkwX4_plainPasses_0 ++ []
theorem dksX4_plainPasses_0 : cX4_plainPasses.data.toList.drop 0 = dktX4_plainPasses_0 := by decide +kernel
theorem dX4_plainPasses_0 : decode cX4_plainPasses 0 = .ok (.aload_n 0, 1) := dk_42 (dk_at dksX4_plainPasses_0 0 rfl rfl)
theorem dX4_plainPasses_1 : decode cX4_plainPasses 1 = .ok (.bipush 12, 2) := dk_16 12 (dk_at dksX4_plainPasses_0 1 rfl rfl)
theorem dX4_plainPasses_3 : decode cX4_plainPasses 3 = .ok (.invokevirtual 279, 3) := dk_182 1 23 (dk_at dksX4_plainPasses_0 3 rfl rfl)
theorem dX4_plainPasses_6 : decode cX4_plainPasses 6 = .ok (.aload_n 0, 1) := dk_42 (dk_at dksX4_plainPasses_0 6 rfl rfl)
theorem dX4_plainPasses_7 : decode cX4_plainPasses 7 = .ok (.iload_n 1, 1) := dk_27 (dk_at dksX4_plainPasses_0 7 rfl rfl)
theorem dX4_plainPasses_8 : decode cX4_plainPasses 8 = .ok (.iload_n 2, 1) := dk_28 (dk_at dksX4_plainPasses_0 8 rfl rfl)
theorem dX4_plainPasses_9 : decode cX4_plainPasses 9 = .ok (.iload_n 3, 1) := dk_29 (dk_at dksX4_plainPasses_0 9 rfl rfl)
theorem dX4_plainPasses_10 : decode cX4_plainPasses 10 = .ok (.invokevirtual 294, 3) := dk_182 1 38 (dk_at dksX4_plainPasses_0 10 rfl rfl)
theorem dX4_plainPasses_13 : decode cX4_plainPasses 13 = .ok (.iconst 2, 1) := dk_5 (dk_at dksX4_plainPasses_0 13 rfl rfl)
theorem dX4_plainPasses_14 : decode cX4_plainPasses 14 = .ok (.imul, 1) := dk_104 (dk_at dksX4_plainPasses_0 14 rfl rfl)
theorem dX4_plainPasses_15 : decode cX4_plainPasses 15 = .ok (.ireturn, 1) := dk_172 (dk_at dksX4_plainPasses_0 15 rfl rfl)
abbrev cX4_trace : ByteArray := prog_30_method_31_code
def yX4_trace : MethodName := ⟨RX4, "trace", "(I)I"⟩
def dkwX4_trace_1 : List UInt8 := [46, 167, 0, 4, 2, 172]
abbrev dktX4_trace_1 : List UInt8 := dkwX4_trace_1 ++ []
def dkwX4_trace_0 : List UInt8 := [42, 27, 3, 16, 19, 182, 0, 3, 153, 0, 20, 27, 42, 180, 0, 69, 162, 0, 12, 42, 180, 0, 84, 27]
abbrev dktX4_trace_0 : List UInt8 := dkwX4_trace_0 ++ dktX4_trace_1
theorem dksX4_trace_0 : cX4_trace.data.toList.drop 0 = dktX4_trace_0 := by decide +kernel
theorem dksX4_trace_1 : cX4_trace.data.toList.drop 24 = dktX4_trace_1 := dk_seg dksX4_trace_0 24 rfl rfl
theorem dX4_trace_0 : decode cX4_trace 0 = .ok (.aload_n 0, 1) := dk_42 (dk_at dksX4_trace_0 0 rfl rfl)
theorem dX4_trace_1 : decode cX4_trace 1 = .ok (.iload_n 1, 1) := dk_27 (dk_at dksX4_trace_0 1 rfl rfl)
theorem dX4_trace_2 : decode cX4_trace 2 = .ok (.iconst 0, 1) := dk_3 (dk_at dksX4_trace_0 2 rfl rfl)
theorem dX4_trace_3 : decode cX4_trace 3 = .ok (.bipush 19, 2) := dk_16 19 (dk_at dksX4_trace_0 3 rfl rfl)
theorem dX4_trace_5 : decode cX4_trace 5 = .ok (.invokevirtual 3, 3) := dk_182 0 3 (dk_at dksX4_trace_0 5 rfl rfl)
theorem dX4_trace_8 : decode cX4_trace 8 = .ok (.ifCond .eq 20, 3) := dk_153 0 20 (dk_at dksX4_trace_0 8 rfl rfl)
theorem dX4_trace_11 : decode cX4_trace 11 = .ok (.iload_n 1, 1) := dk_27 (dk_at dksX4_trace_0 11 rfl rfl)
theorem dX4_trace_12 : decode cX4_trace 12 = .ok (.aload_n 0, 1) := dk_42 (dk_at dksX4_trace_0 12 rfl rfl)
theorem dX4_trace_13 : decode cX4_trace 13 = .ok (.getfield 69, 3) := dk_180 0 69 (dk_at dksX4_trace_0 13 rfl rfl)
theorem dX4_trace_16 : decode cX4_trace 16 = .ok (.if_icmp .ge 12, 3) := dk_162 0 12 (dk_at dksX4_trace_0 16 rfl rfl)
theorem dX4_trace_19 : decode cX4_trace 19 = .ok (.aload_n 0, 1) := dk_42 (dk_at dksX4_trace_0 19 rfl rfl)
theorem dX4_trace_20 : decode cX4_trace 20 = .ok (.getfield 84, 3) := dk_180 0 84 (dk_at dksX4_trace_0 20 rfl rfl)
theorem dX4_trace_23 : decode cX4_trace 23 = .ok (.iload_n 1, 1) := dk_27 (dk_at dksX4_trace_0 23 rfl rfl)
theorem dX4_trace_24 : decode cX4_trace 24 = .ok (.iaload, 1) := dk_46 (dk_at dksX4_trace_1 0 rfl rfl)
theorem dX4_trace_25 : decode cX4_trace 25 = .ok (.goto 4, 3) := dk_167 0 4 (dk_at dksX4_trace_1 1 rfl rfl)
theorem dX4_trace_28 : decode cX4_trace 28 = .ok (.iconst (-1), 1) := dk_2 (dk_at dksX4_trace_1 4 rfl rfl)
theorem dX4_trace_29 : decode cX4_trace 29 = .ok (.ireturn, 1) := dk_172 (dk_at dksX4_trace_1 5 rfl rfl)
abbrev cX4_taken : ByteArray := prog_30_method_32_code
def yX4_taken : MethodName := ⟨RX4, "taken", "(II)I"⟩
def dkwX4_taken_2 : List UInt8 := [7, 182, 0, 3, 154, 0, 13, 28, 6, 160, 0, 12, 29, 7, 160, 0, 7, 29, 167, 0, 5, 16, 244, 172]
abbrev dktX4_taken_2 : List UInt8 := dkwX4_taken_2 ++ []
def dkwX4_taken_1 : List UInt8 := [172, 42, 27, 182, 1, 20, 62, 28, 153, 0, 33, 29, 28, 159, 0, 28, 28, 4, 160, 0, 13, 42, 29, 5]
abbrev dktX4_taken_1 : List UInt8 := dkwX4_taken_1 ++ dktX4_taken_2
def dkwX4_taken_0 : List UInt8 := [42, 28, 3, 16, 6, 182, 0, 3, 154, 0, 6, 16, 254, 172, 42, 27, 182, 1, 17, 154, 0, 6, 16, 245]
abbrev dktX4_taken_0 : List UInt8 := dkwX4_taken_0 ++ dktX4_taken_1
theorem dksX4_taken_0 : cX4_taken.data.toList.drop 0 = dktX4_taken_0 := by decide +kernel
theorem dksX4_taken_1 : cX4_taken.data.toList.drop 24 = dktX4_taken_1 := dk_seg dksX4_taken_0 24 rfl rfl
theorem dksX4_taken_2 : cX4_taken.data.toList.drop 48 = dktX4_taken_2 := dk_seg dksX4_taken_1 24 rfl rfl
theorem dX4_taken_0 : decode cX4_taken 0 = .ok (.aload_n 0, 1) := dk_42 (dk_at dksX4_taken_0 0 rfl rfl)
theorem dX4_taken_1 : decode cX4_taken 1 = .ok (.iload_n 2, 1) := dk_28 (dk_at dksX4_taken_0 1 rfl rfl)
theorem dX4_taken_2 : decode cX4_taken 2 = .ok (.iconst 0, 1) := dk_3 (dk_at dksX4_taken_0 2 rfl rfl)
theorem dX4_taken_3 : decode cX4_taken 3 = .ok (.bipush 6, 2) := dk_16 6 (dk_at dksX4_taken_0 3 rfl rfl)
theorem dX4_taken_5 : decode cX4_taken 5 = .ok (.invokevirtual 3, 3) := dk_182 0 3 (dk_at dksX4_taken_0 5 rfl rfl)
theorem dX4_taken_8 : decode cX4_taken 8 = .ok (.ifCond .ne 6, 3) := dk_154 0 6 (dk_at dksX4_taken_0 8 rfl rfl)
theorem dX4_taken_11 : decode cX4_taken 11 = .ok (.bipush (-2), 2) := dk_16 254 (dk_at dksX4_taken_0 11 rfl rfl)
theorem dX4_taken_13 : decode cX4_taken 13 = .ok (.ireturn, 1) := dk_172 (dk_at dksX4_taken_0 13 rfl rfl)
theorem dX4_taken_14 : decode cX4_taken 14 = .ok (.aload_n 0, 1) := dk_42 (dk_at dksX4_taken_0 14 rfl rfl)
theorem dX4_taken_15 : decode cX4_taken 15 = .ok (.iload_n 1, 1) := dk_27 (dk_at dksX4_taken_0 15 rfl rfl)
theorem dX4_taken_16 : decode cX4_taken 16 = .ok (.invokevirtual 273, 3) := dk_182 1 17 (dk_at dksX4_taken_0 16 rfl rfl)
theorem dX4_taken_19 : decode cX4_taken 19 = .ok (.ifCond .ne 6, 3) := dk_154 0 6 (dk_at dksX4_taken_0 19 rfl rfl)
theorem dX4_taken_22 : decode cX4_taken 22 = .ok (.bipush (-11), 2) := dk_16 245 (dk_at dksX4_taken_0 22 rfl rfl)
theorem dX4_taken_24 : decode cX4_taken 24 = .ok (.ireturn, 1) := dk_172 (dk_at dksX4_taken_1 0 rfl rfl)
theorem dX4_taken_25 : decode cX4_taken 25 = .ok (.aload_n 0, 1) := dk_42 (dk_at dksX4_taken_1 1 rfl rfl)
theorem dX4_taken_26 : decode cX4_taken 26 = .ok (.iload_n 1, 1) := dk_27 (dk_at dksX4_taken_1 2 rfl rfl)
theorem dX4_taken_27 : decode cX4_taken 27 = .ok (.invokevirtual 276, 3) := dk_182 1 20 (dk_at dksX4_taken_1 3 rfl rfl)
theorem dX4_taken_30 : decode cX4_taken 30 = .ok (.istore_n 3, 1) := dk_62 (dk_at dksX4_taken_1 6 rfl rfl)
theorem dX4_taken_31 : decode cX4_taken 31 = .ok (.iload_n 2, 1) := dk_28 (dk_at dksX4_taken_1 7 rfl rfl)
theorem dX4_taken_32 : decode cX4_taken 32 = .ok (.ifCond .eq 33, 3) := dk_153 0 33 (dk_at dksX4_taken_1 8 rfl rfl)
theorem dX4_taken_35 : decode cX4_taken 35 = .ok (.iload_n 3, 1) := dk_29 (dk_at dksX4_taken_1 11 rfl rfl)
theorem dX4_taken_36 : decode cX4_taken 36 = .ok (.iload_n 2, 1) := dk_28 (dk_at dksX4_taken_1 12 rfl rfl)
theorem dX4_taken_37 : decode cX4_taken 37 = .ok (.if_icmp .eq 28, 3) := dk_159 0 28 (dk_at dksX4_taken_1 13 rfl rfl)
theorem dX4_taken_40 : decode cX4_taken 40 = .ok (.iload_n 2, 1) := dk_28 (dk_at dksX4_taken_1 16 rfl rfl)
theorem dX4_taken_41 : decode cX4_taken 41 = .ok (.iconst 1, 1) := dk_4 (dk_at dksX4_taken_1 17 rfl rfl)
theorem dX4_taken_42 : decode cX4_taken 42 = .ok (.if_icmp .ne 13, 3) := dk_160 0 13 (dk_at dksX4_taken_1 18 rfl rfl)
theorem dX4_taken_45 : decode cX4_taken 45 = .ok (.aload_n 0, 1) := dk_42 (dk_at dksX4_taken_1 21 rfl rfl)
theorem dX4_taken_46 : decode cX4_taken 46 = .ok (.iload_n 3, 1) := dk_29 (dk_at dksX4_taken_1 22 rfl rfl)
theorem dX4_taken_47 : decode cX4_taken 47 = .ok (.iconst 2, 1) := dk_5 (dk_at dksX4_taken_1 23 rfl rfl)
theorem dX4_taken_48 : decode cX4_taken 48 = .ok (.iconst 4, 1) := dk_7 (dk_at dksX4_taken_2 0 rfl rfl)
theorem dX4_taken_49 : decode cX4_taken 49 = .ok (.invokevirtual 3, 3) := dk_182 0 3 (dk_at dksX4_taken_2 1 rfl rfl)
theorem dX4_taken_52 : decode cX4_taken 52 = .ok (.ifCond .ne 13, 3) := dk_154 0 13 (dk_at dksX4_taken_2 4 rfl rfl)
theorem dX4_taken_55 : decode cX4_taken 55 = .ok (.iload_n 2, 1) := dk_28 (dk_at dksX4_taken_2 7 rfl rfl)
theorem dX4_taken_56 : decode cX4_taken 56 = .ok (.iconst 3, 1) := dk_6 (dk_at dksX4_taken_2 8 rfl rfl)
theorem dX4_taken_57 : decode cX4_taken 57 = .ok (.if_icmp .ne 12, 3) := dk_160 0 12 (dk_at dksX4_taken_2 9 rfl rfl)
theorem dX4_taken_60 : decode cX4_taken 60 = .ok (.iload_n 3, 1) := dk_29 (dk_at dksX4_taken_2 12 rfl rfl)
theorem dX4_taken_61 : decode cX4_taken 61 = .ok (.iconst 4, 1) := dk_7 (dk_at dksX4_taken_2 13 rfl rfl)
theorem dX4_taken_62 : decode cX4_taken 62 = .ok (.if_icmp .ne 7, 3) := dk_160 0 7 (dk_at dksX4_taken_2 14 rfl rfl)
theorem dX4_taken_65 : decode cX4_taken 65 = .ok (.iload_n 3, 1) := dk_29 (dk_at dksX4_taken_2 17 rfl rfl)
theorem dX4_taken_66 : decode cX4_taken 66 = .ok (.goto 5, 3) := dk_167 0 5 (dk_at dksX4_taken_2 18 rfl rfl)
theorem dX4_taken_69 : decode cX4_taken 69 = .ok (.bipush (-12), 2) := dk_16 244 (dk_at dksX4_taken_2 21 rfl rfl)
theorem dX4_taken_71 : decode cX4_taken 71 = .ok (.ireturn, 1) := dk_172 (dk_at dksX4_taken_2 23 rfl rfl)
abbrev cX4_feed : ByteArray := prog_30_method_33_code
def yX4_feed : MethodName := ⟨RX4, "feed", "(II)I"⟩
def dkwX4_feed_3 : List UInt8 := [180, 0, 97, 172]
abbrev dktX4_feed_3 : List UInt8 := dkwX4_feed_3 ++ []
def dkwX4_feed_2 : List UInt8 := [16, 8, 29, 104, 122, 145, 79, 42, 89, 180, 0, 97, 4, 96, 181, 0, 97, 132, 3, 255, 167, 255, 219, 42]
abbrev dktX4_feed_2 : List UInt8 := dkwX4_feed_2 ++ dktX4_feed_3
def dkwX4_feed_1 : List UInt8 := [16, 252, 172, 28, 4, 100, 62, 29, 155, 0, 39, 42, 180, 0, 106, 17, 11, 64, 42, 180, 0, 97, 96, 27]
abbrev dktX4_feed_1 : List UInt8 := dkwX4_feed_1 ++ dktX4_feed_2
def dkwX4_feed_0 : List UInt8 := [42, 28, 3, 7, 182, 0, 3, 154, 0, 6, 16, 254, 172, 42, 180, 0, 97, 28, 96, 16, 120, 164, 0, 6]
abbrev dktX4_feed_0 : List UInt8 := dkwX4_feed_0 ++ dktX4_feed_1
theorem dksX4_feed_0 : cX4_feed.data.toList.drop 0 = dktX4_feed_0 := by decide +kernel
theorem dksX4_feed_1 : cX4_feed.data.toList.drop 24 = dktX4_feed_1 := dk_seg dksX4_feed_0 24 rfl rfl
theorem dksX4_feed_2 : cX4_feed.data.toList.drop 48 = dktX4_feed_2 := dk_seg dksX4_feed_1 24 rfl rfl
theorem dksX4_feed_3 : cX4_feed.data.toList.drop 72 = dktX4_feed_3 := dk_seg dksX4_feed_2 24 rfl rfl
theorem dX4_feed_0 : decode cX4_feed 0 = .ok (.aload_n 0, 1) := dk_42 (dk_at dksX4_feed_0 0 rfl rfl)
theorem dX4_feed_1 : decode cX4_feed 1 = .ok (.iload_n 2, 1) := dk_28 (dk_at dksX4_feed_0 1 rfl rfl)
theorem dX4_feed_2 : decode cX4_feed 2 = .ok (.iconst 0, 1) := dk_3 (dk_at dksX4_feed_0 2 rfl rfl)
theorem dX4_feed_3 : decode cX4_feed 3 = .ok (.iconst 4, 1) := dk_7 (dk_at dksX4_feed_0 3 rfl rfl)
theorem dX4_feed_4 : decode cX4_feed 4 = .ok (.invokevirtual 3, 3) := dk_182 0 3 (dk_at dksX4_feed_0 4 rfl rfl)
theorem dX4_feed_7 : decode cX4_feed 7 = .ok (.ifCond .ne 6, 3) := dk_154 0 6 (dk_at dksX4_feed_0 7 rfl rfl)
theorem dX4_feed_10 : decode cX4_feed 10 = .ok (.bipush (-2), 2) := dk_16 254 (dk_at dksX4_feed_0 10 rfl rfl)
theorem dX4_feed_12 : decode cX4_feed 12 = .ok (.ireturn, 1) := dk_172 (dk_at dksX4_feed_0 12 rfl rfl)
theorem dX4_feed_13 : decode cX4_feed 13 = .ok (.aload_n 0, 1) := dk_42 (dk_at dksX4_feed_0 13 rfl rfl)
theorem dX4_feed_14 : decode cX4_feed 14 = .ok (.getfield 97, 3) := dk_180 0 97 (dk_at dksX4_feed_0 14 rfl rfl)
theorem dX4_feed_17 : decode cX4_feed 17 = .ok (.iload_n 2, 1) := dk_28 (dk_at dksX4_feed_0 17 rfl rfl)
theorem dX4_feed_18 : decode cX4_feed 18 = .ok (.iadd, 1) := dk_96 (dk_at dksX4_feed_0 18 rfl rfl)
theorem dX4_feed_19 : decode cX4_feed 19 = .ok (.bipush 120, 2) := dk_16 120 (dk_at dksX4_feed_0 19 rfl rfl)
theorem dX4_feed_21 : decode cX4_feed 21 = .ok (.if_icmp .le 6, 3) := dk_164 0 6 (dk_at dksX4_feed_0 21 rfl rfl)
theorem dX4_feed_24 : decode cX4_feed 24 = .ok (.bipush (-4), 2) := dk_16 252 (dk_at dksX4_feed_1 0 rfl rfl)
theorem dX4_feed_26 : decode cX4_feed 26 = .ok (.ireturn, 1) := dk_172 (dk_at dksX4_feed_1 2 rfl rfl)
theorem dX4_feed_27 : decode cX4_feed 27 = .ok (.iload_n 2, 1) := dk_28 (dk_at dksX4_feed_1 3 rfl rfl)
theorem dX4_feed_28 : decode cX4_feed 28 = .ok (.iconst 1, 1) := dk_4 (dk_at dksX4_feed_1 4 rfl rfl)
theorem dX4_feed_29 : decode cX4_feed 29 = .ok (.isub, 1) := dk_100 (dk_at dksX4_feed_1 5 rfl rfl)
theorem dX4_feed_30 : decode cX4_feed 30 = .ok (.istore_n 3, 1) := dk_62 (dk_at dksX4_feed_1 6 rfl rfl)
theorem dX4_feed_31 : decode cX4_feed 31 = .ok (.iload_n 3, 1) := dk_29 (dk_at dksX4_feed_1 7 rfl rfl)
theorem dX4_feed_32 : decode cX4_feed 32 = .ok (.ifCond .lt 39, 3) := dk_155 0 39 (dk_at dksX4_feed_1 8 rfl rfl)
theorem dX4_feed_35 : decode cX4_feed 35 = .ok (.aload_n 0, 1) := dk_42 (dk_at dksX4_feed_1 11 rfl rfl)
theorem dX4_feed_36 : decode cX4_feed 36 = .ok (.getfield 106, 3) := dk_180 0 106 (dk_at dksX4_feed_1 12 rfl rfl)
theorem dX4_feed_39 : decode cX4_feed 39 = .ok (.sipush 2880, 3) := dk_17 11 64 (dk_at dksX4_feed_1 15 rfl rfl)
theorem dX4_feed_42 : decode cX4_feed 42 = .ok (.aload_n 0, 1) := dk_42 (dk_at dksX4_feed_1 18 rfl rfl)
theorem dX4_feed_43 : decode cX4_feed 43 = .ok (.getfield 97, 3) := dk_180 0 97 (dk_at dksX4_feed_1 19 rfl rfl)
theorem dX4_feed_46 : decode cX4_feed 46 = .ok (.iadd, 1) := dk_96 (dk_at dksX4_feed_1 22 rfl rfl)
theorem dX4_feed_47 : decode cX4_feed 47 = .ok (.iload_n 1, 1) := dk_27 (dk_at dksX4_feed_1 23 rfl rfl)
theorem dX4_feed_48 : decode cX4_feed 48 = .ok (.bipush 8, 2) := dk_16 8 (dk_at dksX4_feed_2 0 rfl rfl)
theorem dX4_feed_50 : decode cX4_feed 50 = .ok (.iload_n 3, 1) := dk_29 (dk_at dksX4_feed_2 2 rfl rfl)
theorem dX4_feed_51 : decode cX4_feed 51 = .ok (.imul, 1) := dk_104 (dk_at dksX4_feed_2 3 rfl rfl)
theorem dX4_feed_52 : decode cX4_feed 52 = .ok (.ishr, 1) := dk_122 (dk_at dksX4_feed_2 4 rfl rfl)
theorem dX4_feed_53 : decode cX4_feed 53 = .ok (.i2b, 1) := dk_145 (dk_at dksX4_feed_2 5 rfl rfl)
theorem dX4_feed_54 : decode cX4_feed 54 = .ok (.iastore, 1) := dk_79 (dk_at dksX4_feed_2 6 rfl rfl)
theorem dX4_feed_55 : decode cX4_feed 55 = .ok (.aload_n 0, 1) := dk_42 (dk_at dksX4_feed_2 7 rfl rfl)
theorem dX4_feed_56 : decode cX4_feed 56 = .ok (.dup, 1) := dk_89 (dk_at dksX4_feed_2 8 rfl rfl)
theorem dX4_feed_57 : decode cX4_feed 57 = .ok (.getfield 97, 3) := dk_180 0 97 (dk_at dksX4_feed_2 9 rfl rfl)
theorem dX4_feed_60 : decode cX4_feed 60 = .ok (.iconst 1, 1) := dk_4 (dk_at dksX4_feed_2 12 rfl rfl)
theorem dX4_feed_61 : decode cX4_feed 61 = .ok (.iadd, 1) := dk_96 (dk_at dksX4_feed_2 13 rfl rfl)
theorem dX4_feed_62 : decode cX4_feed 62 = .ok (.putfield 97, 3) := dk_181 0 97 (dk_at dksX4_feed_2 14 rfl rfl)
theorem dX4_feed_65 : decode cX4_feed 65 = .ok (.iinc 3 (-1), 3) := dk_132 3 255 (dk_at dksX4_feed_2 17 rfl rfl)
theorem dX4_feed_68 : decode cX4_feed 68 = .ok (.goto (-37), 3) := dk_167 255 219 (dk_at dksX4_feed_2 20 rfl rfl)
theorem dX4_feed_71 : decode cX4_feed 71 = .ok (.aload_n 0, 1) := dk_42 (dk_at dksX4_feed_2 23 rfl rfl)
theorem dX4_feed_72 : decode cX4_feed 72 = .ok (.getfield 97, 3) := dk_180 0 97 (dk_at dksX4_feed_3 0 rfl rfl)
theorem dX4_feed_75 : decode cX4_feed 75 = .ok (.ireturn, 1) := dk_172 (dk_at dksX4_feed_3 3 rfl rfl)
abbrev cX4_decree : ByteArray := prog_30_method_53_code
def yX4_decree : MethodName := ⟨RX4, "decree", "()I"⟩
def dkwX4_decree_3 : List UInt8 := [42, 180, 0, 91, 4, 100, 172]
abbrev dktX4_decree_3 : List UInt8 := dkwX4_decree_3 ++ []
def dkwX4_decree_2 : List UInt8 := [180, 0, 13, 79, 42, 180, 0, 103, 42, 180, 0, 91, 2, 79, 42, 89, 180, 0, 91, 4, 96, 181, 0, 91]
abbrev dktX4_decree_2 : List UInt8 := dkwX4_decree_2 ++ dktX4_decree_3
def dkwX4_decree_1 : List UInt8 := [180, 0, 136, 100, 172, 42, 42, 180, 0, 91, 182, 1, 126, 42, 180, 0, 100, 42, 180, 0, 91, 42]
abbrev dktX4_decree_1 : List UInt8 := dkwX4_decree_1 ++ dktX4_decree_2
def dkwX4_decree_0 : List UInt8 := [42, 180, 0, 91, 16, 16, 160, 0, 6, 16, 252, 172, 42, 182, 1, 123, 154, 0, 11, 16, 246, 42]
abbrev dktX4_decree_0 : List UInt8 := dkwX4_decree_0 ++ dktX4_decree_1
theorem dksX4_decree_0 : cX4_decree.data.toList.drop 0 = dktX4_decree_0 := by decide +kernel
theorem dksX4_decree_1 : cX4_decree.data.toList.drop 22 = dktX4_decree_1 := dk_seg dksX4_decree_0 22 rfl rfl
theorem dksX4_decree_2 : cX4_decree.data.toList.drop 44 = dktX4_decree_2 := dk_seg dksX4_decree_1 22 rfl rfl
theorem dksX4_decree_3 : cX4_decree.data.toList.drop 68 = dktX4_decree_3 := dk_seg dksX4_decree_2 24 rfl rfl
theorem dX4_decree_0 : decode cX4_decree 0 = .ok (.aload_n 0, 1) := dk_42 (dk_at dksX4_decree_0 0 rfl rfl)
theorem dX4_decree_1 : decode cX4_decree 1 = .ok (.getfield 91, 3) := dk_180 0 91 (dk_at dksX4_decree_0 1 rfl rfl)
theorem dX4_decree_4 : decode cX4_decree 4 = .ok (.bipush 16, 2) := dk_16 16 (dk_at dksX4_decree_0 4 rfl rfl)
theorem dX4_decree_6 : decode cX4_decree 6 = .ok (.if_icmp .ne 6, 3) := dk_160 0 6 (dk_at dksX4_decree_0 6 rfl rfl)
theorem dX4_decree_9 : decode cX4_decree 9 = .ok (.bipush (-4), 2) := dk_16 252 (dk_at dksX4_decree_0 9 rfl rfl)
theorem dX4_decree_11 : decode cX4_decree 11 = .ok (.ireturn, 1) := dk_172 (dk_at dksX4_decree_0 11 rfl rfl)
theorem dX4_decree_12 : decode cX4_decree 12 = .ok (.aload_n 0, 1) := dk_42 (dk_at dksX4_decree_0 12 rfl rfl)
theorem dX4_decree_13 : decode cX4_decree 13 = .ok (.invokevirtual 379, 3) := dk_182 1 123 (dk_at dksX4_decree_0 13 rfl rfl)
theorem dX4_decree_16 : decode cX4_decree 16 = .ok (.ifCond .ne 11, 3) := dk_154 0 11 (dk_at dksX4_decree_0 16 rfl rfl)
theorem dX4_decree_19 : decode cX4_decree 19 = .ok (.bipush (-10), 2) := dk_16 246 (dk_at dksX4_decree_0 19 rfl rfl)
theorem dX4_decree_21 : decode cX4_decree 21 = .ok (.aload_n 0, 1) := dk_42 (dk_at dksX4_decree_0 21 rfl rfl)
theorem dX4_decree_22 : decode cX4_decree 22 = .ok (.getfield 136, 3) := dk_180 0 136 (dk_at dksX4_decree_1 0 rfl rfl)
theorem dX4_decree_25 : decode cX4_decree 25 = .ok (.isub, 1) := dk_100 (dk_at dksX4_decree_1 3 rfl rfl)
theorem dX4_decree_26 : decode cX4_decree 26 = .ok (.ireturn, 1) := dk_172 (dk_at dksX4_decree_1 4 rfl rfl)
theorem dX4_decree_27 : decode cX4_decree 27 = .ok (.aload_n 0, 1) := dk_42 (dk_at dksX4_decree_1 5 rfl rfl)
theorem dX4_decree_28 : decode cX4_decree 28 = .ok (.aload_n 0, 1) := dk_42 (dk_at dksX4_decree_1 6 rfl rfl)
theorem dX4_decree_29 : decode cX4_decree 29 = .ok (.getfield 91, 3) := dk_180 0 91 (dk_at dksX4_decree_1 7 rfl rfl)
theorem dX4_decree_32 : decode cX4_decree 32 = .ok (.invokevirtual 382, 3) := dk_182 1 126 (dk_at dksX4_decree_1 10 rfl rfl)
theorem dX4_decree_35 : decode cX4_decree 35 = .ok (.aload_n 0, 1) := dk_42 (dk_at dksX4_decree_1 13 rfl rfl)
theorem dX4_decree_36 : decode cX4_decree 36 = .ok (.getfield 100, 3) := dk_180 0 100 (dk_at dksX4_decree_1 14 rfl rfl)
theorem dX4_decree_39 : decode cX4_decree 39 = .ok (.aload_n 0, 1) := dk_42 (dk_at dksX4_decree_1 17 rfl rfl)
theorem dX4_decree_40 : decode cX4_decree 40 = .ok (.getfield 91, 3) := dk_180 0 91 (dk_at dksX4_decree_1 18 rfl rfl)
theorem dX4_decree_43 : decode cX4_decree 43 = .ok (.aload_n 0, 1) := dk_42 (dk_at dksX4_decree_1 21 rfl rfl)
theorem dX4_decree_44 : decode cX4_decree 44 = .ok (.getfield 13, 3) := dk_180 0 13 (dk_at dksX4_decree_2 0 rfl rfl)
theorem dX4_decree_47 : decode cX4_decree 47 = .ok (.iastore, 1) := dk_79 (dk_at dksX4_decree_2 3 rfl rfl)
theorem dX4_decree_48 : decode cX4_decree 48 = .ok (.aload_n 0, 1) := dk_42 (dk_at dksX4_decree_2 4 rfl rfl)
theorem dX4_decree_49 : decode cX4_decree 49 = .ok (.getfield 103, 3) := dk_180 0 103 (dk_at dksX4_decree_2 5 rfl rfl)
theorem dX4_decree_52 : decode cX4_decree 52 = .ok (.aload_n 0, 1) := dk_42 (dk_at dksX4_decree_2 8 rfl rfl)
theorem dX4_decree_53 : decode cX4_decree 53 = .ok (.getfield 91, 3) := dk_180 0 91 (dk_at dksX4_decree_2 9 rfl rfl)
theorem dX4_decree_56 : decode cX4_decree 56 = .ok (.iconst (-1), 1) := dk_2 (dk_at dksX4_decree_2 12 rfl rfl)
theorem dX4_decree_57 : decode cX4_decree 57 = .ok (.iastore, 1) := dk_79 (dk_at dksX4_decree_2 13 rfl rfl)
theorem dX4_decree_58 : decode cX4_decree 58 = .ok (.aload_n 0, 1) := dk_42 (dk_at dksX4_decree_2 14 rfl rfl)
theorem dX4_decree_59 : decode cX4_decree 59 = .ok (.dup, 1) := dk_89 (dk_at dksX4_decree_2 15 rfl rfl)
theorem dX4_decree_60 : decode cX4_decree 60 = .ok (.getfield 91, 3) := dk_180 0 91 (dk_at dksX4_decree_2 16 rfl rfl)
theorem dX4_decree_63 : decode cX4_decree 63 = .ok (.iconst 1, 1) := dk_4 (dk_at dksX4_decree_2 19 rfl rfl)
theorem dX4_decree_64 : decode cX4_decree 64 = .ok (.iadd, 1) := dk_96 (dk_at dksX4_decree_2 20 rfl rfl)
theorem dX4_decree_65 : decode cX4_decree 65 = .ok (.putfield 91, 3) := dk_181 0 91 (dk_at dksX4_decree_2 21 rfl rfl)
theorem dX4_decree_68 : decode cX4_decree 68 = .ok (.aload_n 0, 1) := dk_42 (dk_at dksX4_decree_3 0 rfl rfl)
theorem dX4_decree_69 : decode cX4_decree 69 = .ok (.getfield 91, 3) := dk_180 0 91 (dk_at dksX4_decree_3 1 rfl rfl)
theorem dX4_decree_72 : decode cX4_decree 72 = .ok (.iconst 1, 1) := dk_4 (dk_at dksX4_decree_3 4 rfl rfl)
theorem dX4_decree_73 : decode cX4_decree 73 = .ok (.isub, 1) := dk_100 (dk_at dksX4_decree_3 5 rfl rfl)
theorem dX4_decree_74 : decode cX4_decree 74 = .ok (.ireturn, 1) := dk_172 (dk_at dksX4_decree_3 6 rfl rfl)
abbrev cX4_isText : ByteArray := prog_30_method_51_code
def yX4_isText : MethodName := ⟨RX4, "isText", "()Z"⟩
def dkwX4_isText_1 : List UInt8 := [16, 24, 182, 1, 120, 172]
abbrev dktX4_isText_1 : List UInt8 := dkwX4_isText_1 ++ []
def dkwX4_isText_0 : List UInt8 := [42, 180, 0, 109, 16, 24, 42, 180, 0, 97, 79, 42, 3, 181, 0, 97, 42, 2, 2, 2, 182, 1, 116, 42]
abbrev dktX4_isText_0 : List UInt8 := dkwX4_isText_0 ++ dktX4_isText_1
theorem dksX4_isText_0 : cX4_isText.data.toList.drop 0 = dktX4_isText_0 := by decide +kernel
theorem dksX4_isText_1 : cX4_isText.data.toList.drop 24 = dktX4_isText_1 := dk_seg dksX4_isText_0 24 rfl rfl
theorem dX4_isText_0 : decode cX4_isText 0 = .ok (.aload_n 0, 1) := dk_42 (dk_at dksX4_isText_0 0 rfl rfl)
theorem dX4_isText_1 : decode cX4_isText 1 = .ok (.getfield 109, 3) := dk_180 0 109 (dk_at dksX4_isText_0 1 rfl rfl)
theorem dX4_isText_4 : decode cX4_isText 4 = .ok (.bipush 24, 2) := dk_16 24 (dk_at dksX4_isText_0 4 rfl rfl)
theorem dX4_isText_6 : decode cX4_isText 6 = .ok (.aload_n 0, 1) := dk_42 (dk_at dksX4_isText_0 6 rfl rfl)
theorem dX4_isText_7 : decode cX4_isText 7 = .ok (.getfield 97, 3) := dk_180 0 97 (dk_at dksX4_isText_0 7 rfl rfl)
theorem dX4_isText_10 : decode cX4_isText 10 = .ok (.iastore, 1) := dk_79 (dk_at dksX4_isText_0 10 rfl rfl)
theorem dX4_isText_11 : decode cX4_isText 11 = .ok (.aload_n 0, 1) := dk_42 (dk_at dksX4_isText_0 11 rfl rfl)
theorem dX4_isText_12 : decode cX4_isText 12 = .ok (.iconst 0, 1) := dk_3 (dk_at dksX4_isText_0 12 rfl rfl)
theorem dX4_isText_13 : decode cX4_isText 13 = .ok (.putfield 97, 3) := dk_181 0 97 (dk_at dksX4_isText_0 13 rfl rfl)
theorem dX4_isText_16 : decode cX4_isText 16 = .ok (.aload_n 0, 1) := dk_42 (dk_at dksX4_isText_0 16 rfl rfl)
theorem dX4_isText_17 : decode cX4_isText 17 = .ok (.iconst (-1), 1) := dk_2 (dk_at dksX4_isText_0 17 rfl rfl)
theorem dX4_isText_18 : decode cX4_isText 18 = .ok (.iconst (-1), 1) := dk_2 (dk_at dksX4_isText_0 18 rfl rfl)
theorem dX4_isText_19 : decode cX4_isText 19 = .ok (.iconst (-1), 1) := dk_2 (dk_at dksX4_isText_0 19 rfl rfl)
theorem dX4_isText_20 : decode cX4_isText 20 = .ok (.invokevirtual 372, 3) := dk_182 1 116 (dk_at dksX4_isText_0 20 rfl rfl)
theorem dX4_isText_23 : decode cX4_isText 23 = .ok (.aload_n 0, 1) := dk_42 (dk_at dksX4_isText_0 23 rfl rfl)
theorem dX4_isText_24 : decode cX4_isText 24 = .ok (.bipush 24, 2) := dk_16 24 (dk_at dksX4_isText_1 0 rfl rfl)
theorem dX4_isText_26 : decode cX4_isText 26 = .ok (.invokevirtual 376, 3) := dk_182 1 120 (dk_at dksX4_isText_1 2 rfl rfl)
theorem dX4_isText_29 : decode cX4_isText 29 = .ok (.ireturn, 1) := dk_172 (dk_at dksX4_isText_1 5 rfl rfl)
abbrev cX4_asks : ByteArray := prog_30_method_50_code
def yX4_asks : MethodName := ⟨RX4, "asks", "(III)V"⟩
def dkwX4_asks_1 : List UInt8 := [181, 0, 124, 42, 3, 181, 0, 139, 42, 3, 181, 0, 143, 177]
abbrev dktX4_asks_1 : List UInt8 := dkwX4_asks_1 ++ []
def dkwX4_asks_0 : List UInt8 := [42, 27, 181, 0, 112, 42, 28, 181, 0, 115, 42, 29, 181, 0, 118, 42, 2, 181, 0, 121, 42, 3]
abbrev dktX4_asks_0 : List UInt8 := dkwX4_asks_0 ++ dktX4_asks_1
theorem dksX4_asks_0 : cX4_asks.data.toList.drop 0 = dktX4_asks_0 := by decide +kernel
theorem dksX4_asks_1 : cX4_asks.data.toList.drop 22 = dktX4_asks_1 := dk_seg dksX4_asks_0 22 rfl rfl
theorem dX4_asks_0 : decode cX4_asks 0 = .ok (.aload_n 0, 1) := dk_42 (dk_at dksX4_asks_0 0 rfl rfl)
theorem dX4_asks_1 : decode cX4_asks 1 = .ok (.iload_n 1, 1) := dk_27 (dk_at dksX4_asks_0 1 rfl rfl)
theorem dX4_asks_2 : decode cX4_asks 2 = .ok (.putfield 112, 3) := dk_181 0 112 (dk_at dksX4_asks_0 2 rfl rfl)
theorem dX4_asks_5 : decode cX4_asks 5 = .ok (.aload_n 0, 1) := dk_42 (dk_at dksX4_asks_0 5 rfl rfl)
theorem dX4_asks_6 : decode cX4_asks 6 = .ok (.iload_n 2, 1) := dk_28 (dk_at dksX4_asks_0 6 rfl rfl)
theorem dX4_asks_7 : decode cX4_asks 7 = .ok (.putfield 115, 3) := dk_181 0 115 (dk_at dksX4_asks_0 7 rfl rfl)
theorem dX4_asks_10 : decode cX4_asks 10 = .ok (.aload_n 0, 1) := dk_42 (dk_at dksX4_asks_0 10 rfl rfl)
theorem dX4_asks_11 : decode cX4_asks 11 = .ok (.iload_n 3, 1) := dk_29 (dk_at dksX4_asks_0 11 rfl rfl)
theorem dX4_asks_12 : decode cX4_asks 12 = .ok (.putfield 118, 3) := dk_181 0 118 (dk_at dksX4_asks_0 12 rfl rfl)
theorem dX4_asks_15 : decode cX4_asks 15 = .ok (.aload_n 0, 1) := dk_42 (dk_at dksX4_asks_0 15 rfl rfl)
theorem dX4_asks_16 : decode cX4_asks 16 = .ok (.iconst (-1), 1) := dk_2 (dk_at dksX4_asks_0 16 rfl rfl)
theorem dX4_asks_17 : decode cX4_asks 17 = .ok (.putfield 121, 3) := dk_181 0 121 (dk_at dksX4_asks_0 17 rfl rfl)
theorem dX4_asks_20 : decode cX4_asks 20 = .ok (.aload_n 0, 1) := dk_42 (dk_at dksX4_asks_0 20 rfl rfl)
theorem dX4_asks_21 : decode cX4_asks 21 = .ok (.iconst 0, 1) := dk_3 (dk_at dksX4_asks_0 21 rfl rfl)
theorem dX4_asks_22 : decode cX4_asks 22 = .ok (.putfield 124, 3) := dk_181 0 124 (dk_at dksX4_asks_1 0 rfl rfl)
theorem dX4_asks_25 : decode cX4_asks 25 = .ok (.aload_n 0, 1) := dk_42 (dk_at dksX4_asks_1 3 rfl rfl)
theorem dX4_asks_26 : decode cX4_asks 26 = .ok (.iconst 0, 1) := dk_3 (dk_at dksX4_asks_1 4 rfl rfl)
theorem dX4_asks_27 : decode cX4_asks 27 = .ok (.putfield 139, 3) := dk_181 0 139 (dk_at dksX4_asks_1 5 rfl rfl)
theorem dX4_asks_30 : decode cX4_asks 30 = .ok (.aload_n 0, 1) := dk_42 (dk_at dksX4_asks_1 8 rfl rfl)
theorem dX4_asks_31 : decode cX4_asks 31 = .ok (.iconst 0, 1) := dk_3 (dk_at dksX4_asks_1 9 rfl rfl)
theorem dX4_asks_32 : decode cX4_asks 32 = .ok (.putfield 143, 3) := dk_181 0 143 (dk_at dksX4_asks_1 10 rfl rfl)
theorem dX4_asks_35 : decode cX4_asks 35 = .ok (.return_, 1) := dk_177 (dk_at dksX4_asks_1 13 rfl rfl)
abbrev cX4_goes : ByteArray := prog_30_method_49_code
def yX4_goes : MethodName := ⟨RX4, "goes", "(I)Z"⟩
def dkwX4_goes_3 : List UInt8 := [182, 1, 56, 154, 255, 209, 3, 172]
abbrev dktX4_goes_3 : List UInt8 := dkwX4_goes_3 ++ []
def dkwX4_goes_2 : List UInt8 := [180, 0, 136, 42, 180, 0, 133, 160, 0, 5, 4, 172, 42, 180, 0, 127, 16, 8, 159, 0, 12, 42, 16, 59]
abbrev dktX4_goes_2 : List UInt8 := dkwX4_goes_2 ++ dktX4_goes_3
def dkwX4_goes_1 : List UInt8 := [3, 181, 0, 127, 42, 182, 1, 113, 154, 0, 5, 3, 172, 42, 89, 180, 0, 127, 4, 96, 181, 0, 127, 42]
abbrev dktX4_goes_1 : List UInt8 := dkwX4_goes_1 ++ dktX4_goes_2
def dkwX4_goes_0 : List UInt8 := [42, 16, 120, 27, 104, 181, 0, 130, 42, 42, 180, 0, 109, 27, 46, 181, 0, 133, 42, 3, 181, 0, 136, 42]
abbrev dktX4_goes_0 : List UInt8 := dkwX4_goes_0 ++ dktX4_goes_1
theorem dksX4_goes_0 : cX4_goes.data.toList.drop 0 = dktX4_goes_0 := by decide +kernel
theorem dksX4_goes_1 : cX4_goes.data.toList.drop 24 = dktX4_goes_1 := dk_seg dksX4_goes_0 24 rfl rfl
theorem dksX4_goes_2 : cX4_goes.data.toList.drop 48 = dktX4_goes_2 := dk_seg dksX4_goes_1 24 rfl rfl
theorem dksX4_goes_3 : cX4_goes.data.toList.drop 72 = dktX4_goes_3 := dk_seg dksX4_goes_2 24 rfl rfl
theorem dX4_goes_0 : decode cX4_goes 0 = .ok (.aload_n 0, 1) := dk_42 (dk_at dksX4_goes_0 0 rfl rfl)
theorem dX4_goes_1 : decode cX4_goes 1 = .ok (.bipush 120, 2) := dk_16 120 (dk_at dksX4_goes_0 1 rfl rfl)
theorem dX4_goes_3 : decode cX4_goes 3 = .ok (.iload_n 1, 1) := dk_27 (dk_at dksX4_goes_0 3 rfl rfl)
theorem dX4_goes_4 : decode cX4_goes 4 = .ok (.imul, 1) := dk_104 (dk_at dksX4_goes_0 4 rfl rfl)
theorem dX4_goes_5 : decode cX4_goes 5 = .ok (.putfield 130, 3) := dk_181 0 130 (dk_at dksX4_goes_0 5 rfl rfl)
theorem dX4_goes_8 : decode cX4_goes 8 = .ok (.aload_n 0, 1) := dk_42 (dk_at dksX4_goes_0 8 rfl rfl)
theorem dX4_goes_9 : decode cX4_goes 9 = .ok (.aload_n 0, 1) := dk_42 (dk_at dksX4_goes_0 9 rfl rfl)
theorem dX4_goes_10 : decode cX4_goes 10 = .ok (.getfield 109, 3) := dk_180 0 109 (dk_at dksX4_goes_0 10 rfl rfl)
theorem dX4_goes_13 : decode cX4_goes 13 = .ok (.iload_n 1, 1) := dk_27 (dk_at dksX4_goes_0 13 rfl rfl)
theorem dX4_goes_14 : decode cX4_goes 14 = .ok (.iaload, 1) := dk_46 (dk_at dksX4_goes_0 14 rfl rfl)
theorem dX4_goes_15 : decode cX4_goes 15 = .ok (.putfield 133, 3) := dk_181 0 133 (dk_at dksX4_goes_0 15 rfl rfl)
theorem dX4_goes_18 : decode cX4_goes 18 = .ok (.aload_n 0, 1) := dk_42 (dk_at dksX4_goes_0 18 rfl rfl)
theorem dX4_goes_19 : decode cX4_goes 19 = .ok (.iconst 0, 1) := dk_3 (dk_at dksX4_goes_0 19 rfl rfl)
theorem dX4_goes_20 : decode cX4_goes 20 = .ok (.putfield 136, 3) := dk_181 0 136 (dk_at dksX4_goes_0 20 rfl rfl)
theorem dX4_goes_23 : decode cX4_goes 23 = .ok (.aload_n 0, 1) := dk_42 (dk_at dksX4_goes_0 23 rfl rfl)
theorem dX4_goes_24 : decode cX4_goes 24 = .ok (.iconst 0, 1) := dk_3 (dk_at dksX4_goes_1 0 rfl rfl)
theorem dX4_goes_25 : decode cX4_goes 25 = .ok (.putfield 127, 3) := dk_181 0 127 (dk_at dksX4_goes_1 1 rfl rfl)
theorem dX4_goes_28 : decode cX4_goes 28 = .ok (.aload_n 0, 1) := dk_42 (dk_at dksX4_goes_1 4 rfl rfl)
theorem dX4_goes_29 : decode cX4_goes 29 = .ok (.invokevirtual 369, 3) := dk_182 1 113 (dk_at dksX4_goes_1 5 rfl rfl)
theorem dX4_goes_32 : decode cX4_goes 32 = .ok (.ifCond .ne 5, 3) := dk_154 0 5 (dk_at dksX4_goes_1 8 rfl rfl)
theorem dX4_goes_35 : decode cX4_goes 35 = .ok (.iconst 0, 1) := dk_3 (dk_at dksX4_goes_1 11 rfl rfl)
theorem dX4_goes_36 : decode cX4_goes 36 = .ok (.ireturn, 1) := dk_172 (dk_at dksX4_goes_1 12 rfl rfl)
theorem dX4_goes_37 : decode cX4_goes 37 = .ok (.aload_n 0, 1) := dk_42 (dk_at dksX4_goes_1 13 rfl rfl)
theorem dX4_goes_38 : decode cX4_goes 38 = .ok (.dup, 1) := dk_89 (dk_at dksX4_goes_1 14 rfl rfl)
theorem dX4_goes_39 : decode cX4_goes 39 = .ok (.getfield 127, 3) := dk_180 0 127 (dk_at dksX4_goes_1 15 rfl rfl)
theorem dX4_goes_42 : decode cX4_goes 42 = .ok (.iconst 1, 1) := dk_4 (dk_at dksX4_goes_1 18 rfl rfl)
theorem dX4_goes_43 : decode cX4_goes 43 = .ok (.iadd, 1) := dk_96 (dk_at dksX4_goes_1 19 rfl rfl)
theorem dX4_goes_44 : decode cX4_goes 44 = .ok (.putfield 127, 3) := dk_181 0 127 (dk_at dksX4_goes_1 20 rfl rfl)
theorem dX4_goes_47 : decode cX4_goes 47 = .ok (.aload_n 0, 1) := dk_42 (dk_at dksX4_goes_1 23 rfl rfl)
theorem dX4_goes_48 : decode cX4_goes 48 = .ok (.getfield 136, 3) := dk_180 0 136 (dk_at dksX4_goes_2 0 rfl rfl)
theorem dX4_goes_51 : decode cX4_goes 51 = .ok (.aload_n 0, 1) := dk_42 (dk_at dksX4_goes_2 3 rfl rfl)
theorem dX4_goes_52 : decode cX4_goes 52 = .ok (.getfield 133, 3) := dk_180 0 133 (dk_at dksX4_goes_2 4 rfl rfl)
theorem dX4_goes_55 : decode cX4_goes 55 = .ok (.if_icmp .ne 5, 3) := dk_160 0 5 (dk_at dksX4_goes_2 7 rfl rfl)
theorem dX4_goes_58 : decode cX4_goes 58 = .ok (.iconst 1, 1) := dk_4 (dk_at dksX4_goes_2 10 rfl rfl)
theorem dX4_goes_59 : decode cX4_goes 59 = .ok (.ireturn, 1) := dk_172 (dk_at dksX4_goes_2 11 rfl rfl)
theorem dX4_goes_60 : decode cX4_goes 60 = .ok (.aload_n 0, 1) := dk_42 (dk_at dksX4_goes_2 12 rfl rfl)
theorem dX4_goes_61 : decode cX4_goes 61 = .ok (.getfield 127, 3) := dk_180 0 127 (dk_at dksX4_goes_2 13 rfl rfl)
theorem dX4_goes_64 : decode cX4_goes 64 = .ok (.bipush 8, 2) := dk_16 8 (dk_at dksX4_goes_2 16 rfl rfl)
theorem dX4_goes_66 : decode cX4_goes 66 = .ok (.if_icmp .eq 12, 3) := dk_159 0 12 (dk_at dksX4_goes_2 18 rfl rfl)
theorem dX4_goes_69 : decode cX4_goes 69 = .ok (.aload_n 0, 1) := dk_42 (dk_at dksX4_goes_2 21 rfl rfl)
theorem dX4_goes_70 : decode cX4_goes 70 = .ok (.bipush 59, 2) := dk_16 59 (dk_at dksX4_goes_2 22 rfl rfl)
theorem dX4_goes_72 : decode cX4_goes 72 = .ok (.invokevirtual 312, 3) := dk_182 1 56 (dk_at dksX4_goes_3 0 rfl rfl)
theorem dX4_goes_75 : decode cX4_goes 75 = .ok (.ifCond .ne (-47), 3) := dk_154 255 209 (dk_at dksX4_goes_3 3 rfl rfl)
theorem dX4_goes_78 : decode cX4_goes 78 = .ok (.iconst 0, 1) := dk_3 (dk_at dksX4_goes_3 6 rfl rfl)
theorem dX4_goes_79 : decode cX4_goes 79 = .ok (.ireturn, 1) := dk_172 (dk_at dksX4_goes_3 7 rfl rfl)
abbrev cX4_takesClause : ByteArray := prog_30_method_48_code
def yX4_takesClause : MethodName := ⟨RX4, "takesClause", "()Z"⟩
def dkwX4_takesClause_9 : List UInt8 := [182, 1, 56, 153, 0, 14, 42, 182, 1, 110, 153, 0, 7, 4, 167, 0, 4, 3, 172, 3, 172]
abbrev dktX4_takesClause_9 : List UInt8 := dkwX4_takesClause_9 ++ []
def dkwX4_takesClause_8 : List UInt8 := [160, 0, 8, 42, 182, 1, 105, 172, 42, 20, 1, 108, 7, 182, 1, 91, 153, 0, 23, 42, 16, 32]
abbrev dktX4_takesClause_8 : List UInt8 := dkwX4_takesClause_8 ++ dktX4_takesClause_9
def dkwX4_takesClause_7 : List UInt8 := [182, 1, 97, 153, 0, 7, 4, 167, 0, 4, 3, 172, 42, 3, 3, 182, 1, 97, 172, 27, 16, 101]
abbrev dktX4_takesClause_7 : List UInt8 := dkwX4_takesClause_7 ++ dktX4_takesClause_8
def dkwX4_takesClause_6 : List UInt8 := [182, 1, 50, 16, 97, 160, 0, 30, 42, 20, 1, 95, 16, 6, 182, 1, 91, 153, 0, 16, 42, 4, 3]
abbrev dktX4_takesClause_6 : List UInt8 := dkwX4_takesClause_6 ++ dktX4_takesClause_7
def dkwX4_takesClause_5 : List UInt8 := [153, 0, 7, 4, 167, 0, 4, 3, 172, 42, 20, 1, 103, 7, 182, 1, 91, 154, 0, 5, 3, 172, 42]
abbrev dktX4_takesClause_5 : List UInt8 := dkwX4_takesClause_5 ++ dktX4_takesClause_6
def dkwX4_takesClause_4 : List UInt8 := [167, 0, 4, 3, 172, 42, 20, 1, 101, 8, 182, 1, 91, 153, 0, 16, 42, 3, 4, 182, 1, 97]
abbrev dktX4_takesClause_4 : List UInt8 := dkwX4_takesClause_4 ++ dktX4_takesClause_5
def dkwX4_takesClause_3 : List UInt8 := [42, 20, 1, 95, 16, 6, 182, 1, 91, 153, 0, 16, 42, 4, 4, 182, 1, 97, 153, 0, 7, 4]
abbrev dktX4_takesClause_3 : List UInt8 := dkwX4_takesClause_3 ++ dktX4_takesClause_4
def dkwX4_takesClause_2 : List UInt8 := [171, 0, 0, 0, 0, 195, 0, 0, 0, 4, 0, 0, 0, 97, 0, 0, 0, 42, 0, 0, 0, 102, 0, 0, 0, 95, 0, 0, 0, 108, 0, 0, 0, 151, 0, 0, 0, 116, 0, 0, 0, 69]
abbrev dktX4_takesClause_2 : List UInt8 := dkwX4_takesClause_2 ++ dktX4_takesClause_3
def dkwX4_takesClause_1 : List UInt8 := [180, 0, 136, 96, 4, 96, 46, 167, 0, 4, 2, 60, 42, 182, 1, 50]
abbrev dktX4_takesClause_1 : List UInt8 := dkwX4_takesClause_1 ++ dktX4_takesClause_2
def dkwX4_takesClause_0 : List UInt8 := [42, 180, 0, 136, 4, 96, 42, 180, 0, 133, 162, 0, 22, 42, 180, 0, 106, 42, 180, 0, 130, 42]
abbrev dktX4_takesClause_0 : List UInt8 := dkwX4_takesClause_0 ++ dktX4_takesClause_1
theorem dksX4_takesClause_0 : cX4_takesClause.data.toList.drop 0 = dktX4_takesClause_0 := by decide +kernel
theorem dksX4_takesClause_1 : cX4_takesClause.data.toList.drop 22 = dktX4_takesClause_1 := dk_seg dksX4_takesClause_0 22 rfl rfl
theorem dksX4_takesClause_2 : cX4_takesClause.data.toList.drop 38 = dktX4_takesClause_2 := dk_seg dksX4_takesClause_1 16 rfl rfl
theorem dksX4_takesClause_3 : cX4_takesClause.data.toList.drop 80 = dktX4_takesClause_3 := dk_seg dksX4_takesClause_2 42 rfl rfl
theorem dksX4_takesClause_4 : cX4_takesClause.data.toList.drop 102 = dktX4_takesClause_4 := dk_seg dksX4_takesClause_3 22 rfl rfl
theorem dksX4_takesClause_5 : cX4_takesClause.data.toList.drop 124 = dktX4_takesClause_5 := dk_seg dksX4_takesClause_4 22 rfl rfl
theorem dksX4_takesClause_6 : cX4_takesClause.data.toList.drop 147 = dktX4_takesClause_6 := dk_seg dksX4_takesClause_5 23 rfl rfl
theorem dksX4_takesClause_7 : cX4_takesClause.data.toList.drop 170 = dktX4_takesClause_7 := dk_seg dksX4_takesClause_6 23 rfl rfl
theorem dksX4_takesClause_8 : cX4_takesClause.data.toList.drop 192 = dktX4_takesClause_8 := dk_seg dksX4_takesClause_7 22 rfl rfl
theorem dksX4_takesClause_9 : cX4_takesClause.data.toList.drop 214 = dktX4_takesClause_9 := dk_seg dksX4_takesClause_8 22 rfl rfl
theorem dX4_takesClause_0 : decode cX4_takesClause 0 = .ok (.aload_n 0, 1) := dk_42 (dk_at dksX4_takesClause_0 0 rfl rfl)
theorem dX4_takesClause_1 : decode cX4_takesClause 1 = .ok (.getfield 136, 3) := dk_180 0 136 (dk_at dksX4_takesClause_0 1 rfl rfl)
theorem dX4_takesClause_4 : decode cX4_takesClause 4 = .ok (.iconst 1, 1) := dk_4 (dk_at dksX4_takesClause_0 4 rfl rfl)
theorem dX4_takesClause_5 : decode cX4_takesClause 5 = .ok (.iadd, 1) := dk_96 (dk_at dksX4_takesClause_0 5 rfl rfl)
theorem dX4_takesClause_6 : decode cX4_takesClause 6 = .ok (.aload_n 0, 1) := dk_42 (dk_at dksX4_takesClause_0 6 rfl rfl)
theorem dX4_takesClause_7 : decode cX4_takesClause 7 = .ok (.getfield 133, 3) := dk_180 0 133 (dk_at dksX4_takesClause_0 7 rfl rfl)
theorem dX4_takesClause_10 : decode cX4_takesClause 10 = .ok (.if_icmp .ge 22, 3) := dk_162 0 22 (dk_at dksX4_takesClause_0 10 rfl rfl)
theorem dX4_takesClause_13 : decode cX4_takesClause 13 = .ok (.aload_n 0, 1) := dk_42 (dk_at dksX4_takesClause_0 13 rfl rfl)
theorem dX4_takesClause_14 : decode cX4_takesClause 14 = .ok (.getfield 106, 3) := dk_180 0 106 (dk_at dksX4_takesClause_0 14 rfl rfl)
theorem dX4_takesClause_17 : decode cX4_takesClause 17 = .ok (.aload_n 0, 1) := dk_42 (dk_at dksX4_takesClause_0 17 rfl rfl)
theorem dX4_takesClause_18 : decode cX4_takesClause 18 = .ok (.getfield 130, 3) := dk_180 0 130 (dk_at dksX4_takesClause_0 18 rfl rfl)
theorem dX4_takesClause_21 : decode cX4_takesClause 21 = .ok (.aload_n 0, 1) := dk_42 (dk_at dksX4_takesClause_0 21 rfl rfl)
theorem dX4_takesClause_22 : decode cX4_takesClause 22 = .ok (.getfield 136, 3) := dk_180 0 136 (dk_at dksX4_takesClause_1 0 rfl rfl)
theorem dX4_takesClause_25 : decode cX4_takesClause 25 = .ok (.iadd, 1) := dk_96 (dk_at dksX4_takesClause_1 3 rfl rfl)
theorem dX4_takesClause_26 : decode cX4_takesClause 26 = .ok (.iconst 1, 1) := dk_4 (dk_at dksX4_takesClause_1 4 rfl rfl)
theorem dX4_takesClause_27 : decode cX4_takesClause 27 = .ok (.iadd, 1) := dk_96 (dk_at dksX4_takesClause_1 5 rfl rfl)
theorem dX4_takesClause_28 : decode cX4_takesClause 28 = .ok (.iaload, 1) := dk_46 (dk_at dksX4_takesClause_1 6 rfl rfl)
theorem dX4_takesClause_29 : decode cX4_takesClause 29 = .ok (.goto 4, 3) := dk_167 0 4 (dk_at dksX4_takesClause_1 7 rfl rfl)
theorem dX4_takesClause_32 : decode cX4_takesClause 32 = .ok (.iconst (-1), 1) := dk_2 (dk_at dksX4_takesClause_1 10 rfl rfl)
theorem dX4_takesClause_33 : decode cX4_takesClause 33 = .ok (.istore_n 1, 1) := dk_60 (dk_at dksX4_takesClause_1 11 rfl rfl)
theorem dX4_takesClause_34 : decode cX4_takesClause 34 = .ok (.aload_n 0, 1) := dk_42 (dk_at dksX4_takesClause_1 12 rfl rfl)
theorem dX4_takesClause_35 : decode cX4_takesClause 35 = .ok (.invokevirtual 306, 3) := dk_182 1 50 (dk_at dksX4_takesClause_1 13 rfl rfl)
theorem dX4_takesClause_38 : decode cX4_takesClause 38 = .ok (.lookupswitch 195 #[(97, 42), (102, 95), (108, 151), (116, 69)], 42) := by decide +kernel
theorem dX4_takesClause_80 : decode cX4_takesClause 80 = .ok (.aload_n 0, 1) := dk_42 (dk_at dksX4_takesClause_3 0 rfl rfl)
theorem dX4_takesClause_81 : decode cX4_takesClause 81 = .ok (.ldc2_w 351, 3) := dk_20 1 95 (dk_at dksX4_takesClause_3 1 rfl rfl)
theorem dX4_takesClause_84 : decode cX4_takesClause 84 = .ok (.bipush 6, 2) := dk_16 6 (dk_at dksX4_takesClause_3 4 rfl rfl)
theorem dX4_takesClause_86 : decode cX4_takesClause 86 = .ok (.invokevirtual 347, 3) := dk_182 1 91 (dk_at dksX4_takesClause_3 6 rfl rfl)
theorem dX4_takesClause_89 : decode cX4_takesClause 89 = .ok (.ifCond .eq 16, 3) := dk_153 0 16 (dk_at dksX4_takesClause_3 9 rfl rfl)
theorem dX4_takesClause_92 : decode cX4_takesClause 92 = .ok (.aload_n 0, 1) := dk_42 (dk_at dksX4_takesClause_3 12 rfl rfl)
theorem dX4_takesClause_93 : decode cX4_takesClause 93 = .ok (.iconst 1, 1) := dk_4 (dk_at dksX4_takesClause_3 13 rfl rfl)
theorem dX4_takesClause_94 : decode cX4_takesClause 94 = .ok (.iconst 1, 1) := dk_4 (dk_at dksX4_takesClause_3 14 rfl rfl)
theorem dX4_takesClause_95 : decode cX4_takesClause 95 = .ok (.invokevirtual 353, 3) := dk_182 1 97 (dk_at dksX4_takesClause_3 15 rfl rfl)
theorem dX4_takesClause_98 : decode cX4_takesClause 98 = .ok (.ifCond .eq 7, 3) := dk_153 0 7 (dk_at dksX4_takesClause_3 18 rfl rfl)
theorem dX4_takesClause_101 : decode cX4_takesClause 101 = .ok (.iconst 1, 1) := dk_4 (dk_at dksX4_takesClause_3 21 rfl rfl)
theorem dX4_takesClause_102 : decode cX4_takesClause 102 = .ok (.goto 4, 3) := dk_167 0 4 (dk_at dksX4_takesClause_4 0 rfl rfl)
theorem dX4_takesClause_105 : decode cX4_takesClause 105 = .ok (.iconst 0, 1) := dk_3 (dk_at dksX4_takesClause_4 3 rfl rfl)
theorem dX4_takesClause_106 : decode cX4_takesClause 106 = .ok (.ireturn, 1) := dk_172 (dk_at dksX4_takesClause_4 4 rfl rfl)
theorem dX4_takesClause_107 : decode cX4_takesClause 107 = .ok (.aload_n 0, 1) := dk_42 (dk_at dksX4_takesClause_4 5 rfl rfl)
theorem dX4_takesClause_108 : decode cX4_takesClause 108 = .ok (.ldc2_w 357, 3) := dk_20 1 101 (dk_at dksX4_takesClause_4 6 rfl rfl)
theorem dX4_takesClause_111 : decode cX4_takesClause 111 = .ok (.iconst 5, 1) := dk_8 (dk_at dksX4_takesClause_4 9 rfl rfl)
theorem dX4_takesClause_112 : decode cX4_takesClause 112 = .ok (.invokevirtual 347, 3) := dk_182 1 91 (dk_at dksX4_takesClause_4 10 rfl rfl)
theorem dX4_takesClause_115 : decode cX4_takesClause 115 = .ok (.ifCond .eq 16, 3) := dk_153 0 16 (dk_at dksX4_takesClause_4 13 rfl rfl)
theorem dX4_takesClause_118 : decode cX4_takesClause 118 = .ok (.aload_n 0, 1) := dk_42 (dk_at dksX4_takesClause_4 16 rfl rfl)
theorem dX4_takesClause_119 : decode cX4_takesClause 119 = .ok (.iconst 0, 1) := dk_3 (dk_at dksX4_takesClause_4 17 rfl rfl)
theorem dX4_takesClause_120 : decode cX4_takesClause 120 = .ok (.iconst 1, 1) := dk_4 (dk_at dksX4_takesClause_4 18 rfl rfl)
theorem dX4_takesClause_121 : decode cX4_takesClause 121 = .ok (.invokevirtual 353, 3) := dk_182 1 97 (dk_at dksX4_takesClause_4 19 rfl rfl)
theorem dX4_takesClause_124 : decode cX4_takesClause 124 = .ok (.ifCond .eq 7, 3) := dk_153 0 7 (dk_at dksX4_takesClause_5 0 rfl rfl)
theorem dX4_takesClause_127 : decode cX4_takesClause 127 = .ok (.iconst 1, 1) := dk_4 (dk_at dksX4_takesClause_5 3 rfl rfl)
theorem dX4_takesClause_128 : decode cX4_takesClause 128 = .ok (.goto 4, 3) := dk_167 0 4 (dk_at dksX4_takesClause_5 4 rfl rfl)
theorem dX4_takesClause_131 : decode cX4_takesClause 131 = .ok (.iconst 0, 1) := dk_3 (dk_at dksX4_takesClause_5 7 rfl rfl)
theorem dX4_takesClause_132 : decode cX4_takesClause 132 = .ok (.ireturn, 1) := dk_172 (dk_at dksX4_takesClause_5 8 rfl rfl)
theorem dX4_takesClause_133 : decode cX4_takesClause 133 = .ok (.aload_n 0, 1) := dk_42 (dk_at dksX4_takesClause_5 9 rfl rfl)
theorem dX4_takesClause_134 : decode cX4_takesClause 134 = .ok (.ldc2_w 359, 3) := dk_20 1 103 (dk_at dksX4_takesClause_5 10 rfl rfl)
theorem dX4_takesClause_137 : decode cX4_takesClause 137 = .ok (.iconst 4, 1) := dk_7 (dk_at dksX4_takesClause_5 13 rfl rfl)
theorem dX4_takesClause_138 : decode cX4_takesClause 138 = .ok (.invokevirtual 347, 3) := dk_182 1 91 (dk_at dksX4_takesClause_5 14 rfl rfl)
theorem dX4_takesClause_141 : decode cX4_takesClause 141 = .ok (.ifCond .ne 5, 3) := dk_154 0 5 (dk_at dksX4_takesClause_5 17 rfl rfl)
theorem dX4_takesClause_144 : decode cX4_takesClause 144 = .ok (.iconst 0, 1) := dk_3 (dk_at dksX4_takesClause_5 20 rfl rfl)
theorem dX4_takesClause_145 : decode cX4_takesClause 145 = .ok (.ireturn, 1) := dk_172 (dk_at dksX4_takesClause_5 21 rfl rfl)
theorem dX4_takesClause_146 : decode cX4_takesClause 146 = .ok (.aload_n 0, 1) := dk_42 (dk_at dksX4_takesClause_5 22 rfl rfl)
theorem dX4_takesClause_147 : decode cX4_takesClause 147 = .ok (.invokevirtual 306, 3) := dk_182 1 50 (dk_at dksX4_takesClause_6 0 rfl rfl)
theorem dX4_takesClause_150 : decode cX4_takesClause 150 = .ok (.bipush 97, 2) := dk_16 97 (dk_at dksX4_takesClause_6 3 rfl rfl)
theorem dX4_takesClause_152 : decode cX4_takesClause 152 = .ok (.if_icmp .ne 30, 3) := dk_160 0 30 (dk_at dksX4_takesClause_6 5 rfl rfl)
theorem dX4_takesClause_155 : decode cX4_takesClause 155 = .ok (.aload_n 0, 1) := dk_42 (dk_at dksX4_takesClause_6 8 rfl rfl)
theorem dX4_takesClause_156 : decode cX4_takesClause 156 = .ok (.ldc2_w 351, 3) := dk_20 1 95 (dk_at dksX4_takesClause_6 9 rfl rfl)
theorem dX4_takesClause_159 : decode cX4_takesClause 159 = .ok (.bipush 6, 2) := dk_16 6 (dk_at dksX4_takesClause_6 12 rfl rfl)
theorem dX4_takesClause_161 : decode cX4_takesClause 161 = .ok (.invokevirtual 347, 3) := dk_182 1 91 (dk_at dksX4_takesClause_6 14 rfl rfl)
theorem dX4_takesClause_164 : decode cX4_takesClause 164 = .ok (.ifCond .eq 16, 3) := dk_153 0 16 (dk_at dksX4_takesClause_6 17 rfl rfl)
theorem dX4_takesClause_167 : decode cX4_takesClause 167 = .ok (.aload_n 0, 1) := dk_42 (dk_at dksX4_takesClause_6 20 rfl rfl)
theorem dX4_takesClause_168 : decode cX4_takesClause 168 = .ok (.iconst 1, 1) := dk_4 (dk_at dksX4_takesClause_6 21 rfl rfl)
theorem dX4_takesClause_169 : decode cX4_takesClause 169 = .ok (.iconst 0, 1) := dk_3 (dk_at dksX4_takesClause_6 22 rfl rfl)
theorem dX4_takesClause_170 : decode cX4_takesClause 170 = .ok (.invokevirtual 353, 3) := dk_182 1 97 (dk_at dksX4_takesClause_7 0 rfl rfl)
theorem dX4_takesClause_173 : decode cX4_takesClause 173 = .ok (.ifCond .eq 7, 3) := dk_153 0 7 (dk_at dksX4_takesClause_7 3 rfl rfl)
theorem dX4_takesClause_176 : decode cX4_takesClause 176 = .ok (.iconst 1, 1) := dk_4 (dk_at dksX4_takesClause_7 6 rfl rfl)
theorem dX4_takesClause_177 : decode cX4_takesClause 177 = .ok (.goto 4, 3) := dk_167 0 4 (dk_at dksX4_takesClause_7 7 rfl rfl)
theorem dX4_takesClause_180 : decode cX4_takesClause 180 = .ok (.iconst 0, 1) := dk_3 (dk_at dksX4_takesClause_7 10 rfl rfl)
theorem dX4_takesClause_181 : decode cX4_takesClause 181 = .ok (.ireturn, 1) := dk_172 (dk_at dksX4_takesClause_7 11 rfl rfl)
theorem dX4_takesClause_182 : decode cX4_takesClause 182 = .ok (.aload_n 0, 1) := dk_42 (dk_at dksX4_takesClause_7 12 rfl rfl)
theorem dX4_takesClause_183 : decode cX4_takesClause 183 = .ok (.iconst 0, 1) := dk_3 (dk_at dksX4_takesClause_7 13 rfl rfl)
theorem dX4_takesClause_184 : decode cX4_takesClause 184 = .ok (.iconst 0, 1) := dk_3 (dk_at dksX4_takesClause_7 14 rfl rfl)
theorem dX4_takesClause_185 : decode cX4_takesClause 185 = .ok (.invokevirtual 353, 3) := dk_182 1 97 (dk_at dksX4_takesClause_7 15 rfl rfl)
theorem dX4_takesClause_188 : decode cX4_takesClause 188 = .ok (.ireturn, 1) := dk_172 (dk_at dksX4_takesClause_7 18 rfl rfl)
theorem dX4_takesClause_189 : decode cX4_takesClause 189 = .ok (.iload_n 1, 1) := dk_27 (dk_at dksX4_takesClause_7 19 rfl rfl)
theorem dX4_takesClause_190 : decode cX4_takesClause 190 = .ok (.bipush 101, 2) := dk_16 101 (dk_at dksX4_takesClause_7 20 rfl rfl)
theorem dX4_takesClause_192 : decode cX4_takesClause 192 = .ok (.if_icmp .ne 8, 3) := dk_160 0 8 (dk_at dksX4_takesClause_8 0 rfl rfl)
theorem dX4_takesClause_195 : decode cX4_takesClause 195 = .ok (.aload_n 0, 1) := dk_42 (dk_at dksX4_takesClause_8 3 rfl rfl)
theorem dX4_takesClause_196 : decode cX4_takesClause 196 = .ok (.invokevirtual 361, 3) := dk_182 1 105 (dk_at dksX4_takesClause_8 4 rfl rfl)
theorem dX4_takesClause_199 : decode cX4_takesClause 199 = .ok (.ireturn, 1) := dk_172 (dk_at dksX4_takesClause_8 7 rfl rfl)
theorem dX4_takesClause_200 : decode cX4_takesClause 200 = .ok (.aload_n 0, 1) := dk_42 (dk_at dksX4_takesClause_8 8 rfl rfl)
theorem dX4_takesClause_201 : decode cX4_takesClause 201 = .ok (.ldc2_w 364, 3) := dk_20 1 108 (dk_at dksX4_takesClause_8 9 rfl rfl)
theorem dX4_takesClause_204 : decode cX4_takesClause 204 = .ok (.iconst 4, 1) := dk_7 (dk_at dksX4_takesClause_8 12 rfl rfl)
theorem dX4_takesClause_205 : decode cX4_takesClause 205 = .ok (.invokevirtual 347, 3) := dk_182 1 91 (dk_at dksX4_takesClause_8 13 rfl rfl)
theorem dX4_takesClause_208 : decode cX4_takesClause 208 = .ok (.ifCond .eq 23, 3) := dk_153 0 23 (dk_at dksX4_takesClause_8 16 rfl rfl)
theorem dX4_takesClause_211 : decode cX4_takesClause 211 = .ok (.aload_n 0, 1) := dk_42 (dk_at dksX4_takesClause_8 19 rfl rfl)
theorem dX4_takesClause_212 : decode cX4_takesClause 212 = .ok (.bipush 32, 2) := dk_16 32 (dk_at dksX4_takesClause_8 20 rfl rfl)
theorem dX4_takesClause_214 : decode cX4_takesClause 214 = .ok (.invokevirtual 312, 3) := dk_182 1 56 (dk_at dksX4_takesClause_9 0 rfl rfl)
theorem dX4_takesClause_217 : decode cX4_takesClause 217 = .ok (.ifCond .eq 14, 3) := dk_153 0 14 (dk_at dksX4_takesClause_9 3 rfl rfl)
theorem dX4_takesClause_220 : decode cX4_takesClause 220 = .ok (.aload_n 0, 1) := dk_42 (dk_at dksX4_takesClause_9 6 rfl rfl)
theorem dX4_takesClause_221 : decode cX4_takesClause 221 = .ok (.invokevirtual 366, 3) := dk_182 1 110 (dk_at dksX4_takesClause_9 7 rfl rfl)
theorem dX4_takesClause_224 : decode cX4_takesClause 224 = .ok (.ifCond .eq 7, 3) := dk_153 0 7 (dk_at dksX4_takesClause_9 10 rfl rfl)
theorem dX4_takesClause_227 : decode cX4_takesClause 227 = .ok (.iconst 1, 1) := dk_4 (dk_at dksX4_takesClause_9 13 rfl rfl)
theorem dX4_takesClause_228 : decode cX4_takesClause 228 = .ok (.goto 4, 3) := dk_167 0 4 (dk_at dksX4_takesClause_9 14 rfl rfl)
theorem dX4_takesClause_231 : decode cX4_takesClause 231 = .ok (.iconst 0, 1) := dk_3 (dk_at dksX4_takesClause_9 17 rfl rfl)
theorem dX4_takesClause_232 : decode cX4_takesClause 232 = .ok (.ireturn, 1) := dk_172 (dk_at dksX4_takesClause_9 18 rfl rfl)
theorem dX4_takesClause_233 : decode cX4_takesClause 233 = .ok (.iconst 0, 1) := dk_3 (dk_at dksX4_takesClause_9 19 rfl rfl)
theorem dX4_takesClause_234 : decode cX4_takesClause 234 = .ok (.ireturn, 1) := dk_172 (dk_at dksX4_takesClause_9 20 rfl rfl)
abbrev cX4_next : ByteArray := prog_30_method_34_code
def yX4_next : MethodName := ⟨RX4, "next", "()I"⟩
def dkwX4_next_1 : List UInt8 := [46, 167, 0, 4, 2, 172]
abbrev dktX4_next_1 : List UInt8 := dkwX4_next_1 ++ []
def dkwX4_next_0 : List UInt8 := [42, 180, 0, 136, 42, 180, 0, 133, 162, 0, 20, 42, 180, 0, 106, 42, 180, 0, 130, 42, 180, 0, 136, 96]
abbrev dktX4_next_0 : List UInt8 := dkwX4_next_0 ++ dktX4_next_1
theorem dksX4_next_0 : cX4_next.data.toList.drop 0 = dktX4_next_0 := by decide +kernel
theorem dksX4_next_1 : cX4_next.data.toList.drop 24 = dktX4_next_1 := dk_seg dksX4_next_0 24 rfl rfl
theorem dX4_next_0 : decode cX4_next 0 = .ok (.aload_n 0, 1) := dk_42 (dk_at dksX4_next_0 0 rfl rfl)
theorem dX4_next_1 : decode cX4_next 1 = .ok (.getfield 136, 3) := dk_180 0 136 (dk_at dksX4_next_0 1 rfl rfl)
theorem dX4_next_4 : decode cX4_next 4 = .ok (.aload_n 0, 1) := dk_42 (dk_at dksX4_next_0 4 rfl rfl)
theorem dX4_next_5 : decode cX4_next 5 = .ok (.getfield 133, 3) := dk_180 0 133 (dk_at dksX4_next_0 5 rfl rfl)
theorem dX4_next_8 : decode cX4_next 8 = .ok (.if_icmp .ge 20, 3) := dk_162 0 20 (dk_at dksX4_next_0 8 rfl rfl)
theorem dX4_next_11 : decode cX4_next 11 = .ok (.aload_n 0, 1) := dk_42 (dk_at dksX4_next_0 11 rfl rfl)
theorem dX4_next_12 : decode cX4_next 12 = .ok (.getfield 106, 3) := dk_180 0 106 (dk_at dksX4_next_0 12 rfl rfl)
theorem dX4_next_15 : decode cX4_next 15 = .ok (.aload_n 0, 1) := dk_42 (dk_at dksX4_next_0 15 rfl rfl)
theorem dX4_next_16 : decode cX4_next 16 = .ok (.getfield 130, 3) := dk_180 0 130 (dk_at dksX4_next_0 16 rfl rfl)
theorem dX4_next_19 : decode cX4_next 19 = .ok (.aload_n 0, 1) := dk_42 (dk_at dksX4_next_0 19 rfl rfl)
theorem dX4_next_20 : decode cX4_next 20 = .ok (.getfield 136, 3) := dk_180 0 136 (dk_at dksX4_next_0 20 rfl rfl)
theorem dX4_next_23 : decode cX4_next 23 = .ok (.iadd, 1) := dk_96 (dk_at dksX4_next_0 23 rfl rfl)
theorem dX4_next_24 : decode cX4_next 24 = .ok (.iaload, 1) := dk_46 (dk_at dksX4_next_1 0 rfl rfl)
theorem dX4_next_25 : decode cX4_next 25 = .ok (.goto 4, 3) := dk_167 0 4 (dk_at dksX4_next_1 1 rfl rfl)
theorem dX4_next_28 : decode cX4_next 28 = .ok (.iconst (-1), 1) := dk_2 (dk_at dksX4_next_1 4 rfl rfl)
theorem dX4_next_29 : decode cX4_next 29 = .ok (.ireturn, 1) := dk_172 (dk_at dksX4_next_1 5 rfl rfl)
abbrev cX4_takesWord : ByteArray := prog_30_method_37_code
def yX4_takesWord : MethodName := ⟨RX4, "takesWord", "(JI)Z"⟩
def dkwX4_takesWord_1 : List UInt8 := [96, 182, 1, 56, 154, 0, 5, 3, 172, 132, 4, 255, 167, 255, 225, 4, 172]
abbrev dktX4_takesWord_1 : List UInt8 := dkwX4_takesWord_1 ++ []
def dkwX4_takesWord_0 : List UInt8 := [29, 4, 100, 54, 4, 21, 4, 155, 0, 32, 42, 16, 96, 31, 8, 21, 4, 104, 123, 20, 1, 54, 127, 136]
abbrev dktX4_takesWord_0 : List UInt8 := dkwX4_takesWord_0 ++ dktX4_takesWord_1
theorem dksX4_takesWord_0 : cX4_takesWord.data.toList.drop 0 = dktX4_takesWord_0 := by decide +kernel
theorem dksX4_takesWord_1 : cX4_takesWord.data.toList.drop 24 = dktX4_takesWord_1 := dk_seg dksX4_takesWord_0 24 rfl rfl
theorem dX4_takesWord_0 : decode cX4_takesWord 0 = .ok (.iload_n 3, 1) := dk_29 (dk_at dksX4_takesWord_0 0 rfl rfl)
theorem dX4_takesWord_1 : decode cX4_takesWord 1 = .ok (.iconst 1, 1) := dk_4 (dk_at dksX4_takesWord_0 1 rfl rfl)
theorem dX4_takesWord_2 : decode cX4_takesWord 2 = .ok (.isub, 1) := dk_100 (dk_at dksX4_takesWord_0 2 rfl rfl)
theorem dX4_takesWord_3 : decode cX4_takesWord 3 = .ok (.istore 4, 2) := dk_54 4 (dk_at dksX4_takesWord_0 3 rfl rfl)
theorem dX4_takesWord_5 : decode cX4_takesWord 5 = .ok (.iload 4, 2) := dk_21 4 (dk_at dksX4_takesWord_0 5 rfl rfl)
theorem dX4_takesWord_7 : decode cX4_takesWord 7 = .ok (.ifCond .lt 32, 3) := dk_155 0 32 (dk_at dksX4_takesWord_0 7 rfl rfl)
theorem dX4_takesWord_10 : decode cX4_takesWord 10 = .ok (.aload_n 0, 1) := dk_42 (dk_at dksX4_takesWord_0 10 rfl rfl)
theorem dX4_takesWord_11 : decode cX4_takesWord 11 = .ok (.bipush 96, 2) := dk_16 96 (dk_at dksX4_takesWord_0 11 rfl rfl)
theorem dX4_takesWord_13 : decode cX4_takesWord 13 = .ok (.lload_n 1, 1) := dk_31 (dk_at dksX4_takesWord_0 13 rfl rfl)
theorem dX4_takesWord_14 : decode cX4_takesWord 14 = .ok (.iconst 5, 1) := dk_8 (dk_at dksX4_takesWord_0 14 rfl rfl)
theorem dX4_takesWord_15 : decode cX4_takesWord 15 = .ok (.iload 4, 2) := dk_21 4 (dk_at dksX4_takesWord_0 15 rfl rfl)
theorem dX4_takesWord_17 : decode cX4_takesWord 17 = .ok (.imul, 1) := dk_104 (dk_at dksX4_takesWord_0 17 rfl rfl)
theorem dX4_takesWord_18 : decode cX4_takesWord 18 = .ok (.lshr, 1) := dk_123 (dk_at dksX4_takesWord_0 18 rfl rfl)
theorem dX4_takesWord_19 : decode cX4_takesWord 19 = .ok (.ldc2_w 310, 3) := dk_20 1 54 (dk_at dksX4_takesWord_0 19 rfl rfl)
theorem dX4_takesWord_22 : decode cX4_takesWord 22 = .ok (.land, 1) := dk_127 (dk_at dksX4_takesWord_0 22 rfl rfl)
theorem dX4_takesWord_23 : decode cX4_takesWord 23 = .ok (.l2i, 1) := dk_136 (dk_at dksX4_takesWord_0 23 rfl rfl)
theorem dX4_takesWord_24 : decode cX4_takesWord 24 = .ok (.iadd, 1) := dk_96 (dk_at dksX4_takesWord_1 0 rfl rfl)
theorem dX4_takesWord_25 : decode cX4_takesWord 25 = .ok (.invokevirtual 312, 3) := dk_182 1 56 (dk_at dksX4_takesWord_1 1 rfl rfl)
theorem dX4_takesWord_28 : decode cX4_takesWord 28 = .ok (.ifCond .ne 5, 3) := dk_154 0 5 (dk_at dksX4_takesWord_1 4 rfl rfl)
theorem dX4_takesWord_31 : decode cX4_takesWord 31 = .ok (.iconst 0, 1) := dk_3 (dk_at dksX4_takesWord_1 7 rfl rfl)
theorem dX4_takesWord_32 : decode cX4_takesWord 32 = .ok (.ireturn, 1) := dk_172 (dk_at dksX4_takesWord_1 8 rfl rfl)
theorem dX4_takesWord_33 : decode cX4_takesWord 33 = .ok (.iinc 4 (-1), 3) := dk_132 4 255 (dk_at dksX4_takesWord_1 9 rfl rfl)
theorem dX4_takesWord_36 : decode cX4_takesWord 36 = .ok (.goto (-31), 3) := dk_167 255 225 (dk_at dksX4_takesWord_1 12 rfl rfl)
theorem dX4_takesWord_39 : decode cX4_takesWord 39 = .ok (.iconst 1, 1) := dk_4 (dk_at dksX4_takesWord_1 15 rfl rfl)
theorem dX4_takesWord_40 : decode cX4_takesWord 40 = .ok (.ireturn, 1) := dk_172 (dk_at dksX4_takesWord_1 16 rfl rfl)
abbrev cX4_takes : ByteArray := prog_30_method_36_code
def yX4_takes : MethodName := ⟨RX4, "takes", "(I)Z"⟩
def dkwX4_takes_0 : List UInt8 := [42, 182, 1, 50, 27, 159, 0, 5, 3, 172, 42, 89, 180, 0, 136, 4, 96, 181, 0, 136, 4, 172]
abbrev dktX4_takes_0 : List UInt8 := dkwX4_takes_0 ++ []
theorem dksX4_takes_0 : cX4_takes.data.toList.drop 0 = dktX4_takes_0 := by decide +kernel
theorem dX4_takes_0 : decode cX4_takes 0 = .ok (.aload_n 0, 1) := dk_42 (dk_at dksX4_takes_0 0 rfl rfl)
theorem dX4_takes_1 : decode cX4_takes 1 = .ok (.invokevirtual 306, 3) := dk_182 1 50 (dk_at dksX4_takes_0 1 rfl rfl)
theorem dX4_takes_4 : decode cX4_takes 4 = .ok (.iload_n 1, 1) := dk_27 (dk_at dksX4_takes_0 4 rfl rfl)
theorem dX4_takes_5 : decode cX4_takes 5 = .ok (.if_icmp .eq 5, 3) := dk_159 0 5 (dk_at dksX4_takes_0 5 rfl rfl)
theorem dX4_takes_8 : decode cX4_takes 8 = .ok (.iconst 0, 1) := dk_3 (dk_at dksX4_takes_0 8 rfl rfl)
theorem dX4_takes_9 : decode cX4_takes 9 = .ok (.ireturn, 1) := dk_172 (dk_at dksX4_takes_0 9 rfl rfl)
theorem dX4_takes_10 : decode cX4_takes 10 = .ok (.aload_n 0, 1) := dk_42 (dk_at dksX4_takes_0 10 rfl rfl)
theorem dX4_takes_11 : decode cX4_takes 11 = .ok (.dup, 1) := dk_89 (dk_at dksX4_takes_0 11 rfl rfl)
theorem dX4_takes_12 : decode cX4_takes 12 = .ok (.getfield 136, 3) := dk_180 0 136 (dk_at dksX4_takes_0 12 rfl rfl)
theorem dX4_takes_15 : decode cX4_takes 15 = .ok (.iconst 1, 1) := dk_4 (dk_at dksX4_takes_0 15 rfl rfl)
theorem dX4_takes_16 : decode cX4_takes 16 = .ok (.iadd, 1) := dk_96 (dk_at dksX4_takes_0 16 rfl rfl)
theorem dX4_takes_17 : decode cX4_takes 17 = .ok (.putfield 136, 3) := dk_181 0 136 (dk_at dksX4_takes_0 17 rfl rfl)
theorem dX4_takes_20 : decode cX4_takes 20 = .ok (.iconst 1, 1) := dk_4 (dk_at dksX4_takes_0 20 rfl rfl)
theorem dX4_takes_21 : decode cX4_takes 21 = .ok (.ireturn, 1) := dk_172 (dk_at dksX4_takes_0 21 rfl rfl)
abbrev cX4_takesOf : ByteArray := prog_30_method_46_code
def yX4_takesOf : MethodName := ⟨RX4, "takesOf", "(ZI)Z"⟩
def dkwX4_takesOf_4 : List UInt8 := [172]
abbrev dktX4_takesOf_4 : List UInt8 := dkwX4_takesOf_4 ++ []
def dkwX4_takesOf_3 : List UInt8 := [181, 0, 121, 42, 42, 180, 0, 143, 154, 0, 7, 28, 154, 0, 7, 4, 167, 0, 4, 3, 181, 0, 143, 4]
abbrev dktX4_takesOf_3 : List UInt8 := dkwX4_takesOf_3 ++ dktX4_takesOf_4
def dkwX4_takesOf_2 : List UInt8 := [42, 180, 0, 36, 42, 180, 0, 51, 42, 180, 0, 112, 46, 46, 42, 180, 0, 146, 160, 0, 8, 42, 28]
abbrev dktX4_takesOf_2 : List UInt8 := dkwX4_takesOf_2 ++ dktX4_takesOf_3
def dkwX4_takesOf_1 : List UInt8 := [155, 0, 50, 27, 153, 0, 20, 42, 180, 0, 39, 42, 180, 0, 51, 42, 180, 0, 112, 46, 46, 167, 0, 17]
abbrev dktX4_takesOf_1 : List UInt8 := dkwX4_takesOf_1 ++ dktX4_takesOf_2
def dkwX4_takesOf_0 : List UInt8 := [42, 16, 32, 182, 1, 56, 153, 0, 10, 42, 182, 1, 72, 154, 0, 5, 3, 172, 42, 180, 0, 112]
abbrev dktX4_takesOf_0 : List UInt8 := dkwX4_takesOf_0 ++ dktX4_takesOf_1
theorem dksX4_takesOf_0 : cX4_takesOf.data.toList.drop 0 = dktX4_takesOf_0 := by decide +kernel
theorem dksX4_takesOf_1 : cX4_takesOf.data.toList.drop 22 = dktX4_takesOf_1 := dk_seg dksX4_takesOf_0 22 rfl rfl
theorem dksX4_takesOf_2 : cX4_takesOf.data.toList.drop 46 = dktX4_takesOf_2 := dk_seg dksX4_takesOf_1 24 rfl rfl
theorem dksX4_takesOf_3 : cX4_takesOf.data.toList.drop 69 = dktX4_takesOf_3 := dk_seg dksX4_takesOf_2 23 rfl rfl
theorem dksX4_takesOf_4 : cX4_takesOf.data.toList.drop 93 = dktX4_takesOf_4 := dk_seg dksX4_takesOf_3 24 rfl rfl
theorem dX4_takesOf_0 : decode cX4_takesOf 0 = .ok (.aload_n 0, 1) := dk_42 (dk_at dksX4_takesOf_0 0 rfl rfl)
theorem dX4_takesOf_1 : decode cX4_takesOf 1 = .ok (.bipush 32, 2) := dk_16 32 (dk_at dksX4_takesOf_0 1 rfl rfl)
theorem dX4_takesOf_3 : decode cX4_takesOf 3 = .ok (.invokevirtual 312, 3) := dk_182 1 56 (dk_at dksX4_takesOf_0 3 rfl rfl)
theorem dX4_takesOf_6 : decode cX4_takesOf 6 = .ok (.ifCond .eq 10, 3) := dk_153 0 10 (dk_at dksX4_takesOf_0 6 rfl rfl)
theorem dX4_takesOf_9 : decode cX4_takesOf 9 = .ok (.aload_n 0, 1) := dk_42 (dk_at dksX4_takesOf_0 9 rfl rfl)
theorem dX4_takesOf_10 : decode cX4_takesOf 10 = .ok (.invokevirtual 328, 3) := dk_182 1 72 (dk_at dksX4_takesOf_0 10 rfl rfl)
theorem dX4_takesOf_13 : decode cX4_takesOf 13 = .ok (.ifCond .ne 5, 3) := dk_154 0 5 (dk_at dksX4_takesOf_0 13 rfl rfl)
theorem dX4_takesOf_16 : decode cX4_takesOf 16 = .ok (.iconst 0, 1) := dk_3 (dk_at dksX4_takesOf_0 16 rfl rfl)
theorem dX4_takesOf_17 : decode cX4_takesOf 17 = .ok (.ireturn, 1) := dk_172 (dk_at dksX4_takesOf_0 17 rfl rfl)
theorem dX4_takesOf_18 : decode cX4_takesOf 18 = .ok (.aload_n 0, 1) := dk_42 (dk_at dksX4_takesOf_0 18 rfl rfl)
theorem dX4_takesOf_19 : decode cX4_takesOf 19 = .ok (.getfield 112, 3) := dk_180 0 112 (dk_at dksX4_takesOf_0 19 rfl rfl)
theorem dX4_takesOf_22 : decode cX4_takesOf 22 = .ok (.ifCond .lt 50, 3) := dk_155 0 50 (dk_at dksX4_takesOf_1 0 rfl rfl)
theorem dX4_takesOf_25 : decode cX4_takesOf 25 = .ok (.iload_n 1, 1) := dk_27 (dk_at dksX4_takesOf_1 3 rfl rfl)
theorem dX4_takesOf_26 : decode cX4_takesOf 26 = .ok (.ifCond .eq 20, 3) := dk_153 0 20 (dk_at dksX4_takesOf_1 4 rfl rfl)
theorem dX4_takesOf_29 : decode cX4_takesOf 29 = .ok (.aload_n 0, 1) := dk_42 (dk_at dksX4_takesOf_1 7 rfl rfl)
theorem dX4_takesOf_30 : decode cX4_takesOf 30 = .ok (.getfield 39, 3) := dk_180 0 39 (dk_at dksX4_takesOf_1 8 rfl rfl)
theorem dX4_takesOf_33 : decode cX4_takesOf 33 = .ok (.aload_n 0, 1) := dk_42 (dk_at dksX4_takesOf_1 11 rfl rfl)
theorem dX4_takesOf_34 : decode cX4_takesOf 34 = .ok (.getfield 51, 3) := dk_180 0 51 (dk_at dksX4_takesOf_1 12 rfl rfl)
theorem dX4_takesOf_37 : decode cX4_takesOf 37 = .ok (.aload_n 0, 1) := dk_42 (dk_at dksX4_takesOf_1 15 rfl rfl)
theorem dX4_takesOf_38 : decode cX4_takesOf 38 = .ok (.getfield 112, 3) := dk_180 0 112 (dk_at dksX4_takesOf_1 16 rfl rfl)
theorem dX4_takesOf_41 : decode cX4_takesOf 41 = .ok (.iaload, 1) := dk_46 (dk_at dksX4_takesOf_1 19 rfl rfl)
theorem dX4_takesOf_42 : decode cX4_takesOf 42 = .ok (.iaload, 1) := dk_46 (dk_at dksX4_takesOf_1 20 rfl rfl)
theorem dX4_takesOf_43 : decode cX4_takesOf 43 = .ok (.goto 17, 3) := dk_167 0 17 (dk_at dksX4_takesOf_1 21 rfl rfl)
theorem dX4_takesOf_46 : decode cX4_takesOf 46 = .ok (.aload_n 0, 1) := dk_42 (dk_at dksX4_takesOf_2 0 rfl rfl)
theorem dX4_takesOf_47 : decode cX4_takesOf 47 = .ok (.getfield 36, 3) := dk_180 0 36 (dk_at dksX4_takesOf_2 1 rfl rfl)
theorem dX4_takesOf_50 : decode cX4_takesOf 50 = .ok (.aload_n 0, 1) := dk_42 (dk_at dksX4_takesOf_2 4 rfl rfl)
theorem dX4_takesOf_51 : decode cX4_takesOf 51 = .ok (.getfield 51, 3) := dk_180 0 51 (dk_at dksX4_takesOf_2 5 rfl rfl)
theorem dX4_takesOf_54 : decode cX4_takesOf 54 = .ok (.aload_n 0, 1) := dk_42 (dk_at dksX4_takesOf_2 8 rfl rfl)
theorem dX4_takesOf_55 : decode cX4_takesOf 55 = .ok (.getfield 112, 3) := dk_180 0 112 (dk_at dksX4_takesOf_2 9 rfl rfl)
theorem dX4_takesOf_58 : decode cX4_takesOf 58 = .ok (.iaload, 1) := dk_46 (dk_at dksX4_takesOf_2 12 rfl rfl)
theorem dX4_takesOf_59 : decode cX4_takesOf 59 = .ok (.iaload, 1) := dk_46 (dk_at dksX4_takesOf_2 13 rfl rfl)
theorem dX4_takesOf_60 : decode cX4_takesOf 60 = .ok (.aload_n 0, 1) := dk_42 (dk_at dksX4_takesOf_2 14 rfl rfl)
theorem dX4_takesOf_61 : decode cX4_takesOf 61 = .ok (.getfield 146, 3) := dk_180 0 146 (dk_at dksX4_takesOf_2 15 rfl rfl)
theorem dX4_takesOf_64 : decode cX4_takesOf 64 = .ok (.if_icmp .ne 8, 3) := dk_160 0 8 (dk_at dksX4_takesOf_2 18 rfl rfl)
theorem dX4_takesOf_67 : decode cX4_takesOf 67 = .ok (.aload_n 0, 1) := dk_42 (dk_at dksX4_takesOf_2 21 rfl rfl)
theorem dX4_takesOf_68 : decode cX4_takesOf 68 = .ok (.iload_n 2, 1) := dk_28 (dk_at dksX4_takesOf_2 22 rfl rfl)
theorem dX4_takesOf_69 : decode cX4_takesOf 69 = .ok (.putfield 121, 3) := dk_181 0 121 (dk_at dksX4_takesOf_3 0 rfl rfl)
theorem dX4_takesOf_72 : decode cX4_takesOf 72 = .ok (.aload_n 0, 1) := dk_42 (dk_at dksX4_takesOf_3 3 rfl rfl)
theorem dX4_takesOf_73 : decode cX4_takesOf 73 = .ok (.aload_n 0, 1) := dk_42 (dk_at dksX4_takesOf_3 4 rfl rfl)
theorem dX4_takesOf_74 : decode cX4_takesOf 74 = .ok (.getfield 143, 3) := dk_180 0 143 (dk_at dksX4_takesOf_3 5 rfl rfl)
theorem dX4_takesOf_77 : decode cX4_takesOf 77 = .ok (.ifCond .ne 7, 3) := dk_154 0 7 (dk_at dksX4_takesOf_3 8 rfl rfl)
theorem dX4_takesOf_80 : decode cX4_takesOf 80 = .ok (.iload_n 2, 1) := dk_28 (dk_at dksX4_takesOf_3 11 rfl rfl)
theorem dX4_takesOf_81 : decode cX4_takesOf 81 = .ok (.ifCond .ne 7, 3) := dk_154 0 7 (dk_at dksX4_takesOf_3 12 rfl rfl)
theorem dX4_takesOf_84 : decode cX4_takesOf 84 = .ok (.iconst 1, 1) := dk_4 (dk_at dksX4_takesOf_3 15 rfl rfl)
theorem dX4_takesOf_85 : decode cX4_takesOf 85 = .ok (.goto 4, 3) := dk_167 0 4 (dk_at dksX4_takesOf_3 16 rfl rfl)
theorem dX4_takesOf_88 : decode cX4_takesOf 88 = .ok (.iconst 0, 1) := dk_3 (dk_at dksX4_takesOf_3 19 rfl rfl)
theorem dX4_takesOf_89 : decode cX4_takesOf 89 = .ok (.putfield 143, 3) := dk_181 0 143 (dk_at dksX4_takesOf_3 20 rfl rfl)
theorem dX4_takesOf_92 : decode cX4_takesOf 92 = .ok (.iconst 1, 1) := dk_4 (dk_at dksX4_takesOf_3 23 rfl rfl)
theorem dX4_takesOf_93 : decode cX4_takesOf 93 = .ok (.ireturn, 1) := dk_172 (dk_at dksX4_takesOf_4 0 rfl rfl)
abbrev cX4_takesNumber : ByteArray := prog_30_method_38_code
def yX4_takesNumber : MethodName := ⟨RX4, "takesNumber", "()Z"⟩
def dkwX4_takesNumber_2 : List UInt8 := [181, 0, 146, 42, 89, 180, 0, 136, 4, 96, 181, 0, 136, 132, 1, 1, 167, 255, 212, 4, 172]
abbrev dktX4_takesNumber_2 : List UInt8 := dkwX4_takesNumber_2 ++ []
def dkwX4_takesNumber_1 : List UInt8 := [182, 1, 59, 153, 0, 38, 42, 16, 10, 42, 180, 0, 146, 104, 42, 182, 1, 50, 96, 16, 48, 100]
abbrev dktX4_takesNumber_1 : List UInt8 := dkwX4_takesNumber_1 ++ dktX4_takesNumber_2
def dkwX4_takesNumber_0 : List UInt8 := [42, 182, 1, 59, 154, 0, 5, 3, 172, 42, 3, 181, 0, 146, 3, 60, 27, 7, 162, 0, 45, 42]
abbrev dktX4_takesNumber_0 : List UInt8 := dkwX4_takesNumber_0 ++ dktX4_takesNumber_1
theorem dksX4_takesNumber_0 : cX4_takesNumber.data.toList.drop 0 = dktX4_takesNumber_0 := by decide +kernel
theorem dksX4_takesNumber_1 : cX4_takesNumber.data.toList.drop 22 = dktX4_takesNumber_1 := dk_seg dksX4_takesNumber_0 22 rfl rfl
theorem dksX4_takesNumber_2 : cX4_takesNumber.data.toList.drop 44 = dktX4_takesNumber_2 := dk_seg dksX4_takesNumber_1 22 rfl rfl
theorem dX4_takesNumber_0 : decode cX4_takesNumber 0 = .ok (.aload_n 0, 1) := dk_42 (dk_at dksX4_takesNumber_0 0 rfl rfl)
theorem dX4_takesNumber_1 : decode cX4_takesNumber 1 = .ok (.invokevirtual 315, 3) := dk_182 1 59 (dk_at dksX4_takesNumber_0 1 rfl rfl)
theorem dX4_takesNumber_4 : decode cX4_takesNumber 4 = .ok (.ifCond .ne 5, 3) := dk_154 0 5 (dk_at dksX4_takesNumber_0 4 rfl rfl)
theorem dX4_takesNumber_7 : decode cX4_takesNumber 7 = .ok (.iconst 0, 1) := dk_3 (dk_at dksX4_takesNumber_0 7 rfl rfl)
theorem dX4_takesNumber_8 : decode cX4_takesNumber 8 = .ok (.ireturn, 1) := dk_172 (dk_at dksX4_takesNumber_0 8 rfl rfl)
theorem dX4_takesNumber_9 : decode cX4_takesNumber 9 = .ok (.aload_n 0, 1) := dk_42 (dk_at dksX4_takesNumber_0 9 rfl rfl)
theorem dX4_takesNumber_10 : decode cX4_takesNumber 10 = .ok (.iconst 0, 1) := dk_3 (dk_at dksX4_takesNumber_0 10 rfl rfl)
theorem dX4_takesNumber_11 : decode cX4_takesNumber 11 = .ok (.putfield 146, 3) := dk_181 0 146 (dk_at dksX4_takesNumber_0 11 rfl rfl)
theorem dX4_takesNumber_14 : decode cX4_takesNumber 14 = .ok (.iconst 0, 1) := dk_3 (dk_at dksX4_takesNumber_0 14 rfl rfl)
theorem dX4_takesNumber_15 : decode cX4_takesNumber 15 = .ok (.istore_n 1, 1) := dk_60 (dk_at dksX4_takesNumber_0 15 rfl rfl)
theorem dX4_takesNumber_16 : decode cX4_takesNumber 16 = .ok (.iload_n 1, 1) := dk_27 (dk_at dksX4_takesNumber_0 16 rfl rfl)
theorem dX4_takesNumber_17 : decode cX4_takesNumber 17 = .ok (.iconst 4, 1) := dk_7 (dk_at dksX4_takesNumber_0 17 rfl rfl)
theorem dX4_takesNumber_18 : decode cX4_takesNumber 18 = .ok (.if_icmp .ge 45, 3) := dk_162 0 45 (dk_at dksX4_takesNumber_0 18 rfl rfl)
theorem dX4_takesNumber_21 : decode cX4_takesNumber 21 = .ok (.aload_n 0, 1) := dk_42 (dk_at dksX4_takesNumber_0 21 rfl rfl)
theorem dX4_takesNumber_22 : decode cX4_takesNumber 22 = .ok (.invokevirtual 315, 3) := dk_182 1 59 (dk_at dksX4_takesNumber_1 0 rfl rfl)
theorem dX4_takesNumber_25 : decode cX4_takesNumber 25 = .ok (.ifCond .eq 38, 3) := dk_153 0 38 (dk_at dksX4_takesNumber_1 3 rfl rfl)
theorem dX4_takesNumber_28 : decode cX4_takesNumber 28 = .ok (.aload_n 0, 1) := dk_42 (dk_at dksX4_takesNumber_1 6 rfl rfl)
theorem dX4_takesNumber_29 : decode cX4_takesNumber 29 = .ok (.bipush 10, 2) := dk_16 10 (dk_at dksX4_takesNumber_1 7 rfl rfl)
theorem dX4_takesNumber_31 : decode cX4_takesNumber 31 = .ok (.aload_n 0, 1) := dk_42 (dk_at dksX4_takesNumber_1 9 rfl rfl)
theorem dX4_takesNumber_32 : decode cX4_takesNumber 32 = .ok (.getfield 146, 3) := dk_180 0 146 (dk_at dksX4_takesNumber_1 10 rfl rfl)
theorem dX4_takesNumber_35 : decode cX4_takesNumber 35 = .ok (.imul, 1) := dk_104 (dk_at dksX4_takesNumber_1 13 rfl rfl)
theorem dX4_takesNumber_36 : decode cX4_takesNumber 36 = .ok (.aload_n 0, 1) := dk_42 (dk_at dksX4_takesNumber_1 14 rfl rfl)
theorem dX4_takesNumber_37 : decode cX4_takesNumber 37 = .ok (.invokevirtual 306, 3) := dk_182 1 50 (dk_at dksX4_takesNumber_1 15 rfl rfl)
theorem dX4_takesNumber_40 : decode cX4_takesNumber 40 = .ok (.iadd, 1) := dk_96 (dk_at dksX4_takesNumber_1 18 rfl rfl)
theorem dX4_takesNumber_41 : decode cX4_takesNumber 41 = .ok (.bipush 48, 2) := dk_16 48 (dk_at dksX4_takesNumber_1 19 rfl rfl)
theorem dX4_takesNumber_43 : decode cX4_takesNumber 43 = .ok (.isub, 1) := dk_100 (dk_at dksX4_takesNumber_1 21 rfl rfl)
theorem dX4_takesNumber_44 : decode cX4_takesNumber 44 = .ok (.putfield 146, 3) := dk_181 0 146 (dk_at dksX4_takesNumber_2 0 rfl rfl)
theorem dX4_takesNumber_47 : decode cX4_takesNumber 47 = .ok (.aload_n 0, 1) := dk_42 (dk_at dksX4_takesNumber_2 3 rfl rfl)
theorem dX4_takesNumber_48 : decode cX4_takesNumber 48 = .ok (.dup, 1) := dk_89 (dk_at dksX4_takesNumber_2 4 rfl rfl)
theorem dX4_takesNumber_49 : decode cX4_takesNumber 49 = .ok (.getfield 136, 3) := dk_180 0 136 (dk_at dksX4_takesNumber_2 5 rfl rfl)
theorem dX4_takesNumber_52 : decode cX4_takesNumber 52 = .ok (.iconst 1, 1) := dk_4 (dk_at dksX4_takesNumber_2 8 rfl rfl)
theorem dX4_takesNumber_53 : decode cX4_takesNumber 53 = .ok (.iadd, 1) := dk_96 (dk_at dksX4_takesNumber_2 9 rfl rfl)
theorem dX4_takesNumber_54 : decode cX4_takesNumber 54 = .ok (.putfield 136, 3) := dk_181 0 136 (dk_at dksX4_takesNumber_2 10 rfl rfl)
theorem dX4_takesNumber_57 : decode cX4_takesNumber 57 = .ok (.iinc 1 1, 3) := dk_132 1 1 (dk_at dksX4_takesNumber_2 13 rfl rfl)
theorem dX4_takesNumber_60 : decode cX4_takesNumber 60 = .ok (.goto (-44), 3) := dk_167 255 212 (dk_at dksX4_takesNumber_2 16 rfl rfl)
theorem dX4_takesNumber_63 : decode cX4_takesNumber 63 = .ok (.iconst 1, 1) := dk_4 (dk_at dksX4_takesNumber_2 19 rfl rfl)
theorem dX4_takesNumber_64 : decode cX4_takesNumber 64 = .ok (.ireturn, 1) := dk_172 (dk_at dksX4_takesNumber_2 20 rfl rfl)
abbrev cX4_isDigit : ByteArray := prog_30_method_35_code
def yX4_isDigit : MethodName := ⟨RX4, "isDigit", "()Z"⟩
def dkwX4_isDigit_0 : List UInt8 := [42, 42, 182, 1, 50, 16, 48, 16, 57, 182, 0, 3, 172]
abbrev dktX4_isDigit_0 : List UInt8 := dkwX4_isDigit_0 ++ []
theorem dksX4_isDigit_0 : cX4_isDigit.data.toList.drop 0 = dktX4_isDigit_0 := by decide +kernel
theorem dX4_isDigit_0 : decode cX4_isDigit 0 = .ok (.aload_n 0, 1) := dk_42 (dk_at dksX4_isDigit_0 0 rfl rfl)
theorem dX4_isDigit_1 : decode cX4_isDigit 1 = .ok (.aload_n 0, 1) := dk_42 (dk_at dksX4_isDigit_0 1 rfl rfl)
theorem dX4_isDigit_2 : decode cX4_isDigit 2 = .ok (.invokevirtual 306, 3) := dk_182 1 50 (dk_at dksX4_isDigit_0 2 rfl rfl)
theorem dX4_isDigit_5 : decode cX4_isDigit 5 = .ok (.bipush 48, 2) := dk_16 48 (dk_at dksX4_isDigit_0 5 rfl rfl)
theorem dX4_isDigit_7 : decode cX4_isDigit 7 = .ok (.bipush 57, 2) := dk_16 57 (dk_at dksX4_isDigit_0 7 rfl rfl)
theorem dX4_isDigit_9 : decode cX4_isDigit 9 = .ok (.invokevirtual 3, 3) := dk_182 0 3 (dk_at dksX4_isDigit_0 9 rfl rfl)
theorem dX4_isDigit_12 : decode cX4_isDigit 12 = .ok (.ireturn, 1) := dk_172 (dk_at dksX4_isDigit_0 12 rfl rfl)
abbrev cX4_takesLeave : ByteArray := prog_30_method_47_code
def yX4_takesLeave : MethodName := ⟨RX4, "takesLeave", "()Z"⟩
def dkwX4_takesLeave_4 : List UInt8 := [164, 0, 11, 42, 42, 180, 0, 146, 181, 0, 124, 4, 172]
abbrev dktX4_takesLeave_4 : List UInt8 := dkwX4_takesLeave_4 ++ []
def dkwX4_takesLeave_3 : List UInt8 := [182, 1, 72, 154, 0, 5, 3, 172, 27, 42, 180, 0, 118, 160, 0, 22, 42, 180, 0, 146, 42, 180, 0, 124]
abbrev dktX4_takesLeave_3 : List UInt8 := dkwX4_takesLeave_3 ++ dktX4_takesLeave_4
def dkwX4_takesLeave_2 : List UInt8 := [16, 48, 100, 60, 42, 89, 180, 0, 136, 4, 96, 181, 0, 136, 42, 16, 32, 182, 1, 56, 153, 0, 10, 42]
abbrev dktX4_takesLeave_2 : List UInt8 := dkwX4_takesLeave_2 ++ dktX4_takesLeave_3
def dkwX4_takesLeave_1 : List UInt8 := [153, 0, 18, 42, 42, 182, 1, 50, 16, 48, 16, 53, 182, 0, 3, 154, 0, 5, 3, 172, 42, 182, 1, 50]
abbrev dktX4_takesLeave_1 : List UInt8 := dkwX4_takesLeave_1 ++ dktX4_takesLeave_2
def dkwX4_takesLeave_0 : List UInt8 := [42, 4, 181, 0, 143, 42, 20, 1, 89, 8, 182, 1, 91, 153, 0, 27, 42, 16, 32, 182, 1, 56]
abbrev dktX4_takesLeave_0 : List UInt8 := dkwX4_takesLeave_0 ++ dktX4_takesLeave_1
theorem dksX4_takesLeave_0 : cX4_takesLeave.data.toList.drop 0 = dktX4_takesLeave_0 := by decide +kernel
theorem dksX4_takesLeave_1 : cX4_takesLeave.data.toList.drop 22 = dktX4_takesLeave_1 := dk_seg dksX4_takesLeave_0 22 rfl rfl
theorem dksX4_takesLeave_2 : cX4_takesLeave.data.toList.drop 46 = dktX4_takesLeave_2 := dk_seg dksX4_takesLeave_1 24 rfl rfl
theorem dksX4_takesLeave_3 : cX4_takesLeave.data.toList.drop 70 = dktX4_takesLeave_3 := dk_seg dksX4_takesLeave_2 24 rfl rfl
theorem dksX4_takesLeave_4 : cX4_takesLeave.data.toList.drop 94 = dktX4_takesLeave_4 := dk_seg dksX4_takesLeave_3 24 rfl rfl
theorem dX4_takesLeave_0 : decode cX4_takesLeave 0 = .ok (.aload_n 0, 1) := dk_42 (dk_at dksX4_takesLeave_0 0 rfl rfl)
theorem dX4_takesLeave_1 : decode cX4_takesLeave 1 = .ok (.iconst 1, 1) := dk_4 (dk_at dksX4_takesLeave_0 1 rfl rfl)
theorem dX4_takesLeave_2 : decode cX4_takesLeave 2 = .ok (.putfield 143, 3) := dk_181 0 143 (dk_at dksX4_takesLeave_0 2 rfl rfl)
theorem dX4_takesLeave_5 : decode cX4_takesLeave 5 = .ok (.aload_n 0, 1) := dk_42 (dk_at dksX4_takesLeave_0 5 rfl rfl)
theorem dX4_takesLeave_6 : decode cX4_takesLeave 6 = .ok (.ldc2_w 345, 3) := dk_20 1 89 (dk_at dksX4_takesLeave_0 6 rfl rfl)
theorem dX4_takesLeave_9 : decode cX4_takesLeave 9 = .ok (.iconst 5, 1) := dk_8 (dk_at dksX4_takesLeave_0 9 rfl rfl)
theorem dX4_takesLeave_10 : decode cX4_takesLeave 10 = .ok (.invokevirtual 347, 3) := dk_182 1 91 (dk_at dksX4_takesLeave_0 10 rfl rfl)
theorem dX4_takesLeave_13 : decode cX4_takesLeave 13 = .ok (.ifCond .eq 27, 3) := dk_153 0 27 (dk_at dksX4_takesLeave_0 13 rfl rfl)
theorem dX4_takesLeave_16 : decode cX4_takesLeave 16 = .ok (.aload_n 0, 1) := dk_42 (dk_at dksX4_takesLeave_0 16 rfl rfl)
theorem dX4_takesLeave_17 : decode cX4_takesLeave 17 = .ok (.bipush 32, 2) := dk_16 32 (dk_at dksX4_takesLeave_0 17 rfl rfl)
theorem dX4_takesLeave_19 : decode cX4_takesLeave 19 = .ok (.invokevirtual 312, 3) := dk_182 1 56 (dk_at dksX4_takesLeave_0 19 rfl rfl)
theorem dX4_takesLeave_22 : decode cX4_takesLeave 22 = .ok (.ifCond .eq 18, 3) := dk_153 0 18 (dk_at dksX4_takesLeave_1 0 rfl rfl)
theorem dX4_takesLeave_25 : decode cX4_takesLeave 25 = .ok (.aload_n 0, 1) := dk_42 (dk_at dksX4_takesLeave_1 3 rfl rfl)
theorem dX4_takesLeave_26 : decode cX4_takesLeave 26 = .ok (.aload_n 0, 1) := dk_42 (dk_at dksX4_takesLeave_1 4 rfl rfl)
theorem dX4_takesLeave_27 : decode cX4_takesLeave 27 = .ok (.invokevirtual 306, 3) := dk_182 1 50 (dk_at dksX4_takesLeave_1 5 rfl rfl)
theorem dX4_takesLeave_30 : decode cX4_takesLeave 30 = .ok (.bipush 48, 2) := dk_16 48 (dk_at dksX4_takesLeave_1 8 rfl rfl)
theorem dX4_takesLeave_32 : decode cX4_takesLeave 32 = .ok (.bipush 53, 2) := dk_16 53 (dk_at dksX4_takesLeave_1 10 rfl rfl)
theorem dX4_takesLeave_34 : decode cX4_takesLeave 34 = .ok (.invokevirtual 3, 3) := dk_182 0 3 (dk_at dksX4_takesLeave_1 12 rfl rfl)
theorem dX4_takesLeave_37 : decode cX4_takesLeave 37 = .ok (.ifCond .ne 5, 3) := dk_154 0 5 (dk_at dksX4_takesLeave_1 15 rfl rfl)
theorem dX4_takesLeave_40 : decode cX4_takesLeave 40 = .ok (.iconst 0, 1) := dk_3 (dk_at dksX4_takesLeave_1 18 rfl rfl)
theorem dX4_takesLeave_41 : decode cX4_takesLeave 41 = .ok (.ireturn, 1) := dk_172 (dk_at dksX4_takesLeave_1 19 rfl rfl)
theorem dX4_takesLeave_42 : decode cX4_takesLeave 42 = .ok (.aload_n 0, 1) := dk_42 (dk_at dksX4_takesLeave_1 20 rfl rfl)
theorem dX4_takesLeave_43 : decode cX4_takesLeave 43 = .ok (.invokevirtual 306, 3) := dk_182 1 50 (dk_at dksX4_takesLeave_1 21 rfl rfl)
theorem dX4_takesLeave_46 : decode cX4_takesLeave 46 = .ok (.bipush 48, 2) := dk_16 48 (dk_at dksX4_takesLeave_2 0 rfl rfl)
theorem dX4_takesLeave_48 : decode cX4_takesLeave 48 = .ok (.isub, 1) := dk_100 (dk_at dksX4_takesLeave_2 2 rfl rfl)
theorem dX4_takesLeave_49 : decode cX4_takesLeave 49 = .ok (.istore_n 1, 1) := dk_60 (dk_at dksX4_takesLeave_2 3 rfl rfl)
theorem dX4_takesLeave_50 : decode cX4_takesLeave 50 = .ok (.aload_n 0, 1) := dk_42 (dk_at dksX4_takesLeave_2 4 rfl rfl)
theorem dX4_takesLeave_51 : decode cX4_takesLeave 51 = .ok (.dup, 1) := dk_89 (dk_at dksX4_takesLeave_2 5 rfl rfl)
theorem dX4_takesLeave_52 : decode cX4_takesLeave 52 = .ok (.getfield 136, 3) := dk_180 0 136 (dk_at dksX4_takesLeave_2 6 rfl rfl)
theorem dX4_takesLeave_55 : decode cX4_takesLeave 55 = .ok (.iconst 1, 1) := dk_4 (dk_at dksX4_takesLeave_2 9 rfl rfl)
theorem dX4_takesLeave_56 : decode cX4_takesLeave 56 = .ok (.iadd, 1) := dk_96 (dk_at dksX4_takesLeave_2 10 rfl rfl)
theorem dX4_takesLeave_57 : decode cX4_takesLeave 57 = .ok (.putfield 136, 3) := dk_181 0 136 (dk_at dksX4_takesLeave_2 11 rfl rfl)
theorem dX4_takesLeave_60 : decode cX4_takesLeave 60 = .ok (.aload_n 0, 1) := dk_42 (dk_at dksX4_takesLeave_2 14 rfl rfl)
theorem dX4_takesLeave_61 : decode cX4_takesLeave 61 = .ok (.bipush 32, 2) := dk_16 32 (dk_at dksX4_takesLeave_2 15 rfl rfl)
theorem dX4_takesLeave_63 : decode cX4_takesLeave 63 = .ok (.invokevirtual 312, 3) := dk_182 1 56 (dk_at dksX4_takesLeave_2 17 rfl rfl)
theorem dX4_takesLeave_66 : decode cX4_takesLeave 66 = .ok (.ifCond .eq 10, 3) := dk_153 0 10 (dk_at dksX4_takesLeave_2 20 rfl rfl)
theorem dX4_takesLeave_69 : decode cX4_takesLeave 69 = .ok (.aload_n 0, 1) := dk_42 (dk_at dksX4_takesLeave_2 23 rfl rfl)
theorem dX4_takesLeave_70 : decode cX4_takesLeave 70 = .ok (.invokevirtual 328, 3) := dk_182 1 72 (dk_at dksX4_takesLeave_3 0 rfl rfl)
theorem dX4_takesLeave_73 : decode cX4_takesLeave 73 = .ok (.ifCond .ne 5, 3) := dk_154 0 5 (dk_at dksX4_takesLeave_3 3 rfl rfl)
theorem dX4_takesLeave_76 : decode cX4_takesLeave 76 = .ok (.iconst 0, 1) := dk_3 (dk_at dksX4_takesLeave_3 6 rfl rfl)
theorem dX4_takesLeave_77 : decode cX4_takesLeave 77 = .ok (.ireturn, 1) := dk_172 (dk_at dksX4_takesLeave_3 7 rfl rfl)
theorem dX4_takesLeave_78 : decode cX4_takesLeave 78 = .ok (.iload_n 1, 1) := dk_27 (dk_at dksX4_takesLeave_3 8 rfl rfl)
theorem dX4_takesLeave_79 : decode cX4_takesLeave 79 = .ok (.aload_n 0, 1) := dk_42 (dk_at dksX4_takesLeave_3 9 rfl rfl)
theorem dX4_takesLeave_80 : decode cX4_takesLeave 80 = .ok (.getfield 118, 3) := dk_180 0 118 (dk_at dksX4_takesLeave_3 10 rfl rfl)
theorem dX4_takesLeave_83 : decode cX4_takesLeave 83 = .ok (.if_icmp .ne 22, 3) := dk_160 0 22 (dk_at dksX4_takesLeave_3 13 rfl rfl)
theorem dX4_takesLeave_86 : decode cX4_takesLeave 86 = .ok (.aload_n 0, 1) := dk_42 (dk_at dksX4_takesLeave_3 16 rfl rfl)
theorem dX4_takesLeave_87 : decode cX4_takesLeave 87 = .ok (.getfield 146, 3) := dk_180 0 146 (dk_at dksX4_takesLeave_3 17 rfl rfl)
theorem dX4_takesLeave_90 : decode cX4_takesLeave 90 = .ok (.aload_n 0, 1) := dk_42 (dk_at dksX4_takesLeave_3 20 rfl rfl)
theorem dX4_takesLeave_91 : decode cX4_takesLeave 91 = .ok (.getfield 124, 3) := dk_180 0 124 (dk_at dksX4_takesLeave_3 21 rfl rfl)
theorem dX4_takesLeave_94 : decode cX4_takesLeave 94 = .ok (.if_icmp .le 11, 3) := dk_164 0 11 (dk_at dksX4_takesLeave_4 0 rfl rfl)
theorem dX4_takesLeave_97 : decode cX4_takesLeave 97 = .ok (.aload_n 0, 1) := dk_42 (dk_at dksX4_takesLeave_4 3 rfl rfl)
theorem dX4_takesLeave_98 : decode cX4_takesLeave 98 = .ok (.aload_n 0, 1) := dk_42 (dk_at dksX4_takesLeave_4 4 rfl rfl)
theorem dX4_takesLeave_99 : decode cX4_takesLeave 99 = .ok (.getfield 146, 3) := dk_180 0 146 (dk_at dksX4_takesLeave_4 5 rfl rfl)
theorem dX4_takesLeave_102 : decode cX4_takesLeave 102 = .ok (.putfield 124, 3) := dk_181 0 124 (dk_at dksX4_takesLeave_4 8 rfl rfl)
theorem dX4_takesLeave_105 : decode cX4_takesLeave 105 = .ok (.iconst 1, 1) := dk_4 (dk_at dksX4_takesLeave_4 11 rfl rfl)
theorem dX4_takesLeave_106 : decode cX4_takesLeave 106 = .ok (.ireturn, 1) := dk_172 (dk_at dksX4_takesLeave_4 12 rfl rfl)
abbrev cX4_takesE : ByteArray := prog_30_method_45_code
def yX4_takesE : MethodName := ⟨RX4, "takesE", "()Z"⟩
def dkwX4_takesE_11 : List UInt8 := [167, 0, 4, 3, 181, 0, 139, 4, 172]
abbrev dktX4_takesE_11 : List UInt8 := dkwX4_takesE_11 ++ []
def dkwX4_takesE_10 : List UInt8 := [182, 1, 79, 167, 255, 39, 42, 42, 180, 0, 139, 154, 0, 12, 42, 180, 0, 152, 3, 51, 153, 0, 7, 4]
abbrev dktX4_takesE_10 : List UInt8 := dkwX4_takesE_10 ++ dktX4_takesE_11
def dkwX4_takesE_9 : List UInt8 := [100, 181, 0, 158, 42, 89, 180, 0, 136, 4, 96, 181, 0, 136, 42, 42, 180, 0, 152, 42, 180, 0, 158, 51]
abbrev dktX4_takesE_9 : List UInt8 := dkwX4_takesE_9 ++ dktX4_takesE_10
def dkwX4_takesE_8 : List UInt8 := [180, 0, 155, 4, 100, 181, 0, 155, 42, 89, 180, 0, 161, 4, 100, 181, 0, 161, 42, 89, 180, 0, 158, 4]
abbrev dktX4_takesE_8 : List UInt8 := dkwX4_takesE_8 ++ dktX4_takesE_9
def dkwX4_takesE_7 : List UInt8 := [182, 1, 86, 42, 180, 0, 155, 154, 0, 6, 167, 0, 67, 28, 16, 41, 159, 0, 5, 3, 172, 42, 89]
abbrev dktX4_takesE_7 : List UInt8 := dkwX4_takesE_7 ++ dktX4_takesE_8
def dkwX4_takesE_6 : List UInt8 := [96, 181, 0, 155, 4, 60, 42, 89, 180, 0, 136, 4, 96, 181, 0, 136, 167, 255, 119, 42, 16, 124]
abbrev dktX4_takesE_6 : List UInt8 := dkwX4_takesE_6 ++ dktX4_takesE_7
def dkwX4_takesE_5 : List UInt8 := [160, 0, 43, 42, 28, 182, 1, 86, 42, 180, 0, 149, 42, 180, 0, 155, 28, 79, 42, 89, 180, 0, 155, 4]
abbrev dktX4_takesE_5 : List UInt8 := dkwX4_takesE_5 ++ dktX4_takesE_6
def dkwX4_takesE_4 : List UInt8 := [182, 1, 83, 153, 0, 8, 3, 60, 167, 255, 173, 3, 172, 28, 16, 38, 159, 0, 9, 28, 16, 124]
abbrev dktX4_takesE_4 : List UInt8 := dkwX4_takesE_4 ++ dktX4_takesE_5
def dkwX4_takesE_3 : List UInt8 := [180, 0, 155, 4, 96, 181, 0, 155, 42, 89, 180, 0, 136, 4, 96, 181, 0, 136, 167, 255, 185, 42]
abbrev dktX4_takesE_3 : List UInt8 := dkwX4_takesE_3 ++ dktX4_takesE_4
def dkwX4_takesE_2 : List UInt8 := [172, 42, 89, 180, 0, 161, 4, 96, 181, 0, 161, 42, 180, 0, 149, 42, 180, 0, 155, 28, 79, 42, 89]
abbrev dktX4_takesE_2 : List UInt8 := dkwX4_takesE_2 ++ dktX4_takesE_3
def dkwX4_takesE_1 : List UInt8 := [153, 0, 82, 28, 16, 33, 159, 0, 9, 28, 16, 40, 160, 0, 56, 42, 180, 0, 161, 8, 160, 0, 5, 3]
abbrev dktX4_takesE_1 : List UInt8 := dkwX4_takesE_1 ++ dktX4_takesE_2
def dkwX4_takesE_0 : List UInt8 := [42, 3, 181, 0, 155, 42, 3, 181, 0, 158, 42, 3, 181, 0, 161, 4, 60, 42, 182, 1, 50, 61, 27]
abbrev dktX4_takesE_0 : List UInt8 := dkwX4_takesE_0 ++ dktX4_takesE_1
theorem dksX4_takesE_0 : cX4_takesE.data.toList.drop 0 = dktX4_takesE_0 := by decide +kernel
theorem dksX4_takesE_1 : cX4_takesE.data.toList.drop 23 = dktX4_takesE_1 := dk_seg dksX4_takesE_0 23 rfl rfl
theorem dksX4_takesE_2 : cX4_takesE.data.toList.drop 47 = dktX4_takesE_2 := dk_seg dksX4_takesE_1 24 rfl rfl
theorem dksX4_takesE_3 : cX4_takesE.data.toList.drop 70 = dktX4_takesE_3 := dk_seg dksX4_takesE_2 23 rfl rfl
theorem dksX4_takesE_4 : cX4_takesE.data.toList.drop 92 = dktX4_takesE_4 := dk_seg dksX4_takesE_3 22 rfl rfl
theorem dksX4_takesE_5 : cX4_takesE.data.toList.drop 114 = dktX4_takesE_5 := dk_seg dksX4_takesE_4 22 rfl rfl
theorem dksX4_takesE_6 : cX4_takesE.data.toList.drop 138 = dktX4_takesE_6 := dk_seg dksX4_takesE_5 24 rfl rfl
theorem dksX4_takesE_7 : cX4_takesE.data.toList.drop 160 = dktX4_takesE_7 := dk_seg dksX4_takesE_6 22 rfl rfl
theorem dksX4_takesE_8 : cX4_takesE.data.toList.drop 183 = dktX4_takesE_8 := dk_seg dksX4_takesE_7 23 rfl rfl
theorem dksX4_takesE_9 : cX4_takesE.data.toList.drop 207 = dktX4_takesE_9 := dk_seg dksX4_takesE_8 24 rfl rfl
theorem dksX4_takesE_10 : cX4_takesE.data.toList.drop 231 = dktX4_takesE_10 := dk_seg dksX4_takesE_9 24 rfl rfl
theorem dksX4_takesE_11 : cX4_takesE.data.toList.drop 255 = dktX4_takesE_11 := dk_seg dksX4_takesE_10 24 rfl rfl
theorem dX4_takesE_0 : decode cX4_takesE 0 = .ok (.aload_n 0, 1) := dk_42 (dk_at dksX4_takesE_0 0 rfl rfl)
theorem dX4_takesE_1 : decode cX4_takesE 1 = .ok (.iconst 0, 1) := dk_3 (dk_at dksX4_takesE_0 1 rfl rfl)
theorem dX4_takesE_2 : decode cX4_takesE 2 = .ok (.putfield 155, 3) := dk_181 0 155 (dk_at dksX4_takesE_0 2 rfl rfl)
theorem dX4_takesE_5 : decode cX4_takesE 5 = .ok (.aload_n 0, 1) := dk_42 (dk_at dksX4_takesE_0 5 rfl rfl)
theorem dX4_takesE_6 : decode cX4_takesE 6 = .ok (.iconst 0, 1) := dk_3 (dk_at dksX4_takesE_0 6 rfl rfl)
theorem dX4_takesE_7 : decode cX4_takesE 7 = .ok (.putfield 158, 3) := dk_181 0 158 (dk_at dksX4_takesE_0 7 rfl rfl)
theorem dX4_takesE_10 : decode cX4_takesE 10 = .ok (.aload_n 0, 1) := dk_42 (dk_at dksX4_takesE_0 10 rfl rfl)
theorem dX4_takesE_11 : decode cX4_takesE 11 = .ok (.iconst 0, 1) := dk_3 (dk_at dksX4_takesE_0 11 rfl rfl)
theorem dX4_takesE_12 : decode cX4_takesE 12 = .ok (.putfield 161, 3) := dk_181 0 161 (dk_at dksX4_takesE_0 12 rfl rfl)
theorem dX4_takesE_15 : decode cX4_takesE 15 = .ok (.iconst 1, 1) := dk_4 (dk_at dksX4_takesE_0 15 rfl rfl)
theorem dX4_takesE_16 : decode cX4_takesE 16 = .ok (.istore_n 1, 1) := dk_60 (dk_at dksX4_takesE_0 16 rfl rfl)
theorem dX4_takesE_17 : decode cX4_takesE 17 = .ok (.aload_n 0, 1) := dk_42 (dk_at dksX4_takesE_0 17 rfl rfl)
theorem dX4_takesE_18 : decode cX4_takesE 18 = .ok (.invokevirtual 306, 3) := dk_182 1 50 (dk_at dksX4_takesE_0 18 rfl rfl)
theorem dX4_takesE_21 : decode cX4_takesE 21 = .ok (.istore_n 2, 1) := dk_61 (dk_at dksX4_takesE_0 21 rfl rfl)
theorem dX4_takesE_22 : decode cX4_takesE 22 = .ok (.iload_n 1, 1) := dk_27 (dk_at dksX4_takesE_0 22 rfl rfl)
theorem dX4_takesE_23 : decode cX4_takesE 23 = .ok (.ifCond .eq 82, 3) := dk_153 0 82 (dk_at dksX4_takesE_1 0 rfl rfl)
theorem dX4_takesE_26 : decode cX4_takesE 26 = .ok (.iload_n 2, 1) := dk_28 (dk_at dksX4_takesE_1 3 rfl rfl)
theorem dX4_takesE_27 : decode cX4_takesE 27 = .ok (.bipush 33, 2) := dk_16 33 (dk_at dksX4_takesE_1 4 rfl rfl)
theorem dX4_takesE_29 : decode cX4_takesE 29 = .ok (.if_icmp .eq 9, 3) := dk_159 0 9 (dk_at dksX4_takesE_1 6 rfl rfl)
theorem dX4_takesE_32 : decode cX4_takesE 32 = .ok (.iload_n 2, 1) := dk_28 (dk_at dksX4_takesE_1 9 rfl rfl)
theorem dX4_takesE_33 : decode cX4_takesE 33 = .ok (.bipush 40, 2) := dk_16 40 (dk_at dksX4_takesE_1 10 rfl rfl)
theorem dX4_takesE_35 : decode cX4_takesE 35 = .ok (.if_icmp .ne 56, 3) := dk_160 0 56 (dk_at dksX4_takesE_1 12 rfl rfl)
theorem dX4_takesE_38 : decode cX4_takesE 38 = .ok (.aload_n 0, 1) := dk_42 (dk_at dksX4_takesE_1 15 rfl rfl)
theorem dX4_takesE_39 : decode cX4_takesE 39 = .ok (.getfield 161, 3) := dk_180 0 161 (dk_at dksX4_takesE_1 16 rfl rfl)
theorem dX4_takesE_42 : decode cX4_takesE 42 = .ok (.iconst 5, 1) := dk_8 (dk_at dksX4_takesE_1 19 rfl rfl)
theorem dX4_takesE_43 : decode cX4_takesE 43 = .ok (.if_icmp .ne 5, 3) := dk_160 0 5 (dk_at dksX4_takesE_1 20 rfl rfl)
theorem dX4_takesE_46 : decode cX4_takesE 46 = .ok (.iconst 0, 1) := dk_3 (dk_at dksX4_takesE_1 23 rfl rfl)
theorem dX4_takesE_47 : decode cX4_takesE 47 = .ok (.ireturn, 1) := dk_172 (dk_at dksX4_takesE_2 0 rfl rfl)
theorem dX4_takesE_48 : decode cX4_takesE 48 = .ok (.aload_n 0, 1) := dk_42 (dk_at dksX4_takesE_2 1 rfl rfl)
theorem dX4_takesE_49 : decode cX4_takesE 49 = .ok (.dup, 1) := dk_89 (dk_at dksX4_takesE_2 2 rfl rfl)
theorem dX4_takesE_50 : decode cX4_takesE 50 = .ok (.getfield 161, 3) := dk_180 0 161 (dk_at dksX4_takesE_2 3 rfl rfl)
theorem dX4_takesE_53 : decode cX4_takesE 53 = .ok (.iconst 1, 1) := dk_4 (dk_at dksX4_takesE_2 6 rfl rfl)
theorem dX4_takesE_54 : decode cX4_takesE 54 = .ok (.iadd, 1) := dk_96 (dk_at dksX4_takesE_2 7 rfl rfl)
theorem dX4_takesE_55 : decode cX4_takesE 55 = .ok (.putfield 161, 3) := dk_181 0 161 (dk_at dksX4_takesE_2 8 rfl rfl)
theorem dX4_takesE_58 : decode cX4_takesE 58 = .ok (.aload_n 0, 1) := dk_42 (dk_at dksX4_takesE_2 11 rfl rfl)
theorem dX4_takesE_59 : decode cX4_takesE 59 = .ok (.getfield 149, 3) := dk_180 0 149 (dk_at dksX4_takesE_2 12 rfl rfl)
theorem dX4_takesE_62 : decode cX4_takesE 62 = .ok (.aload_n 0, 1) := dk_42 (dk_at dksX4_takesE_2 15 rfl rfl)
theorem dX4_takesE_63 : decode cX4_takesE 63 = .ok (.getfield 155, 3) := dk_180 0 155 (dk_at dksX4_takesE_2 16 rfl rfl)
theorem dX4_takesE_66 : decode cX4_takesE 66 = .ok (.iload_n 2, 1) := dk_28 (dk_at dksX4_takesE_2 19 rfl rfl)
theorem dX4_takesE_67 : decode cX4_takesE 67 = .ok (.iastore, 1) := dk_79 (dk_at dksX4_takesE_2 20 rfl rfl)
theorem dX4_takesE_68 : decode cX4_takesE 68 = .ok (.aload_n 0, 1) := dk_42 (dk_at dksX4_takesE_2 21 rfl rfl)
theorem dX4_takesE_69 : decode cX4_takesE 69 = .ok (.dup, 1) := dk_89 (dk_at dksX4_takesE_2 22 rfl rfl)
theorem dX4_takesE_70 : decode cX4_takesE 70 = .ok (.getfield 155, 3) := dk_180 0 155 (dk_at dksX4_takesE_3 0 rfl rfl)
theorem dX4_takesE_73 : decode cX4_takesE 73 = .ok (.iconst 1, 1) := dk_4 (dk_at dksX4_takesE_3 3 rfl rfl)
theorem dX4_takesE_74 : decode cX4_takesE 74 = .ok (.iadd, 1) := dk_96 (dk_at dksX4_takesE_3 4 rfl rfl)
theorem dX4_takesE_75 : decode cX4_takesE 75 = .ok (.putfield 155, 3) := dk_181 0 155 (dk_at dksX4_takesE_3 5 rfl rfl)
theorem dX4_takesE_78 : decode cX4_takesE 78 = .ok (.aload_n 0, 1) := dk_42 (dk_at dksX4_takesE_3 8 rfl rfl)
theorem dX4_takesE_79 : decode cX4_takesE 79 = .ok (.dup, 1) := dk_89 (dk_at dksX4_takesE_3 9 rfl rfl)
theorem dX4_takesE_80 : decode cX4_takesE 80 = .ok (.getfield 136, 3) := dk_180 0 136 (dk_at dksX4_takesE_3 10 rfl rfl)
theorem dX4_takesE_83 : decode cX4_takesE 83 = .ok (.iconst 1, 1) := dk_4 (dk_at dksX4_takesE_3 13 rfl rfl)
theorem dX4_takesE_84 : decode cX4_takesE 84 = .ok (.iadd, 1) := dk_96 (dk_at dksX4_takesE_3 14 rfl rfl)
theorem dX4_takesE_85 : decode cX4_takesE 85 = .ok (.putfield 136, 3) := dk_181 0 136 (dk_at dksX4_takesE_3 15 rfl rfl)
theorem dX4_takesE_88 : decode cX4_takesE 88 = .ok (.goto (-71), 3) := dk_167 255 185 (dk_at dksX4_takesE_3 18 rfl rfl)
theorem dX4_takesE_91 : decode cX4_takesE 91 = .ok (.aload_n 0, 1) := dk_42 (dk_at dksX4_takesE_3 21 rfl rfl)
theorem dX4_takesE_92 : decode cX4_takesE 92 = .ok (.invokevirtual 339, 3) := dk_182 1 83 (dk_at dksX4_takesE_4 0 rfl rfl)
theorem dX4_takesE_95 : decode cX4_takesE 95 = .ok (.ifCond .eq 8, 3) := dk_153 0 8 (dk_at dksX4_takesE_4 3 rfl rfl)
theorem dX4_takesE_98 : decode cX4_takesE 98 = .ok (.iconst 0, 1) := dk_3 (dk_at dksX4_takesE_4 6 rfl rfl)
theorem dX4_takesE_99 : decode cX4_takesE 99 = .ok (.istore_n 1, 1) := dk_60 (dk_at dksX4_takesE_4 7 rfl rfl)
theorem dX4_takesE_100 : decode cX4_takesE 100 = .ok (.goto (-83), 3) := dk_167 255 173 (dk_at dksX4_takesE_4 8 rfl rfl)
theorem dX4_takesE_103 : decode cX4_takesE 103 = .ok (.iconst 0, 1) := dk_3 (dk_at dksX4_takesE_4 11 rfl rfl)
theorem dX4_takesE_104 : decode cX4_takesE 104 = .ok (.ireturn, 1) := dk_172 (dk_at dksX4_takesE_4 12 rfl rfl)
theorem dX4_takesE_105 : decode cX4_takesE 105 = .ok (.iload_n 2, 1) := dk_28 (dk_at dksX4_takesE_4 13 rfl rfl)
theorem dX4_takesE_106 : decode cX4_takesE 106 = .ok (.bipush 38, 2) := dk_16 38 (dk_at dksX4_takesE_4 14 rfl rfl)
theorem dX4_takesE_108 : decode cX4_takesE 108 = .ok (.if_icmp .eq 9, 3) := dk_159 0 9 (dk_at dksX4_takesE_4 16 rfl rfl)
theorem dX4_takesE_111 : decode cX4_takesE 111 = .ok (.iload_n 2, 1) := dk_28 (dk_at dksX4_takesE_4 19 rfl rfl)
theorem dX4_takesE_112 : decode cX4_takesE 112 = .ok (.bipush 124, 2) := dk_16 124 (dk_at dksX4_takesE_4 20 rfl rfl)
theorem dX4_takesE_114 : decode cX4_takesE 114 = .ok (.if_icmp .ne 43, 3) := dk_160 0 43 (dk_at dksX4_takesE_5 0 rfl rfl)
theorem dX4_takesE_117 : decode cX4_takesE 117 = .ok (.aload_n 0, 1) := dk_42 (dk_at dksX4_takesE_5 3 rfl rfl)
theorem dX4_takesE_118 : decode cX4_takesE 118 = .ok (.iload_n 2, 1) := dk_28 (dk_at dksX4_takesE_5 4 rfl rfl)
theorem dX4_takesE_119 : decode cX4_takesE 119 = .ok (.invokevirtual 342, 3) := dk_182 1 86 (dk_at dksX4_takesE_5 5 rfl rfl)
theorem dX4_takesE_122 : decode cX4_takesE 122 = .ok (.aload_n 0, 1) := dk_42 (dk_at dksX4_takesE_5 8 rfl rfl)
theorem dX4_takesE_123 : decode cX4_takesE 123 = .ok (.getfield 149, 3) := dk_180 0 149 (dk_at dksX4_takesE_5 9 rfl rfl)
theorem dX4_takesE_126 : decode cX4_takesE 126 = .ok (.aload_n 0, 1) := dk_42 (dk_at dksX4_takesE_5 12 rfl rfl)
theorem dX4_takesE_127 : decode cX4_takesE 127 = .ok (.getfield 155, 3) := dk_180 0 155 (dk_at dksX4_takesE_5 13 rfl rfl)
theorem dX4_takesE_130 : decode cX4_takesE 130 = .ok (.iload_n 2, 1) := dk_28 (dk_at dksX4_takesE_5 16 rfl rfl)
theorem dX4_takesE_131 : decode cX4_takesE 131 = .ok (.iastore, 1) := dk_79 (dk_at dksX4_takesE_5 17 rfl rfl)
theorem dX4_takesE_132 : decode cX4_takesE 132 = .ok (.aload_n 0, 1) := dk_42 (dk_at dksX4_takesE_5 18 rfl rfl)
theorem dX4_takesE_133 : decode cX4_takesE 133 = .ok (.dup, 1) := dk_89 (dk_at dksX4_takesE_5 19 rfl rfl)
theorem dX4_takesE_134 : decode cX4_takesE 134 = .ok (.getfield 155, 3) := dk_180 0 155 (dk_at dksX4_takesE_5 20 rfl rfl)
theorem dX4_takesE_137 : decode cX4_takesE 137 = .ok (.iconst 1, 1) := dk_4 (dk_at dksX4_takesE_5 23 rfl rfl)
theorem dX4_takesE_138 : decode cX4_takesE 138 = .ok (.iadd, 1) := dk_96 (dk_at dksX4_takesE_6 0 rfl rfl)
theorem dX4_takesE_139 : decode cX4_takesE 139 = .ok (.putfield 155, 3) := dk_181 0 155 (dk_at dksX4_takesE_6 1 rfl rfl)
theorem dX4_takesE_142 : decode cX4_takesE 142 = .ok (.iconst 1, 1) := dk_4 (dk_at dksX4_takesE_6 4 rfl rfl)
theorem dX4_takesE_143 : decode cX4_takesE 143 = .ok (.istore_n 1, 1) := dk_60 (dk_at dksX4_takesE_6 5 rfl rfl)
theorem dX4_takesE_144 : decode cX4_takesE 144 = .ok (.aload_n 0, 1) := dk_42 (dk_at dksX4_takesE_6 6 rfl rfl)
theorem dX4_takesE_145 : decode cX4_takesE 145 = .ok (.dup, 1) := dk_89 (dk_at dksX4_takesE_6 7 rfl rfl)
theorem dX4_takesE_146 : decode cX4_takesE 146 = .ok (.getfield 136, 3) := dk_180 0 136 (dk_at dksX4_takesE_6 8 rfl rfl)
theorem dX4_takesE_149 : decode cX4_takesE 149 = .ok (.iconst 1, 1) := dk_4 (dk_at dksX4_takesE_6 11 rfl rfl)
theorem dX4_takesE_150 : decode cX4_takesE 150 = .ok (.iadd, 1) := dk_96 (dk_at dksX4_takesE_6 12 rfl rfl)
theorem dX4_takesE_151 : decode cX4_takesE 151 = .ok (.putfield 136, 3) := dk_181 0 136 (dk_at dksX4_takesE_6 13 rfl rfl)
theorem dX4_takesE_154 : decode cX4_takesE 154 = .ok (.goto (-137), 3) := dk_167 255 119 (dk_at dksX4_takesE_6 16 rfl rfl)
theorem dX4_takesE_157 : decode cX4_takesE 157 = .ok (.aload_n 0, 1) := dk_42 (dk_at dksX4_takesE_6 19 rfl rfl)
theorem dX4_takesE_158 : decode cX4_takesE 158 = .ok (.bipush 124, 2) := dk_16 124 (dk_at dksX4_takesE_6 20 rfl rfl)
theorem dX4_takesE_160 : decode cX4_takesE 160 = .ok (.invokevirtual 342, 3) := dk_182 1 86 (dk_at dksX4_takesE_7 0 rfl rfl)
theorem dX4_takesE_163 : decode cX4_takesE 163 = .ok (.aload_n 0, 1) := dk_42 (dk_at dksX4_takesE_7 3 rfl rfl)
theorem dX4_takesE_164 : decode cX4_takesE 164 = .ok (.getfield 155, 3) := dk_180 0 155 (dk_at dksX4_takesE_7 4 rfl rfl)
theorem dX4_takesE_167 : decode cX4_takesE 167 = .ok (.ifCond .ne 6, 3) := dk_154 0 6 (dk_at dksX4_takesE_7 7 rfl rfl)
theorem dX4_takesE_170 : decode cX4_takesE 170 = .ok (.goto 67, 3) := dk_167 0 67 (dk_at dksX4_takesE_7 10 rfl rfl)
theorem dX4_takesE_173 : decode cX4_takesE 173 = .ok (.iload_n 2, 1) := dk_28 (dk_at dksX4_takesE_7 13 rfl rfl)
theorem dX4_takesE_174 : decode cX4_takesE 174 = .ok (.bipush 41, 2) := dk_16 41 (dk_at dksX4_takesE_7 14 rfl rfl)
theorem dX4_takesE_176 : decode cX4_takesE 176 = .ok (.if_icmp .eq 5, 3) := dk_159 0 5 (dk_at dksX4_takesE_7 16 rfl rfl)
theorem dX4_takesE_179 : decode cX4_takesE 179 = .ok (.iconst 0, 1) := dk_3 (dk_at dksX4_takesE_7 19 rfl rfl)
theorem dX4_takesE_180 : decode cX4_takesE 180 = .ok (.ireturn, 1) := dk_172 (dk_at dksX4_takesE_7 20 rfl rfl)
theorem dX4_takesE_181 : decode cX4_takesE 181 = .ok (.aload_n 0, 1) := dk_42 (dk_at dksX4_takesE_7 21 rfl rfl)
theorem dX4_takesE_182 : decode cX4_takesE 182 = .ok (.dup, 1) := dk_89 (dk_at dksX4_takesE_7 22 rfl rfl)
theorem dX4_takesE_183 : decode cX4_takesE 183 = .ok (.getfield 155, 3) := dk_180 0 155 (dk_at dksX4_takesE_8 0 rfl rfl)
theorem dX4_takesE_186 : decode cX4_takesE 186 = .ok (.iconst 1, 1) := dk_4 (dk_at dksX4_takesE_8 3 rfl rfl)
theorem dX4_takesE_187 : decode cX4_takesE 187 = .ok (.isub, 1) := dk_100 (dk_at dksX4_takesE_8 4 rfl rfl)
theorem dX4_takesE_188 : decode cX4_takesE 188 = .ok (.putfield 155, 3) := dk_181 0 155 (dk_at dksX4_takesE_8 5 rfl rfl)
theorem dX4_takesE_191 : decode cX4_takesE 191 = .ok (.aload_n 0, 1) := dk_42 (dk_at dksX4_takesE_8 8 rfl rfl)
theorem dX4_takesE_192 : decode cX4_takesE 192 = .ok (.dup, 1) := dk_89 (dk_at dksX4_takesE_8 9 rfl rfl)
theorem dX4_takesE_193 : decode cX4_takesE 193 = .ok (.getfield 161, 3) := dk_180 0 161 (dk_at dksX4_takesE_8 10 rfl rfl)
theorem dX4_takesE_196 : decode cX4_takesE 196 = .ok (.iconst 1, 1) := dk_4 (dk_at dksX4_takesE_8 13 rfl rfl)
theorem dX4_takesE_197 : decode cX4_takesE 197 = .ok (.isub, 1) := dk_100 (dk_at dksX4_takesE_8 14 rfl rfl)
theorem dX4_takesE_198 : decode cX4_takesE 198 = .ok (.putfield 161, 3) := dk_181 0 161 (dk_at dksX4_takesE_8 15 rfl rfl)
theorem dX4_takesE_201 : decode cX4_takesE 201 = .ok (.aload_n 0, 1) := dk_42 (dk_at dksX4_takesE_8 18 rfl rfl)
theorem dX4_takesE_202 : decode cX4_takesE 202 = .ok (.dup, 1) := dk_89 (dk_at dksX4_takesE_8 19 rfl rfl)
theorem dX4_takesE_203 : decode cX4_takesE 203 = .ok (.getfield 158, 3) := dk_180 0 158 (dk_at dksX4_takesE_8 20 rfl rfl)
theorem dX4_takesE_206 : decode cX4_takesE 206 = .ok (.iconst 1, 1) := dk_4 (dk_at dksX4_takesE_8 23 rfl rfl)
theorem dX4_takesE_207 : decode cX4_takesE 207 = .ok (.isub, 1) := dk_100 (dk_at dksX4_takesE_9 0 rfl rfl)
theorem dX4_takesE_208 : decode cX4_takesE 208 = .ok (.putfield 158, 3) := dk_181 0 158 (dk_at dksX4_takesE_9 1 rfl rfl)
theorem dX4_takesE_211 : decode cX4_takesE 211 = .ok (.aload_n 0, 1) := dk_42 (dk_at dksX4_takesE_9 4 rfl rfl)
theorem dX4_takesE_212 : decode cX4_takesE 212 = .ok (.dup, 1) := dk_89 (dk_at dksX4_takesE_9 5 rfl rfl)
theorem dX4_takesE_213 : decode cX4_takesE 213 = .ok (.getfield 136, 3) := dk_180 0 136 (dk_at dksX4_takesE_9 6 rfl rfl)
theorem dX4_takesE_216 : decode cX4_takesE 216 = .ok (.iconst 1, 1) := dk_4 (dk_at dksX4_takesE_9 9 rfl rfl)
theorem dX4_takesE_217 : decode cX4_takesE 217 = .ok (.iadd, 1) := dk_96 (dk_at dksX4_takesE_9 10 rfl rfl)
theorem dX4_takesE_218 : decode cX4_takesE 218 = .ok (.putfield 136, 3) := dk_181 0 136 (dk_at dksX4_takesE_9 11 rfl rfl)
theorem dX4_takesE_221 : decode cX4_takesE 221 = .ok (.aload_n 0, 1) := dk_42 (dk_at dksX4_takesE_9 14 rfl rfl)
theorem dX4_takesE_222 : decode cX4_takesE 222 = .ok (.aload_n 0, 1) := dk_42 (dk_at dksX4_takesE_9 15 rfl rfl)
theorem dX4_takesE_223 : decode cX4_takesE 223 = .ok (.getfield 152, 3) := dk_180 0 152 (dk_at dksX4_takesE_9 16 rfl rfl)
theorem dX4_takesE_226 : decode cX4_takesE 226 = .ok (.aload_n 0, 1) := dk_42 (dk_at dksX4_takesE_9 19 rfl rfl)
theorem dX4_takesE_227 : decode cX4_takesE 227 = .ok (.getfield 158, 3) := dk_180 0 158 (dk_at dksX4_takesE_9 20 rfl rfl)
theorem dX4_takesE_230 : decode cX4_takesE 230 = .ok (.baload, 1) := dk_51 (dk_at dksX4_takesE_9 23 rfl rfl)
theorem dX4_takesE_231 : decode cX4_takesE 231 = .ok (.invokevirtual 335, 3) := dk_182 1 79 (dk_at dksX4_takesE_10 0 rfl rfl)
theorem dX4_takesE_234 : decode cX4_takesE 234 = .ok (.goto (-217), 3) := dk_167 255 39 (dk_at dksX4_takesE_10 3 rfl rfl)
theorem dX4_takesE_237 : decode cX4_takesE 237 = .ok (.aload_n 0, 1) := dk_42 (dk_at dksX4_takesE_10 6 rfl rfl)
theorem dX4_takesE_238 : decode cX4_takesE 238 = .ok (.aload_n 0, 1) := dk_42 (dk_at dksX4_takesE_10 7 rfl rfl)
theorem dX4_takesE_239 : decode cX4_takesE 239 = .ok (.getfield 139, 3) := dk_180 0 139 (dk_at dksX4_takesE_10 8 rfl rfl)
theorem dX4_takesE_242 : decode cX4_takesE 242 = .ok (.ifCond .ne 12, 3) := dk_154 0 12 (dk_at dksX4_takesE_10 11 rfl rfl)
theorem dX4_takesE_245 : decode cX4_takesE 245 = .ok (.aload_n 0, 1) := dk_42 (dk_at dksX4_takesE_10 14 rfl rfl)
theorem dX4_takesE_246 : decode cX4_takesE 246 = .ok (.getfield 152, 3) := dk_180 0 152 (dk_at dksX4_takesE_10 15 rfl rfl)
theorem dX4_takesE_249 : decode cX4_takesE 249 = .ok (.iconst 0, 1) := dk_3 (dk_at dksX4_takesE_10 18 rfl rfl)
theorem dX4_takesE_250 : decode cX4_takesE 250 = .ok (.baload, 1) := dk_51 (dk_at dksX4_takesE_10 19 rfl rfl)
theorem dX4_takesE_251 : decode cX4_takesE 251 = .ok (.ifCond .eq 7, 3) := dk_153 0 7 (dk_at dksX4_takesE_10 20 rfl rfl)
theorem dX4_takesE_254 : decode cX4_takesE 254 = .ok (.iconst 1, 1) := dk_4 (dk_at dksX4_takesE_10 23 rfl rfl)
theorem dX4_takesE_255 : decode cX4_takesE 255 = .ok (.goto 4, 3) := dk_167 0 4 (dk_at dksX4_takesE_11 0 rfl rfl)
theorem dX4_takesE_258 : decode cX4_takesE 258 = .ok (.iconst 0, 1) := dk_3 (dk_at dksX4_takesE_11 3 rfl rfl)
theorem dX4_takesE_259 : decode cX4_takesE 259 = .ok (.putfield 139, 3) := dk_181 0 139 (dk_at dksX4_takesE_11 4 rfl rfl)
theorem dX4_takesE_262 : decode cX4_takesE 262 = .ok (.iconst 1, 1) := dk_4 (dk_at dksX4_takesE_11 7 rfl rfl)
theorem dX4_takesE_263 : decode cX4_takesE 263 = .ok (.ireturn, 1) := dk_172 (dk_at dksX4_takesE_11 8 rfl rfl)
abbrev cX4_takesTest : ByteArray := prog_30_method_44_code
def yX4_takesTest : MethodName := ⟨RX4, "takesTest", "()Z"⟩
def dkwX4_takesTest_2 : List UInt8 := [182, 1, 72, 154, 0, 5, 3, 172, 42, 42, 27, 42, 180, 0, 146, 182, 1, 75, 182, 1, 79, 4, 172]
abbrev dktX4_takesTest_2 : List UInt8 := dkwX4_takesTest_2 ++ []
def dkwX4_takesTest_1 : List UInt8 := [16, 97, 159, 0, 11, 27, 16, 121, 159, 0, 5, 3, 172, 42, 89, 180, 0, 136, 4, 96, 181, 0, 136, 42]
abbrev dktX4_takesTest_1 : List UInt8 := dkwX4_takesTest_1 ++ dktX4_takesTest_2
def dkwX4_takesTest_0 : List UInt8 := [42, 182, 1, 50, 60, 27, 16, 119, 159, 0, 29, 27, 16, 98, 159, 0, 23, 27, 16, 99, 159, 0, 17, 27]
abbrev dktX4_takesTest_0 : List UInt8 := dkwX4_takesTest_0 ++ dktX4_takesTest_1
theorem dksX4_takesTest_0 : cX4_takesTest.data.toList.drop 0 = dktX4_takesTest_0 := by decide +kernel
theorem dksX4_takesTest_1 : cX4_takesTest.data.toList.drop 24 = dktX4_takesTest_1 := dk_seg dksX4_takesTest_0 24 rfl rfl
theorem dksX4_takesTest_2 : cX4_takesTest.data.toList.drop 48 = dktX4_takesTest_2 := dk_seg dksX4_takesTest_1 24 rfl rfl
theorem dX4_takesTest_0 : decode cX4_takesTest 0 = .ok (.aload_n 0, 1) := dk_42 (dk_at dksX4_takesTest_0 0 rfl rfl)
theorem dX4_takesTest_1 : decode cX4_takesTest 1 = .ok (.invokevirtual 306, 3) := dk_182 1 50 (dk_at dksX4_takesTest_0 1 rfl rfl)
theorem dX4_takesTest_4 : decode cX4_takesTest 4 = .ok (.istore_n 1, 1) := dk_60 (dk_at dksX4_takesTest_0 4 rfl rfl)
theorem dX4_takesTest_5 : decode cX4_takesTest 5 = .ok (.iload_n 1, 1) := dk_27 (dk_at dksX4_takesTest_0 5 rfl rfl)
theorem dX4_takesTest_6 : decode cX4_takesTest 6 = .ok (.bipush 119, 2) := dk_16 119 (dk_at dksX4_takesTest_0 6 rfl rfl)
theorem dX4_takesTest_8 : decode cX4_takesTest 8 = .ok (.if_icmp .eq 29, 3) := dk_159 0 29 (dk_at dksX4_takesTest_0 8 rfl rfl)
theorem dX4_takesTest_11 : decode cX4_takesTest 11 = .ok (.iload_n 1, 1) := dk_27 (dk_at dksX4_takesTest_0 11 rfl rfl)
theorem dX4_takesTest_12 : decode cX4_takesTest 12 = .ok (.bipush 98, 2) := dk_16 98 (dk_at dksX4_takesTest_0 12 rfl rfl)
theorem dX4_takesTest_14 : decode cX4_takesTest 14 = .ok (.if_icmp .eq 23, 3) := dk_159 0 23 (dk_at dksX4_takesTest_0 14 rfl rfl)
theorem dX4_takesTest_17 : decode cX4_takesTest 17 = .ok (.iload_n 1, 1) := dk_27 (dk_at dksX4_takesTest_0 17 rfl rfl)
theorem dX4_takesTest_18 : decode cX4_takesTest 18 = .ok (.bipush 99, 2) := dk_16 99 (dk_at dksX4_takesTest_0 18 rfl rfl)
theorem dX4_takesTest_20 : decode cX4_takesTest 20 = .ok (.if_icmp .eq 17, 3) := dk_159 0 17 (dk_at dksX4_takesTest_0 20 rfl rfl)
theorem dX4_takesTest_23 : decode cX4_takesTest 23 = .ok (.iload_n 1, 1) := dk_27 (dk_at dksX4_takesTest_0 23 rfl rfl)
theorem dX4_takesTest_24 : decode cX4_takesTest 24 = .ok (.bipush 97, 2) := dk_16 97 (dk_at dksX4_takesTest_1 0 rfl rfl)
theorem dX4_takesTest_26 : decode cX4_takesTest 26 = .ok (.if_icmp .eq 11, 3) := dk_159 0 11 (dk_at dksX4_takesTest_1 2 rfl rfl)
theorem dX4_takesTest_29 : decode cX4_takesTest 29 = .ok (.iload_n 1, 1) := dk_27 (dk_at dksX4_takesTest_1 5 rfl rfl)
theorem dX4_takesTest_30 : decode cX4_takesTest 30 = .ok (.bipush 121, 2) := dk_16 121 (dk_at dksX4_takesTest_1 6 rfl rfl)
theorem dX4_takesTest_32 : decode cX4_takesTest 32 = .ok (.if_icmp .eq 5, 3) := dk_159 0 5 (dk_at dksX4_takesTest_1 8 rfl rfl)
theorem dX4_takesTest_35 : decode cX4_takesTest 35 = .ok (.iconst 0, 1) := dk_3 (dk_at dksX4_takesTest_1 11 rfl rfl)
theorem dX4_takesTest_36 : decode cX4_takesTest 36 = .ok (.ireturn, 1) := dk_172 (dk_at dksX4_takesTest_1 12 rfl rfl)
theorem dX4_takesTest_37 : decode cX4_takesTest 37 = .ok (.aload_n 0, 1) := dk_42 (dk_at dksX4_takesTest_1 13 rfl rfl)
theorem dX4_takesTest_38 : decode cX4_takesTest 38 = .ok (.dup, 1) := dk_89 (dk_at dksX4_takesTest_1 14 rfl rfl)
theorem dX4_takesTest_39 : decode cX4_takesTest 39 = .ok (.getfield 136, 3) := dk_180 0 136 (dk_at dksX4_takesTest_1 15 rfl rfl)
theorem dX4_takesTest_42 : decode cX4_takesTest 42 = .ok (.iconst 1, 1) := dk_4 (dk_at dksX4_takesTest_1 18 rfl rfl)
theorem dX4_takesTest_43 : decode cX4_takesTest 43 = .ok (.iadd, 1) := dk_96 (dk_at dksX4_takesTest_1 19 rfl rfl)
theorem dX4_takesTest_44 : decode cX4_takesTest 44 = .ok (.putfield 136, 3) := dk_181 0 136 (dk_at dksX4_takesTest_1 20 rfl rfl)
theorem dX4_takesTest_47 : decode cX4_takesTest 47 = .ok (.aload_n 0, 1) := dk_42 (dk_at dksX4_takesTest_1 23 rfl rfl)
theorem dX4_takesTest_48 : decode cX4_takesTest 48 = .ok (.invokevirtual 328, 3) := dk_182 1 72 (dk_at dksX4_takesTest_2 0 rfl rfl)
theorem dX4_takesTest_51 : decode cX4_takesTest 51 = .ok (.ifCond .ne 5, 3) := dk_154 0 5 (dk_at dksX4_takesTest_2 3 rfl rfl)
theorem dX4_takesTest_54 : decode cX4_takesTest 54 = .ok (.iconst 0, 1) := dk_3 (dk_at dksX4_takesTest_2 6 rfl rfl)
theorem dX4_takesTest_55 : decode cX4_takesTest 55 = .ok (.ireturn, 1) := dk_172 (dk_at dksX4_takesTest_2 7 rfl rfl)
theorem dX4_takesTest_56 : decode cX4_takesTest 56 = .ok (.aload_n 0, 1) := dk_42 (dk_at dksX4_takesTest_2 8 rfl rfl)
theorem dX4_takesTest_57 : decode cX4_takesTest 57 = .ok (.aload_n 0, 1) := dk_42 (dk_at dksX4_takesTest_2 9 rfl rfl)
theorem dX4_takesTest_58 : decode cX4_takesTest 58 = .ok (.iload_n 1, 1) := dk_27 (dk_at dksX4_takesTest_2 10 rfl rfl)
theorem dX4_takesTest_59 : decode cX4_takesTest 59 = .ok (.aload_n 0, 1) := dk_42 (dk_at dksX4_takesTest_2 11 rfl rfl)
theorem dX4_takesTest_60 : decode cX4_takesTest 60 = .ok (.getfield 146, 3) := dk_180 0 146 (dk_at dksX4_takesTest_2 12 rfl rfl)
theorem dX4_takesTest_63 : decode cX4_takesTest 63 = .ok (.invokevirtual 331, 3) := dk_182 1 75 (dk_at dksX4_takesTest_2 15 rfl rfl)
theorem dX4_takesTest_66 : decode cX4_takesTest 66 = .ok (.invokevirtual 335, 3) := dk_182 1 79 (dk_at dksX4_takesTest_2 18 rfl rfl)
theorem dX4_takesTest_69 : decode cX4_takesTest 69 = .ok (.iconst 1, 1) := dk_4 (dk_at dksX4_takesTest_2 21 rfl rfl)
theorem dX4_takesTest_70 : decode cX4_takesTest 70 = .ok (.ireturn, 1) := dk_172 (dk_at dksX4_takesTest_2 22 rfl rfl)
abbrev cX4_holdsOne : ByteArray := prog_30_method_43_code
def yX4_holdsOne : MethodName := ⟨RX4, "holdsOne", "(II)Z"⟩
def dkwX4_holdsOne_7 : List UInt8 := [180, 0, 51, 42, 180, 0, 112, 46, 46, 28, 161, 0, 7, 4, 167, 0, 4, 3, 172]
abbrev dktX4_holdsOne_7 : List UInt8 := dkwX4_holdsOne_7 ++ []
def dkwX4_holdsOne_6 : List UInt8 := [180, 0, 51, 42, 180, 0, 112, 46, 46, 28, 160, 0, 7, 4, 167, 0, 4, 3, 172, 42, 180, 0, 42, 42]
abbrev dktX4_holdsOne_6 : List UInt8 := dkwX4_holdsOne_6 ++ dktX4_holdsOne_7
def dkwX4_holdsOne_5 : List UInt8 := [180, 0, 115, 182, 1, 63, 182, 1, 69, 28, 161, 0, 7, 4, 167, 0, 4, 3, 172, 42, 180, 0, 39, 42]
abbrev dktX4_holdsOne_5 : List UInt8 := dkwX4_holdsOne_5 ++ dktX4_holdsOne_6
def dkwX4_holdsOne_4 : List UInt8 := [182, 1, 66, 182, 1, 63, 128, 28, 122, 4, 126, 4, 160, 0, 7, 4, 167, 0, 4, 3, 172, 42, 42, 42]
abbrev dktX4_holdsOne_4 : List UInt8 := dkwX4_holdsOne_4 ++ dktX4_holdsOne_5
def dkwX4_holdsOne_3 : List UInt8 := [167, 0, 4, 3, 172, 28, 16, 16, 162, 0, 34, 42, 42, 2, 182, 1, 66, 182, 1, 63, 42, 42, 4]
abbrev dktX4_holdsOne_3 : List UInt8 := dkwX4_holdsOne_3 ++ dktX4_holdsOne_4
def dkwX4_holdsOne_2 : List UInt8 := [28, 16, 16, 162, 0, 23, 42, 42, 180, 0, 115, 182, 1, 63, 28, 122, 4, 126, 4, 160, 0, 7, 4]
abbrev dktX4_holdsOne_2 : List UInt8 := dkwX4_holdsOne_2 ++ dktX4_holdsOne_3
def dkwX4_holdsOne_1 : List UInt8 := [171, 0, 0, 0, 0, 0, 156, 0, 0, 0, 4, 0, 0, 0, 97, 0, 0, 0, 132, 0, 0, 0, 98, 0, 0, 0, 71, 0, 0, 0, 99, 0, 0, 0, 110, 0, 0, 0, 119, 0, 0, 0, 43]
abbrev dktX4_holdsOne_1 : List UInt8 := dkwX4_holdsOne_1 ++ dktX4_holdsOne_2
def dkwX4_holdsOne_0 : List UInt8 := [42, 180, 0, 112, 155, 0, 10, 42, 180, 0, 115, 156, 0, 5, 3, 172, 27]
abbrev dktX4_holdsOne_0 : List UInt8 := dkwX4_holdsOne_0 ++ dktX4_holdsOne_1
theorem dksX4_holdsOne_0 : cX4_holdsOne.data.toList.drop 0 = dktX4_holdsOne_0 := by decide +kernel
theorem dksX4_holdsOne_1 : cX4_holdsOne.data.toList.drop 17 = dktX4_holdsOne_1 := dk_seg dksX4_holdsOne_0 17 rfl rfl
theorem dksX4_holdsOne_2 : cX4_holdsOne.data.toList.drop 60 = dktX4_holdsOne_2 := dk_seg dksX4_holdsOne_1 43 rfl rfl
theorem dksX4_holdsOne_3 : cX4_holdsOne.data.toList.drop 83 = dktX4_holdsOne_3 := dk_seg dksX4_holdsOne_2 23 rfl rfl
theorem dksX4_holdsOne_4 : cX4_holdsOne.data.toList.drop 106 = dktX4_holdsOne_4 := dk_seg dksX4_holdsOne_3 23 rfl rfl
theorem dksX4_holdsOne_5 : cX4_holdsOne.data.toList.drop 130 = dktX4_holdsOne_5 := dk_seg dksX4_holdsOne_4 24 rfl rfl
theorem dksX4_holdsOne_6 : cX4_holdsOne.data.toList.drop 154 = dktX4_holdsOne_6 := dk_seg dksX4_holdsOne_5 24 rfl rfl
theorem dksX4_holdsOne_7 : cX4_holdsOne.data.toList.drop 178 = dktX4_holdsOne_7 := dk_seg dksX4_holdsOne_6 24 rfl rfl
theorem dX4_holdsOne_0 : decode cX4_holdsOne 0 = .ok (.aload_n 0, 1) := dk_42 (dk_at dksX4_holdsOne_0 0 rfl rfl)
theorem dX4_holdsOne_1 : decode cX4_holdsOne 1 = .ok (.getfield 112, 3) := dk_180 0 112 (dk_at dksX4_holdsOne_0 1 rfl rfl)
theorem dX4_holdsOne_4 : decode cX4_holdsOne 4 = .ok (.ifCond .lt 10, 3) := dk_155 0 10 (dk_at dksX4_holdsOne_0 4 rfl rfl)
theorem dX4_holdsOne_7 : decode cX4_holdsOne 7 = .ok (.aload_n 0, 1) := dk_42 (dk_at dksX4_holdsOne_0 7 rfl rfl)
theorem dX4_holdsOne_8 : decode cX4_holdsOne 8 = .ok (.getfield 115, 3) := dk_180 0 115 (dk_at dksX4_holdsOne_0 8 rfl rfl)
theorem dX4_holdsOne_11 : decode cX4_holdsOne 11 = .ok (.ifCond .ge 5, 3) := dk_156 0 5 (dk_at dksX4_holdsOne_0 11 rfl rfl)
theorem dX4_holdsOne_14 : decode cX4_holdsOne 14 = .ok (.iconst 0, 1) := dk_3 (dk_at dksX4_holdsOne_0 14 rfl rfl)
theorem dX4_holdsOne_15 : decode cX4_holdsOne 15 = .ok (.ireturn, 1) := dk_172 (dk_at dksX4_holdsOne_0 15 rfl rfl)
theorem dX4_holdsOne_16 : decode cX4_holdsOne 16 = .ok (.iload_n 1, 1) := dk_27 (dk_at dksX4_holdsOne_0 16 rfl rfl)
theorem dX4_holdsOne_17 : decode cX4_holdsOne 17 = .ok (.lookupswitch 156 #[(97, 132), (98, 71), (99, 110), (119, 43)], 43) := by decide +kernel
theorem dX4_holdsOne_60 : decode cX4_holdsOne 60 = .ok (.iload_n 2, 1) := dk_28 (dk_at dksX4_holdsOne_2 0 rfl rfl)
theorem dX4_holdsOne_61 : decode cX4_holdsOne 61 = .ok (.bipush 16, 2) := dk_16 16 (dk_at dksX4_holdsOne_2 1 rfl rfl)
theorem dX4_holdsOne_63 : decode cX4_holdsOne 63 = .ok (.if_icmp .ge 23, 3) := dk_162 0 23 (dk_at dksX4_holdsOne_2 3 rfl rfl)
theorem dX4_holdsOne_66 : decode cX4_holdsOne 66 = .ok (.aload_n 0, 1) := dk_42 (dk_at dksX4_holdsOne_2 6 rfl rfl)
theorem dX4_holdsOne_67 : decode cX4_holdsOne 67 = .ok (.aload_n 0, 1) := dk_42 (dk_at dksX4_holdsOne_2 7 rfl rfl)
theorem dX4_holdsOne_68 : decode cX4_holdsOne 68 = .ok (.getfield 115, 3) := dk_180 0 115 (dk_at dksX4_holdsOne_2 8 rfl rfl)
theorem dX4_holdsOne_71 : decode cX4_holdsOne 71 = .ok (.invokevirtual 319, 3) := dk_182 1 63 (dk_at dksX4_holdsOne_2 11 rfl rfl)
theorem dX4_holdsOne_74 : decode cX4_holdsOne 74 = .ok (.iload_n 2, 1) := dk_28 (dk_at dksX4_holdsOne_2 14 rfl rfl)
theorem dX4_holdsOne_75 : decode cX4_holdsOne 75 = .ok (.ishr, 1) := dk_122 (dk_at dksX4_holdsOne_2 15 rfl rfl)
theorem dX4_holdsOne_76 : decode cX4_holdsOne 76 = .ok (.iconst 1, 1) := dk_4 (dk_at dksX4_holdsOne_2 16 rfl rfl)
theorem dX4_holdsOne_77 : decode cX4_holdsOne 77 = .ok (.iand, 1) := dk_126 (dk_at dksX4_holdsOne_2 17 rfl rfl)
theorem dX4_holdsOne_78 : decode cX4_holdsOne 78 = .ok (.iconst 1, 1) := dk_4 (dk_at dksX4_holdsOne_2 18 rfl rfl)
theorem dX4_holdsOne_79 : decode cX4_holdsOne 79 = .ok (.if_icmp .ne 7, 3) := dk_160 0 7 (dk_at dksX4_holdsOne_2 19 rfl rfl)
theorem dX4_holdsOne_82 : decode cX4_holdsOne 82 = .ok (.iconst 1, 1) := dk_4 (dk_at dksX4_holdsOne_2 22 rfl rfl)
theorem dX4_holdsOne_83 : decode cX4_holdsOne 83 = .ok (.goto 4, 3) := dk_167 0 4 (dk_at dksX4_holdsOne_3 0 rfl rfl)
theorem dX4_holdsOne_86 : decode cX4_holdsOne 86 = .ok (.iconst 0, 1) := dk_3 (dk_at dksX4_holdsOne_3 3 rfl rfl)
theorem dX4_holdsOne_87 : decode cX4_holdsOne 87 = .ok (.ireturn, 1) := dk_172 (dk_at dksX4_holdsOne_3 4 rfl rfl)
theorem dX4_holdsOne_88 : decode cX4_holdsOne 88 = .ok (.iload_n 2, 1) := dk_28 (dk_at dksX4_holdsOne_3 5 rfl rfl)
theorem dX4_holdsOne_89 : decode cX4_holdsOne 89 = .ok (.bipush 16, 2) := dk_16 16 (dk_at dksX4_holdsOne_3 6 rfl rfl)
theorem dX4_holdsOne_91 : decode cX4_holdsOne 91 = .ok (.if_icmp .ge 34, 3) := dk_162 0 34 (dk_at dksX4_holdsOne_3 8 rfl rfl)
theorem dX4_holdsOne_94 : decode cX4_holdsOne 94 = .ok (.aload_n 0, 1) := dk_42 (dk_at dksX4_holdsOne_3 11 rfl rfl)
theorem dX4_holdsOne_95 : decode cX4_holdsOne 95 = .ok (.aload_n 0, 1) := dk_42 (dk_at dksX4_holdsOne_3 12 rfl rfl)
theorem dX4_holdsOne_96 : decode cX4_holdsOne 96 = .ok (.iconst (-1), 1) := dk_2 (dk_at dksX4_holdsOne_3 13 rfl rfl)
theorem dX4_holdsOne_97 : decode cX4_holdsOne 97 = .ok (.invokevirtual 322, 3) := dk_182 1 66 (dk_at dksX4_holdsOne_3 14 rfl rfl)
theorem dX4_holdsOne_100 : decode cX4_holdsOne 100 = .ok (.invokevirtual 319, 3) := dk_182 1 63 (dk_at dksX4_holdsOne_3 17 rfl rfl)
theorem dX4_holdsOne_103 : decode cX4_holdsOne 103 = .ok (.aload_n 0, 1) := dk_42 (dk_at dksX4_holdsOne_3 20 rfl rfl)
theorem dX4_holdsOne_104 : decode cX4_holdsOne 104 = .ok (.aload_n 0, 1) := dk_42 (dk_at dksX4_holdsOne_3 21 rfl rfl)
theorem dX4_holdsOne_105 : decode cX4_holdsOne 105 = .ok (.iconst 1, 1) := dk_4 (dk_at dksX4_holdsOne_3 22 rfl rfl)
theorem dX4_holdsOne_106 : decode cX4_holdsOne 106 = .ok (.invokevirtual 322, 3) := dk_182 1 66 (dk_at dksX4_holdsOne_4 0 rfl rfl)
theorem dX4_holdsOne_109 : decode cX4_holdsOne 109 = .ok (.invokevirtual 319, 3) := dk_182 1 63 (dk_at dksX4_holdsOne_4 3 rfl rfl)
theorem dX4_holdsOne_112 : decode cX4_holdsOne 112 = .ok (.ior, 1) := dk_128 (dk_at dksX4_holdsOne_4 6 rfl rfl)
theorem dX4_holdsOne_113 : decode cX4_holdsOne 113 = .ok (.iload_n 2, 1) := dk_28 (dk_at dksX4_holdsOne_4 7 rfl rfl)
theorem dX4_holdsOne_114 : decode cX4_holdsOne 114 = .ok (.ishr, 1) := dk_122 (dk_at dksX4_holdsOne_4 8 rfl rfl)
theorem dX4_holdsOne_115 : decode cX4_holdsOne 115 = .ok (.iconst 1, 1) := dk_4 (dk_at dksX4_holdsOne_4 9 rfl rfl)
theorem dX4_holdsOne_116 : decode cX4_holdsOne 116 = .ok (.iand, 1) := dk_126 (dk_at dksX4_holdsOne_4 10 rfl rfl)
theorem dX4_holdsOne_117 : decode cX4_holdsOne 117 = .ok (.iconst 1, 1) := dk_4 (dk_at dksX4_holdsOne_4 11 rfl rfl)
theorem dX4_holdsOne_118 : decode cX4_holdsOne 118 = .ok (.if_icmp .ne 7, 3) := dk_160 0 7 (dk_at dksX4_holdsOne_4 12 rfl rfl)
theorem dX4_holdsOne_121 : decode cX4_holdsOne 121 = .ok (.iconst 1, 1) := dk_4 (dk_at dksX4_holdsOne_4 15 rfl rfl)
theorem dX4_holdsOne_122 : decode cX4_holdsOne 122 = .ok (.goto 4, 3) := dk_167 0 4 (dk_at dksX4_holdsOne_4 16 rfl rfl)
theorem dX4_holdsOne_125 : decode cX4_holdsOne 125 = .ok (.iconst 0, 1) := dk_3 (dk_at dksX4_holdsOne_4 19 rfl rfl)
theorem dX4_holdsOne_126 : decode cX4_holdsOne 126 = .ok (.ireturn, 1) := dk_172 (dk_at dksX4_holdsOne_4 20 rfl rfl)
theorem dX4_holdsOne_127 : decode cX4_holdsOne 127 = .ok (.aload_n 0, 1) := dk_42 (dk_at dksX4_holdsOne_4 21 rfl rfl)
theorem dX4_holdsOne_128 : decode cX4_holdsOne 128 = .ok (.aload_n 0, 1) := dk_42 (dk_at dksX4_holdsOne_4 22 rfl rfl)
theorem dX4_holdsOne_129 : decode cX4_holdsOne 129 = .ok (.aload_n 0, 1) := dk_42 (dk_at dksX4_holdsOne_4 23 rfl rfl)
theorem dX4_holdsOne_130 : decode cX4_holdsOne 130 = .ok (.getfield 115, 3) := dk_180 0 115 (dk_at dksX4_holdsOne_5 0 rfl rfl)
theorem dX4_holdsOne_133 : decode cX4_holdsOne 133 = .ok (.invokevirtual 319, 3) := dk_182 1 63 (dk_at dksX4_holdsOne_5 3 rfl rfl)
theorem dX4_holdsOne_136 : decode cX4_holdsOne 136 = .ok (.invokevirtual 325, 3) := dk_182 1 69 (dk_at dksX4_holdsOne_5 6 rfl rfl)
theorem dX4_holdsOne_139 : decode cX4_holdsOne 139 = .ok (.iload_n 2, 1) := dk_28 (dk_at dksX4_holdsOne_5 9 rfl rfl)
theorem dX4_holdsOne_140 : decode cX4_holdsOne 140 = .ok (.if_icmp .lt 7, 3) := dk_161 0 7 (dk_at dksX4_holdsOne_5 10 rfl rfl)
theorem dX4_holdsOne_143 : decode cX4_holdsOne 143 = .ok (.iconst 1, 1) := dk_4 (dk_at dksX4_holdsOne_5 13 rfl rfl)
theorem dX4_holdsOne_144 : decode cX4_holdsOne 144 = .ok (.goto 4, 3) := dk_167 0 4 (dk_at dksX4_holdsOne_5 14 rfl rfl)
theorem dX4_holdsOne_147 : decode cX4_holdsOne 147 = .ok (.iconst 0, 1) := dk_3 (dk_at dksX4_holdsOne_5 17 rfl rfl)
theorem dX4_holdsOne_148 : decode cX4_holdsOne 148 = .ok (.ireturn, 1) := dk_172 (dk_at dksX4_holdsOne_5 18 rfl rfl)
theorem dX4_holdsOne_149 : decode cX4_holdsOne 149 = .ok (.aload_n 0, 1) := dk_42 (dk_at dksX4_holdsOne_5 19 rfl rfl)
theorem dX4_holdsOne_150 : decode cX4_holdsOne 150 = .ok (.getfield 39, 3) := dk_180 0 39 (dk_at dksX4_holdsOne_5 20 rfl rfl)
theorem dX4_holdsOne_153 : decode cX4_holdsOne 153 = .ok (.aload_n 0, 1) := dk_42 (dk_at dksX4_holdsOne_5 23 rfl rfl)
theorem dX4_holdsOne_154 : decode cX4_holdsOne 154 = .ok (.getfield 51, 3) := dk_180 0 51 (dk_at dksX4_holdsOne_6 0 rfl rfl)
theorem dX4_holdsOne_157 : decode cX4_holdsOne 157 = .ok (.aload_n 0, 1) := dk_42 (dk_at dksX4_holdsOne_6 3 rfl rfl)
theorem dX4_holdsOne_158 : decode cX4_holdsOne 158 = .ok (.getfield 112, 3) := dk_180 0 112 (dk_at dksX4_holdsOne_6 4 rfl rfl)
theorem dX4_holdsOne_161 : decode cX4_holdsOne 161 = .ok (.iaload, 1) := dk_46 (dk_at dksX4_holdsOne_6 7 rfl rfl)
theorem dX4_holdsOne_162 : decode cX4_holdsOne 162 = .ok (.iaload, 1) := dk_46 (dk_at dksX4_holdsOne_6 8 rfl rfl)
theorem dX4_holdsOne_163 : decode cX4_holdsOne 163 = .ok (.iload_n 2, 1) := dk_28 (dk_at dksX4_holdsOne_6 9 rfl rfl)
theorem dX4_holdsOne_164 : decode cX4_holdsOne 164 = .ok (.if_icmp .ne 7, 3) := dk_160 0 7 (dk_at dksX4_holdsOne_6 10 rfl rfl)
theorem dX4_holdsOne_167 : decode cX4_holdsOne 167 = .ok (.iconst 1, 1) := dk_4 (dk_at dksX4_holdsOne_6 13 rfl rfl)
theorem dX4_holdsOne_168 : decode cX4_holdsOne 168 = .ok (.goto 4, 3) := dk_167 0 4 (dk_at dksX4_holdsOne_6 14 rfl rfl)
theorem dX4_holdsOne_171 : decode cX4_holdsOne 171 = .ok (.iconst 0, 1) := dk_3 (dk_at dksX4_holdsOne_6 17 rfl rfl)
theorem dX4_holdsOne_172 : decode cX4_holdsOne 172 = .ok (.ireturn, 1) := dk_172 (dk_at dksX4_holdsOne_6 18 rfl rfl)
theorem dX4_holdsOne_173 : decode cX4_holdsOne 173 = .ok (.aload_n 0, 1) := dk_42 (dk_at dksX4_holdsOne_6 19 rfl rfl)
theorem dX4_holdsOne_174 : decode cX4_holdsOne 174 = .ok (.getfield 42, 3) := dk_180 0 42 (dk_at dksX4_holdsOne_6 20 rfl rfl)
theorem dX4_holdsOne_177 : decode cX4_holdsOne 177 = .ok (.aload_n 0, 1) := dk_42 (dk_at dksX4_holdsOne_6 23 rfl rfl)
theorem dX4_holdsOne_178 : decode cX4_holdsOne 178 = .ok (.getfield 51, 3) := dk_180 0 51 (dk_at dksX4_holdsOne_7 0 rfl rfl)
theorem dX4_holdsOne_181 : decode cX4_holdsOne 181 = .ok (.aload_n 0, 1) := dk_42 (dk_at dksX4_holdsOne_7 3 rfl rfl)
theorem dX4_holdsOne_182 : decode cX4_holdsOne 182 = .ok (.getfield 112, 3) := dk_180 0 112 (dk_at dksX4_holdsOne_7 4 rfl rfl)
theorem dX4_holdsOne_185 : decode cX4_holdsOne 185 = .ok (.iaload, 1) := dk_46 (dk_at dksX4_holdsOne_7 7 rfl rfl)
theorem dX4_holdsOne_186 : decode cX4_holdsOne 186 = .ok (.iaload, 1) := dk_46 (dk_at dksX4_holdsOne_7 8 rfl rfl)
theorem dX4_holdsOne_187 : decode cX4_holdsOne 187 = .ok (.iload_n 2, 1) := dk_28 (dk_at dksX4_holdsOne_7 9 rfl rfl)
theorem dX4_holdsOne_188 : decode cX4_holdsOne 188 = .ok (.if_icmp .lt 7, 3) := dk_161 0 7 (dk_at dksX4_holdsOne_7 10 rfl rfl)
theorem dX4_holdsOne_191 : decode cX4_holdsOne 191 = .ok (.iconst 1, 1) := dk_4 (dk_at dksX4_holdsOne_7 13 rfl rfl)
theorem dX4_holdsOne_192 : decode cX4_holdsOne 192 = .ok (.goto 4, 3) := dk_167 0 4 (dk_at dksX4_holdsOne_7 14 rfl rfl)
theorem dX4_holdsOne_195 : decode cX4_holdsOne 195 = .ok (.iconst 0, 1) := dk_3 (dk_at dksX4_holdsOne_7 17 rfl rfl)
theorem dX4_holdsOne_196 : decode cX4_holdsOne 196 = .ok (.ireturn, 1) := dk_172 (dk_at dksX4_holdsOne_7 18 rfl rfl)
abbrev cX4_wordsOf : ByteArray := prog_30_method_41_code
def yX4_wordsOf : MethodName := ⟨RX4, "wordsOf", "(I)I"⟩
def dkwX4_wordsOf_1 : List UInt8 := [27, 96, 46, 172]
abbrev dktX4_wordsOf_1 : List UInt8 := dkwX4_wordsOf_1 ++ []
def dkwX4_wordsOf_0 : List UInt8 := [27, 156, 0, 7, 3, 167, 0, 22, 42, 180, 0, 48, 16, 16, 42, 180, 0, 51, 42, 180, 0, 112, 46, 104]
abbrev dktX4_wordsOf_0 : List UInt8 := dkwX4_wordsOf_0 ++ dktX4_wordsOf_1
theorem dksX4_wordsOf_0 : cX4_wordsOf.data.toList.drop 0 = dktX4_wordsOf_0 := by decide +kernel
theorem dksX4_wordsOf_1 : cX4_wordsOf.data.toList.drop 24 = dktX4_wordsOf_1 := dk_seg dksX4_wordsOf_0 24 rfl rfl
theorem dX4_wordsOf_0 : decode cX4_wordsOf 0 = .ok (.iload_n 1, 1) := dk_27 (dk_at dksX4_wordsOf_0 0 rfl rfl)
theorem dX4_wordsOf_1 : decode cX4_wordsOf 1 = .ok (.ifCond .ge 7, 3) := dk_156 0 7 (dk_at dksX4_wordsOf_0 1 rfl rfl)
theorem dX4_wordsOf_4 : decode cX4_wordsOf 4 = .ok (.iconst 0, 1) := dk_3 (dk_at dksX4_wordsOf_0 4 rfl rfl)
theorem dX4_wordsOf_5 : decode cX4_wordsOf 5 = .ok (.goto 22, 3) := dk_167 0 22 (dk_at dksX4_wordsOf_0 5 rfl rfl)
theorem dX4_wordsOf_8 : decode cX4_wordsOf 8 = .ok (.aload_n 0, 1) := dk_42 (dk_at dksX4_wordsOf_0 8 rfl rfl)
theorem dX4_wordsOf_9 : decode cX4_wordsOf 9 = .ok (.getfield 48, 3) := dk_180 0 48 (dk_at dksX4_wordsOf_0 9 rfl rfl)
theorem dX4_wordsOf_12 : decode cX4_wordsOf 12 = .ok (.bipush 16, 2) := dk_16 16 (dk_at dksX4_wordsOf_0 12 rfl rfl)
theorem dX4_wordsOf_14 : decode cX4_wordsOf 14 = .ok (.aload_n 0, 1) := dk_42 (dk_at dksX4_wordsOf_0 14 rfl rfl)
theorem dX4_wordsOf_15 : decode cX4_wordsOf 15 = .ok (.getfield 51, 3) := dk_180 0 51 (dk_at dksX4_wordsOf_0 15 rfl rfl)
theorem dX4_wordsOf_18 : decode cX4_wordsOf 18 = .ok (.aload_n 0, 1) := dk_42 (dk_at dksX4_wordsOf_0 18 rfl rfl)
theorem dX4_wordsOf_19 : decode cX4_wordsOf 19 = .ok (.getfield 112, 3) := dk_180 0 112 (dk_at dksX4_wordsOf_0 19 rfl rfl)
theorem dX4_wordsOf_22 : decode cX4_wordsOf 22 = .ok (.iaload, 1) := dk_46 (dk_at dksX4_wordsOf_0 22 rfl rfl)
theorem dX4_wordsOf_23 : decode cX4_wordsOf 23 = .ok (.imul, 1) := dk_104 (dk_at dksX4_wordsOf_0 23 rfl rfl)
theorem dX4_wordsOf_24 : decode cX4_wordsOf 24 = .ok (.iload_n 1, 1) := dk_27 (dk_at dksX4_wordsOf_1 0 rfl rfl)
theorem dX4_wordsOf_25 : decode cX4_wordsOf 25 = .ok (.iadd, 1) := dk_96 (dk_at dksX4_wordsOf_1 1 rfl rfl)
theorem dX4_wordsOf_26 : decode cX4_wordsOf 26 = .ok (.iaload, 1) := dk_46 (dk_at dksX4_wordsOf_1 2 rfl rfl)
theorem dX4_wordsOf_27 : decode cX4_wordsOf 27 = .ok (.ireturn, 1) := dk_172 (dk_at dksX4_wordsOf_1 3 rfl rfl)
abbrev cX4_nearLine : ByteArray := prog_30_method_42_code
def yX4_nearLine : MethodName := ⟨RX4, "nearLine", "(I)I"⟩
def dkwX4_nearLine_1 : List UInt8 := [180, 0, 112, 46, 28, 122, 4, 126, 4, 160, 0, 7, 28, 167, 0, 4, 2, 172]
abbrev dktX4_nearLine_1 : List UInt8 := dkwX4_nearLine_1 ++ []
def dkwX4_nearLine_0 : List UInt8 := [42, 180, 0, 115, 27, 96, 61, 42, 28, 3, 16, 15, 182, 0, 3, 153, 0, 24, 42, 180, 0, 54, 42]
abbrev dktX4_nearLine_0 : List UInt8 := dkwX4_nearLine_0 ++ dktX4_nearLine_1
theorem dksX4_nearLine_0 : cX4_nearLine.data.toList.drop 0 = dktX4_nearLine_0 := by decide +kernel
theorem dksX4_nearLine_1 : cX4_nearLine.data.toList.drop 23 = dktX4_nearLine_1 := dk_seg dksX4_nearLine_0 23 rfl rfl
theorem dX4_nearLine_0 : decode cX4_nearLine 0 = .ok (.aload_n 0, 1) := dk_42 (dk_at dksX4_nearLine_0 0 rfl rfl)
theorem dX4_nearLine_1 : decode cX4_nearLine 1 = .ok (.getfield 115, 3) := dk_180 0 115 (dk_at dksX4_nearLine_0 1 rfl rfl)
theorem dX4_nearLine_4 : decode cX4_nearLine 4 = .ok (.iload_n 1, 1) := dk_27 (dk_at dksX4_nearLine_0 4 rfl rfl)
theorem dX4_nearLine_5 : decode cX4_nearLine 5 = .ok (.iadd, 1) := dk_96 (dk_at dksX4_nearLine_0 5 rfl rfl)
theorem dX4_nearLine_6 : decode cX4_nearLine 6 = .ok (.istore_n 2, 1) := dk_61 (dk_at dksX4_nearLine_0 6 rfl rfl)
theorem dX4_nearLine_7 : decode cX4_nearLine 7 = .ok (.aload_n 0, 1) := dk_42 (dk_at dksX4_nearLine_0 7 rfl rfl)
theorem dX4_nearLine_8 : decode cX4_nearLine 8 = .ok (.iload_n 2, 1) := dk_28 (dk_at dksX4_nearLine_0 8 rfl rfl)
theorem dX4_nearLine_9 : decode cX4_nearLine 9 = .ok (.iconst 0, 1) := dk_3 (dk_at dksX4_nearLine_0 9 rfl rfl)
theorem dX4_nearLine_10 : decode cX4_nearLine 10 = .ok (.bipush 15, 2) := dk_16 15 (dk_at dksX4_nearLine_0 10 rfl rfl)
theorem dX4_nearLine_12 : decode cX4_nearLine 12 = .ok (.invokevirtual 3, 3) := dk_182 0 3 (dk_at dksX4_nearLine_0 12 rfl rfl)
theorem dX4_nearLine_15 : decode cX4_nearLine 15 = .ok (.ifCond .eq 24, 3) := dk_153 0 24 (dk_at dksX4_nearLine_0 15 rfl rfl)
theorem dX4_nearLine_18 : decode cX4_nearLine 18 = .ok (.aload_n 0, 1) := dk_42 (dk_at dksX4_nearLine_0 18 rfl rfl)
theorem dX4_nearLine_19 : decode cX4_nearLine 19 = .ok (.getfield 54, 3) := dk_180 0 54 (dk_at dksX4_nearLine_0 19 rfl rfl)
theorem dX4_nearLine_22 : decode cX4_nearLine 22 = .ok (.aload_n 0, 1) := dk_42 (dk_at dksX4_nearLine_0 22 rfl rfl)
theorem dX4_nearLine_23 : decode cX4_nearLine 23 = .ok (.getfield 112, 3) := dk_180 0 112 (dk_at dksX4_nearLine_1 0 rfl rfl)
theorem dX4_nearLine_26 : decode cX4_nearLine 26 = .ok (.iaload, 1) := dk_46 (dk_at dksX4_nearLine_1 3 rfl rfl)
theorem dX4_nearLine_27 : decode cX4_nearLine 27 = .ok (.iload_n 2, 1) := dk_28 (dk_at dksX4_nearLine_1 4 rfl rfl)
theorem dX4_nearLine_28 : decode cX4_nearLine 28 = .ok (.ishr, 1) := dk_122 (dk_at dksX4_nearLine_1 5 rfl rfl)
theorem dX4_nearLine_29 : decode cX4_nearLine 29 = .ok (.iconst 1, 1) := dk_4 (dk_at dksX4_nearLine_1 6 rfl rfl)
theorem dX4_nearLine_30 : decode cX4_nearLine 30 = .ok (.iand, 1) := dk_126 (dk_at dksX4_nearLine_1 7 rfl rfl)
theorem dX4_nearLine_31 : decode cX4_nearLine 31 = .ok (.iconst 1, 1) := dk_4 (dk_at dksX4_nearLine_1 8 rfl rfl)
theorem dX4_nearLine_32 : decode cX4_nearLine 32 = .ok (.if_icmp .ne 7, 3) := dk_160 0 7 (dk_at dksX4_nearLine_1 9 rfl rfl)
theorem dX4_nearLine_35 : decode cX4_nearLine 35 = .ok (.iload_n 2, 1) := dk_28 (dk_at dksX4_nearLine_1 12 rfl rfl)
theorem dX4_nearLine_36 : decode cX4_nearLine 36 = .ok (.goto 4, 3) := dk_167 0 4 (dk_at dksX4_nearLine_1 13 rfl rfl)
theorem dX4_nearLine_39 : decode cX4_nearLine 39 = .ok (.iconst (-1), 1) := dk_2 (dk_at dksX4_nearLine_1 16 rfl rfl)
theorem dX4_nearLine_40 : decode cX4_nearLine 40 = .ok (.ireturn, 1) := dk_172 (dk_at dksX4_nearLine_1 17 rfl rfl)
abbrev cX4_ones : ByteArray := prog_30_method_3_code
def yX4_ones : MethodName := ⟨RX4, "ones", "(I)I"⟩
def dkwX4_ones_0 : List UInt8 := [3, 61, 27, 62, 29, 153, 0, 15, 132, 2, 1, 29, 29, 4, 100, 126, 62, 167, 255, 243, 28, 172]
abbrev dktX4_ones_0 : List UInt8 := dkwX4_ones_0 ++ []
theorem dksX4_ones_0 : cX4_ones.data.toList.drop 0 = dktX4_ones_0 := by decide +kernel
theorem dX4_ones_0 : decode cX4_ones 0 = .ok (.iconst 0, 1) := dk_3 (dk_at dksX4_ones_0 0 rfl rfl)
theorem dX4_ones_1 : decode cX4_ones 1 = .ok (.istore_n 2, 1) := dk_61 (dk_at dksX4_ones_0 1 rfl rfl)
theorem dX4_ones_2 : decode cX4_ones 2 = .ok (.iload_n 1, 1) := dk_27 (dk_at dksX4_ones_0 2 rfl rfl)
theorem dX4_ones_3 : decode cX4_ones 3 = .ok (.istore_n 3, 1) := dk_62 (dk_at dksX4_ones_0 3 rfl rfl)
theorem dX4_ones_4 : decode cX4_ones 4 = .ok (.iload_n 3, 1) := dk_29 (dk_at dksX4_ones_0 4 rfl rfl)
theorem dX4_ones_5 : decode cX4_ones 5 = .ok (.ifCond .eq 15, 3) := dk_153 0 15 (dk_at dksX4_ones_0 5 rfl rfl)
theorem dX4_ones_8 : decode cX4_ones 8 = .ok (.iinc 2 1, 3) := dk_132 2 1 (dk_at dksX4_ones_0 8 rfl rfl)
theorem dX4_ones_11 : decode cX4_ones 11 = .ok (.iload_n 3, 1) := dk_29 (dk_at dksX4_ones_0 11 rfl rfl)
theorem dX4_ones_12 : decode cX4_ones 12 = .ok (.iload_n 3, 1) := dk_29 (dk_at dksX4_ones_0 12 rfl rfl)
theorem dX4_ones_13 : decode cX4_ones 13 = .ok (.iconst 1, 1) := dk_4 (dk_at dksX4_ones_0 13 rfl rfl)
theorem dX4_ones_14 : decode cX4_ones 14 = .ok (.isub, 1) := dk_100 (dk_at dksX4_ones_0 14 rfl rfl)
theorem dX4_ones_15 : decode cX4_ones 15 = .ok (.iand, 1) := dk_126 (dk_at dksX4_ones_0 15 rfl rfl)
theorem dX4_ones_16 : decode cX4_ones 16 = .ok (.istore_n 3, 1) := dk_62 (dk_at dksX4_ones_0 16 rfl rfl)
theorem dX4_ones_17 : decode cX4_ones 17 = .ok (.goto (-13), 3) := dk_167 255 243 (dk_at dksX4_ones_0 17 rfl rfl)
theorem dX4_ones_20 : decode cX4_ones 20 = .ok (.iload_n 2, 1) := dk_28 (dk_at dksX4_ones_0 20 rfl rfl)
theorem dX4_ones_21 : decode cX4_ones 21 = .ok (.ireturn, 1) := dk_172 (dk_at dksX4_ones_0 21 rfl rfl)
abbrev cX4_push : ByteArray := prog_30_method_39_code
def yX4_push : MethodName := ⟨RX4, "push", "(Z)V"⟩
def dkwX4_push_3 : List UInt8 := [180, 0, 158, 4, 96, 181, 0, 158, 177]
abbrev dktX4_push_3 : List UInt8 := dkwX4_push_3 ++ []
def dkwX4_push_2 : List UInt8 := [89, 180, 0, 161, 4, 100, 181, 0, 161, 167, 255, 203, 42, 180, 0, 152, 42, 180, 0, 158, 28, 84, 42, 89]
abbrev dktX4_push_2 : List UInt8 := dkwX4_push_2 ++ dktX4_push_3
def dkwX4_push_1 : List UInt8 := [160, 0, 36, 28, 154, 0, 7, 4, 167, 0, 4, 3, 61, 42, 89, 180, 0, 155, 4, 100, 181, 0, 155, 42]
abbrev dktX4_push_1 : List UInt8 := dkwX4_push_1 ++ dktX4_push_2
def dkwX4_push_0 : List UInt8 := [27, 61, 42, 180, 0, 155, 158, 0, 52, 42, 180, 0, 149, 42, 180, 0, 155, 4, 100, 46, 16, 33]
abbrev dktX4_push_0 : List UInt8 := dkwX4_push_0 ++ dktX4_push_1
theorem dksX4_push_0 : cX4_push.data.toList.drop 0 = dktX4_push_0 := by decide +kernel
theorem dksX4_push_1 : cX4_push.data.toList.drop 22 = dktX4_push_1 := dk_seg dksX4_push_0 22 rfl rfl
theorem dksX4_push_2 : cX4_push.data.toList.drop 46 = dktX4_push_2 := dk_seg dksX4_push_1 24 rfl rfl
theorem dksX4_push_3 : cX4_push.data.toList.drop 70 = dktX4_push_3 := dk_seg dksX4_push_2 24 rfl rfl
theorem dX4_push_0 : decode cX4_push 0 = .ok (.iload_n 1, 1) := dk_27 (dk_at dksX4_push_0 0 rfl rfl)
theorem dX4_push_1 : decode cX4_push 1 = .ok (.istore_n 2, 1) := dk_61 (dk_at dksX4_push_0 1 rfl rfl)
theorem dX4_push_2 : decode cX4_push 2 = .ok (.aload_n 0, 1) := dk_42 (dk_at dksX4_push_0 2 rfl rfl)
theorem dX4_push_3 : decode cX4_push 3 = .ok (.getfield 155, 3) := dk_180 0 155 (dk_at dksX4_push_0 3 rfl rfl)
theorem dX4_push_6 : decode cX4_push 6 = .ok (.ifCond .le 52, 3) := dk_158 0 52 (dk_at dksX4_push_0 6 rfl rfl)
theorem dX4_push_9 : decode cX4_push 9 = .ok (.aload_n 0, 1) := dk_42 (dk_at dksX4_push_0 9 rfl rfl)
theorem dX4_push_10 : decode cX4_push 10 = .ok (.getfield 149, 3) := dk_180 0 149 (dk_at dksX4_push_0 10 rfl rfl)
theorem dX4_push_13 : decode cX4_push 13 = .ok (.aload_n 0, 1) := dk_42 (dk_at dksX4_push_0 13 rfl rfl)
theorem dX4_push_14 : decode cX4_push 14 = .ok (.getfield 155, 3) := dk_180 0 155 (dk_at dksX4_push_0 14 rfl rfl)
theorem dX4_push_17 : decode cX4_push 17 = .ok (.iconst 1, 1) := dk_4 (dk_at dksX4_push_0 17 rfl rfl)
theorem dX4_push_18 : decode cX4_push 18 = .ok (.isub, 1) := dk_100 (dk_at dksX4_push_0 18 rfl rfl)
theorem dX4_push_19 : decode cX4_push 19 = .ok (.iaload, 1) := dk_46 (dk_at dksX4_push_0 19 rfl rfl)
theorem dX4_push_20 : decode cX4_push 20 = .ok (.bipush 33, 2) := dk_16 33 (dk_at dksX4_push_0 20 rfl rfl)
theorem dX4_push_22 : decode cX4_push 22 = .ok (.if_icmp .ne 36, 3) := dk_160 0 36 (dk_at dksX4_push_1 0 rfl rfl)
theorem dX4_push_25 : decode cX4_push 25 = .ok (.iload_n 2, 1) := dk_28 (dk_at dksX4_push_1 3 rfl rfl)
theorem dX4_push_26 : decode cX4_push 26 = .ok (.ifCond .ne 7, 3) := dk_154 0 7 (dk_at dksX4_push_1 4 rfl rfl)
theorem dX4_push_29 : decode cX4_push 29 = .ok (.iconst 1, 1) := dk_4 (dk_at dksX4_push_1 7 rfl rfl)
theorem dX4_push_30 : decode cX4_push 30 = .ok (.goto 4, 3) := dk_167 0 4 (dk_at dksX4_push_1 8 rfl rfl)
theorem dX4_push_33 : decode cX4_push 33 = .ok (.iconst 0, 1) := dk_3 (dk_at dksX4_push_1 11 rfl rfl)
theorem dX4_push_34 : decode cX4_push 34 = .ok (.istore_n 2, 1) := dk_61 (dk_at dksX4_push_1 12 rfl rfl)
theorem dX4_push_35 : decode cX4_push 35 = .ok (.aload_n 0, 1) := dk_42 (dk_at dksX4_push_1 13 rfl rfl)
theorem dX4_push_36 : decode cX4_push 36 = .ok (.dup, 1) := dk_89 (dk_at dksX4_push_1 14 rfl rfl)
theorem dX4_push_37 : decode cX4_push 37 = .ok (.getfield 155, 3) := dk_180 0 155 (dk_at dksX4_push_1 15 rfl rfl)
theorem dX4_push_40 : decode cX4_push 40 = .ok (.iconst 1, 1) := dk_4 (dk_at dksX4_push_1 18 rfl rfl)
theorem dX4_push_41 : decode cX4_push 41 = .ok (.isub, 1) := dk_100 (dk_at dksX4_push_1 19 rfl rfl)
theorem dX4_push_42 : decode cX4_push 42 = .ok (.putfield 155, 3) := dk_181 0 155 (dk_at dksX4_push_1 20 rfl rfl)
theorem dX4_push_45 : decode cX4_push 45 = .ok (.aload_n 0, 1) := dk_42 (dk_at dksX4_push_1 23 rfl rfl)
theorem dX4_push_46 : decode cX4_push 46 = .ok (.dup, 1) := dk_89 (dk_at dksX4_push_2 0 rfl rfl)
theorem dX4_push_47 : decode cX4_push 47 = .ok (.getfield 161, 3) := dk_180 0 161 (dk_at dksX4_push_2 1 rfl rfl)
theorem dX4_push_50 : decode cX4_push 50 = .ok (.iconst 1, 1) := dk_4 (dk_at dksX4_push_2 4 rfl rfl)
theorem dX4_push_51 : decode cX4_push 51 = .ok (.isub, 1) := dk_100 (dk_at dksX4_push_2 5 rfl rfl)
theorem dX4_push_52 : decode cX4_push 52 = .ok (.putfield 161, 3) := dk_181 0 161 (dk_at dksX4_push_2 6 rfl rfl)
theorem dX4_push_55 : decode cX4_push 55 = .ok (.goto (-53), 3) := dk_167 255 203 (dk_at dksX4_push_2 9 rfl rfl)
theorem dX4_push_58 : decode cX4_push 58 = .ok (.aload_n 0, 1) := dk_42 (dk_at dksX4_push_2 12 rfl rfl)
theorem dX4_push_59 : decode cX4_push 59 = .ok (.getfield 152, 3) := dk_180 0 152 (dk_at dksX4_push_2 13 rfl rfl)
theorem dX4_push_62 : decode cX4_push 62 = .ok (.aload_n 0, 1) := dk_42 (dk_at dksX4_push_2 16 rfl rfl)
theorem dX4_push_63 : decode cX4_push 63 = .ok (.getfield 158, 3) := dk_180 0 158 (dk_at dksX4_push_2 17 rfl rfl)
theorem dX4_push_66 : decode cX4_push 66 = .ok (.iload_n 2, 1) := dk_28 (dk_at dksX4_push_2 20 rfl rfl)
theorem dX4_push_67 : decode cX4_push 67 = .ok (.bastore, 1) := dk_84 (dk_at dksX4_push_2 21 rfl rfl)
theorem dX4_push_68 : decode cX4_push 68 = .ok (.aload_n 0, 1) := dk_42 (dk_at dksX4_push_2 22 rfl rfl)
theorem dX4_push_69 : decode cX4_push 69 = .ok (.dup, 1) := dk_89 (dk_at dksX4_push_2 23 rfl rfl)
theorem dX4_push_70 : decode cX4_push 70 = .ok (.getfield 158, 3) := dk_180 0 158 (dk_at dksX4_push_3 0 rfl rfl)
theorem dX4_push_73 : decode cX4_push 73 = .ok (.iconst 1, 1) := dk_4 (dk_at dksX4_push_3 3 rfl rfl)
theorem dX4_push_74 : decode cX4_push 74 = .ok (.iadd, 1) := dk_96 (dk_at dksX4_push_3 4 rfl rfl)
theorem dX4_push_75 : decode cX4_push 75 = .ok (.putfield 158, 3) := dk_181 0 158 (dk_at dksX4_push_3 5 rfl rfl)
theorem dX4_push_78 : decode cX4_push 78 = .ok (.return_, 1) := dk_177 (dk_at dksX4_push_3 8 rfl rfl)
abbrev cX4_settle : ByteArray := prog_30_method_40_code
def yX4_settle : MethodName := ⟨RX4, "settle", "(I)V"⟩
def dkwX4_settle_6 : List UInt8 := [180, 0, 152, 42, 180, 0, 158, 51, 153, 0, 7, 4, 167, 0, 4, 3, 84, 167, 255, 101, 177]
abbrev dktX4_settle_6 : List UInt8 := dkwX4_settle_6 ++ []
def dkwX4_settle_5 : List UInt8 := [167, 0, 38, 3, 167, 0, 34, 42, 180, 0, 152, 42, 180, 0, 158, 4, 100, 51, 154, 0, 15, 42]
abbrev dktX4_settle_5 : List UInt8 := dkwX4_settle_5 ++ dktX4_settle_6
def dkwX4_settle_4 : List UInt8 := [180, 0, 158, 4, 100, 51, 153, 0, 19, 42, 180, 0, 152, 42, 180, 0, 158, 51, 153, 0, 7, 4]
abbrev dktX4_settle_4 : List UInt8 := dkwX4_settle_4 ++ dktX4_settle_5
def dkwX4_settle_3 : List UInt8 := [180, 0, 158, 4, 100, 42, 180, 0, 149, 42, 180, 0, 155, 46, 16, 38, 160, 0, 37, 42, 180, 0, 152, 42]
abbrev dktX4_settle_3 : List UInt8 := dkwX4_settle_3 ++ dktX4_settle_4
def dkwX4_settle_2 : List UInt8 := [180, 0, 155, 4, 100, 181, 0, 155, 42, 89, 180, 0, 158, 4, 100, 181, 0, 158, 42, 180, 0, 152, 42]
abbrev dktX4_settle_2 : List UInt8 := dkwX4_settle_2 ++ dktX4_settle_3
def dkwX4_settle_1 : List UInt8 := [180, 0, 149, 42, 180, 0, 155, 4, 100, 46, 16, 124, 160, 0, 122, 27, 16, 38, 159, 0, 116, 42, 89]
abbrev dktX4_settle_1 : List UInt8 := dkwX4_settle_1 ++ dktX4_settle_2
def dkwX4_settle_0 : List UInt8 := [42, 180, 0, 155, 158, 0, 154, 42, 180, 0, 149, 42, 180, 0, 155, 4, 100, 46, 16, 38, 159, 0, 25, 42]
abbrev dktX4_settle_0 : List UInt8 := dkwX4_settle_0 ++ dktX4_settle_1
theorem dksX4_settle_0 : cX4_settle.data.toList.drop 0 = dktX4_settle_0 := by decide +kernel
theorem dksX4_settle_1 : cX4_settle.data.toList.drop 24 = dktX4_settle_1 := dk_seg dksX4_settle_0 24 rfl rfl
theorem dksX4_settle_2 : cX4_settle.data.toList.drop 47 = dktX4_settle_2 := dk_seg dksX4_settle_1 23 rfl rfl
theorem dksX4_settle_3 : cX4_settle.data.toList.drop 70 = dktX4_settle_3 := dk_seg dksX4_settle_2 23 rfl rfl
theorem dksX4_settle_4 : cX4_settle.data.toList.drop 94 = dktX4_settle_4 := dk_seg dksX4_settle_3 24 rfl rfl
theorem dksX4_settle_5 : cX4_settle.data.toList.drop 116 = dktX4_settle_5 := dk_seg dksX4_settle_4 22 rfl rfl
theorem dksX4_settle_6 : cX4_settle.data.toList.drop 138 = dktX4_settle_6 := dk_seg dksX4_settle_5 22 rfl rfl
theorem dX4_settle_0 : decode cX4_settle 0 = .ok (.aload_n 0, 1) := dk_42 (dk_at dksX4_settle_0 0 rfl rfl)
theorem dX4_settle_1 : decode cX4_settle 1 = .ok (.getfield 155, 3) := dk_180 0 155 (dk_at dksX4_settle_0 1 rfl rfl)
theorem dX4_settle_4 : decode cX4_settle 4 = .ok (.ifCond .le 154, 3) := dk_158 0 154 (dk_at dksX4_settle_0 4 rfl rfl)
theorem dX4_settle_7 : decode cX4_settle 7 = .ok (.aload_n 0, 1) := dk_42 (dk_at dksX4_settle_0 7 rfl rfl)
theorem dX4_settle_8 : decode cX4_settle 8 = .ok (.getfield 149, 3) := dk_180 0 149 (dk_at dksX4_settle_0 8 rfl rfl)
theorem dX4_settle_11 : decode cX4_settle 11 = .ok (.aload_n 0, 1) := dk_42 (dk_at dksX4_settle_0 11 rfl rfl)
theorem dX4_settle_12 : decode cX4_settle 12 = .ok (.getfield 155, 3) := dk_180 0 155 (dk_at dksX4_settle_0 12 rfl rfl)
theorem dX4_settle_15 : decode cX4_settle 15 = .ok (.iconst 1, 1) := dk_4 (dk_at dksX4_settle_0 15 rfl rfl)
theorem dX4_settle_16 : decode cX4_settle 16 = .ok (.isub, 1) := dk_100 (dk_at dksX4_settle_0 16 rfl rfl)
theorem dX4_settle_17 : decode cX4_settle 17 = .ok (.iaload, 1) := dk_46 (dk_at dksX4_settle_0 17 rfl rfl)
theorem dX4_settle_18 : decode cX4_settle 18 = .ok (.bipush 38, 2) := dk_16 38 (dk_at dksX4_settle_0 18 rfl rfl)
theorem dX4_settle_20 : decode cX4_settle 20 = .ok (.if_icmp .eq 25, 3) := dk_159 0 25 (dk_at dksX4_settle_0 20 rfl rfl)
theorem dX4_settle_23 : decode cX4_settle 23 = .ok (.aload_n 0, 1) := dk_42 (dk_at dksX4_settle_0 23 rfl rfl)
theorem dX4_settle_24 : decode cX4_settle 24 = .ok (.getfield 149, 3) := dk_180 0 149 (dk_at dksX4_settle_1 0 rfl rfl)
theorem dX4_settle_27 : decode cX4_settle 27 = .ok (.aload_n 0, 1) := dk_42 (dk_at dksX4_settle_1 3 rfl rfl)
theorem dX4_settle_28 : decode cX4_settle 28 = .ok (.getfield 155, 3) := dk_180 0 155 (dk_at dksX4_settle_1 4 rfl rfl)
theorem dX4_settle_31 : decode cX4_settle 31 = .ok (.iconst 1, 1) := dk_4 (dk_at dksX4_settle_1 7 rfl rfl)
theorem dX4_settle_32 : decode cX4_settle 32 = .ok (.isub, 1) := dk_100 (dk_at dksX4_settle_1 8 rfl rfl)
theorem dX4_settle_33 : decode cX4_settle 33 = .ok (.iaload, 1) := dk_46 (dk_at dksX4_settle_1 9 rfl rfl)
theorem dX4_settle_34 : decode cX4_settle 34 = .ok (.bipush 124, 2) := dk_16 124 (dk_at dksX4_settle_1 10 rfl rfl)
theorem dX4_settle_36 : decode cX4_settle 36 = .ok (.if_icmp .ne 122, 3) := dk_160 0 122 (dk_at dksX4_settle_1 12 rfl rfl)
theorem dX4_settle_39 : decode cX4_settle 39 = .ok (.iload_n 1, 1) := dk_27 (dk_at dksX4_settle_1 15 rfl rfl)
theorem dX4_settle_40 : decode cX4_settle 40 = .ok (.bipush 38, 2) := dk_16 38 (dk_at dksX4_settle_1 16 rfl rfl)
theorem dX4_settle_42 : decode cX4_settle 42 = .ok (.if_icmp .eq 116, 3) := dk_159 0 116 (dk_at dksX4_settle_1 18 rfl rfl)
theorem dX4_settle_45 : decode cX4_settle 45 = .ok (.aload_n 0, 1) := dk_42 (dk_at dksX4_settle_1 21 rfl rfl)
theorem dX4_settle_46 : decode cX4_settle 46 = .ok (.dup, 1) := dk_89 (dk_at dksX4_settle_1 22 rfl rfl)
theorem dX4_settle_47 : decode cX4_settle 47 = .ok (.getfield 155, 3) := dk_180 0 155 (dk_at dksX4_settle_2 0 rfl rfl)
theorem dX4_settle_50 : decode cX4_settle 50 = .ok (.iconst 1, 1) := dk_4 (dk_at dksX4_settle_2 3 rfl rfl)
theorem dX4_settle_51 : decode cX4_settle 51 = .ok (.isub, 1) := dk_100 (dk_at dksX4_settle_2 4 rfl rfl)
theorem dX4_settle_52 : decode cX4_settle 52 = .ok (.putfield 155, 3) := dk_181 0 155 (dk_at dksX4_settle_2 5 rfl rfl)
theorem dX4_settle_55 : decode cX4_settle 55 = .ok (.aload_n 0, 1) := dk_42 (dk_at dksX4_settle_2 8 rfl rfl)
theorem dX4_settle_56 : decode cX4_settle 56 = .ok (.dup, 1) := dk_89 (dk_at dksX4_settle_2 9 rfl rfl)
theorem dX4_settle_57 : decode cX4_settle 57 = .ok (.getfield 158, 3) := dk_180 0 158 (dk_at dksX4_settle_2 10 rfl rfl)
theorem dX4_settle_60 : decode cX4_settle 60 = .ok (.iconst 1, 1) := dk_4 (dk_at dksX4_settle_2 13 rfl rfl)
theorem dX4_settle_61 : decode cX4_settle 61 = .ok (.isub, 1) := dk_100 (dk_at dksX4_settle_2 14 rfl rfl)
theorem dX4_settle_62 : decode cX4_settle 62 = .ok (.putfield 158, 3) := dk_181 0 158 (dk_at dksX4_settle_2 15 rfl rfl)
theorem dX4_settle_65 : decode cX4_settle 65 = .ok (.aload_n 0, 1) := dk_42 (dk_at dksX4_settle_2 18 rfl rfl)
theorem dX4_settle_66 : decode cX4_settle 66 = .ok (.getfield 152, 3) := dk_180 0 152 (dk_at dksX4_settle_2 19 rfl rfl)
theorem dX4_settle_69 : decode cX4_settle 69 = .ok (.aload_n 0, 1) := dk_42 (dk_at dksX4_settle_2 22 rfl rfl)
theorem dX4_settle_70 : decode cX4_settle 70 = .ok (.getfield 158, 3) := dk_180 0 158 (dk_at dksX4_settle_3 0 rfl rfl)
theorem dX4_settle_73 : decode cX4_settle 73 = .ok (.iconst 1, 1) := dk_4 (dk_at dksX4_settle_3 3 rfl rfl)
theorem dX4_settle_74 : decode cX4_settle 74 = .ok (.isub, 1) := dk_100 (dk_at dksX4_settle_3 4 rfl rfl)
theorem dX4_settle_75 : decode cX4_settle 75 = .ok (.aload_n 0, 1) := dk_42 (dk_at dksX4_settle_3 5 rfl rfl)
theorem dX4_settle_76 : decode cX4_settle 76 = .ok (.getfield 149, 3) := dk_180 0 149 (dk_at dksX4_settle_3 6 rfl rfl)
theorem dX4_settle_79 : decode cX4_settle 79 = .ok (.aload_n 0, 1) := dk_42 (dk_at dksX4_settle_3 9 rfl rfl)
theorem dX4_settle_80 : decode cX4_settle 80 = .ok (.getfield 155, 3) := dk_180 0 155 (dk_at dksX4_settle_3 10 rfl rfl)
theorem dX4_settle_83 : decode cX4_settle 83 = .ok (.iaload, 1) := dk_46 (dk_at dksX4_settle_3 13 rfl rfl)
theorem dX4_settle_84 : decode cX4_settle 84 = .ok (.bipush 38, 2) := dk_16 38 (dk_at dksX4_settle_3 14 rfl rfl)
theorem dX4_settle_86 : decode cX4_settle 86 = .ok (.if_icmp .ne 37, 3) := dk_160 0 37 (dk_at dksX4_settle_3 16 rfl rfl)
theorem dX4_settle_89 : decode cX4_settle 89 = .ok (.aload_n 0, 1) := dk_42 (dk_at dksX4_settle_3 19 rfl rfl)
theorem dX4_settle_90 : decode cX4_settle 90 = .ok (.getfield 152, 3) := dk_180 0 152 (dk_at dksX4_settle_3 20 rfl rfl)
theorem dX4_settle_93 : decode cX4_settle 93 = .ok (.aload_n 0, 1) := dk_42 (dk_at dksX4_settle_3 23 rfl rfl)
theorem dX4_settle_94 : decode cX4_settle 94 = .ok (.getfield 158, 3) := dk_180 0 158 (dk_at dksX4_settle_4 0 rfl rfl)
theorem dX4_settle_97 : decode cX4_settle 97 = .ok (.iconst 1, 1) := dk_4 (dk_at dksX4_settle_4 3 rfl rfl)
theorem dX4_settle_98 : decode cX4_settle 98 = .ok (.isub, 1) := dk_100 (dk_at dksX4_settle_4 4 rfl rfl)
theorem dX4_settle_99 : decode cX4_settle 99 = .ok (.baload, 1) := dk_51 (dk_at dksX4_settle_4 5 rfl rfl)
theorem dX4_settle_100 : decode cX4_settle 100 = .ok (.ifCond .eq 19, 3) := dk_153 0 19 (dk_at dksX4_settle_4 6 rfl rfl)
theorem dX4_settle_103 : decode cX4_settle 103 = .ok (.aload_n 0, 1) := dk_42 (dk_at dksX4_settle_4 9 rfl rfl)
theorem dX4_settle_104 : decode cX4_settle 104 = .ok (.getfield 152, 3) := dk_180 0 152 (dk_at dksX4_settle_4 10 rfl rfl)
theorem dX4_settle_107 : decode cX4_settle 107 = .ok (.aload_n 0, 1) := dk_42 (dk_at dksX4_settle_4 13 rfl rfl)
theorem dX4_settle_108 : decode cX4_settle 108 = .ok (.getfield 158, 3) := dk_180 0 158 (dk_at dksX4_settle_4 14 rfl rfl)
theorem dX4_settle_111 : decode cX4_settle 111 = .ok (.baload, 1) := dk_51 (dk_at dksX4_settle_4 17 rfl rfl)
theorem dX4_settle_112 : decode cX4_settle 112 = .ok (.ifCond .eq 7, 3) := dk_153 0 7 (dk_at dksX4_settle_4 18 rfl rfl)
theorem dX4_settle_115 : decode cX4_settle 115 = .ok (.iconst 1, 1) := dk_4 (dk_at dksX4_settle_4 21 rfl rfl)
theorem dX4_settle_116 : decode cX4_settle 116 = .ok (.goto 38, 3) := dk_167 0 38 (dk_at dksX4_settle_5 0 rfl rfl)
theorem dX4_settle_119 : decode cX4_settle 119 = .ok (.iconst 0, 1) := dk_3 (dk_at dksX4_settle_5 3 rfl rfl)
theorem dX4_settle_120 : decode cX4_settle 120 = .ok (.goto 34, 3) := dk_167 0 34 (dk_at dksX4_settle_5 4 rfl rfl)
theorem dX4_settle_123 : decode cX4_settle 123 = .ok (.aload_n 0, 1) := dk_42 (dk_at dksX4_settle_5 7 rfl rfl)
theorem dX4_settle_124 : decode cX4_settle 124 = .ok (.getfield 152, 3) := dk_180 0 152 (dk_at dksX4_settle_5 8 rfl rfl)
theorem dX4_settle_127 : decode cX4_settle 127 = .ok (.aload_n 0, 1) := dk_42 (dk_at dksX4_settle_5 11 rfl rfl)
theorem dX4_settle_128 : decode cX4_settle 128 = .ok (.getfield 158, 3) := dk_180 0 158 (dk_at dksX4_settle_5 12 rfl rfl)
theorem dX4_settle_131 : decode cX4_settle 131 = .ok (.iconst 1, 1) := dk_4 (dk_at dksX4_settle_5 15 rfl rfl)
theorem dX4_settle_132 : decode cX4_settle 132 = .ok (.isub, 1) := dk_100 (dk_at dksX4_settle_5 16 rfl rfl)
theorem dX4_settle_133 : decode cX4_settle 133 = .ok (.baload, 1) := dk_51 (dk_at dksX4_settle_5 17 rfl rfl)
theorem dX4_settle_134 : decode cX4_settle 134 = .ok (.ifCond .ne 15, 3) := dk_154 0 15 (dk_at dksX4_settle_5 18 rfl rfl)
theorem dX4_settle_137 : decode cX4_settle 137 = .ok (.aload_n 0, 1) := dk_42 (dk_at dksX4_settle_5 21 rfl rfl)
theorem dX4_settle_138 : decode cX4_settle 138 = .ok (.getfield 152, 3) := dk_180 0 152 (dk_at dksX4_settle_6 0 rfl rfl)
theorem dX4_settle_141 : decode cX4_settle 141 = .ok (.aload_n 0, 1) := dk_42 (dk_at dksX4_settle_6 3 rfl rfl)
theorem dX4_settle_142 : decode cX4_settle 142 = .ok (.getfield 158, 3) := dk_180 0 158 (dk_at dksX4_settle_6 4 rfl rfl)
theorem dX4_settle_145 : decode cX4_settle 145 = .ok (.baload, 1) := dk_51 (dk_at dksX4_settle_6 7 rfl rfl)
theorem dX4_settle_146 : decode cX4_settle 146 = .ok (.ifCond .eq 7, 3) := dk_153 0 7 (dk_at dksX4_settle_6 8 rfl rfl)
theorem dX4_settle_149 : decode cX4_settle 149 = .ok (.iconst 1, 1) := dk_4 (dk_at dksX4_settle_6 11 rfl rfl)
theorem dX4_settle_150 : decode cX4_settle 150 = .ok (.goto 4, 3) := dk_167 0 4 (dk_at dksX4_settle_6 12 rfl rfl)
theorem dX4_settle_153 : decode cX4_settle 153 = .ok (.iconst 0, 1) := dk_3 (dk_at dksX4_settle_6 15 rfl rfl)
theorem dX4_settle_154 : decode cX4_settle 154 = .ok (.bastore, 1) := dk_84 (dk_at dksX4_settle_6 16 rfl rfl)
theorem dX4_settle_155 : decode cX4_settle 155 = .ok (.goto (-155), 3) := dk_167 255 101 (dk_at dksX4_settle_6 17 rfl rfl)
theorem dX4_settle_158 : decode cX4_settle 158 = .ok (.return_, 1) := dk_177 (dk_at dksX4_settle_6 20 rfl rfl)
abbrev cX4_keeps : ByteArray := prog_30_method_52_code
def yX4_keeps : MethodName := ⟨RX4, "keeps", "(I)V"⟩
def dkwX4_keeps_2 : List UInt8 := [132, 2, 1, 167, 255, 221, 177]
abbrev dktX4_keeps_2 : List UInt8 := dkwX4_keeps_2 ++ []
def dkwX4_keeps_1 : List UInt8 := [162, 0, 30, 42, 180, 0, 106, 16, 120, 27, 104, 28, 96, 42, 180, 0, 106, 17, 11, 64, 28, 96, 46, 79]
abbrev dktX4_keeps_1 : List UInt8 := dkwX4_keeps_1 ++ dktX4_keeps_2
def dkwX4_keeps_0 : List UInt8 := [42, 180, 0, 109, 27, 42, 180, 0, 109, 16, 24, 46, 79, 3, 61, 28, 42, 180, 0, 109, 16, 24, 46]
abbrev dktX4_keeps_0 : List UInt8 := dkwX4_keeps_0 ++ dktX4_keeps_1
theorem dksX4_keeps_0 : cX4_keeps.data.toList.drop 0 = dktX4_keeps_0 := by decide +kernel
theorem dksX4_keeps_1 : cX4_keeps.data.toList.drop 23 = dktX4_keeps_1 := dk_seg dksX4_keeps_0 23 rfl rfl
theorem dksX4_keeps_2 : cX4_keeps.data.toList.drop 47 = dktX4_keeps_2 := dk_seg dksX4_keeps_1 24 rfl rfl
theorem dX4_keeps_0 : decode cX4_keeps 0 = .ok (.aload_n 0, 1) := dk_42 (dk_at dksX4_keeps_0 0 rfl rfl)
theorem dX4_keeps_1 : decode cX4_keeps 1 = .ok (.getfield 109, 3) := dk_180 0 109 (dk_at dksX4_keeps_0 1 rfl rfl)
theorem dX4_keeps_4 : decode cX4_keeps 4 = .ok (.iload_n 1, 1) := dk_27 (dk_at dksX4_keeps_0 4 rfl rfl)
theorem dX4_keeps_5 : decode cX4_keeps 5 = .ok (.aload_n 0, 1) := dk_42 (dk_at dksX4_keeps_0 5 rfl rfl)
theorem dX4_keeps_6 : decode cX4_keeps 6 = .ok (.getfield 109, 3) := dk_180 0 109 (dk_at dksX4_keeps_0 6 rfl rfl)
theorem dX4_keeps_9 : decode cX4_keeps 9 = .ok (.bipush 24, 2) := dk_16 24 (dk_at dksX4_keeps_0 9 rfl rfl)
theorem dX4_keeps_11 : decode cX4_keeps 11 = .ok (.iaload, 1) := dk_46 (dk_at dksX4_keeps_0 11 rfl rfl)
theorem dX4_keeps_12 : decode cX4_keeps 12 = .ok (.iastore, 1) := dk_79 (dk_at dksX4_keeps_0 12 rfl rfl)
theorem dX4_keeps_13 : decode cX4_keeps 13 = .ok (.iconst 0, 1) := dk_3 (dk_at dksX4_keeps_0 13 rfl rfl)
theorem dX4_keeps_14 : decode cX4_keeps 14 = .ok (.istore_n 2, 1) := dk_61 (dk_at dksX4_keeps_0 14 rfl rfl)
theorem dX4_keeps_15 : decode cX4_keeps 15 = .ok (.iload_n 2, 1) := dk_28 (dk_at dksX4_keeps_0 15 rfl rfl)
theorem dX4_keeps_16 : decode cX4_keeps 16 = .ok (.aload_n 0, 1) := dk_42 (dk_at dksX4_keeps_0 16 rfl rfl)
theorem dX4_keeps_17 : decode cX4_keeps 17 = .ok (.getfield 109, 3) := dk_180 0 109 (dk_at dksX4_keeps_0 17 rfl rfl)
theorem dX4_keeps_20 : decode cX4_keeps 20 = .ok (.bipush 24, 2) := dk_16 24 (dk_at dksX4_keeps_0 20 rfl rfl)
theorem dX4_keeps_22 : decode cX4_keeps 22 = .ok (.iaload, 1) := dk_46 (dk_at dksX4_keeps_0 22 rfl rfl)
theorem dX4_keeps_23 : decode cX4_keeps 23 = .ok (.if_icmp .ge 30, 3) := dk_162 0 30 (dk_at dksX4_keeps_1 0 rfl rfl)
theorem dX4_keeps_26 : decode cX4_keeps 26 = .ok (.aload_n 0, 1) := dk_42 (dk_at dksX4_keeps_1 3 rfl rfl)
theorem dX4_keeps_27 : decode cX4_keeps 27 = .ok (.getfield 106, 3) := dk_180 0 106 (dk_at dksX4_keeps_1 4 rfl rfl)
theorem dX4_keeps_30 : decode cX4_keeps 30 = .ok (.bipush 120, 2) := dk_16 120 (dk_at dksX4_keeps_1 7 rfl rfl)
theorem dX4_keeps_32 : decode cX4_keeps 32 = .ok (.iload_n 1, 1) := dk_27 (dk_at dksX4_keeps_1 9 rfl rfl)
theorem dX4_keeps_33 : decode cX4_keeps 33 = .ok (.imul, 1) := dk_104 (dk_at dksX4_keeps_1 10 rfl rfl)
theorem dX4_keeps_34 : decode cX4_keeps 34 = .ok (.iload_n 2, 1) := dk_28 (dk_at dksX4_keeps_1 11 rfl rfl)
theorem dX4_keeps_35 : decode cX4_keeps 35 = .ok (.iadd, 1) := dk_96 (dk_at dksX4_keeps_1 12 rfl rfl)
theorem dX4_keeps_36 : decode cX4_keeps 36 = .ok (.aload_n 0, 1) := dk_42 (dk_at dksX4_keeps_1 13 rfl rfl)
theorem dX4_keeps_37 : decode cX4_keeps 37 = .ok (.getfield 106, 3) := dk_180 0 106 (dk_at dksX4_keeps_1 14 rfl rfl)
theorem dX4_keeps_40 : decode cX4_keeps 40 = .ok (.sipush 2880, 3) := dk_17 11 64 (dk_at dksX4_keeps_1 17 rfl rfl)
theorem dX4_keeps_43 : decode cX4_keeps 43 = .ok (.iload_n 2, 1) := dk_28 (dk_at dksX4_keeps_1 20 rfl rfl)
theorem dX4_keeps_44 : decode cX4_keeps 44 = .ok (.iadd, 1) := dk_96 (dk_at dksX4_keeps_1 21 rfl rfl)
theorem dX4_keeps_45 : decode cX4_keeps 45 = .ok (.iaload, 1) := dk_46 (dk_at dksX4_keeps_1 22 rfl rfl)
theorem dX4_keeps_46 : decode cX4_keeps 46 = .ok (.iastore, 1) := dk_79 (dk_at dksX4_keeps_1 23 rfl rfl)
theorem dX4_keeps_47 : decode cX4_keeps 47 = .ok (.iinc 2 1, 3) := dk_132 2 1 (dk_at dksX4_keeps_2 0 rfl rfl)
theorem dX4_keeps_50 : decode cX4_keeps 50 = .ok (.goto (-35), 3) := dk_167 255 221 (dk_at dksX4_keeps_2 3 rfl rfl)
theorem dX4_keeps_53 : decode cX4_keeps 53 = .ok (.return_, 1) := dk_177 (dk_at dksX4_keeps_2 6 rfl rfl)
abbrev cX4_revoke : ByteArray := prog_30_method_54_code
def yX4_revoke : MethodName := ⟨RX4, "revoke", "(I)I"⟩
def dkwX4_revoke_1 : List UInt8 := [155, 0, 6, 16, 253, 172, 42, 180, 0, 103, 27, 42, 180, 0, 13, 79, 4, 172]
abbrev dktX4_revoke_1 : List UInt8 := dkwX4_revoke_1 ++ []
def dkwX4_revoke_0 : List UInt8 := [42, 27, 3, 42, 180, 0, 91, 4, 100, 182, 0, 3, 154, 0, 5, 2, 172, 42, 180, 0, 103, 27, 46]
abbrev dktX4_revoke_0 : List UInt8 := dkwX4_revoke_0 ++ dktX4_revoke_1
theorem dksX4_revoke_0 : cX4_revoke.data.toList.drop 0 = dktX4_revoke_0 := by decide +kernel
theorem dksX4_revoke_1 : cX4_revoke.data.toList.drop 23 = dktX4_revoke_1 := dk_seg dksX4_revoke_0 23 rfl rfl
theorem dX4_revoke_0 : decode cX4_revoke 0 = .ok (.aload_n 0, 1) := dk_42 (dk_at dksX4_revoke_0 0 rfl rfl)
theorem dX4_revoke_1 : decode cX4_revoke 1 = .ok (.iload_n 1, 1) := dk_27 (dk_at dksX4_revoke_0 1 rfl rfl)
theorem dX4_revoke_2 : decode cX4_revoke 2 = .ok (.iconst 0, 1) := dk_3 (dk_at dksX4_revoke_0 2 rfl rfl)
theorem dX4_revoke_3 : decode cX4_revoke 3 = .ok (.aload_n 0, 1) := dk_42 (dk_at dksX4_revoke_0 3 rfl rfl)
theorem dX4_revoke_4 : decode cX4_revoke 4 = .ok (.getfield 91, 3) := dk_180 0 91 (dk_at dksX4_revoke_0 4 rfl rfl)
theorem dX4_revoke_7 : decode cX4_revoke 7 = .ok (.iconst 1, 1) := dk_4 (dk_at dksX4_revoke_0 7 rfl rfl)
theorem dX4_revoke_8 : decode cX4_revoke 8 = .ok (.isub, 1) := dk_100 (dk_at dksX4_revoke_0 8 rfl rfl)
theorem dX4_revoke_9 : decode cX4_revoke 9 = .ok (.invokevirtual 3, 3) := dk_182 0 3 (dk_at dksX4_revoke_0 9 rfl rfl)
theorem dX4_revoke_12 : decode cX4_revoke 12 = .ok (.ifCond .ne 5, 3) := dk_154 0 5 (dk_at dksX4_revoke_0 12 rfl rfl)
theorem dX4_revoke_15 : decode cX4_revoke 15 = .ok (.iconst (-1), 1) := dk_2 (dk_at dksX4_revoke_0 15 rfl rfl)
theorem dX4_revoke_16 : decode cX4_revoke 16 = .ok (.ireturn, 1) := dk_172 (dk_at dksX4_revoke_0 16 rfl rfl)
theorem dX4_revoke_17 : decode cX4_revoke 17 = .ok (.aload_n 0, 1) := dk_42 (dk_at dksX4_revoke_0 17 rfl rfl)
theorem dX4_revoke_18 : decode cX4_revoke 18 = .ok (.getfield 103, 3) := dk_180 0 103 (dk_at dksX4_revoke_0 18 rfl rfl)
theorem dX4_revoke_21 : decode cX4_revoke 21 = .ok (.iload_n 1, 1) := dk_27 (dk_at dksX4_revoke_0 21 rfl rfl)
theorem dX4_revoke_22 : decode cX4_revoke 22 = .ok (.iaload, 1) := dk_46 (dk_at dksX4_revoke_0 22 rfl rfl)
theorem dX4_revoke_23 : decode cX4_revoke 23 = .ok (.ifCond .lt 6, 3) := dk_155 0 6 (dk_at dksX4_revoke_1 0 rfl rfl)
theorem dX4_revoke_26 : decode cX4_revoke 26 = .ok (.bipush (-3), 2) := dk_16 253 (dk_at dksX4_revoke_1 3 rfl rfl)
theorem dX4_revoke_28 : decode cX4_revoke 28 = .ok (.ireturn, 1) := dk_172 (dk_at dksX4_revoke_1 5 rfl rfl)
theorem dX4_revoke_29 : decode cX4_revoke 29 = .ok (.aload_n 0, 1) := dk_42 (dk_at dksX4_revoke_1 6 rfl rfl)
theorem dX4_revoke_30 : decode cX4_revoke 30 = .ok (.getfield 103, 3) := dk_180 0 103 (dk_at dksX4_revoke_1 7 rfl rfl)
theorem dX4_revoke_33 : decode cX4_revoke 33 = .ok (.iload_n 1, 1) := dk_27 (dk_at dksX4_revoke_1 10 rfl rfl)
theorem dX4_revoke_34 : decode cX4_revoke 34 = .ok (.aload_n 0, 1) := dk_42 (dk_at dksX4_revoke_1 11 rfl rfl)
theorem dX4_revoke_35 : decode cX4_revoke 35 = .ok (.getfield 13, 3) := dk_180 0 13 (dk_at dksX4_revoke_1 12 rfl rfl)
theorem dX4_revoke_38 : decode cX4_revoke 38 = .ok (.iastore, 1) := dk_79 (dk_at dksX4_revoke_1 15 rfl rfl)
theorem dX4_revoke_39 : decode cX4_revoke 39 = .ok (.iconst 1, 1) := dk_4 (dk_at dksX4_revoke_1 16 rfl rfl)
theorem dX4_revoke_40 : decode cX4_revoke 40 = .ok (.ireturn, 1) := dk_172 (dk_at dksX4_revoke_1 17 rfl rfl)
abbrev cX4_known : ByteArray := prog_30_method_56_code
def yX4_known : MethodName := ⟨RX4, "known", "(III)I"⟩
def dkwX4_known_2 : List UInt8 := [4, 167, 0, 4, 3, 172]
abbrev dktX4_known_2 : List UInt8 := dkwX4_known_2 ++ []
def dkwX4_known_1 : List UInt8 := [172, 42, 29, 182, 1, 129, 154, 0, 8, 16, 254, 167, 0, 18, 42, 27, 28, 29, 182, 1, 132, 153, 0, 7]
abbrev dktX4_known_1 : List UInt8 := dkwX4_known_1 ++ dktX4_known_2
def dkwX4_known_0 : List UInt8 := [42, 27, 3, 42, 180, 0, 91, 4, 100, 182, 0, 3, 153, 0, 11, 42, 28, 182, 1, 2, 154, 0, 5, 2]
abbrev dktX4_known_0 : List UInt8 := dkwX4_known_0 ++ dktX4_known_1
theorem dksX4_known_0 : cX4_known.data.toList.drop 0 = dktX4_known_0 := by decide +kernel
theorem dksX4_known_1 : cX4_known.data.toList.drop 24 = dktX4_known_1 := dk_seg dksX4_known_0 24 rfl rfl
theorem dksX4_known_2 : cX4_known.data.toList.drop 48 = dktX4_known_2 := dk_seg dksX4_known_1 24 rfl rfl
theorem dX4_known_0 : decode cX4_known 0 = .ok (.aload_n 0, 1) := dk_42 (dk_at dksX4_known_0 0 rfl rfl)
theorem dX4_known_1 : decode cX4_known 1 = .ok (.iload_n 1, 1) := dk_27 (dk_at dksX4_known_0 1 rfl rfl)
theorem dX4_known_2 : decode cX4_known 2 = .ok (.iconst 0, 1) := dk_3 (dk_at dksX4_known_0 2 rfl rfl)
theorem dX4_known_3 : decode cX4_known 3 = .ok (.aload_n 0, 1) := dk_42 (dk_at dksX4_known_0 3 rfl rfl)
theorem dX4_known_4 : decode cX4_known 4 = .ok (.getfield 91, 3) := dk_180 0 91 (dk_at dksX4_known_0 4 rfl rfl)
theorem dX4_known_7 : decode cX4_known 7 = .ok (.iconst 1, 1) := dk_4 (dk_at dksX4_known_0 7 rfl rfl)
theorem dX4_known_8 : decode cX4_known 8 = .ok (.isub, 1) := dk_100 (dk_at dksX4_known_0 8 rfl rfl)
theorem dX4_known_9 : decode cX4_known 9 = .ok (.invokevirtual 3, 3) := dk_182 0 3 (dk_at dksX4_known_0 9 rfl rfl)
theorem dX4_known_12 : decode cX4_known 12 = .ok (.ifCond .eq 11, 3) := dk_153 0 11 (dk_at dksX4_known_0 12 rfl rfl)
theorem dX4_known_15 : decode cX4_known 15 = .ok (.aload_n 0, 1) := dk_42 (dk_at dksX4_known_0 15 rfl rfl)
theorem dX4_known_16 : decode cX4_known 16 = .ok (.iload_n 2, 1) := dk_28 (dk_at dksX4_known_0 16 rfl rfl)
theorem dX4_known_17 : decode cX4_known 17 = .ok (.invokevirtual 258, 3) := dk_182 1 2 (dk_at dksX4_known_0 17 rfl rfl)
theorem dX4_known_20 : decode cX4_known 20 = .ok (.ifCond .ne 5, 3) := dk_154 0 5 (dk_at dksX4_known_0 20 rfl rfl)
theorem dX4_known_23 : decode cX4_known 23 = .ok (.iconst (-1), 1) := dk_2 (dk_at dksX4_known_0 23 rfl rfl)
theorem dX4_known_24 : decode cX4_known 24 = .ok (.ireturn, 1) := dk_172 (dk_at dksX4_known_1 0 rfl rfl)
theorem dX4_known_25 : decode cX4_known 25 = .ok (.aload_n 0, 1) := dk_42 (dk_at dksX4_known_1 1 rfl rfl)
theorem dX4_known_26 : decode cX4_known 26 = .ok (.iload_n 3, 1) := dk_29 (dk_at dksX4_known_1 2 rfl rfl)
theorem dX4_known_27 : decode cX4_known 27 = .ok (.invokevirtual 385, 3) := dk_182 1 129 (dk_at dksX4_known_1 3 rfl rfl)
theorem dX4_known_30 : decode cX4_known 30 = .ok (.ifCond .ne 8, 3) := dk_154 0 8 (dk_at dksX4_known_1 6 rfl rfl)
theorem dX4_known_33 : decode cX4_known 33 = .ok (.bipush (-2), 2) := dk_16 254 (dk_at dksX4_known_1 9 rfl rfl)
theorem dX4_known_35 : decode cX4_known 35 = .ok (.goto 18, 3) := dk_167 0 18 (dk_at dksX4_known_1 11 rfl rfl)
theorem dX4_known_38 : decode cX4_known 38 = .ok (.aload_n 0, 1) := dk_42 (dk_at dksX4_known_1 14 rfl rfl)
theorem dX4_known_39 : decode cX4_known 39 = .ok (.iload_n 1, 1) := dk_27 (dk_at dksX4_known_1 15 rfl rfl)
theorem dX4_known_40 : decode cX4_known 40 = .ok (.iload_n 2, 1) := dk_28 (dk_at dksX4_known_1 16 rfl rfl)
theorem dX4_known_41 : decode cX4_known 41 = .ok (.iload_n 3, 1) := dk_29 (dk_at dksX4_known_1 17 rfl rfl)
theorem dX4_known_42 : decode cX4_known 42 = .ok (.invokevirtual 388, 3) := dk_182 1 132 (dk_at dksX4_known_1 18 rfl rfl)
theorem dX4_known_45 : decode cX4_known 45 = .ok (.ifCond .eq 7, 3) := dk_153 0 7 (dk_at dksX4_known_1 21 rfl rfl)
theorem dX4_known_48 : decode cX4_known 48 = .ok (.iconst 1, 1) := dk_4 (dk_at dksX4_known_2 0 rfl rfl)
theorem dX4_known_49 : decode cX4_known 49 = .ok (.goto 4, 3) := dk_167 0 4 (dk_at dksX4_known_2 1 rfl rfl)
theorem dX4_known_52 : decode cX4_known 52 = .ok (.iconst 0, 1) := dk_3 (dk_at dksX4_known_2 4 rfl rfl)
theorem dX4_known_53 : decode cX4_known 53 = .ok (.ireturn, 1) := dk_172 (dk_at dksX4_known_2 5 rfl rfl)
abbrev cX4_isDay : ByteArray := prog_30_method_2_code
def yX4_isDay : MethodName := ⟨RX4, "isDay", "(I)Z"⟩
def dkwX4_isDay_0 : List UInt8 := [42, 27, 3, 17, 39, 15, 182, 0, 3, 172]
abbrev dktX4_isDay_0 : List UInt8 := dkwX4_isDay_0 ++ []
theorem dksX4_isDay_0 : cX4_isDay.data.toList.drop 0 = dktX4_isDay_0 := by decide +kernel
theorem dX4_isDay_0 : decode cX4_isDay 0 = .ok (.aload_n 0, 1) := dk_42 (dk_at dksX4_isDay_0 0 rfl rfl)
theorem dX4_isDay_1 : decode cX4_isDay 1 = .ok (.iload_n 1, 1) := dk_27 (dk_at dksX4_isDay_0 1 rfl rfl)
theorem dX4_isDay_2 : decode cX4_isDay 2 = .ok (.iconst 0, 1) := dk_3 (dk_at dksX4_isDay_0 2 rfl rfl)
theorem dX4_isDay_3 : decode cX4_isDay 3 = .ok (.sipush 9999, 3) := dk_17 39 15 (dk_at dksX4_isDay_0 3 rfl rfl)
theorem dX4_isDay_6 : decode cX4_isDay 6 = .ok (.invokevirtual 3, 3) := dk_182 0 3 (dk_at dksX4_isDay_0 6 rfl rfl)
theorem dX4_isDay_9 : decode cX4_isDay 9 = .ok (.ireturn, 1) := dk_172 (dk_at dksX4_isDay_0 9 rfl rfl)
abbrev cX4_isKnown : ByteArray := prog_30_method_55_code
def yX4_isKnown : MethodName := ⟨RX4, "isKnown", "(III)Z"⟩
def dkwX4_isKnown_2 : List UInt8 := [162, 0, 7, 4, 167, 0, 4, 3, 172]
abbrev dktX4_isKnown_2 : List UInt8 := dkwX4_isKnown_2 ++ []
def dkwX4_isKnown_1 : List UInt8 := [96, 161, 0, 29, 42, 180, 0, 103, 27, 46, 155, 0, 16, 29, 42, 180, 0, 103, 27, 46, 21, 4, 96]
abbrev dktX4_isKnown_1 : List UInt8 := dkwX4_isKnown_1 ++ dktX4_isKnown_2
def dkwX4_isKnown_0 : List UInt8 := [42, 28, 182, 1, 6, 54, 4, 21, 4, 17, 39, 15, 162, 0, 42, 29, 42, 180, 0, 100, 27, 46, 21, 4]
abbrev dktX4_isKnown_0 : List UInt8 := dkwX4_isKnown_0 ++ dktX4_isKnown_1
theorem dksX4_isKnown_0 : cX4_isKnown.data.toList.drop 0 = dktX4_isKnown_0 := by decide +kernel
theorem dksX4_isKnown_1 : cX4_isKnown.data.toList.drop 24 = dktX4_isKnown_1 := dk_seg dksX4_isKnown_0 24 rfl rfl
theorem dksX4_isKnown_2 : cX4_isKnown.data.toList.drop 47 = dktX4_isKnown_2 := dk_seg dksX4_isKnown_1 23 rfl rfl
theorem dX4_isKnown_0 : decode cX4_isKnown 0 = .ok (.aload_n 0, 1) := dk_42 (dk_at dksX4_isKnown_0 0 rfl rfl)
theorem dX4_isKnown_1 : decode cX4_isKnown 1 = .ok (.iload_n 2, 1) := dk_28 (dk_at dksX4_isKnown_0 1 rfl rfl)
theorem dX4_isKnown_2 : decode cX4_isKnown 2 = .ok (.invokevirtual 262, 3) := dk_182 1 6 (dk_at dksX4_isKnown_0 2 rfl rfl)
theorem dX4_isKnown_5 : decode cX4_isKnown 5 = .ok (.istore 4, 2) := dk_54 4 (dk_at dksX4_isKnown_0 5 rfl rfl)
theorem dX4_isKnown_7 : decode cX4_isKnown 7 = .ok (.iload 4, 2) := dk_21 4 (dk_at dksX4_isKnown_0 7 rfl rfl)
theorem dX4_isKnown_9 : decode cX4_isKnown 9 = .ok (.sipush 9999, 3) := dk_17 39 15 (dk_at dksX4_isKnown_0 9 rfl rfl)
theorem dX4_isKnown_12 : decode cX4_isKnown 12 = .ok (.if_icmp .ge 42, 3) := dk_162 0 42 (dk_at dksX4_isKnown_0 12 rfl rfl)
theorem dX4_isKnown_15 : decode cX4_isKnown 15 = .ok (.iload_n 3, 1) := dk_29 (dk_at dksX4_isKnown_0 15 rfl rfl)
theorem dX4_isKnown_16 : decode cX4_isKnown 16 = .ok (.aload_n 0, 1) := dk_42 (dk_at dksX4_isKnown_0 16 rfl rfl)
theorem dX4_isKnown_17 : decode cX4_isKnown 17 = .ok (.getfield 100, 3) := dk_180 0 100 (dk_at dksX4_isKnown_0 17 rfl rfl)
theorem dX4_isKnown_20 : decode cX4_isKnown 20 = .ok (.iload_n 1, 1) := dk_27 (dk_at dksX4_isKnown_0 20 rfl rfl)
theorem dX4_isKnown_21 : decode cX4_isKnown 21 = .ok (.iaload, 1) := dk_46 (dk_at dksX4_isKnown_0 21 rfl rfl)
theorem dX4_isKnown_22 : decode cX4_isKnown 22 = .ok (.iload 4, 2) := dk_21 4 (dk_at dksX4_isKnown_0 22 rfl rfl)
theorem dX4_isKnown_24 : decode cX4_isKnown 24 = .ok (.iadd, 1) := dk_96 (dk_at dksX4_isKnown_1 0 rfl rfl)
theorem dX4_isKnown_25 : decode cX4_isKnown 25 = .ok (.if_icmp .lt 29, 3) := dk_161 0 29 (dk_at dksX4_isKnown_1 1 rfl rfl)
theorem dX4_isKnown_28 : decode cX4_isKnown 28 = .ok (.aload_n 0, 1) := dk_42 (dk_at dksX4_isKnown_1 4 rfl rfl)
theorem dX4_isKnown_29 : decode cX4_isKnown 29 = .ok (.getfield 103, 3) := dk_180 0 103 (dk_at dksX4_isKnown_1 5 rfl rfl)
theorem dX4_isKnown_32 : decode cX4_isKnown 32 = .ok (.iload_n 1, 1) := dk_27 (dk_at dksX4_isKnown_1 8 rfl rfl)
theorem dX4_isKnown_33 : decode cX4_isKnown 33 = .ok (.iaload, 1) := dk_46 (dk_at dksX4_isKnown_1 9 rfl rfl)
theorem dX4_isKnown_34 : decode cX4_isKnown 34 = .ok (.ifCond .lt 16, 3) := dk_155 0 16 (dk_at dksX4_isKnown_1 10 rfl rfl)
theorem dX4_isKnown_37 : decode cX4_isKnown 37 = .ok (.iload_n 3, 1) := dk_29 (dk_at dksX4_isKnown_1 13 rfl rfl)
theorem dX4_isKnown_38 : decode cX4_isKnown 38 = .ok (.aload_n 0, 1) := dk_42 (dk_at dksX4_isKnown_1 14 rfl rfl)
theorem dX4_isKnown_39 : decode cX4_isKnown 39 = .ok (.getfield 103, 3) := dk_180 0 103 (dk_at dksX4_isKnown_1 15 rfl rfl)
theorem dX4_isKnown_42 : decode cX4_isKnown 42 = .ok (.iload_n 1, 1) := dk_27 (dk_at dksX4_isKnown_1 18 rfl rfl)
theorem dX4_isKnown_43 : decode cX4_isKnown 43 = .ok (.iaload, 1) := dk_46 (dk_at dksX4_isKnown_1 19 rfl rfl)
theorem dX4_isKnown_44 : decode cX4_isKnown 44 = .ok (.iload 4, 2) := dk_21 4 (dk_at dksX4_isKnown_1 20 rfl rfl)
theorem dX4_isKnown_46 : decode cX4_isKnown 46 = .ok (.iadd, 1) := dk_96 (dk_at dksX4_isKnown_1 22 rfl rfl)
theorem dX4_isKnown_47 : decode cX4_isKnown 47 = .ok (.if_icmp .ge 7, 3) := dk_162 0 7 (dk_at dksX4_isKnown_2 0 rfl rfl)
theorem dX4_isKnown_50 : decode cX4_isKnown 50 = .ok (.iconst 1, 1) := dk_4 (dk_at dksX4_isKnown_2 3 rfl rfl)
theorem dX4_isKnown_51 : decode cX4_isKnown 51 = .ok (.goto 4, 3) := dk_167 0 4 (dk_at dksX4_isKnown_2 4 rfl rfl)
theorem dX4_isKnown_54 : decode cX4_isKnown 54 = .ok (.iconst 0, 1) := dk_3 (dk_at dksX4_isKnown_2 7 rfl rfl)
theorem dX4_isKnown_55 : decode cX4_isKnown 55 = .ok (.ireturn, 1) := dk_172 (dk_at dksX4_isKnown_2 8 rfl rfl)
abbrev cX4_holds : ByteArray := prog_30_method_61_code
def yX4_holds : MethodName := ⟨RX4, "holds", "(IIII)I"⟩
def dkwX4_holds_5 : List UInt8 := [126, 172]
abbrev dktX4_holds_5 : List UInt8 := dkwX4_holds_5 ++ []
def dkwX4_holds_4 : List UInt8 := [21, 5, 153, 0, 7, 3, 167, 0, 19, 42, 180, 0, 54, 27, 46, 42, 27, 28, 29, 182, 1, 142, 2, 130]
abbrev dktX4_holds_4 : List UInt8 := dkwX4_holds_4 ++ dktX4_holds_5
def dkwX4_holds_3 : List UInt8 := [182, 1, 145, 54, 5, 21, 4, 154, 0, 16, 21, 5, 153, 0, 7, 4, 167, 0, 32, 3, 167, 0, 28]
abbrev dktX4_holds_3 : List UInt8 := dkwX4_holds_3 ++ dktX4_holds_4
def dkwX4_holds_2 : List UInt8 := [28, 29, 182, 1, 135, 172, 21, 4, 5, 160, 0, 11, 42, 27, 28, 29, 182, 1, 142, 172, 42, 27, 28, 29]
abbrev dktX4_holds_2 : List UInt8 := dkwX4_holds_2 ++ dktX4_holds_3
def dkwX4_holds_1 : List UInt8 := [154, 0, 5, 2, 172, 42, 29, 182, 1, 129, 154, 0, 6, 16, 254, 172, 21, 4, 4, 160, 0, 11, 42, 27]
abbrev dktX4_holds_1 : List UInt8 := dkwX4_holds_1 ++ dktX4_holds_2
def dkwX4_holds_0 : List UInt8 := [42, 27, 182, 1, 14, 153, 0, 22, 42, 28, 182, 1, 2, 153, 0, 14, 42, 21, 4, 3, 6, 182, 0, 3]
abbrev dktX4_holds_0 : List UInt8 := dkwX4_holds_0 ++ dktX4_holds_1
theorem dksX4_holds_0 : cX4_holds.data.toList.drop 0 = dktX4_holds_0 := by decide +kernel
theorem dksX4_holds_1 : cX4_holds.data.toList.drop 24 = dktX4_holds_1 := dk_seg dksX4_holds_0 24 rfl rfl
theorem dksX4_holds_2 : cX4_holds.data.toList.drop 48 = dktX4_holds_2 := dk_seg dksX4_holds_1 24 rfl rfl
theorem dksX4_holds_3 : cX4_holds.data.toList.drop 72 = dktX4_holds_3 := dk_seg dksX4_holds_2 24 rfl rfl
theorem dksX4_holds_4 : cX4_holds.data.toList.drop 95 = dktX4_holds_4 := dk_seg dksX4_holds_3 23 rfl rfl
theorem dksX4_holds_5 : cX4_holds.data.toList.drop 119 = dktX4_holds_5 := dk_seg dksX4_holds_4 24 rfl rfl
theorem dX4_holds_0 : decode cX4_holds 0 = .ok (.aload_n 0, 1) := dk_42 (dk_at dksX4_holds_0 0 rfl rfl)
theorem dX4_holds_1 : decode cX4_holds 1 = .ok (.iload_n 1, 1) := dk_27 (dk_at dksX4_holds_0 1 rfl rfl)
theorem dX4_holds_2 : decode cX4_holds 2 = .ok (.invokevirtual 270, 3) := dk_182 1 14 (dk_at dksX4_holds_0 2 rfl rfl)
theorem dX4_holds_5 : decode cX4_holds 5 = .ok (.ifCond .eq 22, 3) := dk_153 0 22 (dk_at dksX4_holds_0 5 rfl rfl)
theorem dX4_holds_8 : decode cX4_holds 8 = .ok (.aload_n 0, 1) := dk_42 (dk_at dksX4_holds_0 8 rfl rfl)
theorem dX4_holds_9 : decode cX4_holds 9 = .ok (.iload_n 2, 1) := dk_28 (dk_at dksX4_holds_0 9 rfl rfl)
theorem dX4_holds_10 : decode cX4_holds 10 = .ok (.invokevirtual 258, 3) := dk_182 1 2 (dk_at dksX4_holds_0 10 rfl rfl)
theorem dX4_holds_13 : decode cX4_holds 13 = .ok (.ifCond .eq 14, 3) := dk_153 0 14 (dk_at dksX4_holds_0 13 rfl rfl)
theorem dX4_holds_16 : decode cX4_holds 16 = .ok (.aload_n 0, 1) := dk_42 (dk_at dksX4_holds_0 16 rfl rfl)
theorem dX4_holds_17 : decode cX4_holds 17 = .ok (.iload 4, 2) := dk_21 4 (dk_at dksX4_holds_0 17 rfl rfl)
theorem dX4_holds_19 : decode cX4_holds 19 = .ok (.iconst 0, 1) := dk_3 (dk_at dksX4_holds_0 19 rfl rfl)
theorem dX4_holds_20 : decode cX4_holds 20 = .ok (.iconst 3, 1) := dk_6 (dk_at dksX4_holds_0 20 rfl rfl)
theorem dX4_holds_21 : decode cX4_holds 21 = .ok (.invokevirtual 3, 3) := dk_182 0 3 (dk_at dksX4_holds_0 21 rfl rfl)
theorem dX4_holds_24 : decode cX4_holds 24 = .ok (.ifCond .ne 5, 3) := dk_154 0 5 (dk_at dksX4_holds_1 0 rfl rfl)
theorem dX4_holds_27 : decode cX4_holds 27 = .ok (.iconst (-1), 1) := dk_2 (dk_at dksX4_holds_1 3 rfl rfl)
theorem dX4_holds_28 : decode cX4_holds 28 = .ok (.ireturn, 1) := dk_172 (dk_at dksX4_holds_1 4 rfl rfl)
theorem dX4_holds_29 : decode cX4_holds 29 = .ok (.aload_n 0, 1) := dk_42 (dk_at dksX4_holds_1 5 rfl rfl)
theorem dX4_holds_30 : decode cX4_holds 30 = .ok (.iload_n 3, 1) := dk_29 (dk_at dksX4_holds_1 6 rfl rfl)
theorem dX4_holds_31 : decode cX4_holds 31 = .ok (.invokevirtual 385, 3) := dk_182 1 129 (dk_at dksX4_holds_1 7 rfl rfl)
theorem dX4_holds_34 : decode cX4_holds 34 = .ok (.ifCond .ne 6, 3) := dk_154 0 6 (dk_at dksX4_holds_1 10 rfl rfl)
theorem dX4_holds_37 : decode cX4_holds 37 = .ok (.bipush (-2), 2) := dk_16 254 (dk_at dksX4_holds_1 13 rfl rfl)
theorem dX4_holds_39 : decode cX4_holds 39 = .ok (.ireturn, 1) := dk_172 (dk_at dksX4_holds_1 15 rfl rfl)
theorem dX4_holds_40 : decode cX4_holds 40 = .ok (.iload 4, 2) := dk_21 4 (dk_at dksX4_holds_1 16 rfl rfl)
theorem dX4_holds_42 : decode cX4_holds 42 = .ok (.iconst 1, 1) := dk_4 (dk_at dksX4_holds_1 18 rfl rfl)
theorem dX4_holds_43 : decode cX4_holds 43 = .ok (.if_icmp .ne 11, 3) := dk_160 0 11 (dk_at dksX4_holds_1 19 rfl rfl)
theorem dX4_holds_46 : decode cX4_holds 46 = .ok (.aload_n 0, 1) := dk_42 (dk_at dksX4_holds_1 22 rfl rfl)
theorem dX4_holds_47 : decode cX4_holds 47 = .ok (.iload_n 1, 1) := dk_27 (dk_at dksX4_holds_1 23 rfl rfl)
theorem dX4_holds_48 : decode cX4_holds 48 = .ok (.iload_n 2, 1) := dk_28 (dk_at dksX4_holds_2 0 rfl rfl)
theorem dX4_holds_49 : decode cX4_holds 49 = .ok (.iload_n 3, 1) := dk_29 (dk_at dksX4_holds_2 1 rfl rfl)
theorem dX4_holds_50 : decode cX4_holds 50 = .ok (.invokevirtual 391, 3) := dk_182 1 135 (dk_at dksX4_holds_2 2 rfl rfl)
theorem dX4_holds_53 : decode cX4_holds 53 = .ok (.ireturn, 1) := dk_172 (dk_at dksX4_holds_2 5 rfl rfl)
theorem dX4_holds_54 : decode cX4_holds 54 = .ok (.iload 4, 2) := dk_21 4 (dk_at dksX4_holds_2 6 rfl rfl)
theorem dX4_holds_56 : decode cX4_holds 56 = .ok (.iconst 2, 1) := dk_5 (dk_at dksX4_holds_2 8 rfl rfl)
theorem dX4_holds_57 : decode cX4_holds 57 = .ok (.if_icmp .ne 11, 3) := dk_160 0 11 (dk_at dksX4_holds_2 9 rfl rfl)
theorem dX4_holds_60 : decode cX4_holds 60 = .ok (.aload_n 0, 1) := dk_42 (dk_at dksX4_holds_2 12 rfl rfl)
theorem dX4_holds_61 : decode cX4_holds 61 = .ok (.iload_n 1, 1) := dk_27 (dk_at dksX4_holds_2 13 rfl rfl)
theorem dX4_holds_62 : decode cX4_holds 62 = .ok (.iload_n 2, 1) := dk_28 (dk_at dksX4_holds_2 14 rfl rfl)
theorem dX4_holds_63 : decode cX4_holds 63 = .ok (.iload_n 3, 1) := dk_29 (dk_at dksX4_holds_2 15 rfl rfl)
theorem dX4_holds_64 : decode cX4_holds 64 = .ok (.invokevirtual 398, 3) := dk_182 1 142 (dk_at dksX4_holds_2 16 rfl rfl)
theorem dX4_holds_67 : decode cX4_holds 67 = .ok (.ireturn, 1) := dk_172 (dk_at dksX4_holds_2 19 rfl rfl)
theorem dX4_holds_68 : decode cX4_holds 68 = .ok (.aload_n 0, 1) := dk_42 (dk_at dksX4_holds_2 20 rfl rfl)
theorem dX4_holds_69 : decode cX4_holds 69 = .ok (.iload_n 1, 1) := dk_27 (dk_at dksX4_holds_2 21 rfl rfl)
theorem dX4_holds_70 : decode cX4_holds 70 = .ok (.iload_n 2, 1) := dk_28 (dk_at dksX4_holds_2 22 rfl rfl)
theorem dX4_holds_71 : decode cX4_holds 71 = .ok (.iload_n 3, 1) := dk_29 (dk_at dksX4_holds_2 23 rfl rfl)
theorem dX4_holds_72 : decode cX4_holds 72 = .ok (.invokevirtual 401, 3) := dk_182 1 145 (dk_at dksX4_holds_3 0 rfl rfl)
theorem dX4_holds_75 : decode cX4_holds 75 = .ok (.istore 5, 2) := dk_54 5 (dk_at dksX4_holds_3 3 rfl rfl)
theorem dX4_holds_77 : decode cX4_holds 77 = .ok (.iload 4, 2) := dk_21 4 (dk_at dksX4_holds_3 5 rfl rfl)
theorem dX4_holds_79 : decode cX4_holds 79 = .ok (.ifCond .ne 16, 3) := dk_154 0 16 (dk_at dksX4_holds_3 7 rfl rfl)
theorem dX4_holds_82 : decode cX4_holds 82 = .ok (.iload 5, 2) := dk_21 5 (dk_at dksX4_holds_3 10 rfl rfl)
theorem dX4_holds_84 : decode cX4_holds 84 = .ok (.ifCond .eq 7, 3) := dk_153 0 7 (dk_at dksX4_holds_3 12 rfl rfl)
theorem dX4_holds_87 : decode cX4_holds 87 = .ok (.iconst 1, 1) := dk_4 (dk_at dksX4_holds_3 15 rfl rfl)
theorem dX4_holds_88 : decode cX4_holds 88 = .ok (.goto 32, 3) := dk_167 0 32 (dk_at dksX4_holds_3 16 rfl rfl)
theorem dX4_holds_91 : decode cX4_holds 91 = .ok (.iconst 0, 1) := dk_3 (dk_at dksX4_holds_3 19 rfl rfl)
theorem dX4_holds_92 : decode cX4_holds 92 = .ok (.goto 28, 3) := dk_167 0 28 (dk_at dksX4_holds_3 20 rfl rfl)
theorem dX4_holds_95 : decode cX4_holds 95 = .ok (.iload 5, 2) := dk_21 5 (dk_at dksX4_holds_4 0 rfl rfl)
theorem dX4_holds_97 : decode cX4_holds 97 = .ok (.ifCond .eq 7, 3) := dk_153 0 7 (dk_at dksX4_holds_4 2 rfl rfl)
theorem dX4_holds_100 : decode cX4_holds 100 = .ok (.iconst 0, 1) := dk_3 (dk_at dksX4_holds_4 5 rfl rfl)
theorem dX4_holds_101 : decode cX4_holds 101 = .ok (.goto 19, 3) := dk_167 0 19 (dk_at dksX4_holds_4 6 rfl rfl)
theorem dX4_holds_104 : decode cX4_holds 104 = .ok (.aload_n 0, 1) := dk_42 (dk_at dksX4_holds_4 9 rfl rfl)
theorem dX4_holds_105 : decode cX4_holds 105 = .ok (.getfield 54, 3) := dk_180 0 54 (dk_at dksX4_holds_4 10 rfl rfl)
theorem dX4_holds_108 : decode cX4_holds 108 = .ok (.iload_n 1, 1) := dk_27 (dk_at dksX4_holds_4 13 rfl rfl)
theorem dX4_holds_109 : decode cX4_holds 109 = .ok (.iaload, 1) := dk_46 (dk_at dksX4_holds_4 14 rfl rfl)
theorem dX4_holds_110 : decode cX4_holds 110 = .ok (.aload_n 0, 1) := dk_42 (dk_at dksX4_holds_4 15 rfl rfl)
theorem dX4_holds_111 : decode cX4_holds 111 = .ok (.iload_n 1, 1) := dk_27 (dk_at dksX4_holds_4 16 rfl rfl)
theorem dX4_holds_112 : decode cX4_holds 112 = .ok (.iload_n 2, 1) := dk_28 (dk_at dksX4_holds_4 17 rfl rfl)
theorem dX4_holds_113 : decode cX4_holds 113 = .ok (.iload_n 3, 1) := dk_29 (dk_at dksX4_holds_4 18 rfl rfl)
theorem dX4_holds_114 : decode cX4_holds 114 = .ok (.invokevirtual 398, 3) := dk_182 1 142 (dk_at dksX4_holds_4 19 rfl rfl)
theorem dX4_holds_117 : decode cX4_holds 117 = .ok (.iconst (-1), 1) := dk_2 (dk_at dksX4_holds_4 22 rfl rfl)
theorem dX4_holds_118 : decode cX4_holds 118 = .ok (.ixor, 1) := dk_130 (dk_at dksX4_holds_4 23 rfl rfl)
theorem dX4_holds_119 : decode cX4_holds 119 = .ok (.iand, 1) := dk_126 (dk_at dksX4_holds_5 0 rfl rfl)
theorem dX4_holds_120 : decode cX4_holds 120 = .ok (.ireturn, 1) := dk_172 (dk_at dksX4_holds_5 1 rfl rfl)
abbrev cX4_barrer : ByteArray := prog_30_method_57_code
def yX4_barrer : MethodName := ⟨RX4, "barrer", "(III)I"⟩
def dkwX4_barrer_3 : List UInt8 := [160, 0, 7, 4, 167, 0, 4, 3, 181, 0, 164, 132, 5, 1, 167, 255, 183, 21, 4, 172]
abbrev dktX4_barrer_3 : List UInt8 := dkwX4_barrer_3 ++ []
def dkwX4_barrer_2 : List UInt8 := [153, 0, 34, 42, 180, 0, 121, 156, 0, 6, 167, 0, 24, 21, 5, 54, 4, 42, 42, 180, 0, 121, 4]
abbrev dktX4_barrer_2 : List UInt8 := dkwX4_barrer_2 ++ dktX4_barrer_3
def dkwX4_barrer_1 : List UInt8 := [28, 29, 182, 1, 132, 154, 0, 6, 167, 0, 50, 42, 27, 2, 2, 182, 1, 116, 42, 21, 5, 182, 1, 120]
abbrev dktX4_barrer_1 : List UInt8 := dkwX4_barrer_1 ++ dktX4_barrer_2
def dkwX4_barrer_0 : List UInt8 := [16, 251, 54, 4, 42, 3, 181, 0, 164, 3, 54, 5, 21, 5, 42, 180, 0, 91, 162, 0, 70, 42, 21, 5]
abbrev dktX4_barrer_0 : List UInt8 := dkwX4_barrer_0 ++ dktX4_barrer_1
theorem dksX4_barrer_0 : cX4_barrer.data.toList.drop 0 = dktX4_barrer_0 := by decide +kernel
theorem dksX4_barrer_1 : cX4_barrer.data.toList.drop 24 = dktX4_barrer_1 := dk_seg dksX4_barrer_0 24 rfl rfl
theorem dksX4_barrer_2 : cX4_barrer.data.toList.drop 48 = dktX4_barrer_2 := dk_seg dksX4_barrer_1 24 rfl rfl
theorem dksX4_barrer_3 : cX4_barrer.data.toList.drop 71 = dktX4_barrer_3 := dk_seg dksX4_barrer_2 23 rfl rfl
theorem dX4_barrer_0 : decode cX4_barrer 0 = .ok (.bipush (-5), 2) := dk_16 251 (dk_at dksX4_barrer_0 0 rfl rfl)
theorem dX4_barrer_2 : decode cX4_barrer 2 = .ok (.istore 4, 2) := dk_54 4 (dk_at dksX4_barrer_0 2 rfl rfl)
theorem dX4_barrer_4 : decode cX4_barrer 4 = .ok (.aload_n 0, 1) := dk_42 (dk_at dksX4_barrer_0 4 rfl rfl)
theorem dX4_barrer_5 : decode cX4_barrer 5 = .ok (.iconst 0, 1) := dk_3 (dk_at dksX4_barrer_0 5 rfl rfl)
theorem dX4_barrer_6 : decode cX4_barrer 6 = .ok (.putfield 164, 3) := dk_181 0 164 (dk_at dksX4_barrer_0 6 rfl rfl)
theorem dX4_barrer_9 : decode cX4_barrer 9 = .ok (.iconst 0, 1) := dk_3 (dk_at dksX4_barrer_0 9 rfl rfl)
theorem dX4_barrer_10 : decode cX4_barrer 10 = .ok (.istore 5, 2) := dk_54 5 (dk_at dksX4_barrer_0 10 rfl rfl)
theorem dX4_barrer_12 : decode cX4_barrer 12 = .ok (.iload 5, 2) := dk_21 5 (dk_at dksX4_barrer_0 12 rfl rfl)
theorem dX4_barrer_14 : decode cX4_barrer 14 = .ok (.aload_n 0, 1) := dk_42 (dk_at dksX4_barrer_0 14 rfl rfl)
theorem dX4_barrer_15 : decode cX4_barrer 15 = .ok (.getfield 91, 3) := dk_180 0 91 (dk_at dksX4_barrer_0 15 rfl rfl)
theorem dX4_barrer_18 : decode cX4_barrer 18 = .ok (.if_icmp .ge 70, 3) := dk_162 0 70 (dk_at dksX4_barrer_0 18 rfl rfl)
theorem dX4_barrer_21 : decode cX4_barrer 21 = .ok (.aload_n 0, 1) := dk_42 (dk_at dksX4_barrer_0 21 rfl rfl)
theorem dX4_barrer_22 : decode cX4_barrer 22 = .ok (.iload 5, 2) := dk_21 5 (dk_at dksX4_barrer_0 22 rfl rfl)
theorem dX4_barrer_24 : decode cX4_barrer 24 = .ok (.iload_n 2, 1) := dk_28 (dk_at dksX4_barrer_1 0 rfl rfl)
theorem dX4_barrer_25 : decode cX4_barrer 25 = .ok (.iload_n 3, 1) := dk_29 (dk_at dksX4_barrer_1 1 rfl rfl)
theorem dX4_barrer_26 : decode cX4_barrer 26 = .ok (.invokevirtual 388, 3) := dk_182 1 132 (dk_at dksX4_barrer_1 2 rfl rfl)
theorem dX4_barrer_29 : decode cX4_barrer 29 = .ok (.ifCond .ne 6, 3) := dk_154 0 6 (dk_at dksX4_barrer_1 5 rfl rfl)
theorem dX4_barrer_32 : decode cX4_barrer 32 = .ok (.goto 50, 3) := dk_167 0 50 (dk_at dksX4_barrer_1 8 rfl rfl)
theorem dX4_barrer_35 : decode cX4_barrer 35 = .ok (.aload_n 0, 1) := dk_42 (dk_at dksX4_barrer_1 11 rfl rfl)
theorem dX4_barrer_36 : decode cX4_barrer 36 = .ok (.iload_n 1, 1) := dk_27 (dk_at dksX4_barrer_1 12 rfl rfl)
theorem dX4_barrer_37 : decode cX4_barrer 37 = .ok (.iconst (-1), 1) := dk_2 (dk_at dksX4_barrer_1 13 rfl rfl)
theorem dX4_barrer_38 : decode cX4_barrer 38 = .ok (.iconst (-1), 1) := dk_2 (dk_at dksX4_barrer_1 14 rfl rfl)
theorem dX4_barrer_39 : decode cX4_barrer 39 = .ok (.invokevirtual 372, 3) := dk_182 1 116 (dk_at dksX4_barrer_1 15 rfl rfl)
theorem dX4_barrer_42 : decode cX4_barrer 42 = .ok (.aload_n 0, 1) := dk_42 (dk_at dksX4_barrer_1 18 rfl rfl)
theorem dX4_barrer_43 : decode cX4_barrer 43 = .ok (.iload 5, 2) := dk_21 5 (dk_at dksX4_barrer_1 19 rfl rfl)
theorem dX4_barrer_45 : decode cX4_barrer 45 = .ok (.invokevirtual 376, 3) := dk_182 1 120 (dk_at dksX4_barrer_1 21 rfl rfl)
theorem dX4_barrer_48 : decode cX4_barrer 48 = .ok (.ifCond .eq 34, 3) := dk_153 0 34 (dk_at dksX4_barrer_2 0 rfl rfl)
theorem dX4_barrer_51 : decode cX4_barrer 51 = .ok (.aload_n 0, 1) := dk_42 (dk_at dksX4_barrer_2 3 rfl rfl)
theorem dX4_barrer_52 : decode cX4_barrer 52 = .ok (.getfield 121, 3) := dk_180 0 121 (dk_at dksX4_barrer_2 4 rfl rfl)
theorem dX4_barrer_55 : decode cX4_barrer 55 = .ok (.ifCond .ge 6, 3) := dk_156 0 6 (dk_at dksX4_barrer_2 7 rfl rfl)
theorem dX4_barrer_58 : decode cX4_barrer 58 = .ok (.goto 24, 3) := dk_167 0 24 (dk_at dksX4_barrer_2 10 rfl rfl)
theorem dX4_barrer_61 : decode cX4_barrer 61 = .ok (.iload 5, 2) := dk_21 5 (dk_at dksX4_barrer_2 13 rfl rfl)
theorem dX4_barrer_63 : decode cX4_barrer 63 = .ok (.istore 4, 2) := dk_54 4 (dk_at dksX4_barrer_2 15 rfl rfl)
theorem dX4_barrer_65 : decode cX4_barrer 65 = .ok (.aload_n 0, 1) := dk_42 (dk_at dksX4_barrer_2 17 rfl rfl)
theorem dX4_barrer_66 : decode cX4_barrer 66 = .ok (.aload_n 0, 1) := dk_42 (dk_at dksX4_barrer_2 18 rfl rfl)
theorem dX4_barrer_67 : decode cX4_barrer 67 = .ok (.getfield 121, 3) := dk_180 0 121 (dk_at dksX4_barrer_2 19 rfl rfl)
theorem dX4_barrer_70 : decode cX4_barrer 70 = .ok (.iconst 1, 1) := dk_4 (dk_at dksX4_barrer_2 22 rfl rfl)
theorem dX4_barrer_71 : decode cX4_barrer 71 = .ok (.if_icmp .ne 7, 3) := dk_160 0 7 (dk_at dksX4_barrer_3 0 rfl rfl)
theorem dX4_barrer_74 : decode cX4_barrer 74 = .ok (.iconst 1, 1) := dk_4 (dk_at dksX4_barrer_3 3 rfl rfl)
theorem dX4_barrer_75 : decode cX4_barrer 75 = .ok (.goto 4, 3) := dk_167 0 4 (dk_at dksX4_barrer_3 4 rfl rfl)
theorem dX4_barrer_78 : decode cX4_barrer 78 = .ok (.iconst 0, 1) := dk_3 (dk_at dksX4_barrer_3 7 rfl rfl)
theorem dX4_barrer_79 : decode cX4_barrer 79 = .ok (.putfield 164, 3) := dk_181 0 164 (dk_at dksX4_barrer_3 8 rfl rfl)
theorem dX4_barrer_82 : decode cX4_barrer 82 = .ok (.iinc 5 1, 3) := dk_132 5 1 (dk_at dksX4_barrer_3 11 rfl rfl)
theorem dX4_barrer_85 : decode cX4_barrer 85 = .ok (.goto (-73), 3) := dk_167 255 183 (dk_at dksX4_barrer_3 14 rfl rfl)
theorem dX4_barrer_88 : decode cX4_barrer 88 = .ok (.iload 4, 2) := dk_21 4 (dk_at dksX4_barrer_3 17 rfl rfl)
theorem dX4_barrer_90 : decode cX4_barrer 90 = .ok (.ireturn, 1) := dk_172 (dk_at dksX4_barrer_3 19 rfl rfl)
abbrev cX4_struckOf : ByteArray := prog_30_method_60_code
def yX4_struckOf : MethodName := ⟨RX4, "struckOf", "(III)I"⟩
def dkwX4_struckOf_2 : List UInt8 := [54, 4, 132, 5, 1, 167, 255, 210, 21, 4, 172]
abbrev dktX4_struckOf_2 : List UInt8 := dkwX4_struckOf_2 ++ []
def dkwX4_struckOf_1 : List UInt8 := [4, 160, 0, 24, 42, 27, 21, 5, 28, 29, 182, 1, 138, 155, 0, 12, 21, 4, 4, 21, 5, 120, 128]
abbrev dktX4_struckOf_1 : List UInt8 := dkwX4_struckOf_1 ++ dktX4_struckOf_2
def dkwX4_struckOf_0 : List UInt8 := [3, 54, 4, 3, 54, 5, 21, 5, 16, 16, 162, 0, 45, 42, 180, 0, 54, 27, 46, 21, 5, 122, 4, 126]
abbrev dktX4_struckOf_0 : List UInt8 := dkwX4_struckOf_0 ++ dktX4_struckOf_1
theorem dksX4_struckOf_0 : cX4_struckOf.data.toList.drop 0 = dktX4_struckOf_0 := by decide +kernel
theorem dksX4_struckOf_1 : cX4_struckOf.data.toList.drop 24 = dktX4_struckOf_1 := dk_seg dksX4_struckOf_0 24 rfl rfl
theorem dksX4_struckOf_2 : cX4_struckOf.data.toList.drop 47 = dktX4_struckOf_2 := dk_seg dksX4_struckOf_1 23 rfl rfl
theorem dX4_struckOf_0 : decode cX4_struckOf 0 = .ok (.iconst 0, 1) := dk_3 (dk_at dksX4_struckOf_0 0 rfl rfl)
theorem dX4_struckOf_1 : decode cX4_struckOf 1 = .ok (.istore 4, 2) := dk_54 4 (dk_at dksX4_struckOf_0 1 rfl rfl)
theorem dX4_struckOf_3 : decode cX4_struckOf 3 = .ok (.iconst 0, 1) := dk_3 (dk_at dksX4_struckOf_0 3 rfl rfl)
theorem dX4_struckOf_4 : decode cX4_struckOf 4 = .ok (.istore 5, 2) := dk_54 5 (dk_at dksX4_struckOf_0 4 rfl rfl)
theorem dX4_struckOf_6 : decode cX4_struckOf 6 = .ok (.iload 5, 2) := dk_21 5 (dk_at dksX4_struckOf_0 6 rfl rfl)
theorem dX4_struckOf_8 : decode cX4_struckOf 8 = .ok (.bipush 16, 2) := dk_16 16 (dk_at dksX4_struckOf_0 8 rfl rfl)
theorem dX4_struckOf_10 : decode cX4_struckOf 10 = .ok (.if_icmp .ge 45, 3) := dk_162 0 45 (dk_at dksX4_struckOf_0 10 rfl rfl)
theorem dX4_struckOf_13 : decode cX4_struckOf 13 = .ok (.aload_n 0, 1) := dk_42 (dk_at dksX4_struckOf_0 13 rfl rfl)
theorem dX4_struckOf_14 : decode cX4_struckOf 14 = .ok (.getfield 54, 3) := dk_180 0 54 (dk_at dksX4_struckOf_0 14 rfl rfl)
theorem dX4_struckOf_17 : decode cX4_struckOf 17 = .ok (.iload_n 1, 1) := dk_27 (dk_at dksX4_struckOf_0 17 rfl rfl)
theorem dX4_struckOf_18 : decode cX4_struckOf 18 = .ok (.iaload, 1) := dk_46 (dk_at dksX4_struckOf_0 18 rfl rfl)
theorem dX4_struckOf_19 : decode cX4_struckOf 19 = .ok (.iload 5, 2) := dk_21 5 (dk_at dksX4_struckOf_0 19 rfl rfl)
theorem dX4_struckOf_21 : decode cX4_struckOf 21 = .ok (.ishr, 1) := dk_122 (dk_at dksX4_struckOf_0 21 rfl rfl)
theorem dX4_struckOf_22 : decode cX4_struckOf 22 = .ok (.iconst 1, 1) := dk_4 (dk_at dksX4_struckOf_0 22 rfl rfl)
theorem dX4_struckOf_23 : decode cX4_struckOf 23 = .ok (.iand, 1) := dk_126 (dk_at dksX4_struckOf_0 23 rfl rfl)
theorem dX4_struckOf_24 : decode cX4_struckOf 24 = .ok (.iconst 1, 1) := dk_4 (dk_at dksX4_struckOf_1 0 rfl rfl)
theorem dX4_struckOf_25 : decode cX4_struckOf 25 = .ok (.if_icmp .ne 24, 3) := dk_160 0 24 (dk_at dksX4_struckOf_1 1 rfl rfl)
theorem dX4_struckOf_28 : decode cX4_struckOf 28 = .ok (.aload_n 0, 1) := dk_42 (dk_at dksX4_struckOf_1 4 rfl rfl)
theorem dX4_struckOf_29 : decode cX4_struckOf 29 = .ok (.iload_n 1, 1) := dk_27 (dk_at dksX4_struckOf_1 5 rfl rfl)
theorem dX4_struckOf_30 : decode cX4_struckOf 30 = .ok (.iload 5, 2) := dk_21 5 (dk_at dksX4_struckOf_1 6 rfl rfl)
theorem dX4_struckOf_32 : decode cX4_struckOf 32 = .ok (.iload_n 2, 1) := dk_28 (dk_at dksX4_struckOf_1 8 rfl rfl)
theorem dX4_struckOf_33 : decode cX4_struckOf 33 = .ok (.iload_n 3, 1) := dk_29 (dk_at dksX4_struckOf_1 9 rfl rfl)
theorem dX4_struckOf_34 : decode cX4_struckOf 34 = .ok (.invokevirtual 394, 3) := dk_182 1 138 (dk_at dksX4_struckOf_1 10 rfl rfl)
theorem dX4_struckOf_37 : decode cX4_struckOf 37 = .ok (.ifCond .lt 12, 3) := dk_155 0 12 (dk_at dksX4_struckOf_1 13 rfl rfl)
theorem dX4_struckOf_40 : decode cX4_struckOf 40 = .ok (.iload 4, 2) := dk_21 4 (dk_at dksX4_struckOf_1 16 rfl rfl)
theorem dX4_struckOf_42 : decode cX4_struckOf 42 = .ok (.iconst 1, 1) := dk_4 (dk_at dksX4_struckOf_1 18 rfl rfl)
theorem dX4_struckOf_43 : decode cX4_struckOf 43 = .ok (.iload 5, 2) := dk_21 5 (dk_at dksX4_struckOf_1 19 rfl rfl)
theorem dX4_struckOf_45 : decode cX4_struckOf 45 = .ok (.ishl, 1) := dk_120 (dk_at dksX4_struckOf_1 21 rfl rfl)
theorem dX4_struckOf_46 : decode cX4_struckOf 46 = .ok (.ior, 1) := dk_128 (dk_at dksX4_struckOf_1 22 rfl rfl)
theorem dX4_struckOf_47 : decode cX4_struckOf 47 = .ok (.istore 4, 2) := dk_54 4 (dk_at dksX4_struckOf_2 0 rfl rfl)
theorem dX4_struckOf_49 : decode cX4_struckOf 49 = .ok (.iinc 5 1, 3) := dk_132 5 1 (dk_at dksX4_struckOf_2 2 rfl rfl)
theorem dX4_struckOf_52 : decode cX4_struckOf 52 = .ok (.goto (-46), 3) := dk_167 255 210 (dk_at dksX4_struckOf_2 5 rfl rfl)
theorem dX4_struckOf_55 : decode cX4_struckOf 55 = .ok (.iload 4, 2) := dk_21 4 (dk_at dksX4_struckOf_2 8 rfl rfl)
theorem dX4_struckOf_57 : decode cX4_struckOf 57 = .ok (.ireturn, 1) := dk_172 (dk_at dksX4_struckOf_2 10 rfl rfl)
abbrev cX4_striker : ByteArray := prog_30_method_59_code
def yX4_striker : MethodName := ⟨RX4, "striker", "(IIII)I"⟩
def dkwX4_striker_2 : List UInt8 := [153, 0, 6, 21, 5, 172, 132, 5, 1, 167, 255, 203, 16, 251, 172]
abbrev dktX4_striker_2 : List UInt8 := dkwX4_striker_2 ++ []
def dkwX4_striker_1 : List UInt8 := [167, 0, 29, 42, 27, 28, 2, 182, 1, 116, 42, 21, 5, 182, 1, 120, 153, 0, 13, 42, 180, 0, 139]
abbrev dktX4_striker_1 : List UInt8 := dkwX4_striker_1 ++ dktX4_striker_2
def dkwX4_striker_0 : List UInt8 := [3, 54, 5, 21, 5, 42, 180, 0, 91, 162, 0, 50, 42, 21, 5, 29, 21, 4, 182, 1, 132, 154, 0, 6]
abbrev dktX4_striker_0 : List UInt8 := dkwX4_striker_0 ++ dktX4_striker_1
theorem dksX4_striker_0 : cX4_striker.data.toList.drop 0 = dktX4_striker_0 := by decide +kernel
theorem dksX4_striker_1 : cX4_striker.data.toList.drop 24 = dktX4_striker_1 := dk_seg dksX4_striker_0 24 rfl rfl
theorem dksX4_striker_2 : cX4_striker.data.toList.drop 47 = dktX4_striker_2 := dk_seg dksX4_striker_1 23 rfl rfl
theorem dX4_striker_0 : decode cX4_striker 0 = .ok (.iconst 0, 1) := dk_3 (dk_at dksX4_striker_0 0 rfl rfl)
theorem dX4_striker_1 : decode cX4_striker 1 = .ok (.istore 5, 2) := dk_54 5 (dk_at dksX4_striker_0 1 rfl rfl)
theorem dX4_striker_3 : decode cX4_striker 3 = .ok (.iload 5, 2) := dk_21 5 (dk_at dksX4_striker_0 3 rfl rfl)
theorem dX4_striker_5 : decode cX4_striker 5 = .ok (.aload_n 0, 1) := dk_42 (dk_at dksX4_striker_0 5 rfl rfl)
theorem dX4_striker_6 : decode cX4_striker 6 = .ok (.getfield 91, 3) := dk_180 0 91 (dk_at dksX4_striker_0 6 rfl rfl)
theorem dX4_striker_9 : decode cX4_striker 9 = .ok (.if_icmp .ge 50, 3) := dk_162 0 50 (dk_at dksX4_striker_0 9 rfl rfl)
theorem dX4_striker_12 : decode cX4_striker 12 = .ok (.aload_n 0, 1) := dk_42 (dk_at dksX4_striker_0 12 rfl rfl)
theorem dX4_striker_13 : decode cX4_striker 13 = .ok (.iload 5, 2) := dk_21 5 (dk_at dksX4_striker_0 13 rfl rfl)
theorem dX4_striker_15 : decode cX4_striker 15 = .ok (.iload_n 3, 1) := dk_29 (dk_at dksX4_striker_0 15 rfl rfl)
theorem dX4_striker_16 : decode cX4_striker 16 = .ok (.iload 4, 2) := dk_21 4 (dk_at dksX4_striker_0 16 rfl rfl)
theorem dX4_striker_18 : decode cX4_striker 18 = .ok (.invokevirtual 388, 3) := dk_182 1 132 (dk_at dksX4_striker_0 18 rfl rfl)
theorem dX4_striker_21 : decode cX4_striker 21 = .ok (.ifCond .ne 6, 3) := dk_154 0 6 (dk_at dksX4_striker_0 21 rfl rfl)
theorem dX4_striker_24 : decode cX4_striker 24 = .ok (.goto 29, 3) := dk_167 0 29 (dk_at dksX4_striker_1 0 rfl rfl)
theorem dX4_striker_27 : decode cX4_striker 27 = .ok (.aload_n 0, 1) := dk_42 (dk_at dksX4_striker_1 3 rfl rfl)
theorem dX4_striker_28 : decode cX4_striker 28 = .ok (.iload_n 1, 1) := dk_27 (dk_at dksX4_striker_1 4 rfl rfl)
theorem dX4_striker_29 : decode cX4_striker 29 = .ok (.iload_n 2, 1) := dk_28 (dk_at dksX4_striker_1 5 rfl rfl)
theorem dX4_striker_30 : decode cX4_striker 30 = .ok (.iconst (-1), 1) := dk_2 (dk_at dksX4_striker_1 6 rfl rfl)
theorem dX4_striker_31 : decode cX4_striker 31 = .ok (.invokevirtual 372, 3) := dk_182 1 116 (dk_at dksX4_striker_1 7 rfl rfl)
theorem dX4_striker_34 : decode cX4_striker 34 = .ok (.aload_n 0, 1) := dk_42 (dk_at dksX4_striker_1 10 rfl rfl)
theorem dX4_striker_35 : decode cX4_striker 35 = .ok (.iload 5, 2) := dk_21 5 (dk_at dksX4_striker_1 11 rfl rfl)
theorem dX4_striker_37 : decode cX4_striker 37 = .ok (.invokevirtual 376, 3) := dk_182 1 120 (dk_at dksX4_striker_1 13 rfl rfl)
theorem dX4_striker_40 : decode cX4_striker 40 = .ok (.ifCond .eq 13, 3) := dk_153 0 13 (dk_at dksX4_striker_1 16 rfl rfl)
theorem dX4_striker_43 : decode cX4_striker 43 = .ok (.aload_n 0, 1) := dk_42 (dk_at dksX4_striker_1 19 rfl rfl)
theorem dX4_striker_44 : decode cX4_striker 44 = .ok (.getfield 139, 3) := dk_180 0 139 (dk_at dksX4_striker_1 20 rfl rfl)
theorem dX4_striker_47 : decode cX4_striker 47 = .ok (.ifCond .eq 6, 3) := dk_153 0 6 (dk_at dksX4_striker_2 0 rfl rfl)
theorem dX4_striker_50 : decode cX4_striker 50 = .ok (.iload 5, 2) := dk_21 5 (dk_at dksX4_striker_2 3 rfl rfl)
theorem dX4_striker_52 : decode cX4_striker 52 = .ok (.ireturn, 1) := dk_172 (dk_at dksX4_striker_2 5 rfl rfl)
theorem dX4_striker_53 : decode cX4_striker 53 = .ok (.iinc 5 1, 3) := dk_132 5 1 (dk_at dksX4_striker_2 6 rfl rfl)
theorem dX4_striker_56 : decode cX4_striker 56 = .ok (.goto (-53), 3) := dk_167 255 203 (dk_at dksX4_striker_2 9 rfl rfl)
theorem dX4_striker_59 : decode cX4_striker 59 = .ok (.bipush (-5), 2) := dk_16 251 (dk_at dksX4_striker_2 12 rfl rfl)
theorem dX4_striker_61 : decode cX4_striker 61 = .ok (.ireturn, 1) := dk_172 (dk_at dksX4_striker_2 14 rfl rfl)
abbrev cX4_isBarred : ByteArray := prog_30_method_58_code
def yX4_isBarred : MethodName := ⟨RX4, "isBarred", "(III)Z"⟩
def dkwX4_isBarred_0 : List UInt8 := [42, 27, 28, 29, 182, 1, 135, 155, 0, 14, 42, 180, 0, 164, 153, 0, 7, 4, 167, 0, 4, 3, 172]
abbrev dktX4_isBarred_0 : List UInt8 := dkwX4_isBarred_0 ++ []
theorem dksX4_isBarred_0 : cX4_isBarred.data.toList.drop 0 = dktX4_isBarred_0 := by decide +kernel
theorem dX4_isBarred_0 : decode cX4_isBarred 0 = .ok (.aload_n 0, 1) := dk_42 (dk_at dksX4_isBarred_0 0 rfl rfl)
theorem dX4_isBarred_1 : decode cX4_isBarred 1 = .ok (.iload_n 1, 1) := dk_27 (dk_at dksX4_isBarred_0 1 rfl rfl)
theorem dX4_isBarred_2 : decode cX4_isBarred 2 = .ok (.iload_n 2, 1) := dk_28 (dk_at dksX4_isBarred_0 2 rfl rfl)
theorem dX4_isBarred_3 : decode cX4_isBarred 3 = .ok (.iload_n 3, 1) := dk_29 (dk_at dksX4_isBarred_0 3 rfl rfl)
theorem dX4_isBarred_4 : decode cX4_isBarred 4 = .ok (.invokevirtual 391, 3) := dk_182 1 135 (dk_at dksX4_isBarred_0 4 rfl rfl)
theorem dX4_isBarred_7 : decode cX4_isBarred 7 = .ok (.ifCond .lt 14, 3) := dk_155 0 14 (dk_at dksX4_isBarred_0 7 rfl rfl)
theorem dX4_isBarred_10 : decode cX4_isBarred 10 = .ok (.aload_n 0, 1) := dk_42 (dk_at dksX4_isBarred_0 10 rfl rfl)
theorem dX4_isBarred_11 : decode cX4_isBarred 11 = .ok (.getfield 164, 3) := dk_180 0 164 (dk_at dksX4_isBarred_0 11 rfl rfl)
theorem dX4_isBarred_14 : decode cX4_isBarred 14 = .ok (.ifCond .eq 7, 3) := dk_153 0 7 (dk_at dksX4_isBarred_0 14 rfl rfl)
theorem dX4_isBarred_17 : decode cX4_isBarred 17 = .ok (.iconst 1, 1) := dk_4 (dk_at dksX4_isBarred_0 17 rfl rfl)
theorem dX4_isBarred_18 : decode cX4_isBarred 18 = .ok (.goto 4, 3) := dk_167 0 4 (dk_at dksX4_isBarred_0 18 rfl rfl)
theorem dX4_isBarred_21 : decode cX4_isBarred 21 = .ok (.iconst 0, 1) := dk_3 (dk_at dksX4_isBarred_0 21 rfl rfl)
theorem dX4_isBarred_22 : decode cX4_isBarred 22 = .ok (.ireturn, 1) := dk_172 (dk_at dksX4_isBarred_0 22 rfl rfl)
abbrev cX4_why : ByteArray := prog_30_method_63_code
def yX4_why : MethodName := ⟨RX4, "why", "(IIII)I"⟩
def dkwX4_why_1 : List UInt8 := [182, 1, 129, 153, 0, 15, 42, 27, 28, 29, 21, 4, 182, 1, 138, 167, 0, 5, 16, 254, 172]
abbrev dktX4_why_1 : List UInt8 := dkwX4_why_1 ++ []
def dkwX4_why_0 : List UInt8 := [42, 27, 28, 182, 1, 148, 153, 0, 11, 42, 29, 182, 1, 2, 154, 0, 5, 2, 172, 42, 21, 4]
abbrev dktX4_why_0 : List UInt8 := dkwX4_why_0 ++ dktX4_why_1
theorem dksX4_why_0 : cX4_why.data.toList.drop 0 = dktX4_why_0 := by decide +kernel
theorem dksX4_why_1 : cX4_why.data.toList.drop 22 = dktX4_why_1 := dk_seg dksX4_why_0 22 rfl rfl
theorem dX4_why_0 : decode cX4_why 0 = .ok (.aload_n 0, 1) := dk_42 (dk_at dksX4_why_0 0 rfl rfl)
theorem dX4_why_1 : decode cX4_why 1 = .ok (.iload_n 1, 1) := dk_27 (dk_at dksX4_why_0 1 rfl rfl)
theorem dX4_why_2 : decode cX4_why 2 = .ok (.iload_n 2, 1) := dk_28 (dk_at dksX4_why_0 2 rfl rfl)
theorem dX4_why_3 : decode cX4_why 3 = .ok (.invokevirtual 404, 3) := dk_182 1 148 (dk_at dksX4_why_0 3 rfl rfl)
theorem dX4_why_6 : decode cX4_why 6 = .ok (.ifCond .eq 11, 3) := dk_153 0 11 (dk_at dksX4_why_0 6 rfl rfl)
theorem dX4_why_9 : decode cX4_why 9 = .ok (.aload_n 0, 1) := dk_42 (dk_at dksX4_why_0 9 rfl rfl)
theorem dX4_why_10 : decode cX4_why 10 = .ok (.iload_n 3, 1) := dk_29 (dk_at dksX4_why_0 10 rfl rfl)
theorem dX4_why_11 : decode cX4_why 11 = .ok (.invokevirtual 258, 3) := dk_182 1 2 (dk_at dksX4_why_0 11 rfl rfl)
theorem dX4_why_14 : decode cX4_why 14 = .ok (.ifCond .ne 5, 3) := dk_154 0 5 (dk_at dksX4_why_0 14 rfl rfl)
theorem dX4_why_17 : decode cX4_why 17 = .ok (.iconst (-1), 1) := dk_2 (dk_at dksX4_why_0 17 rfl rfl)
theorem dX4_why_18 : decode cX4_why 18 = .ok (.ireturn, 1) := dk_172 (dk_at dksX4_why_0 18 rfl rfl)
theorem dX4_why_19 : decode cX4_why 19 = .ok (.aload_n 0, 1) := dk_42 (dk_at dksX4_why_0 19 rfl rfl)
theorem dX4_why_20 : decode cX4_why 20 = .ok (.iload 4, 2) := dk_21 4 (dk_at dksX4_why_0 20 rfl rfl)
theorem dX4_why_22 : decode cX4_why 22 = .ok (.invokevirtual 385, 3) := dk_182 1 129 (dk_at dksX4_why_1 0 rfl rfl)
theorem dX4_why_25 : decode cX4_why 25 = .ok (.ifCond .eq 15, 3) := dk_153 0 15 (dk_at dksX4_why_1 3 rfl rfl)
theorem dX4_why_28 : decode cX4_why 28 = .ok (.aload_n 0, 1) := dk_42 (dk_at dksX4_why_1 6 rfl rfl)
theorem dX4_why_29 : decode cX4_why 29 = .ok (.iload_n 1, 1) := dk_27 (dk_at dksX4_why_1 7 rfl rfl)
theorem dX4_why_30 : decode cX4_why 30 = .ok (.iload_n 2, 1) := dk_28 (dk_at dksX4_why_1 8 rfl rfl)
theorem dX4_why_31 : decode cX4_why 31 = .ok (.iload_n 3, 1) := dk_29 (dk_at dksX4_why_1 9 rfl rfl)
theorem dX4_why_32 : decode cX4_why 32 = .ok (.iload 4, 2) := dk_21 4 (dk_at dksX4_why_1 10 rfl rfl)
theorem dX4_why_34 : decode cX4_why 34 = .ok (.invokevirtual 394, 3) := dk_182 1 138 (dk_at dksX4_why_1 12 rfl rfl)
theorem dX4_why_37 : decode cX4_why 37 = .ok (.goto 5, 3) := dk_167 0 5 (dk_at dksX4_why_1 15 rfl rfl)
theorem dX4_why_40 : decode cX4_why 40 = .ok (.bipush (-2), 2) := dk_16 254 (dk_at dksX4_why_1 18 rfl rfl)
theorem dX4_why_42 : decode cX4_why 42 = .ok (.ireturn, 1) := dk_172 (dk_at dksX4_why_1 20 rfl rfl)
abbrev cX4_hasLine : ByteArray := prog_30_method_62_code
def yX4_hasLine : MethodName := ⟨RX4, "hasLine", "(II)Z"⟩
def dkwX4_hasLine_1 : List UInt8 := [46, 28, 122, 4, 126, 4, 160, 0, 7, 4, 167, 0, 4, 3, 172]
abbrev dktX4_hasLine_1 : List UInt8 := dkwX4_hasLine_1 ++ []
def dkwX4_hasLine_0 : List UInt8 := [42, 27, 182, 1, 14, 153, 0, 32, 42, 28, 3, 16, 15, 182, 0, 3, 153, 0, 21, 42, 180, 0, 54, 27]
abbrev dktX4_hasLine_0 : List UInt8 := dkwX4_hasLine_0 ++ dktX4_hasLine_1
theorem dksX4_hasLine_0 : cX4_hasLine.data.toList.drop 0 = dktX4_hasLine_0 := by decide +kernel
theorem dksX4_hasLine_1 : cX4_hasLine.data.toList.drop 24 = dktX4_hasLine_1 := dk_seg dksX4_hasLine_0 24 rfl rfl
theorem dX4_hasLine_0 : decode cX4_hasLine 0 = .ok (.aload_n 0, 1) := dk_42 (dk_at dksX4_hasLine_0 0 rfl rfl)
theorem dX4_hasLine_1 : decode cX4_hasLine 1 = .ok (.iload_n 1, 1) := dk_27 (dk_at dksX4_hasLine_0 1 rfl rfl)
theorem dX4_hasLine_2 : decode cX4_hasLine 2 = .ok (.invokevirtual 270, 3) := dk_182 1 14 (dk_at dksX4_hasLine_0 2 rfl rfl)
theorem dX4_hasLine_5 : decode cX4_hasLine 5 = .ok (.ifCond .eq 32, 3) := dk_153 0 32 (dk_at dksX4_hasLine_0 5 rfl rfl)
theorem dX4_hasLine_8 : decode cX4_hasLine 8 = .ok (.aload_n 0, 1) := dk_42 (dk_at dksX4_hasLine_0 8 rfl rfl)
theorem dX4_hasLine_9 : decode cX4_hasLine 9 = .ok (.iload_n 2, 1) := dk_28 (dk_at dksX4_hasLine_0 9 rfl rfl)
theorem dX4_hasLine_10 : decode cX4_hasLine 10 = .ok (.iconst 0, 1) := dk_3 (dk_at dksX4_hasLine_0 10 rfl rfl)
theorem dX4_hasLine_11 : decode cX4_hasLine 11 = .ok (.bipush 15, 2) := dk_16 15 (dk_at dksX4_hasLine_0 11 rfl rfl)
theorem dX4_hasLine_13 : decode cX4_hasLine 13 = .ok (.invokevirtual 3, 3) := dk_182 0 3 (dk_at dksX4_hasLine_0 13 rfl rfl)
theorem dX4_hasLine_16 : decode cX4_hasLine 16 = .ok (.ifCond .eq 21, 3) := dk_153 0 21 (dk_at dksX4_hasLine_0 16 rfl rfl)
theorem dX4_hasLine_19 : decode cX4_hasLine 19 = .ok (.aload_n 0, 1) := dk_42 (dk_at dksX4_hasLine_0 19 rfl rfl)
theorem dX4_hasLine_20 : decode cX4_hasLine 20 = .ok (.getfield 54, 3) := dk_180 0 54 (dk_at dksX4_hasLine_0 20 rfl rfl)
theorem dX4_hasLine_23 : decode cX4_hasLine 23 = .ok (.iload_n 1, 1) := dk_27 (dk_at dksX4_hasLine_0 23 rfl rfl)
theorem dX4_hasLine_24 : decode cX4_hasLine 24 = .ok (.iaload, 1) := dk_46 (dk_at dksX4_hasLine_1 0 rfl rfl)
theorem dX4_hasLine_25 : decode cX4_hasLine 25 = .ok (.iload_n 2, 1) := dk_28 (dk_at dksX4_hasLine_1 1 rfl rfl)
theorem dX4_hasLine_26 : decode cX4_hasLine 26 = .ok (.ishr, 1) := dk_122 (dk_at dksX4_hasLine_1 2 rfl rfl)
theorem dX4_hasLine_27 : decode cX4_hasLine 27 = .ok (.iconst 1, 1) := dk_4 (dk_at dksX4_hasLine_1 3 rfl rfl)
theorem dX4_hasLine_28 : decode cX4_hasLine 28 = .ok (.iand, 1) := dk_126 (dk_at dksX4_hasLine_1 4 rfl rfl)
theorem dX4_hasLine_29 : decode cX4_hasLine 29 = .ok (.iconst 1, 1) := dk_4 (dk_at dksX4_hasLine_1 5 rfl rfl)
theorem dX4_hasLine_30 : decode cX4_hasLine 30 = .ok (.if_icmp .ne 7, 3) := dk_160 0 7 (dk_at dksX4_hasLine_1 6 rfl rfl)
theorem dX4_hasLine_33 : decode cX4_hasLine 33 = .ok (.iconst 1, 1) := dk_4 (dk_at dksX4_hasLine_1 9 rfl rfl)
theorem dX4_hasLine_34 : decode cX4_hasLine 34 = .ok (.goto 4, 3) := dk_167 0 4 (dk_at dksX4_hasLine_1 10 rfl rfl)
theorem dX4_hasLine_37 : decode cX4_hasLine 37 = .ok (.iconst 0, 1) := dk_3 (dk_at dksX4_hasLine_1 13 rfl rfl)
theorem dX4_hasLine_38 : decode cX4_hasLine 38 = .ok (.ireturn, 1) := dk_172 (dk_at dksX4_hasLine_1 14 rfl rfl)
abbrev cX4_leave : ByteArray := prog_30_method_65_code
def yX4_leave : MethodName := ⟨RX4, "leave", "(IIII)I"⟩
def dkwX4_leave_4 : List UInt8 := [180, 0, 167, 21, 4, 79, 42, 89, 180, 0, 167, 4, 96, 181, 0, 167, 42, 180, 0, 167, 4, 100, 172]
abbrev dktX4_leave_4 : List UInt8 := dkwX4_leave_4 ++ []
def dkwX4_leave_3 : List UInt8 := [180, 0, 173, 42, 180, 0, 167, 28, 79, 42, 180, 0, 176, 42, 180, 0, 167, 29, 79, 42, 180, 0, 179, 42]
abbrev dktX4_leave_3 : List UInt8 := dkwX4_leave_3 ++ dktX4_leave_4
def dkwX4_leave_2 : List UInt8 := [180, 0, 167, 16, 30, 160, 0, 6, 16, 252, 172, 42, 180, 0, 170, 42, 180, 0, 167, 27, 79, 42]
abbrev dktX4_leave_2 : List UInt8 := dkwX4_leave_2 ++ dktX4_leave_3
def dkwX4_leave_1 : List UInt8 := [153, 0, 18, 42, 21, 4, 182, 1, 129, 153, 0, 9, 29, 21, 4, 164, 0, 6, 16, 254, 172, 42]
abbrev dktX4_leave_1 : List UInt8 := dkwX4_leave_1 ++ dktX4_leave_2
def dkwX4_leave_0 : List UInt8 := [42, 27, 182, 1, 151, 153, 0, 11, 42, 28, 182, 1, 10, 154, 0, 5, 2, 172, 42, 29, 182, 1, 129]
abbrev dktX4_leave_0 : List UInt8 := dkwX4_leave_0 ++ dktX4_leave_1
theorem dksX4_leave_0 : cX4_leave.data.toList.drop 0 = dktX4_leave_0 := by decide +kernel
theorem dksX4_leave_1 : cX4_leave.data.toList.drop 23 = dktX4_leave_1 := dk_seg dksX4_leave_0 23 rfl rfl
theorem dksX4_leave_2 : cX4_leave.data.toList.drop 45 = dktX4_leave_2 := dk_seg dksX4_leave_1 22 rfl rfl
theorem dksX4_leave_3 : cX4_leave.data.toList.drop 67 = dktX4_leave_3 := dk_seg dksX4_leave_2 22 rfl rfl
theorem dksX4_leave_4 : cX4_leave.data.toList.drop 91 = dktX4_leave_4 := dk_seg dksX4_leave_3 24 rfl rfl
theorem dX4_leave_0 : decode cX4_leave 0 = .ok (.aload_n 0, 1) := dk_42 (dk_at dksX4_leave_0 0 rfl rfl)
theorem dX4_leave_1 : decode cX4_leave 1 = .ok (.iload_n 1, 1) := dk_27 (dk_at dksX4_leave_0 1 rfl rfl)
theorem dX4_leave_2 : decode cX4_leave 2 = .ok (.invokevirtual 407, 3) := dk_182 1 151 (dk_at dksX4_leave_0 2 rfl rfl)
theorem dX4_leave_5 : decode cX4_leave 5 = .ok (.ifCond .eq 11, 3) := dk_153 0 11 (dk_at dksX4_leave_0 5 rfl rfl)
theorem dX4_leave_8 : decode cX4_leave 8 = .ok (.aload_n 0, 1) := dk_42 (dk_at dksX4_leave_0 8 rfl rfl)
theorem dX4_leave_9 : decode cX4_leave 9 = .ok (.iload_n 2, 1) := dk_28 (dk_at dksX4_leave_0 9 rfl rfl)
theorem dX4_leave_10 : decode cX4_leave 10 = .ok (.invokevirtual 266, 3) := dk_182 1 10 (dk_at dksX4_leave_0 10 rfl rfl)
theorem dX4_leave_13 : decode cX4_leave 13 = .ok (.ifCond .ne 5, 3) := dk_154 0 5 (dk_at dksX4_leave_0 13 rfl rfl)
theorem dX4_leave_16 : decode cX4_leave 16 = .ok (.iconst (-1), 1) := dk_2 (dk_at dksX4_leave_0 16 rfl rfl)
theorem dX4_leave_17 : decode cX4_leave 17 = .ok (.ireturn, 1) := dk_172 (dk_at dksX4_leave_0 17 rfl rfl)
theorem dX4_leave_18 : decode cX4_leave 18 = .ok (.aload_n 0, 1) := dk_42 (dk_at dksX4_leave_0 18 rfl rfl)
theorem dX4_leave_19 : decode cX4_leave 19 = .ok (.iload_n 3, 1) := dk_29 (dk_at dksX4_leave_0 19 rfl rfl)
theorem dX4_leave_20 : decode cX4_leave 20 = .ok (.invokevirtual 385, 3) := dk_182 1 129 (dk_at dksX4_leave_0 20 rfl rfl)
theorem dX4_leave_23 : decode cX4_leave 23 = .ok (.ifCond .eq 18, 3) := dk_153 0 18 (dk_at dksX4_leave_1 0 rfl rfl)
theorem dX4_leave_26 : decode cX4_leave 26 = .ok (.aload_n 0, 1) := dk_42 (dk_at dksX4_leave_1 3 rfl rfl)
theorem dX4_leave_27 : decode cX4_leave 27 = .ok (.iload 4, 2) := dk_21 4 (dk_at dksX4_leave_1 4 rfl rfl)
theorem dX4_leave_29 : decode cX4_leave 29 = .ok (.invokevirtual 385, 3) := dk_182 1 129 (dk_at dksX4_leave_1 6 rfl rfl)
theorem dX4_leave_32 : decode cX4_leave 32 = .ok (.ifCond .eq 9, 3) := dk_153 0 9 (dk_at dksX4_leave_1 9 rfl rfl)
theorem dX4_leave_35 : decode cX4_leave 35 = .ok (.iload_n 3, 1) := dk_29 (dk_at dksX4_leave_1 12 rfl rfl)
theorem dX4_leave_36 : decode cX4_leave 36 = .ok (.iload 4, 2) := dk_21 4 (dk_at dksX4_leave_1 13 rfl rfl)
theorem dX4_leave_38 : decode cX4_leave 38 = .ok (.if_icmp .le 6, 3) := dk_164 0 6 (dk_at dksX4_leave_1 15 rfl rfl)
theorem dX4_leave_41 : decode cX4_leave 41 = .ok (.bipush (-2), 2) := dk_16 254 (dk_at dksX4_leave_1 18 rfl rfl)
theorem dX4_leave_43 : decode cX4_leave 43 = .ok (.ireturn, 1) := dk_172 (dk_at dksX4_leave_1 20 rfl rfl)
theorem dX4_leave_44 : decode cX4_leave 44 = .ok (.aload_n 0, 1) := dk_42 (dk_at dksX4_leave_1 21 rfl rfl)
theorem dX4_leave_45 : decode cX4_leave 45 = .ok (.getfield 167, 3) := dk_180 0 167 (dk_at dksX4_leave_2 0 rfl rfl)
theorem dX4_leave_48 : decode cX4_leave 48 = .ok (.bipush 30, 2) := dk_16 30 (dk_at dksX4_leave_2 3 rfl rfl)
theorem dX4_leave_50 : decode cX4_leave 50 = .ok (.if_icmp .ne 6, 3) := dk_160 0 6 (dk_at dksX4_leave_2 5 rfl rfl)
theorem dX4_leave_53 : decode cX4_leave 53 = .ok (.bipush (-4), 2) := dk_16 252 (dk_at dksX4_leave_2 8 rfl rfl)
theorem dX4_leave_55 : decode cX4_leave 55 = .ok (.ireturn, 1) := dk_172 (dk_at dksX4_leave_2 10 rfl rfl)
theorem dX4_leave_56 : decode cX4_leave 56 = .ok (.aload_n 0, 1) := dk_42 (dk_at dksX4_leave_2 11 rfl rfl)
theorem dX4_leave_57 : decode cX4_leave 57 = .ok (.getfield 170, 3) := dk_180 0 170 (dk_at dksX4_leave_2 12 rfl rfl)
theorem dX4_leave_60 : decode cX4_leave 60 = .ok (.aload_n 0, 1) := dk_42 (dk_at dksX4_leave_2 15 rfl rfl)
theorem dX4_leave_61 : decode cX4_leave 61 = .ok (.getfield 167, 3) := dk_180 0 167 (dk_at dksX4_leave_2 16 rfl rfl)
theorem dX4_leave_64 : decode cX4_leave 64 = .ok (.iload_n 1, 1) := dk_27 (dk_at dksX4_leave_2 19 rfl rfl)
theorem dX4_leave_65 : decode cX4_leave 65 = .ok (.iastore, 1) := dk_79 (dk_at dksX4_leave_2 20 rfl rfl)
theorem dX4_leave_66 : decode cX4_leave 66 = .ok (.aload_n 0, 1) := dk_42 (dk_at dksX4_leave_2 21 rfl rfl)
theorem dX4_leave_67 : decode cX4_leave 67 = .ok (.getfield 173, 3) := dk_180 0 173 (dk_at dksX4_leave_3 0 rfl rfl)
theorem dX4_leave_70 : decode cX4_leave 70 = .ok (.aload_n 0, 1) := dk_42 (dk_at dksX4_leave_3 3 rfl rfl)
theorem dX4_leave_71 : decode cX4_leave 71 = .ok (.getfield 167, 3) := dk_180 0 167 (dk_at dksX4_leave_3 4 rfl rfl)
theorem dX4_leave_74 : decode cX4_leave 74 = .ok (.iload_n 2, 1) := dk_28 (dk_at dksX4_leave_3 7 rfl rfl)
theorem dX4_leave_75 : decode cX4_leave 75 = .ok (.iastore, 1) := dk_79 (dk_at dksX4_leave_3 8 rfl rfl)
theorem dX4_leave_76 : decode cX4_leave 76 = .ok (.aload_n 0, 1) := dk_42 (dk_at dksX4_leave_3 9 rfl rfl)
theorem dX4_leave_77 : decode cX4_leave 77 = .ok (.getfield 176, 3) := dk_180 0 176 (dk_at dksX4_leave_3 10 rfl rfl)
theorem dX4_leave_80 : decode cX4_leave 80 = .ok (.aload_n 0, 1) := dk_42 (dk_at dksX4_leave_3 13 rfl rfl)
theorem dX4_leave_81 : decode cX4_leave 81 = .ok (.getfield 167, 3) := dk_180 0 167 (dk_at dksX4_leave_3 14 rfl rfl)
theorem dX4_leave_84 : decode cX4_leave 84 = .ok (.iload_n 3, 1) := dk_29 (dk_at dksX4_leave_3 17 rfl rfl)
theorem dX4_leave_85 : decode cX4_leave 85 = .ok (.iastore, 1) := dk_79 (dk_at dksX4_leave_3 18 rfl rfl)
theorem dX4_leave_86 : decode cX4_leave 86 = .ok (.aload_n 0, 1) := dk_42 (dk_at dksX4_leave_3 19 rfl rfl)
theorem dX4_leave_87 : decode cX4_leave 87 = .ok (.getfield 179, 3) := dk_180 0 179 (dk_at dksX4_leave_3 20 rfl rfl)
theorem dX4_leave_90 : decode cX4_leave 90 = .ok (.aload_n 0, 1) := dk_42 (dk_at dksX4_leave_3 23 rfl rfl)
theorem dX4_leave_91 : decode cX4_leave 91 = .ok (.getfield 167, 3) := dk_180 0 167 (dk_at dksX4_leave_4 0 rfl rfl)
theorem dX4_leave_94 : decode cX4_leave 94 = .ok (.iload 4, 2) := dk_21 4 (dk_at dksX4_leave_4 3 rfl rfl)
theorem dX4_leave_96 : decode cX4_leave 96 = .ok (.iastore, 1) := dk_79 (dk_at dksX4_leave_4 5 rfl rfl)
theorem dX4_leave_97 : decode cX4_leave 97 = .ok (.aload_n 0, 1) := dk_42 (dk_at dksX4_leave_4 6 rfl rfl)
theorem dX4_leave_98 : decode cX4_leave 98 = .ok (.dup, 1) := dk_89 (dk_at dksX4_leave_4 7 rfl rfl)
theorem dX4_leave_99 : decode cX4_leave 99 = .ok (.getfield 167, 3) := dk_180 0 167 (dk_at dksX4_leave_4 8 rfl rfl)
theorem dX4_leave_102 : decode cX4_leave 102 = .ok (.iconst 1, 1) := dk_4 (dk_at dksX4_leave_4 11 rfl rfl)
theorem dX4_leave_103 : decode cX4_leave 103 = .ok (.iadd, 1) := dk_96 (dk_at dksX4_leave_4 12 rfl rfl)
theorem dX4_leave_104 : decode cX4_leave 104 = .ok (.putfield 167, 3) := dk_181 0 167 (dk_at dksX4_leave_4 13 rfl rfl)
theorem dX4_leave_107 : decode cX4_leave 107 = .ok (.aload_n 0, 1) := dk_42 (dk_at dksX4_leave_4 16 rfl rfl)
theorem dX4_leave_108 : decode cX4_leave 108 = .ok (.getfield 167, 3) := dk_180 0 167 (dk_at dksX4_leave_4 17 rfl rfl)
theorem dX4_leave_111 : decode cX4_leave 111 = .ok (.iconst 1, 1) := dk_4 (dk_at dksX4_leave_4 20 rfl rfl)
theorem dX4_leave_112 : decode cX4_leave 112 = .ok (.isub, 1) := dk_100 (dk_at dksX4_leave_4 21 rfl rfl)
theorem dX4_leave_113 : decode cX4_leave 113 = .ok (.ireturn, 1) := dk_172 (dk_at dksX4_leave_4 22 rfl rfl)
abbrev cX4_isPerson : ByteArray := prog_30_method_64_code
def yX4_isPerson : MethodName := ⟨RX4, "isPerson", "(I)Z"⟩
def dkwX4_isPerson_0 : List UInt8 := [42, 27, 3, 42, 180, 0, 17, 4, 100, 182, 0, 3, 172]
abbrev dktX4_isPerson_0 : List UInt8 := dkwX4_isPerson_0 ++ []
theorem dksX4_isPerson_0 : cX4_isPerson.data.toList.drop 0 = dktX4_isPerson_0 := by decide +kernel
theorem dX4_isPerson_0 : decode cX4_isPerson 0 = .ok (.aload_n 0, 1) := dk_42 (dk_at dksX4_isPerson_0 0 rfl rfl)
theorem dX4_isPerson_1 : decode cX4_isPerson 1 = .ok (.iload_n 1, 1) := dk_27 (dk_at dksX4_isPerson_0 1 rfl rfl)
theorem dX4_isPerson_2 : decode cX4_isPerson 2 = .ok (.iconst 0, 1) := dk_3 (dk_at dksX4_isPerson_0 2 rfl rfl)
theorem dX4_isPerson_3 : decode cX4_isPerson 3 = .ok (.aload_n 0, 1) := dk_42 (dk_at dksX4_isPerson_0 3 rfl rfl)
theorem dX4_isPerson_4 : decode cX4_isPerson 4 = .ok (.getfield 17, 3) := dk_180 0 17 (dk_at dksX4_isPerson_0 4 rfl rfl)
theorem dX4_isPerson_7 : decode cX4_isPerson 7 = .ok (.iconst 1, 1) := dk_4 (dk_at dksX4_isPerson_0 7 rfl rfl)
theorem dX4_isPerson_8 : decode cX4_isPerson 8 = .ok (.isub, 1) := dk_100 (dk_at dksX4_isPerson_0 8 rfl rfl)
theorem dX4_isPerson_9 : decode cX4_isPerson 9 = .ok (.invokevirtual 3, 3) := dk_182 0 3 (dk_at dksX4_isPerson_0 9 rfl rfl)
theorem dX4_isPerson_12 : decode cX4_isPerson 12 = .ok (.ireturn, 1) := dk_172 (dk_at dksX4_isPerson_0 12 rfl rfl)
abbrev cX4_reads : ByteArray := prog_30_method_66_code
def yX4_reads : MethodName := ⟨RX4, "reads", "(III)I"⟩
def dkwX4_reads_8 : List UInt8 := [162, 0, 5, 6, 172, 132, 5, 1, 167, 255, 183, 3, 172]
abbrev dktX4_reads_8 : List UInt8 := dkwX4_reads_8 ++ []
def dkwX4_reads_7 : List UInt8 := [153, 0, 28, 29, 42, 180, 0, 100, 21, 5, 46, 42, 21, 4, 182, 1, 6, 96, 42, 180, 0, 124, 96]
abbrev dktX4_reads_7 : List UInt8 := dkwX4_reads_7 ++ dktX4_reads_8
def dkwX4_reads_6 : List UInt8 := [154, 0, 6, 167, 0, 49, 42, 2, 2, 42, 180, 0, 33, 27, 46, 182, 1, 116, 42, 21, 5, 182, 1, 120]
abbrev dktX4_reads_6 : List UInt8 := dkwX4_reads_6 ++ dktX4_reads_7
def dkwX4_reads_5 : List UInt8 := [167, 255, 193, 3, 54, 5, 21, 5, 42, 180, 0, 91, 162, 0, 70, 42, 21, 5, 21, 4, 29, 182, 1, 132]
abbrev dktX4_reads_5 : List UInt8 := dkwX4_reads_5 ++ dktX4_reads_6
def dkwX4_reads_4 : List UInt8 := [180, 0, 176, 21, 5, 46, 42, 180, 0, 179, 21, 5, 46, 182, 0, 3, 153, 0, 5, 5, 172, 132, 5, 1]
abbrev dktX4_reads_4 : List UInt8 := dkwX4_reads_4 ++ dktX4_reads_5
def dkwX4_reads_3 : List UInt8 := [27, 160, 0, 43, 42, 180, 0, 173, 21, 5, 46, 42, 180, 0, 51, 28, 46, 160, 0, 27, 42, 29, 42]
abbrev dktX4_reads_3 : List UInt8 := dkwX4_reads_3 ++ dktX4_reads_4
def dkwX4_reads_2 : List UInt8 := [154, 0, 5, 4, 172, 3, 54, 5, 21, 5, 42, 180, 0, 167, 162, 0, 60, 42, 180, 0, 170, 21, 5, 46]
abbrev dktX4_reads_2 : List UInt8 := dkwX4_reads_2 ++ dktX4_reads_3
def dkwX4_reads_1 : List UInt8 := [154, 0, 6, 16, 254, 172, 42, 180, 0, 30, 27, 46, 54, 4, 42, 28, 21, 4, 29, 182, 1, 145]
abbrev dktX4_reads_1 : List UInt8 := dkwX4_reads_1 ++ dktX4_reads_2
def dkwX4_reads_0 : List UInt8 := [42, 27, 182, 1, 151, 153, 0, 11, 42, 28, 182, 1, 14, 154, 0, 5, 2, 172, 42, 29, 182, 1, 129]
abbrev dktX4_reads_0 : List UInt8 := dkwX4_reads_0 ++ dktX4_reads_1
theorem dksX4_reads_0 : cX4_reads.data.toList.drop 0 = dktX4_reads_0 := by decide +kernel
theorem dksX4_reads_1 : cX4_reads.data.toList.drop 23 = dktX4_reads_1 := dk_seg dksX4_reads_0 23 rfl rfl
theorem dksX4_reads_2 : cX4_reads.data.toList.drop 45 = dktX4_reads_2 := dk_seg dksX4_reads_1 22 rfl rfl
theorem dksX4_reads_3 : cX4_reads.data.toList.drop 69 = dktX4_reads_3 := dk_seg dksX4_reads_2 24 rfl rfl
theorem dksX4_reads_4 : cX4_reads.data.toList.drop 92 = dktX4_reads_4 := dk_seg dksX4_reads_3 23 rfl rfl
theorem dksX4_reads_5 : cX4_reads.data.toList.drop 116 = dktX4_reads_5 := dk_seg dksX4_reads_4 24 rfl rfl
theorem dksX4_reads_6 : cX4_reads.data.toList.drop 140 = dktX4_reads_6 := dk_seg dksX4_reads_5 24 rfl rfl
theorem dksX4_reads_7 : cX4_reads.data.toList.drop 164 = dktX4_reads_7 := dk_seg dksX4_reads_6 24 rfl rfl
theorem dksX4_reads_8 : cX4_reads.data.toList.drop 187 = dktX4_reads_8 := dk_seg dksX4_reads_7 23 rfl rfl
theorem dX4_reads_0 : decode cX4_reads 0 = .ok (.aload_n 0, 1) := dk_42 (dk_at dksX4_reads_0 0 rfl rfl)
theorem dX4_reads_1 : decode cX4_reads 1 = .ok (.iload_n 1, 1) := dk_27 (dk_at dksX4_reads_0 1 rfl rfl)
theorem dX4_reads_2 : decode cX4_reads 2 = .ok (.invokevirtual 407, 3) := dk_182 1 151 (dk_at dksX4_reads_0 2 rfl rfl)
theorem dX4_reads_5 : decode cX4_reads 5 = .ok (.ifCond .eq 11, 3) := dk_153 0 11 (dk_at dksX4_reads_0 5 rfl rfl)
theorem dX4_reads_8 : decode cX4_reads 8 = .ok (.aload_n 0, 1) := dk_42 (dk_at dksX4_reads_0 8 rfl rfl)
theorem dX4_reads_9 : decode cX4_reads 9 = .ok (.iload_n 2, 1) := dk_28 (dk_at dksX4_reads_0 9 rfl rfl)
theorem dX4_reads_10 : decode cX4_reads 10 = .ok (.invokevirtual 270, 3) := dk_182 1 14 (dk_at dksX4_reads_0 10 rfl rfl)
theorem dX4_reads_13 : decode cX4_reads 13 = .ok (.ifCond .ne 5, 3) := dk_154 0 5 (dk_at dksX4_reads_0 13 rfl rfl)
theorem dX4_reads_16 : decode cX4_reads 16 = .ok (.iconst (-1), 1) := dk_2 (dk_at dksX4_reads_0 16 rfl rfl)
theorem dX4_reads_17 : decode cX4_reads 17 = .ok (.ireturn, 1) := dk_172 (dk_at dksX4_reads_0 17 rfl rfl)
theorem dX4_reads_18 : decode cX4_reads 18 = .ok (.aload_n 0, 1) := dk_42 (dk_at dksX4_reads_0 18 rfl rfl)
theorem dX4_reads_19 : decode cX4_reads 19 = .ok (.iload_n 3, 1) := dk_29 (dk_at dksX4_reads_0 19 rfl rfl)
theorem dX4_reads_20 : decode cX4_reads 20 = .ok (.invokevirtual 385, 3) := dk_182 1 129 (dk_at dksX4_reads_0 20 rfl rfl)
theorem dX4_reads_23 : decode cX4_reads 23 = .ok (.ifCond .ne 6, 3) := dk_154 0 6 (dk_at dksX4_reads_1 0 rfl rfl)
theorem dX4_reads_26 : decode cX4_reads 26 = .ok (.bipush (-2), 2) := dk_16 254 (dk_at dksX4_reads_1 3 rfl rfl)
theorem dX4_reads_28 : decode cX4_reads 28 = .ok (.ireturn, 1) := dk_172 (dk_at dksX4_reads_1 5 rfl rfl)
theorem dX4_reads_29 : decode cX4_reads 29 = .ok (.aload_n 0, 1) := dk_42 (dk_at dksX4_reads_1 6 rfl rfl)
theorem dX4_reads_30 : decode cX4_reads 30 = .ok (.getfield 30, 3) := dk_180 0 30 (dk_at dksX4_reads_1 7 rfl rfl)
theorem dX4_reads_33 : decode cX4_reads 33 = .ok (.iload_n 1, 1) := dk_27 (dk_at dksX4_reads_1 10 rfl rfl)
theorem dX4_reads_34 : decode cX4_reads 34 = .ok (.iaload, 1) := dk_46 (dk_at dksX4_reads_1 11 rfl rfl)
theorem dX4_reads_35 : decode cX4_reads 35 = .ok (.istore 4, 2) := dk_54 4 (dk_at dksX4_reads_1 12 rfl rfl)
theorem dX4_reads_37 : decode cX4_reads 37 = .ok (.aload_n 0, 1) := dk_42 (dk_at dksX4_reads_1 14 rfl rfl)
theorem dX4_reads_38 : decode cX4_reads 38 = .ok (.iload_n 2, 1) := dk_28 (dk_at dksX4_reads_1 15 rfl rfl)
theorem dX4_reads_39 : decode cX4_reads 39 = .ok (.iload 4, 2) := dk_21 4 (dk_at dksX4_reads_1 16 rfl rfl)
theorem dX4_reads_41 : decode cX4_reads 41 = .ok (.iload_n 3, 1) := dk_29 (dk_at dksX4_reads_1 18 rfl rfl)
theorem dX4_reads_42 : decode cX4_reads 42 = .ok (.invokevirtual 401, 3) := dk_182 1 145 (dk_at dksX4_reads_1 19 rfl rfl)
theorem dX4_reads_45 : decode cX4_reads 45 = .ok (.ifCond .ne 5, 3) := dk_154 0 5 (dk_at dksX4_reads_2 0 rfl rfl)
theorem dX4_reads_48 : decode cX4_reads 48 = .ok (.iconst 1, 1) := dk_4 (dk_at dksX4_reads_2 3 rfl rfl)
theorem dX4_reads_49 : decode cX4_reads 49 = .ok (.ireturn, 1) := dk_172 (dk_at dksX4_reads_2 4 rfl rfl)
theorem dX4_reads_50 : decode cX4_reads 50 = .ok (.iconst 0, 1) := dk_3 (dk_at dksX4_reads_2 5 rfl rfl)
theorem dX4_reads_51 : decode cX4_reads 51 = .ok (.istore 5, 2) := dk_54 5 (dk_at dksX4_reads_2 6 rfl rfl)
theorem dX4_reads_53 : decode cX4_reads 53 = .ok (.iload 5, 2) := dk_21 5 (dk_at dksX4_reads_2 8 rfl rfl)
theorem dX4_reads_55 : decode cX4_reads 55 = .ok (.aload_n 0, 1) := dk_42 (dk_at dksX4_reads_2 10 rfl rfl)
theorem dX4_reads_56 : decode cX4_reads 56 = .ok (.getfield 167, 3) := dk_180 0 167 (dk_at dksX4_reads_2 11 rfl rfl)
theorem dX4_reads_59 : decode cX4_reads 59 = .ok (.if_icmp .ge 60, 3) := dk_162 0 60 (dk_at dksX4_reads_2 14 rfl rfl)
theorem dX4_reads_62 : decode cX4_reads 62 = .ok (.aload_n 0, 1) := dk_42 (dk_at dksX4_reads_2 17 rfl rfl)
theorem dX4_reads_63 : decode cX4_reads 63 = .ok (.getfield 170, 3) := dk_180 0 170 (dk_at dksX4_reads_2 18 rfl rfl)
theorem dX4_reads_66 : decode cX4_reads 66 = .ok (.iload 5, 2) := dk_21 5 (dk_at dksX4_reads_2 21 rfl rfl)
theorem dX4_reads_68 : decode cX4_reads 68 = .ok (.iaload, 1) := dk_46 (dk_at dksX4_reads_2 23 rfl rfl)
theorem dX4_reads_69 : decode cX4_reads 69 = .ok (.iload_n 1, 1) := dk_27 (dk_at dksX4_reads_3 0 rfl rfl)
theorem dX4_reads_70 : decode cX4_reads 70 = .ok (.if_icmp .ne 43, 3) := dk_160 0 43 (dk_at dksX4_reads_3 1 rfl rfl)
theorem dX4_reads_73 : decode cX4_reads 73 = .ok (.aload_n 0, 1) := dk_42 (dk_at dksX4_reads_3 4 rfl rfl)
theorem dX4_reads_74 : decode cX4_reads 74 = .ok (.getfield 173, 3) := dk_180 0 173 (dk_at dksX4_reads_3 5 rfl rfl)
theorem dX4_reads_77 : decode cX4_reads 77 = .ok (.iload 5, 2) := dk_21 5 (dk_at dksX4_reads_3 8 rfl rfl)
theorem dX4_reads_79 : decode cX4_reads 79 = .ok (.iaload, 1) := dk_46 (dk_at dksX4_reads_3 10 rfl rfl)
theorem dX4_reads_80 : decode cX4_reads 80 = .ok (.aload_n 0, 1) := dk_42 (dk_at dksX4_reads_3 11 rfl rfl)
theorem dX4_reads_81 : decode cX4_reads 81 = .ok (.getfield 51, 3) := dk_180 0 51 (dk_at dksX4_reads_3 12 rfl rfl)
theorem dX4_reads_84 : decode cX4_reads 84 = .ok (.iload_n 2, 1) := dk_28 (dk_at dksX4_reads_3 15 rfl rfl)
theorem dX4_reads_85 : decode cX4_reads 85 = .ok (.iaload, 1) := dk_46 (dk_at dksX4_reads_3 16 rfl rfl)
theorem dX4_reads_86 : decode cX4_reads 86 = .ok (.if_icmp .ne 27, 3) := dk_160 0 27 (dk_at dksX4_reads_3 17 rfl rfl)
theorem dX4_reads_89 : decode cX4_reads 89 = .ok (.aload_n 0, 1) := dk_42 (dk_at dksX4_reads_3 20 rfl rfl)
theorem dX4_reads_90 : decode cX4_reads 90 = .ok (.iload_n 3, 1) := dk_29 (dk_at dksX4_reads_3 21 rfl rfl)
theorem dX4_reads_91 : decode cX4_reads 91 = .ok (.aload_n 0, 1) := dk_42 (dk_at dksX4_reads_3 22 rfl rfl)
theorem dX4_reads_92 : decode cX4_reads 92 = .ok (.getfield 176, 3) := dk_180 0 176 (dk_at dksX4_reads_4 0 rfl rfl)
theorem dX4_reads_95 : decode cX4_reads 95 = .ok (.iload 5, 2) := dk_21 5 (dk_at dksX4_reads_4 3 rfl rfl)
theorem dX4_reads_97 : decode cX4_reads 97 = .ok (.iaload, 1) := dk_46 (dk_at dksX4_reads_4 5 rfl rfl)
theorem dX4_reads_98 : decode cX4_reads 98 = .ok (.aload_n 0, 1) := dk_42 (dk_at dksX4_reads_4 6 rfl rfl)
theorem dX4_reads_99 : decode cX4_reads 99 = .ok (.getfield 179, 3) := dk_180 0 179 (dk_at dksX4_reads_4 7 rfl rfl)
theorem dX4_reads_102 : decode cX4_reads 102 = .ok (.iload 5, 2) := dk_21 5 (dk_at dksX4_reads_4 10 rfl rfl)
theorem dX4_reads_104 : decode cX4_reads 104 = .ok (.iaload, 1) := dk_46 (dk_at dksX4_reads_4 12 rfl rfl)
theorem dX4_reads_105 : decode cX4_reads 105 = .ok (.invokevirtual 3, 3) := dk_182 0 3 (dk_at dksX4_reads_4 13 rfl rfl)
theorem dX4_reads_108 : decode cX4_reads 108 = .ok (.ifCond .eq 5, 3) := dk_153 0 5 (dk_at dksX4_reads_4 16 rfl rfl)
theorem dX4_reads_111 : decode cX4_reads 111 = .ok (.iconst 2, 1) := dk_5 (dk_at dksX4_reads_4 19 rfl rfl)
theorem dX4_reads_112 : decode cX4_reads 112 = .ok (.ireturn, 1) := dk_172 (dk_at dksX4_reads_4 20 rfl rfl)
theorem dX4_reads_113 : decode cX4_reads 113 = .ok (.iinc 5 1, 3) := dk_132 5 1 (dk_at dksX4_reads_4 21 rfl rfl)
theorem dX4_reads_116 : decode cX4_reads 116 = .ok (.goto (-63), 3) := dk_167 255 193 (dk_at dksX4_reads_5 0 rfl rfl)
theorem dX4_reads_119 : decode cX4_reads 119 = .ok (.iconst 0, 1) := dk_3 (dk_at dksX4_reads_5 3 rfl rfl)
theorem dX4_reads_120 : decode cX4_reads 120 = .ok (.istore 5, 2) := dk_54 5 (dk_at dksX4_reads_5 4 rfl rfl)
theorem dX4_reads_122 : decode cX4_reads 122 = .ok (.iload 5, 2) := dk_21 5 (dk_at dksX4_reads_5 6 rfl rfl)
theorem dX4_reads_124 : decode cX4_reads 124 = .ok (.aload_n 0, 1) := dk_42 (dk_at dksX4_reads_5 8 rfl rfl)
theorem dX4_reads_125 : decode cX4_reads 125 = .ok (.getfield 91, 3) := dk_180 0 91 (dk_at dksX4_reads_5 9 rfl rfl)
theorem dX4_reads_128 : decode cX4_reads 128 = .ok (.if_icmp .ge 70, 3) := dk_162 0 70 (dk_at dksX4_reads_5 12 rfl rfl)
theorem dX4_reads_131 : decode cX4_reads 131 = .ok (.aload_n 0, 1) := dk_42 (dk_at dksX4_reads_5 15 rfl rfl)
theorem dX4_reads_132 : decode cX4_reads 132 = .ok (.iload 5, 2) := dk_21 5 (dk_at dksX4_reads_5 16 rfl rfl)
theorem dX4_reads_134 : decode cX4_reads 134 = .ok (.iload 4, 2) := dk_21 4 (dk_at dksX4_reads_5 18 rfl rfl)
theorem dX4_reads_136 : decode cX4_reads 136 = .ok (.iload_n 3, 1) := dk_29 (dk_at dksX4_reads_5 20 rfl rfl)
theorem dX4_reads_137 : decode cX4_reads 137 = .ok (.invokevirtual 388, 3) := dk_182 1 132 (dk_at dksX4_reads_5 21 rfl rfl)
theorem dX4_reads_140 : decode cX4_reads 140 = .ok (.ifCond .ne 6, 3) := dk_154 0 6 (dk_at dksX4_reads_6 0 rfl rfl)
theorem dX4_reads_143 : decode cX4_reads 143 = .ok (.goto 49, 3) := dk_167 0 49 (dk_at dksX4_reads_6 3 rfl rfl)
theorem dX4_reads_146 : decode cX4_reads 146 = .ok (.aload_n 0, 1) := dk_42 (dk_at dksX4_reads_6 6 rfl rfl)
theorem dX4_reads_147 : decode cX4_reads 147 = .ok (.iconst (-1), 1) := dk_2 (dk_at dksX4_reads_6 7 rfl rfl)
theorem dX4_reads_148 : decode cX4_reads 148 = .ok (.iconst (-1), 1) := dk_2 (dk_at dksX4_reads_6 8 rfl rfl)
theorem dX4_reads_149 : decode cX4_reads 149 = .ok (.aload_n 0, 1) := dk_42 (dk_at dksX4_reads_6 9 rfl rfl)
theorem dX4_reads_150 : decode cX4_reads 150 = .ok (.getfield 33, 3) := dk_180 0 33 (dk_at dksX4_reads_6 10 rfl rfl)
theorem dX4_reads_153 : decode cX4_reads 153 = .ok (.iload_n 1, 1) := dk_27 (dk_at dksX4_reads_6 13 rfl rfl)
theorem dX4_reads_154 : decode cX4_reads 154 = .ok (.iaload, 1) := dk_46 (dk_at dksX4_reads_6 14 rfl rfl)
theorem dX4_reads_155 : decode cX4_reads 155 = .ok (.invokevirtual 372, 3) := dk_182 1 116 (dk_at dksX4_reads_6 15 rfl rfl)
theorem dX4_reads_158 : decode cX4_reads 158 = .ok (.aload_n 0, 1) := dk_42 (dk_at dksX4_reads_6 18 rfl rfl)
theorem dX4_reads_159 : decode cX4_reads 159 = .ok (.iload 5, 2) := dk_21 5 (dk_at dksX4_reads_6 19 rfl rfl)
theorem dX4_reads_161 : decode cX4_reads 161 = .ok (.invokevirtual 376, 3) := dk_182 1 120 (dk_at dksX4_reads_6 21 rfl rfl)
theorem dX4_reads_164 : decode cX4_reads 164 = .ok (.ifCond .eq 28, 3) := dk_153 0 28 (dk_at dksX4_reads_7 0 rfl rfl)
theorem dX4_reads_167 : decode cX4_reads 167 = .ok (.iload_n 3, 1) := dk_29 (dk_at dksX4_reads_7 3 rfl rfl)
theorem dX4_reads_168 : decode cX4_reads 168 = .ok (.aload_n 0, 1) := dk_42 (dk_at dksX4_reads_7 4 rfl rfl)
theorem dX4_reads_169 : decode cX4_reads 169 = .ok (.getfield 100, 3) := dk_180 0 100 (dk_at dksX4_reads_7 5 rfl rfl)
theorem dX4_reads_172 : decode cX4_reads 172 = .ok (.iload 5, 2) := dk_21 5 (dk_at dksX4_reads_7 8 rfl rfl)
theorem dX4_reads_174 : decode cX4_reads 174 = .ok (.iaload, 1) := dk_46 (dk_at dksX4_reads_7 10 rfl rfl)
theorem dX4_reads_175 : decode cX4_reads 175 = .ok (.aload_n 0, 1) := dk_42 (dk_at dksX4_reads_7 11 rfl rfl)
theorem dX4_reads_176 : decode cX4_reads 176 = .ok (.iload 4, 2) := dk_21 4 (dk_at dksX4_reads_7 12 rfl rfl)
theorem dX4_reads_178 : decode cX4_reads 178 = .ok (.invokevirtual 262, 3) := dk_182 1 6 (dk_at dksX4_reads_7 14 rfl rfl)
theorem dX4_reads_181 : decode cX4_reads 181 = .ok (.iadd, 1) := dk_96 (dk_at dksX4_reads_7 17 rfl rfl)
theorem dX4_reads_182 : decode cX4_reads 182 = .ok (.aload_n 0, 1) := dk_42 (dk_at dksX4_reads_7 18 rfl rfl)
theorem dX4_reads_183 : decode cX4_reads 183 = .ok (.getfield 124, 3) := dk_180 0 124 (dk_at dksX4_reads_7 19 rfl rfl)
theorem dX4_reads_186 : decode cX4_reads 186 = .ok (.iadd, 1) := dk_96 (dk_at dksX4_reads_7 22 rfl rfl)
theorem dX4_reads_187 : decode cX4_reads 187 = .ok (.if_icmp .ge 5, 3) := dk_162 0 5 (dk_at dksX4_reads_8 0 rfl rfl)
theorem dX4_reads_190 : decode cX4_reads 190 = .ok (.iconst 3, 1) := dk_6 (dk_at dksX4_reads_8 3 rfl rfl)
theorem dX4_reads_191 : decode cX4_reads 191 = .ok (.ireturn, 1) := dk_172 (dk_at dksX4_reads_8 4 rfl rfl)
theorem dX4_reads_192 : decode cX4_reads 192 = .ok (.iinc 5 1, 3) := dk_132 5 1 (dk_at dksX4_reads_8 5 rfl rfl)
theorem dX4_reads_195 : decode cX4_reads 195 = .ok (.goto (-73), 3) := dk_167 255 183 (dk_at dksX4_reads_8 8 rfl rfl)
theorem dX4_reads_198 : decode cX4_reads 198 = .ok (.iconst 0, 1) := dk_3 (dk_at dksX4_reads_8 11 rfl rfl)
theorem dX4_reads_199 : decode cX4_reads 199 = .ok (.ireturn, 1) := dk_172 (dk_at dksX4_reads_8 12 rfl rfl)
abbrev cX4_slip : ByteArray := prog_30_method_68_code
def yX4_slip : MethodName := ⟨RX4, "slip", "(IIII)I"⟩
def dkwX4_slip_5 : List UInt8 := [181, 0, 182, 42, 180, 0, 182, 4, 100, 172]
abbrev dktX4_slip_5 : List UInt8 := dkwX4_slip_5 ++ []
def dkwX4_slip_4 : List UInt8 := [180, 0, 182, 29, 79, 42, 180, 0, 194, 42, 180, 0, 182, 21, 4, 79, 42, 89, 180, 0, 182, 4, 96]
abbrev dktX4_slip_4 : List UInt8 := dkwX4_slip_4 ++ dktX4_slip_5
def dkwX4_slip_3 : List UInt8 := [180, 0, 185, 42, 180, 0, 182, 27, 79, 42, 180, 0, 188, 42, 180, 0, 182, 28, 79, 42, 180, 0, 191, 42]
abbrev dktX4_slip_3 : List UInt8 := dkwX4_slip_3 ++ dktX4_slip_4
def dkwX4_slip_2 : List UInt8 := [182, 0, 3, 154, 0, 6, 16, 254, 172, 42, 180, 0, 182, 16, 40, 160, 0, 6, 16, 252, 172, 42]
abbrev dktX4_slip_2 : List UInt8 := dkwX4_slip_2 ++ dktX4_slip_3
def dkwX4_slip_1 : List UInt8 := [182, 0, 3, 153, 0, 26, 42, 28, 2, 16, 19, 182, 0, 3, 153, 0, 15, 42, 29, 2, 17, 7, 208]
abbrev dktX4_slip_1 : List UInt8 := dkwX4_slip_1 ++ dktX4_slip_2
def dkwX4_slip_0 : List UInt8 := [21, 4, 2, 159, 0, 14, 42, 21, 4, 182, 1, 154, 154, 0, 5, 2, 172, 42, 27, 2, 16, 99]
abbrev dktX4_slip_0 : List UInt8 := dkwX4_slip_0 ++ dktX4_slip_1
theorem dksX4_slip_0 : cX4_slip.data.toList.drop 0 = dktX4_slip_0 := by decide +kernel
theorem dksX4_slip_1 : cX4_slip.data.toList.drop 22 = dktX4_slip_1 := dk_seg dksX4_slip_0 22 rfl rfl
theorem dksX4_slip_2 : cX4_slip.data.toList.drop 45 = dktX4_slip_2 := dk_seg dksX4_slip_1 23 rfl rfl
theorem dksX4_slip_3 : cX4_slip.data.toList.drop 67 = dktX4_slip_3 := dk_seg dksX4_slip_2 22 rfl rfl
theorem dksX4_slip_4 : cX4_slip.data.toList.drop 91 = dktX4_slip_4 := dk_seg dksX4_slip_3 24 rfl rfl
theorem dksX4_slip_5 : cX4_slip.data.toList.drop 114 = dktX4_slip_5 := dk_seg dksX4_slip_4 23 rfl rfl
theorem dX4_slip_0 : decode cX4_slip 0 = .ok (.iload 4, 2) := dk_21 4 (dk_at dksX4_slip_0 0 rfl rfl)
theorem dX4_slip_2 : decode cX4_slip 2 = .ok (.iconst (-1), 1) := dk_2 (dk_at dksX4_slip_0 2 rfl rfl)
theorem dX4_slip_3 : decode cX4_slip 3 = .ok (.if_icmp .eq 14, 3) := dk_159 0 14 (dk_at dksX4_slip_0 3 rfl rfl)
theorem dX4_slip_6 : decode cX4_slip 6 = .ok (.aload_n 0, 1) := dk_42 (dk_at dksX4_slip_0 6 rfl rfl)
theorem dX4_slip_7 : decode cX4_slip 7 = .ok (.iload 4, 2) := dk_21 4 (dk_at dksX4_slip_0 7 rfl rfl)
theorem dX4_slip_9 : decode cX4_slip 9 = .ok (.invokevirtual 410, 3) := dk_182 1 154 (dk_at dksX4_slip_0 9 rfl rfl)
theorem dX4_slip_12 : decode cX4_slip 12 = .ok (.ifCond .ne 5, 3) := dk_154 0 5 (dk_at dksX4_slip_0 12 rfl rfl)
theorem dX4_slip_15 : decode cX4_slip 15 = .ok (.iconst (-1), 1) := dk_2 (dk_at dksX4_slip_0 15 rfl rfl)
theorem dX4_slip_16 : decode cX4_slip 16 = .ok (.ireturn, 1) := dk_172 (dk_at dksX4_slip_0 16 rfl rfl)
theorem dX4_slip_17 : decode cX4_slip 17 = .ok (.aload_n 0, 1) := dk_42 (dk_at dksX4_slip_0 17 rfl rfl)
theorem dX4_slip_18 : decode cX4_slip 18 = .ok (.iload_n 1, 1) := dk_27 (dk_at dksX4_slip_0 18 rfl rfl)
theorem dX4_slip_19 : decode cX4_slip 19 = .ok (.iconst (-1), 1) := dk_2 (dk_at dksX4_slip_0 19 rfl rfl)
theorem dX4_slip_20 : decode cX4_slip 20 = .ok (.bipush 99, 2) := dk_16 99 (dk_at dksX4_slip_0 20 rfl rfl)
theorem dX4_slip_22 : decode cX4_slip 22 = .ok (.invokevirtual 3, 3) := dk_182 0 3 (dk_at dksX4_slip_1 0 rfl rfl)
theorem dX4_slip_25 : decode cX4_slip 25 = .ok (.ifCond .eq 26, 3) := dk_153 0 26 (dk_at dksX4_slip_1 3 rfl rfl)
theorem dX4_slip_28 : decode cX4_slip 28 = .ok (.aload_n 0, 1) := dk_42 (dk_at dksX4_slip_1 6 rfl rfl)
theorem dX4_slip_29 : decode cX4_slip 29 = .ok (.iload_n 2, 1) := dk_28 (dk_at dksX4_slip_1 7 rfl rfl)
theorem dX4_slip_30 : decode cX4_slip 30 = .ok (.iconst (-1), 1) := dk_2 (dk_at dksX4_slip_1 8 rfl rfl)
theorem dX4_slip_31 : decode cX4_slip 31 = .ok (.bipush 19, 2) := dk_16 19 (dk_at dksX4_slip_1 9 rfl rfl)
theorem dX4_slip_33 : decode cX4_slip 33 = .ok (.invokevirtual 3, 3) := dk_182 0 3 (dk_at dksX4_slip_1 11 rfl rfl)
theorem dX4_slip_36 : decode cX4_slip 36 = .ok (.ifCond .eq 15, 3) := dk_153 0 15 (dk_at dksX4_slip_1 14 rfl rfl)
theorem dX4_slip_39 : decode cX4_slip 39 = .ok (.aload_n 0, 1) := dk_42 (dk_at dksX4_slip_1 17 rfl rfl)
theorem dX4_slip_40 : decode cX4_slip 40 = .ok (.iload_n 3, 1) := dk_29 (dk_at dksX4_slip_1 18 rfl rfl)
theorem dX4_slip_41 : decode cX4_slip 41 = .ok (.iconst (-1), 1) := dk_2 (dk_at dksX4_slip_1 19 rfl rfl)
theorem dX4_slip_42 : decode cX4_slip 42 = .ok (.sipush 2000, 3) := dk_17 7 208 (dk_at dksX4_slip_1 20 rfl rfl)
theorem dX4_slip_45 : decode cX4_slip 45 = .ok (.invokevirtual 3, 3) := dk_182 0 3 (dk_at dksX4_slip_2 0 rfl rfl)
theorem dX4_slip_48 : decode cX4_slip 48 = .ok (.ifCond .ne 6, 3) := dk_154 0 6 (dk_at dksX4_slip_2 3 rfl rfl)
theorem dX4_slip_51 : decode cX4_slip 51 = .ok (.bipush (-2), 2) := dk_16 254 (dk_at dksX4_slip_2 6 rfl rfl)
theorem dX4_slip_53 : decode cX4_slip 53 = .ok (.ireturn, 1) := dk_172 (dk_at dksX4_slip_2 8 rfl rfl)
theorem dX4_slip_54 : decode cX4_slip 54 = .ok (.aload_n 0, 1) := dk_42 (dk_at dksX4_slip_2 9 rfl rfl)
theorem dX4_slip_55 : decode cX4_slip 55 = .ok (.getfield 182, 3) := dk_180 0 182 (dk_at dksX4_slip_2 10 rfl rfl)
theorem dX4_slip_58 : decode cX4_slip 58 = .ok (.bipush 40, 2) := dk_16 40 (dk_at dksX4_slip_2 13 rfl rfl)
theorem dX4_slip_60 : decode cX4_slip 60 = .ok (.if_icmp .ne 6, 3) := dk_160 0 6 (dk_at dksX4_slip_2 15 rfl rfl)
theorem dX4_slip_63 : decode cX4_slip 63 = .ok (.bipush (-4), 2) := dk_16 252 (dk_at dksX4_slip_2 18 rfl rfl)
theorem dX4_slip_65 : decode cX4_slip 65 = .ok (.ireturn, 1) := dk_172 (dk_at dksX4_slip_2 20 rfl rfl)
theorem dX4_slip_66 : decode cX4_slip 66 = .ok (.aload_n 0, 1) := dk_42 (dk_at dksX4_slip_2 21 rfl rfl)
theorem dX4_slip_67 : decode cX4_slip 67 = .ok (.getfield 185, 3) := dk_180 0 185 (dk_at dksX4_slip_3 0 rfl rfl)
theorem dX4_slip_70 : decode cX4_slip 70 = .ok (.aload_n 0, 1) := dk_42 (dk_at dksX4_slip_3 3 rfl rfl)
theorem dX4_slip_71 : decode cX4_slip 71 = .ok (.getfield 182, 3) := dk_180 0 182 (dk_at dksX4_slip_3 4 rfl rfl)
theorem dX4_slip_74 : decode cX4_slip 74 = .ok (.iload_n 1, 1) := dk_27 (dk_at dksX4_slip_3 7 rfl rfl)
theorem dX4_slip_75 : decode cX4_slip 75 = .ok (.iastore, 1) := dk_79 (dk_at dksX4_slip_3 8 rfl rfl)
theorem dX4_slip_76 : decode cX4_slip 76 = .ok (.aload_n 0, 1) := dk_42 (dk_at dksX4_slip_3 9 rfl rfl)
theorem dX4_slip_77 : decode cX4_slip 77 = .ok (.getfield 188, 3) := dk_180 0 188 (dk_at dksX4_slip_3 10 rfl rfl)
theorem dX4_slip_80 : decode cX4_slip 80 = .ok (.aload_n 0, 1) := dk_42 (dk_at dksX4_slip_3 13 rfl rfl)
theorem dX4_slip_81 : decode cX4_slip 81 = .ok (.getfield 182, 3) := dk_180 0 182 (dk_at dksX4_slip_3 14 rfl rfl)
theorem dX4_slip_84 : decode cX4_slip 84 = .ok (.iload_n 2, 1) := dk_28 (dk_at dksX4_slip_3 17 rfl rfl)
theorem dX4_slip_85 : decode cX4_slip 85 = .ok (.iastore, 1) := dk_79 (dk_at dksX4_slip_3 18 rfl rfl)
theorem dX4_slip_86 : decode cX4_slip 86 = .ok (.aload_n 0, 1) := dk_42 (dk_at dksX4_slip_3 19 rfl rfl)
theorem dX4_slip_87 : decode cX4_slip 87 = .ok (.getfield 191, 3) := dk_180 0 191 (dk_at dksX4_slip_3 20 rfl rfl)
theorem dX4_slip_90 : decode cX4_slip 90 = .ok (.aload_n 0, 1) := dk_42 (dk_at dksX4_slip_3 23 rfl rfl)
theorem dX4_slip_91 : decode cX4_slip 91 = .ok (.getfield 182, 3) := dk_180 0 182 (dk_at dksX4_slip_4 0 rfl rfl)
theorem dX4_slip_94 : decode cX4_slip 94 = .ok (.iload_n 3, 1) := dk_29 (dk_at dksX4_slip_4 3 rfl rfl)
theorem dX4_slip_95 : decode cX4_slip 95 = .ok (.iastore, 1) := dk_79 (dk_at dksX4_slip_4 4 rfl rfl)
theorem dX4_slip_96 : decode cX4_slip 96 = .ok (.aload_n 0, 1) := dk_42 (dk_at dksX4_slip_4 5 rfl rfl)
theorem dX4_slip_97 : decode cX4_slip 97 = .ok (.getfield 194, 3) := dk_180 0 194 (dk_at dksX4_slip_4 6 rfl rfl)
theorem dX4_slip_100 : decode cX4_slip 100 = .ok (.aload_n 0, 1) := dk_42 (dk_at dksX4_slip_4 9 rfl rfl)
theorem dX4_slip_101 : decode cX4_slip 101 = .ok (.getfield 182, 3) := dk_180 0 182 (dk_at dksX4_slip_4 10 rfl rfl)
theorem dX4_slip_104 : decode cX4_slip 104 = .ok (.iload 4, 2) := dk_21 4 (dk_at dksX4_slip_4 13 rfl rfl)
theorem dX4_slip_106 : decode cX4_slip 106 = .ok (.iastore, 1) := dk_79 (dk_at dksX4_slip_4 15 rfl rfl)
theorem dX4_slip_107 : decode cX4_slip 107 = .ok (.aload_n 0, 1) := dk_42 (dk_at dksX4_slip_4 16 rfl rfl)
theorem dX4_slip_108 : decode cX4_slip 108 = .ok (.dup, 1) := dk_89 (dk_at dksX4_slip_4 17 rfl rfl)
theorem dX4_slip_109 : decode cX4_slip 109 = .ok (.getfield 182, 3) := dk_180 0 182 (dk_at dksX4_slip_4 18 rfl rfl)
theorem dX4_slip_112 : decode cX4_slip 112 = .ok (.iconst 1, 1) := dk_4 (dk_at dksX4_slip_4 21 rfl rfl)
theorem dX4_slip_113 : decode cX4_slip 113 = .ok (.iadd, 1) := dk_96 (dk_at dksX4_slip_4 22 rfl rfl)
theorem dX4_slip_114 : decode cX4_slip 114 = .ok (.putfield 182, 3) := dk_181 0 182 (dk_at dksX4_slip_5 0 rfl rfl)
theorem dX4_slip_117 : decode cX4_slip 117 = .ok (.aload_n 0, 1) := dk_42 (dk_at dksX4_slip_5 3 rfl rfl)
theorem dX4_slip_118 : decode cX4_slip 118 = .ok (.getfield 182, 3) := dk_180 0 182 (dk_at dksX4_slip_5 4 rfl rfl)
theorem dX4_slip_121 : decode cX4_slip 121 = .ok (.iconst 1, 1) := dk_4 (dk_at dksX4_slip_5 7 rfl rfl)
theorem dX4_slip_122 : decode cX4_slip 122 = .ok (.isub, 1) := dk_100 (dk_at dksX4_slip_5 8 rfl rfl)
theorem dX4_slip_123 : decode cX4_slip 123 = .ok (.ireturn, 1) := dk_172 (dk_at dksX4_slip_5 9 rfl rfl)
abbrev cX4_isSlip : ByteArray := prog_30_method_67_code
def yX4_isSlip : MethodName := ⟨RX4, "isSlip", "(I)Z"⟩
def dkwX4_isSlip_0 : List UInt8 := [42, 27, 3, 42, 180, 0, 182, 4, 100, 182, 0, 3, 172]
abbrev dktX4_isSlip_0 : List UInt8 := dkwX4_isSlip_0 ++ []
theorem dksX4_isSlip_0 : cX4_isSlip.data.toList.drop 0 = dktX4_isSlip_0 := by decide +kernel
theorem dX4_isSlip_0 : decode cX4_isSlip 0 = .ok (.aload_n 0, 1) := dk_42 (dk_at dksX4_isSlip_0 0 rfl rfl)
theorem dX4_isSlip_1 : decode cX4_isSlip 1 = .ok (.iload_n 1, 1) := dk_27 (dk_at dksX4_isSlip_0 1 rfl rfl)
theorem dX4_isSlip_2 : decode cX4_isSlip 2 = .ok (.iconst 0, 1) := dk_3 (dk_at dksX4_isSlip_0 2 rfl rfl)
theorem dX4_isSlip_3 : decode cX4_isSlip 3 = .ok (.aload_n 0, 1) := dk_42 (dk_at dksX4_isSlip_0 3 rfl rfl)
theorem dX4_isSlip_4 : decode cX4_isSlip 4 = .ok (.getfield 182, 3) := dk_180 0 182 (dk_at dksX4_isSlip_0 4 rfl rfl)
theorem dX4_isSlip_7 : decode cX4_isSlip 7 = .ok (.iconst 1, 1) := dk_4 (dk_at dksX4_isSlip_0 7 rfl rfl)
theorem dX4_isSlip_8 : decode cX4_isSlip 8 = .ok (.isub, 1) := dk_100 (dk_at dksX4_isSlip_0 8 rfl rfl)
theorem dX4_isSlip_9 : decode cX4_isSlip 9 = .ok (.invokevirtual 3, 3) := dk_182 0 3 (dk_at dksX4_isSlip_0 9 rfl rfl)
theorem dX4_isSlip_12 : decode cX4_isSlip 12 = .ok (.ireturn, 1) := dk_172 (dk_at dksX4_isSlip_0 12 rfl rfl)
abbrev cX4_means : ByteArray := prog_30_method_71_code
def yX4_means : MethodName := ⟨RX4, "means", "(II)I"⟩
def dkwX4_means_11 : List UInt8 := [167, 255, 226, 29, 172, 2, 172]
abbrev dktX4_means_11 : List UInt8 := dkwX4_means_11 ++ []
def dkwX4_means_10 : List UInt8 := [21, 4, 182, 1, 157, 153, 0, 7, 29, 167, 0, 5, 21, 4, 62, 42, 180, 0, 194, 21, 4, 46, 54, 4]
abbrev dktX4_means_10 : List UInt8 := dkwX4_means_10 ++ dktX4_means_11
def dkwX4_means_9 : List UInt8 := [42, 180, 0, 194, 21, 4, 46, 54, 4, 167, 255, 237, 21, 4, 172, 16, 251, 62, 21, 4, 155, 0, 31, 42]
abbrev dktX4_means_9 : List UInt8 := dkwX4_means_9 ++ dktX4_means_10
def dkwX4_means_8 : List UInt8 := [167, 0, 4, 3, 96, 62, 132, 5, 1, 167, 255, 226, 29, 172, 42, 180, 0, 194, 21, 4, 46, 155, 0, 15]
abbrev dktX4_means_8 : List UInt8 := dkwX4_means_8 ++ dktX4_means_9
def dkwX4_means_7 : List UInt8 := [3, 54, 5, 21, 5, 42, 180, 0, 182, 162, 0, 27, 29, 42, 21, 5, 27, 182, 1, 160, 153, 0, 7, 4]
abbrev dktX4_means_7 : List UInt8 := dkwX4_means_7 ++ dktX4_means_8
def dkwX4_means_6 : List UInt8 := [128, 62, 132, 5, 1, 167, 255, 162, 29, 172, 42, 27, 182, 1, 157, 153, 0, 7, 4, 167, 0, 4, 3, 172]
abbrev dktX4_means_6 : List UInt8 := dkwX4_means_6 ++ dktX4_means_7
def dkwX4_means_5 : List UInt8 := [155, 0, 19, 42, 180, 0, 42, 21, 5, 46, 42, 180, 0, 191, 27, 46, 160, 0, 10, 29, 4, 21, 5, 120]
abbrev dktX4_means_5 : List UInt8 := dkwX4_means_5 ++ dktX4_means_6
def dkwX4_means_4 : List UInt8 := [42, 180, 0, 39, 21, 5, 46, 42, 180, 0, 188, 27, 46, 160, 0, 35, 42, 180, 0, 191, 27, 46]
abbrev dktX4_means_4 : List UInt8 := dkwX4_means_4 ++ dktX4_means_5
def dkwX4_means_3 : List UInt8 := [180, 0, 36, 21, 5, 46, 42, 180, 0, 185, 27, 46, 160, 0, 60, 42, 180, 0, 188, 27, 46, 155, 0, 19]
abbrev dktX4_means_3 : List UInt8 := dkwX4_means_3 ++ dktX4_means_4
def dkwX4_means_2 : List UInt8 := [3, 54, 5, 21, 5, 42, 180, 0, 20, 162, 0, 91, 42, 180, 0, 185, 27, 46, 155, 0, 19, 42]
abbrev dktX4_means_2 : List UInt8 := dkwX4_means_2 ++ dktX4_means_3
def dkwX4_means_1 : List UInt8 := [170, 0, 0, 0, 0, 0, 0, 253, 0, 0, 0, 0, 0, 0, 0, 4, 0, 0, 0, 36, 0, 0, 0, 138, 0, 0, 0, 152, 0, 0, 0, 190, 0, 0, 0, 215]
abbrev dktX4_means_1 : List UInt8 := dkwX4_means_1 ++ dktX4_means_2
def dkwX4_means_0 : List UInt8 := [42, 27, 182, 1, 154, 154, 0, 5, 2, 172, 3, 62, 27, 54, 4, 28]
abbrev dktX4_means_0 : List UInt8 := dkwX4_means_0 ++ dktX4_means_1
theorem dksX4_means_0 : cX4_means.data.toList.drop 0 = dktX4_means_0 := by decide +kernel
theorem dksX4_means_1 : cX4_means.data.toList.drop 16 = dktX4_means_1 := dk_seg dksX4_means_0 16 rfl rfl
theorem dksX4_means_2 : cX4_means.data.toList.drop 52 = dktX4_means_2 := dk_seg dksX4_means_1 36 rfl rfl
theorem dksX4_means_3 : cX4_means.data.toList.drop 74 = dktX4_means_3 := dk_seg dksX4_means_2 22 rfl rfl
theorem dksX4_means_4 : cX4_means.data.toList.drop 98 = dktX4_means_4 := dk_seg dksX4_means_3 24 rfl rfl
theorem dksX4_means_5 : cX4_means.data.toList.drop 120 = dktX4_means_5 := dk_seg dksX4_means_4 22 rfl rfl
theorem dksX4_means_6 : cX4_means.data.toList.drop 144 = dktX4_means_6 := dk_seg dksX4_means_5 24 rfl rfl
theorem dksX4_means_7 : cX4_means.data.toList.drop 168 = dktX4_means_7 := dk_seg dksX4_means_6 24 rfl rfl
theorem dksX4_means_8 : cX4_means.data.toList.drop 192 = dktX4_means_8 := dk_seg dksX4_means_7 24 rfl rfl
theorem dksX4_means_9 : cX4_means.data.toList.drop 216 = dktX4_means_9 := dk_seg dksX4_means_8 24 rfl rfl
theorem dksX4_means_10 : cX4_means.data.toList.drop 240 = dktX4_means_10 := dk_seg dksX4_means_9 24 rfl rfl
theorem dksX4_means_11 : cX4_means.data.toList.drop 264 = dktX4_means_11 := dk_seg dksX4_means_10 24 rfl rfl
theorem dX4_means_0 : decode cX4_means 0 = .ok (.aload_n 0, 1) := dk_42 (dk_at dksX4_means_0 0 rfl rfl)
theorem dX4_means_1 : decode cX4_means 1 = .ok (.iload_n 1, 1) := dk_27 (dk_at dksX4_means_0 1 rfl rfl)
theorem dX4_means_2 : decode cX4_means 2 = .ok (.invokevirtual 410, 3) := dk_182 1 154 (dk_at dksX4_means_0 2 rfl rfl)
theorem dX4_means_5 : decode cX4_means 5 = .ok (.ifCond .ne 5, 3) := dk_154 0 5 (dk_at dksX4_means_0 5 rfl rfl)
theorem dX4_means_8 : decode cX4_means 8 = .ok (.iconst (-1), 1) := dk_2 (dk_at dksX4_means_0 8 rfl rfl)
theorem dX4_means_9 : decode cX4_means 9 = .ok (.ireturn, 1) := dk_172 (dk_at dksX4_means_0 9 rfl rfl)
theorem dX4_means_10 : decode cX4_means 10 = .ok (.iconst 0, 1) := dk_3 (dk_at dksX4_means_0 10 rfl rfl)
theorem dX4_means_11 : decode cX4_means 11 = .ok (.istore_n 3, 1) := dk_62 (dk_at dksX4_means_0 11 rfl rfl)
theorem dX4_means_12 : decode cX4_means 12 = .ok (.iload_n 1, 1) := dk_27 (dk_at dksX4_means_0 12 rfl rfl)
theorem dX4_means_13 : decode cX4_means 13 = .ok (.istore 4, 2) := dk_54 4 (dk_at dksX4_means_0 13 rfl rfl)
theorem dX4_means_15 : decode cX4_means 15 = .ok (.iload_n 2, 1) := dk_28 (dk_at dksX4_means_0 15 rfl rfl)
theorem dX4_means_16 : decode cX4_means 16 = .ok (.tableswitch 253 0 4 #[36, 138, 152, 190, 215], 36) := by decide +kernel
theorem dX4_means_52 : decode cX4_means 52 = .ok (.iconst 0, 1) := dk_3 (dk_at dksX4_means_2 0 rfl rfl)
theorem dX4_means_53 : decode cX4_means 53 = .ok (.istore 5, 2) := dk_54 5 (dk_at dksX4_means_2 1 rfl rfl)
theorem dX4_means_55 : decode cX4_means 55 = .ok (.iload 5, 2) := dk_21 5 (dk_at dksX4_means_2 3 rfl rfl)
theorem dX4_means_57 : decode cX4_means 57 = .ok (.aload_n 0, 1) := dk_42 (dk_at dksX4_means_2 5 rfl rfl)
theorem dX4_means_58 : decode cX4_means 58 = .ok (.getfield 20, 3) := dk_180 0 20 (dk_at dksX4_means_2 6 rfl rfl)
theorem dX4_means_61 : decode cX4_means 61 = .ok (.if_icmp .ge 91, 3) := dk_162 0 91 (dk_at dksX4_means_2 9 rfl rfl)
theorem dX4_means_64 : decode cX4_means 64 = .ok (.aload_n 0, 1) := dk_42 (dk_at dksX4_means_2 12 rfl rfl)
theorem dX4_means_65 : decode cX4_means 65 = .ok (.getfield 185, 3) := dk_180 0 185 (dk_at dksX4_means_2 13 rfl rfl)
theorem dX4_means_68 : decode cX4_means 68 = .ok (.iload_n 1, 1) := dk_27 (dk_at dksX4_means_2 16 rfl rfl)
theorem dX4_means_69 : decode cX4_means 69 = .ok (.iaload, 1) := dk_46 (dk_at dksX4_means_2 17 rfl rfl)
theorem dX4_means_70 : decode cX4_means 70 = .ok (.ifCond .lt 19, 3) := dk_155 0 19 (dk_at dksX4_means_2 18 rfl rfl)
theorem dX4_means_73 : decode cX4_means 73 = .ok (.aload_n 0, 1) := dk_42 (dk_at dksX4_means_2 21 rfl rfl)
theorem dX4_means_74 : decode cX4_means 74 = .ok (.getfield 36, 3) := dk_180 0 36 (dk_at dksX4_means_3 0 rfl rfl)
theorem dX4_means_77 : decode cX4_means 77 = .ok (.iload 5, 2) := dk_21 5 (dk_at dksX4_means_3 3 rfl rfl)
theorem dX4_means_79 : decode cX4_means 79 = .ok (.iaload, 1) := dk_46 (dk_at dksX4_means_3 5 rfl rfl)
theorem dX4_means_80 : decode cX4_means 80 = .ok (.aload_n 0, 1) := dk_42 (dk_at dksX4_means_3 6 rfl rfl)
theorem dX4_means_81 : decode cX4_means 81 = .ok (.getfield 185, 3) := dk_180 0 185 (dk_at dksX4_means_3 7 rfl rfl)
theorem dX4_means_84 : decode cX4_means 84 = .ok (.iload_n 1, 1) := dk_27 (dk_at dksX4_means_3 10 rfl rfl)
theorem dX4_means_85 : decode cX4_means 85 = .ok (.iaload, 1) := dk_46 (dk_at dksX4_means_3 11 rfl rfl)
theorem dX4_means_86 : decode cX4_means 86 = .ok (.if_icmp .ne 60, 3) := dk_160 0 60 (dk_at dksX4_means_3 12 rfl rfl)
theorem dX4_means_89 : decode cX4_means 89 = .ok (.aload_n 0, 1) := dk_42 (dk_at dksX4_means_3 15 rfl rfl)
theorem dX4_means_90 : decode cX4_means 90 = .ok (.getfield 188, 3) := dk_180 0 188 (dk_at dksX4_means_3 16 rfl rfl)
theorem dX4_means_93 : decode cX4_means 93 = .ok (.iload_n 1, 1) := dk_27 (dk_at dksX4_means_3 19 rfl rfl)
theorem dX4_means_94 : decode cX4_means 94 = .ok (.iaload, 1) := dk_46 (dk_at dksX4_means_3 20 rfl rfl)
theorem dX4_means_95 : decode cX4_means 95 = .ok (.ifCond .lt 19, 3) := dk_155 0 19 (dk_at dksX4_means_3 21 rfl rfl)
theorem dX4_means_98 : decode cX4_means 98 = .ok (.aload_n 0, 1) := dk_42 (dk_at dksX4_means_4 0 rfl rfl)
theorem dX4_means_99 : decode cX4_means 99 = .ok (.getfield 39, 3) := dk_180 0 39 (dk_at dksX4_means_4 1 rfl rfl)
theorem dX4_means_102 : decode cX4_means 102 = .ok (.iload 5, 2) := dk_21 5 (dk_at dksX4_means_4 4 rfl rfl)
theorem dX4_means_104 : decode cX4_means 104 = .ok (.iaload, 1) := dk_46 (dk_at dksX4_means_4 6 rfl rfl)
theorem dX4_means_105 : decode cX4_means 105 = .ok (.aload_n 0, 1) := dk_42 (dk_at dksX4_means_4 7 rfl rfl)
theorem dX4_means_106 : decode cX4_means 106 = .ok (.getfield 188, 3) := dk_180 0 188 (dk_at dksX4_means_4 8 rfl rfl)
theorem dX4_means_109 : decode cX4_means 109 = .ok (.iload_n 1, 1) := dk_27 (dk_at dksX4_means_4 11 rfl rfl)
theorem dX4_means_110 : decode cX4_means 110 = .ok (.iaload, 1) := dk_46 (dk_at dksX4_means_4 12 rfl rfl)
theorem dX4_means_111 : decode cX4_means 111 = .ok (.if_icmp .ne 35, 3) := dk_160 0 35 (dk_at dksX4_means_4 13 rfl rfl)
theorem dX4_means_114 : decode cX4_means 114 = .ok (.aload_n 0, 1) := dk_42 (dk_at dksX4_means_4 16 rfl rfl)
theorem dX4_means_115 : decode cX4_means 115 = .ok (.getfield 191, 3) := dk_180 0 191 (dk_at dksX4_means_4 17 rfl rfl)
theorem dX4_means_118 : decode cX4_means 118 = .ok (.iload_n 1, 1) := dk_27 (dk_at dksX4_means_4 20 rfl rfl)
theorem dX4_means_119 : decode cX4_means 119 = .ok (.iaload, 1) := dk_46 (dk_at dksX4_means_4 21 rfl rfl)
theorem dX4_means_120 : decode cX4_means 120 = .ok (.ifCond .lt 19, 3) := dk_155 0 19 (dk_at dksX4_means_5 0 rfl rfl)
theorem dX4_means_123 : decode cX4_means 123 = .ok (.aload_n 0, 1) := dk_42 (dk_at dksX4_means_5 3 rfl rfl)
theorem dX4_means_124 : decode cX4_means 124 = .ok (.getfield 42, 3) := dk_180 0 42 (dk_at dksX4_means_5 4 rfl rfl)
theorem dX4_means_127 : decode cX4_means 127 = .ok (.iload 5, 2) := dk_21 5 (dk_at dksX4_means_5 7 rfl rfl)
theorem dX4_means_129 : decode cX4_means 129 = .ok (.iaload, 1) := dk_46 (dk_at dksX4_means_5 9 rfl rfl)
theorem dX4_means_130 : decode cX4_means 130 = .ok (.aload_n 0, 1) := dk_42 (dk_at dksX4_means_5 10 rfl rfl)
theorem dX4_means_131 : decode cX4_means 131 = .ok (.getfield 191, 3) := dk_180 0 191 (dk_at dksX4_means_5 11 rfl rfl)
theorem dX4_means_134 : decode cX4_means 134 = .ok (.iload_n 1, 1) := dk_27 (dk_at dksX4_means_5 14 rfl rfl)
theorem dX4_means_135 : decode cX4_means 135 = .ok (.iaload, 1) := dk_46 (dk_at dksX4_means_5 15 rfl rfl)
theorem dX4_means_136 : decode cX4_means 136 = .ok (.if_icmp .ne 10, 3) := dk_160 0 10 (dk_at dksX4_means_5 16 rfl rfl)
theorem dX4_means_139 : decode cX4_means 139 = .ok (.iload_n 3, 1) := dk_29 (dk_at dksX4_means_5 19 rfl rfl)
theorem dX4_means_140 : decode cX4_means 140 = .ok (.iconst 1, 1) := dk_4 (dk_at dksX4_means_5 20 rfl rfl)
theorem dX4_means_141 : decode cX4_means 141 = .ok (.iload 5, 2) := dk_21 5 (dk_at dksX4_means_5 21 rfl rfl)
theorem dX4_means_143 : decode cX4_means 143 = .ok (.ishl, 1) := dk_120 (dk_at dksX4_means_5 23 rfl rfl)
theorem dX4_means_144 : decode cX4_means 144 = .ok (.ior, 1) := dk_128 (dk_at dksX4_means_6 0 rfl rfl)
theorem dX4_means_145 : decode cX4_means 145 = .ok (.istore_n 3, 1) := dk_62 (dk_at dksX4_means_6 1 rfl rfl)
theorem dX4_means_146 : decode cX4_means 146 = .ok (.iinc 5 1, 3) := dk_132 5 1 (dk_at dksX4_means_6 2 rfl rfl)
theorem dX4_means_149 : decode cX4_means 149 = .ok (.goto (-94), 3) := dk_167 255 162 (dk_at dksX4_means_6 5 rfl rfl)
theorem dX4_means_152 : decode cX4_means 152 = .ok (.iload_n 3, 1) := dk_29 (dk_at dksX4_means_6 8 rfl rfl)
theorem dX4_means_153 : decode cX4_means 153 = .ok (.ireturn, 1) := dk_172 (dk_at dksX4_means_6 9 rfl rfl)
theorem dX4_means_154 : decode cX4_means 154 = .ok (.aload_n 0, 1) := dk_42 (dk_at dksX4_means_6 10 rfl rfl)
theorem dX4_means_155 : decode cX4_means 155 = .ok (.iload_n 1, 1) := dk_27 (dk_at dksX4_means_6 11 rfl rfl)
theorem dX4_means_156 : decode cX4_means 156 = .ok (.invokevirtual 413, 3) := dk_182 1 157 (dk_at dksX4_means_6 12 rfl rfl)
theorem dX4_means_159 : decode cX4_means 159 = .ok (.ifCond .eq 7, 3) := dk_153 0 7 (dk_at dksX4_means_6 15 rfl rfl)
theorem dX4_means_162 : decode cX4_means 162 = .ok (.iconst 1, 1) := dk_4 (dk_at dksX4_means_6 18 rfl rfl)
theorem dX4_means_163 : decode cX4_means 163 = .ok (.goto 4, 3) := dk_167 0 4 (dk_at dksX4_means_6 19 rfl rfl)
theorem dX4_means_166 : decode cX4_means 166 = .ok (.iconst 0, 1) := dk_3 (dk_at dksX4_means_6 22 rfl rfl)
theorem dX4_means_167 : decode cX4_means 167 = .ok (.ireturn, 1) := dk_172 (dk_at dksX4_means_6 23 rfl rfl)
theorem dX4_means_168 : decode cX4_means 168 = .ok (.iconst 0, 1) := dk_3 (dk_at dksX4_means_7 0 rfl rfl)
theorem dX4_means_169 : decode cX4_means 169 = .ok (.istore 5, 2) := dk_54 5 (dk_at dksX4_means_7 1 rfl rfl)
theorem dX4_means_171 : decode cX4_means 171 = .ok (.iload 5, 2) := dk_21 5 (dk_at dksX4_means_7 3 rfl rfl)
theorem dX4_means_173 : decode cX4_means 173 = .ok (.aload_n 0, 1) := dk_42 (dk_at dksX4_means_7 5 rfl rfl)
theorem dX4_means_174 : decode cX4_means 174 = .ok (.getfield 182, 3) := dk_180 0 182 (dk_at dksX4_means_7 6 rfl rfl)
theorem dX4_means_177 : decode cX4_means 177 = .ok (.if_icmp .ge 27, 3) := dk_162 0 27 (dk_at dksX4_means_7 9 rfl rfl)
theorem dX4_means_180 : decode cX4_means 180 = .ok (.iload_n 3, 1) := dk_29 (dk_at dksX4_means_7 12 rfl rfl)
theorem dX4_means_181 : decode cX4_means 181 = .ok (.aload_n 0, 1) := dk_42 (dk_at dksX4_means_7 13 rfl rfl)
theorem dX4_means_182 : decode cX4_means 182 = .ok (.iload 5, 2) := dk_21 5 (dk_at dksX4_means_7 14 rfl rfl)
theorem dX4_means_184 : decode cX4_means 184 = .ok (.iload_n 1, 1) := dk_27 (dk_at dksX4_means_7 16 rfl rfl)
theorem dX4_means_185 : decode cX4_means 185 = .ok (.invokevirtual 416, 3) := dk_182 1 160 (dk_at dksX4_means_7 17 rfl rfl)
theorem dX4_means_188 : decode cX4_means 188 = .ok (.ifCond .eq 7, 3) := dk_153 0 7 (dk_at dksX4_means_7 20 rfl rfl)
theorem dX4_means_191 : decode cX4_means 191 = .ok (.iconst 1, 1) := dk_4 (dk_at dksX4_means_7 23 rfl rfl)
theorem dX4_means_192 : decode cX4_means 192 = .ok (.goto 4, 3) := dk_167 0 4 (dk_at dksX4_means_8 0 rfl rfl)
theorem dX4_means_195 : decode cX4_means 195 = .ok (.iconst 0, 1) := dk_3 (dk_at dksX4_means_8 3 rfl rfl)
theorem dX4_means_196 : decode cX4_means 196 = .ok (.iadd, 1) := dk_96 (dk_at dksX4_means_8 4 rfl rfl)
theorem dX4_means_197 : decode cX4_means 197 = .ok (.istore_n 3, 1) := dk_62 (dk_at dksX4_means_8 5 rfl rfl)
theorem dX4_means_198 : decode cX4_means 198 = .ok (.iinc 5 1, 3) := dk_132 5 1 (dk_at dksX4_means_8 6 rfl rfl)
theorem dX4_means_201 : decode cX4_means 201 = .ok (.goto (-30), 3) := dk_167 255 226 (dk_at dksX4_means_8 9 rfl rfl)
theorem dX4_means_204 : decode cX4_means 204 = .ok (.iload_n 3, 1) := dk_29 (dk_at dksX4_means_8 12 rfl rfl)
theorem dX4_means_205 : decode cX4_means 205 = .ok (.ireturn, 1) := dk_172 (dk_at dksX4_means_8 13 rfl rfl)
theorem dX4_means_206 : decode cX4_means 206 = .ok (.aload_n 0, 1) := dk_42 (dk_at dksX4_means_8 14 rfl rfl)
theorem dX4_means_207 : decode cX4_means 207 = .ok (.getfield 194, 3) := dk_180 0 194 (dk_at dksX4_means_8 15 rfl rfl)
theorem dX4_means_210 : decode cX4_means 210 = .ok (.iload 4, 2) := dk_21 4 (dk_at dksX4_means_8 18 rfl rfl)
theorem dX4_means_212 : decode cX4_means 212 = .ok (.iaload, 1) := dk_46 (dk_at dksX4_means_8 20 rfl rfl)
theorem dX4_means_213 : decode cX4_means 213 = .ok (.ifCond .lt 15, 3) := dk_155 0 15 (dk_at dksX4_means_8 21 rfl rfl)
theorem dX4_means_216 : decode cX4_means 216 = .ok (.aload_n 0, 1) := dk_42 (dk_at dksX4_means_9 0 rfl rfl)
theorem dX4_means_217 : decode cX4_means 217 = .ok (.getfield 194, 3) := dk_180 0 194 (dk_at dksX4_means_9 1 rfl rfl)
theorem dX4_means_220 : decode cX4_means 220 = .ok (.iload 4, 2) := dk_21 4 (dk_at dksX4_means_9 4 rfl rfl)
theorem dX4_means_222 : decode cX4_means 222 = .ok (.iaload, 1) := dk_46 (dk_at dksX4_means_9 6 rfl rfl)
theorem dX4_means_223 : decode cX4_means 223 = .ok (.istore 4, 2) := dk_54 4 (dk_at dksX4_means_9 7 rfl rfl)
theorem dX4_means_225 : decode cX4_means 225 = .ok (.goto (-19), 3) := dk_167 255 237 (dk_at dksX4_means_9 9 rfl rfl)
theorem dX4_means_228 : decode cX4_means 228 = .ok (.iload 4, 2) := dk_21 4 (dk_at dksX4_means_9 12 rfl rfl)
theorem dX4_means_230 : decode cX4_means 230 = .ok (.ireturn, 1) := dk_172 (dk_at dksX4_means_9 14 rfl rfl)
theorem dX4_means_231 : decode cX4_means 231 = .ok (.bipush (-5), 2) := dk_16 251 (dk_at dksX4_means_9 15 rfl rfl)
theorem dX4_means_233 : decode cX4_means 233 = .ok (.istore_n 3, 1) := dk_62 (dk_at dksX4_means_9 17 rfl rfl)
theorem dX4_means_234 : decode cX4_means 234 = .ok (.iload 4, 2) := dk_21 4 (dk_at dksX4_means_9 18 rfl rfl)
theorem dX4_means_236 : decode cX4_means 236 = .ok (.ifCond .lt 31, 3) := dk_155 0 31 (dk_at dksX4_means_9 20 rfl rfl)
theorem dX4_means_239 : decode cX4_means 239 = .ok (.aload_n 0, 1) := dk_42 (dk_at dksX4_means_9 23 rfl rfl)
theorem dX4_means_240 : decode cX4_means 240 = .ok (.iload 4, 2) := dk_21 4 (dk_at dksX4_means_10 0 rfl rfl)
theorem dX4_means_242 : decode cX4_means 242 = .ok (.invokevirtual 413, 3) := dk_182 1 157 (dk_at dksX4_means_10 2 rfl rfl)
theorem dX4_means_245 : decode cX4_means 245 = .ok (.ifCond .eq 7, 3) := dk_153 0 7 (dk_at dksX4_means_10 5 rfl rfl)
theorem dX4_means_248 : decode cX4_means 248 = .ok (.iload_n 3, 1) := dk_29 (dk_at dksX4_means_10 8 rfl rfl)
theorem dX4_means_249 : decode cX4_means 249 = .ok (.goto 5, 3) := dk_167 0 5 (dk_at dksX4_means_10 9 rfl rfl)
theorem dX4_means_252 : decode cX4_means 252 = .ok (.iload 4, 2) := dk_21 4 (dk_at dksX4_means_10 12 rfl rfl)
theorem dX4_means_254 : decode cX4_means 254 = .ok (.istore_n 3, 1) := dk_62 (dk_at dksX4_means_10 14 rfl rfl)
theorem dX4_means_255 : decode cX4_means 255 = .ok (.aload_n 0, 1) := dk_42 (dk_at dksX4_means_10 15 rfl rfl)
theorem dX4_means_256 : decode cX4_means 256 = .ok (.getfield 194, 3) := dk_180 0 194 (dk_at dksX4_means_10 16 rfl rfl)
theorem dX4_means_259 : decode cX4_means 259 = .ok (.iload 4, 2) := dk_21 4 (dk_at dksX4_means_10 19 rfl rfl)
theorem dX4_means_261 : decode cX4_means 261 = .ok (.iaload, 1) := dk_46 (dk_at dksX4_means_10 21 rfl rfl)
theorem dX4_means_262 : decode cX4_means 262 = .ok (.istore 4, 2) := dk_54 4 (dk_at dksX4_means_10 22 rfl rfl)
theorem dX4_means_264 : decode cX4_means 264 = .ok (.goto (-30), 3) := dk_167 255 226 (dk_at dksX4_means_11 0 rfl rfl)
theorem dX4_means_267 : decode cX4_means 267 = .ok (.iload_n 3, 1) := dk_29 (dk_at dksX4_means_11 3 rfl rfl)
theorem dX4_means_268 : decode cX4_means 268 = .ok (.ireturn, 1) := dk_172 (dk_at dksX4_means_11 4 rfl rfl)
theorem dX4_means_269 : decode cX4_means 269 = .ok (.iconst (-1), 1) := dk_2 (dk_at dksX4_means_11 5 rfl rfl)
theorem dX4_means_270 : decode cX4_means 270 = .ok (.ireturn, 1) := dk_172 (dk_at dksX4_means_11 6 rfl rfl)
abbrev cX4_isTrue : ByteArray := prog_30_method_69_code
def yX4_isTrue : MethodName := ⟨RX4, "isTrue", "(I)Z"⟩
def dkwX4_isTrue_2 : List UInt8 := [42, 180, 0, 191, 27, 46, 160, 0, 7, 4, 167, 0, 4, 3, 172]
abbrev dktX4_isTrue_2 : List UInt8 := dkwX4_isTrue_2 ++ []
def dkwX4_isTrue_1 : List UInt8 := [160, 0, 37, 42, 180, 0, 188, 28, 46, 42, 180, 0, 188, 27, 46, 160, 0, 22, 42, 180, 0, 191, 28, 46]
abbrev dktX4_isTrue_1 : List UInt8 := dkwX4_isTrue_1 ++ dktX4_isTrue_2
def dkwX4_isTrue_0 : List UInt8 := [42, 180, 0, 194, 27, 46, 61, 28, 155, 0, 48, 42, 180, 0, 185, 28, 46, 42, 180, 0, 185, 27, 46]
abbrev dktX4_isTrue_0 : List UInt8 := dkwX4_isTrue_0 ++ dktX4_isTrue_1
theorem dksX4_isTrue_0 : cX4_isTrue.data.toList.drop 0 = dktX4_isTrue_0 := by decide +kernel
theorem dksX4_isTrue_1 : cX4_isTrue.data.toList.drop 23 = dktX4_isTrue_1 := dk_seg dksX4_isTrue_0 23 rfl rfl
theorem dksX4_isTrue_2 : cX4_isTrue.data.toList.drop 47 = dktX4_isTrue_2 := dk_seg dksX4_isTrue_1 24 rfl rfl
theorem dX4_isTrue_0 : decode cX4_isTrue 0 = .ok (.aload_n 0, 1) := dk_42 (dk_at dksX4_isTrue_0 0 rfl rfl)
theorem dX4_isTrue_1 : decode cX4_isTrue 1 = .ok (.getfield 194, 3) := dk_180 0 194 (dk_at dksX4_isTrue_0 1 rfl rfl)
theorem dX4_isTrue_4 : decode cX4_isTrue 4 = .ok (.iload_n 1, 1) := dk_27 (dk_at dksX4_isTrue_0 4 rfl rfl)
theorem dX4_isTrue_5 : decode cX4_isTrue 5 = .ok (.iaload, 1) := dk_46 (dk_at dksX4_isTrue_0 5 rfl rfl)
theorem dX4_isTrue_6 : decode cX4_isTrue 6 = .ok (.istore_n 2, 1) := dk_61 (dk_at dksX4_isTrue_0 6 rfl rfl)
theorem dX4_isTrue_7 : decode cX4_isTrue 7 = .ok (.iload_n 2, 1) := dk_28 (dk_at dksX4_isTrue_0 7 rfl rfl)
theorem dX4_isTrue_8 : decode cX4_isTrue 8 = .ok (.ifCond .lt 48, 3) := dk_155 0 48 (dk_at dksX4_isTrue_0 8 rfl rfl)
theorem dX4_isTrue_11 : decode cX4_isTrue 11 = .ok (.aload_n 0, 1) := dk_42 (dk_at dksX4_isTrue_0 11 rfl rfl)
theorem dX4_isTrue_12 : decode cX4_isTrue 12 = .ok (.getfield 185, 3) := dk_180 0 185 (dk_at dksX4_isTrue_0 12 rfl rfl)
theorem dX4_isTrue_15 : decode cX4_isTrue 15 = .ok (.iload_n 2, 1) := dk_28 (dk_at dksX4_isTrue_0 15 rfl rfl)
theorem dX4_isTrue_16 : decode cX4_isTrue 16 = .ok (.iaload, 1) := dk_46 (dk_at dksX4_isTrue_0 16 rfl rfl)
theorem dX4_isTrue_17 : decode cX4_isTrue 17 = .ok (.aload_n 0, 1) := dk_42 (dk_at dksX4_isTrue_0 17 rfl rfl)
theorem dX4_isTrue_18 : decode cX4_isTrue 18 = .ok (.getfield 185, 3) := dk_180 0 185 (dk_at dksX4_isTrue_0 18 rfl rfl)
theorem dX4_isTrue_21 : decode cX4_isTrue 21 = .ok (.iload_n 1, 1) := dk_27 (dk_at dksX4_isTrue_0 21 rfl rfl)
theorem dX4_isTrue_22 : decode cX4_isTrue 22 = .ok (.iaload, 1) := dk_46 (dk_at dksX4_isTrue_0 22 rfl rfl)
theorem dX4_isTrue_23 : decode cX4_isTrue 23 = .ok (.if_icmp .ne 37, 3) := dk_160 0 37 (dk_at dksX4_isTrue_1 0 rfl rfl)
theorem dX4_isTrue_26 : decode cX4_isTrue 26 = .ok (.aload_n 0, 1) := dk_42 (dk_at dksX4_isTrue_1 3 rfl rfl)
theorem dX4_isTrue_27 : decode cX4_isTrue 27 = .ok (.getfield 188, 3) := dk_180 0 188 (dk_at dksX4_isTrue_1 4 rfl rfl)
theorem dX4_isTrue_30 : decode cX4_isTrue 30 = .ok (.iload_n 2, 1) := dk_28 (dk_at dksX4_isTrue_1 7 rfl rfl)
theorem dX4_isTrue_31 : decode cX4_isTrue 31 = .ok (.iaload, 1) := dk_46 (dk_at dksX4_isTrue_1 8 rfl rfl)
theorem dX4_isTrue_32 : decode cX4_isTrue 32 = .ok (.aload_n 0, 1) := dk_42 (dk_at dksX4_isTrue_1 9 rfl rfl)
theorem dX4_isTrue_33 : decode cX4_isTrue 33 = .ok (.getfield 188, 3) := dk_180 0 188 (dk_at dksX4_isTrue_1 10 rfl rfl)
theorem dX4_isTrue_36 : decode cX4_isTrue 36 = .ok (.iload_n 1, 1) := dk_27 (dk_at dksX4_isTrue_1 13 rfl rfl)
theorem dX4_isTrue_37 : decode cX4_isTrue 37 = .ok (.iaload, 1) := dk_46 (dk_at dksX4_isTrue_1 14 rfl rfl)
theorem dX4_isTrue_38 : decode cX4_isTrue 38 = .ok (.if_icmp .ne 22, 3) := dk_160 0 22 (dk_at dksX4_isTrue_1 15 rfl rfl)
theorem dX4_isTrue_41 : decode cX4_isTrue 41 = .ok (.aload_n 0, 1) := dk_42 (dk_at dksX4_isTrue_1 18 rfl rfl)
theorem dX4_isTrue_42 : decode cX4_isTrue 42 = .ok (.getfield 191, 3) := dk_180 0 191 (dk_at dksX4_isTrue_1 19 rfl rfl)
theorem dX4_isTrue_45 : decode cX4_isTrue 45 = .ok (.iload_n 2, 1) := dk_28 (dk_at dksX4_isTrue_1 22 rfl rfl)
theorem dX4_isTrue_46 : decode cX4_isTrue 46 = .ok (.iaload, 1) := dk_46 (dk_at dksX4_isTrue_1 23 rfl rfl)
theorem dX4_isTrue_47 : decode cX4_isTrue 47 = .ok (.aload_n 0, 1) := dk_42 (dk_at dksX4_isTrue_2 0 rfl rfl)
theorem dX4_isTrue_48 : decode cX4_isTrue 48 = .ok (.getfield 191, 3) := dk_180 0 191 (dk_at dksX4_isTrue_2 1 rfl rfl)
theorem dX4_isTrue_51 : decode cX4_isTrue 51 = .ok (.iload_n 1, 1) := dk_27 (dk_at dksX4_isTrue_2 4 rfl rfl)
theorem dX4_isTrue_52 : decode cX4_isTrue 52 = .ok (.iaload, 1) := dk_46 (dk_at dksX4_isTrue_2 5 rfl rfl)
theorem dX4_isTrue_53 : decode cX4_isTrue 53 = .ok (.if_icmp .ne 7, 3) := dk_160 0 7 (dk_at dksX4_isTrue_2 6 rfl rfl)
theorem dX4_isTrue_56 : decode cX4_isTrue 56 = .ok (.iconst 1, 1) := dk_4 (dk_at dksX4_isTrue_2 9 rfl rfl)
theorem dX4_isTrue_57 : decode cX4_isTrue 57 = .ok (.goto 4, 3) := dk_167 0 4 (dk_at dksX4_isTrue_2 10 rfl rfl)
theorem dX4_isTrue_60 : decode cX4_isTrue 60 = .ok (.iconst 0, 1) := dk_3 (dk_at dksX4_isTrue_2 13 rfl rfl)
theorem dX4_isTrue_61 : decode cX4_isTrue 61 = .ok (.ireturn, 1) := dk_172 (dk_at dksX4_isTrue_2 14 rfl rfl)
abbrev cX4_hangsOn : ByteArray := prog_30_method_70_code
def yX4_hangsOn : MethodName := ⟨RX4, "hangsOn", "(II)Z"⟩
def dkwX4_hangsOn_1 : List UInt8 := [167, 255, 240, 29, 28, 160, 0, 7, 4, 167, 0, 4, 3, 172]
abbrev dktX4_hangsOn_1 : List UInt8 := dkwX4_hangsOn_1 ++ []
def dkwX4_hangsOn_0 : List UInt8 := [42, 180, 0, 194, 27, 46, 62, 29, 155, 0, 18, 29, 28, 159, 0, 13, 42, 180, 0, 194, 29, 46, 62]
abbrev dktX4_hangsOn_0 : List UInt8 := dkwX4_hangsOn_0 ++ dktX4_hangsOn_1
theorem dksX4_hangsOn_0 : cX4_hangsOn.data.toList.drop 0 = dktX4_hangsOn_0 := by decide +kernel
theorem dksX4_hangsOn_1 : cX4_hangsOn.data.toList.drop 23 = dktX4_hangsOn_1 := dk_seg dksX4_hangsOn_0 23 rfl rfl
theorem dX4_hangsOn_0 : decode cX4_hangsOn 0 = .ok (.aload_n 0, 1) := dk_42 (dk_at dksX4_hangsOn_0 0 rfl rfl)
theorem dX4_hangsOn_1 : decode cX4_hangsOn 1 = .ok (.getfield 194, 3) := dk_180 0 194 (dk_at dksX4_hangsOn_0 1 rfl rfl)
theorem dX4_hangsOn_4 : decode cX4_hangsOn 4 = .ok (.iload_n 1, 1) := dk_27 (dk_at dksX4_hangsOn_0 4 rfl rfl)
theorem dX4_hangsOn_5 : decode cX4_hangsOn 5 = .ok (.iaload, 1) := dk_46 (dk_at dksX4_hangsOn_0 5 rfl rfl)
theorem dX4_hangsOn_6 : decode cX4_hangsOn 6 = .ok (.istore_n 3, 1) := dk_62 (dk_at dksX4_hangsOn_0 6 rfl rfl)
theorem dX4_hangsOn_7 : decode cX4_hangsOn 7 = .ok (.iload_n 3, 1) := dk_29 (dk_at dksX4_hangsOn_0 7 rfl rfl)
theorem dX4_hangsOn_8 : decode cX4_hangsOn 8 = .ok (.ifCond .lt 18, 3) := dk_155 0 18 (dk_at dksX4_hangsOn_0 8 rfl rfl)
theorem dX4_hangsOn_11 : decode cX4_hangsOn 11 = .ok (.iload_n 3, 1) := dk_29 (dk_at dksX4_hangsOn_0 11 rfl rfl)
theorem dX4_hangsOn_12 : decode cX4_hangsOn 12 = .ok (.iload_n 2, 1) := dk_28 (dk_at dksX4_hangsOn_0 12 rfl rfl)
theorem dX4_hangsOn_13 : decode cX4_hangsOn 13 = .ok (.if_icmp .eq 13, 3) := dk_159 0 13 (dk_at dksX4_hangsOn_0 13 rfl rfl)
theorem dX4_hangsOn_16 : decode cX4_hangsOn 16 = .ok (.aload_n 0, 1) := dk_42 (dk_at dksX4_hangsOn_0 16 rfl rfl)
theorem dX4_hangsOn_17 : decode cX4_hangsOn 17 = .ok (.getfield 194, 3) := dk_180 0 194 (dk_at dksX4_hangsOn_0 17 rfl rfl)
theorem dX4_hangsOn_20 : decode cX4_hangsOn 20 = .ok (.iload_n 3, 1) := dk_29 (dk_at dksX4_hangsOn_0 20 rfl rfl)
theorem dX4_hangsOn_21 : decode cX4_hangsOn 21 = .ok (.iaload, 1) := dk_46 (dk_at dksX4_hangsOn_0 21 rfl rfl)
theorem dX4_hangsOn_22 : decode cX4_hangsOn 22 = .ok (.istore_n 3, 1) := dk_62 (dk_at dksX4_hangsOn_0 22 rfl rfl)
theorem dX4_hangsOn_23 : decode cX4_hangsOn 23 = .ok (.goto (-16), 3) := dk_167 255 240 (dk_at dksX4_hangsOn_1 0 rfl rfl)
theorem dX4_hangsOn_26 : decode cX4_hangsOn 26 = .ok (.iload_n 3, 1) := dk_29 (dk_at dksX4_hangsOn_1 3 rfl rfl)
theorem dX4_hangsOn_27 : decode cX4_hangsOn 27 = .ok (.iload_n 2, 1) := dk_28 (dk_at dksX4_hangsOn_1 4 rfl rfl)
theorem dX4_hangsOn_28 : decode cX4_hangsOn 28 = .ok (.if_icmp .ne 7, 3) := dk_160 0 7 (dk_at dksX4_hangsOn_1 5 rfl rfl)
theorem dX4_hangsOn_31 : decode cX4_hangsOn 31 = .ok (.iconst 1, 1) := dk_4 (dk_at dksX4_hangsOn_1 8 rfl rfl)
theorem dX4_hangsOn_32 : decode cX4_hangsOn 32 = .ok (.goto 4, 3) := dk_167 0 4 (dk_at dksX4_hangsOn_1 9 rfl rfl)
theorem dX4_hangsOn_35 : decode cX4_hangsOn 35 = .ok (.iconst 0, 1) := dk_3 (dk_at dksX4_hangsOn_1 12 rfl rfl)
theorem dX4_hangsOn_36 : decode cX4_hangsOn 36 = .ok (.ireturn, 1) := dk_172 (dk_at dksX4_hangsOn_1 13 rfl rfl)
abbrev cX4_unlike : ByteArray := prog_30_method_72_code
def yX4_unlike : MethodName := ⟨RX4, "unlike", "(II)I"⟩
def dkwX4_unlike_2 : List UInt8 := [28, 46, 130, 172]
abbrev dktX4_unlike_2 : List UInt8 := dkwX4_unlike_2 ++ []
def dkwX4_unlike_1 : List UInt8 := [42, 180, 0, 51, 28, 46, 159, 0, 8, 16, 253, 167, 0, 16, 42, 180, 0, 54, 27, 46, 42, 180, 0, 54]
abbrev dktX4_unlike_1 : List UInt8 := dkwX4_unlike_1 ++ dktX4_unlike_2
def dkwX4_unlike_0 : List UInt8 := [42, 27, 182, 1, 14, 153, 0, 11, 42, 28, 182, 1, 14, 154, 0, 5, 2, 172, 42, 180, 0, 51, 27, 46]
abbrev dktX4_unlike_0 : List UInt8 := dkwX4_unlike_0 ++ dktX4_unlike_1
theorem dksX4_unlike_0 : cX4_unlike.data.toList.drop 0 = dktX4_unlike_0 := by decide +kernel
theorem dksX4_unlike_1 : cX4_unlike.data.toList.drop 24 = dktX4_unlike_1 := dk_seg dksX4_unlike_0 24 rfl rfl
theorem dksX4_unlike_2 : cX4_unlike.data.toList.drop 48 = dktX4_unlike_2 := dk_seg dksX4_unlike_1 24 rfl rfl
theorem dX4_unlike_0 : decode cX4_unlike 0 = .ok (.aload_n 0, 1) := dk_42 (dk_at dksX4_unlike_0 0 rfl rfl)
theorem dX4_unlike_1 : decode cX4_unlike 1 = .ok (.iload_n 1, 1) := dk_27 (dk_at dksX4_unlike_0 1 rfl rfl)
theorem dX4_unlike_2 : decode cX4_unlike 2 = .ok (.invokevirtual 270, 3) := dk_182 1 14 (dk_at dksX4_unlike_0 2 rfl rfl)
theorem dX4_unlike_5 : decode cX4_unlike 5 = .ok (.ifCond .eq 11, 3) := dk_153 0 11 (dk_at dksX4_unlike_0 5 rfl rfl)
theorem dX4_unlike_8 : decode cX4_unlike 8 = .ok (.aload_n 0, 1) := dk_42 (dk_at dksX4_unlike_0 8 rfl rfl)
theorem dX4_unlike_9 : decode cX4_unlike 9 = .ok (.iload_n 2, 1) := dk_28 (dk_at dksX4_unlike_0 9 rfl rfl)
theorem dX4_unlike_10 : decode cX4_unlike 10 = .ok (.invokevirtual 270, 3) := dk_182 1 14 (dk_at dksX4_unlike_0 10 rfl rfl)
theorem dX4_unlike_13 : decode cX4_unlike 13 = .ok (.ifCond .ne 5, 3) := dk_154 0 5 (dk_at dksX4_unlike_0 13 rfl rfl)
theorem dX4_unlike_16 : decode cX4_unlike 16 = .ok (.iconst (-1), 1) := dk_2 (dk_at dksX4_unlike_0 16 rfl rfl)
theorem dX4_unlike_17 : decode cX4_unlike 17 = .ok (.ireturn, 1) := dk_172 (dk_at dksX4_unlike_0 17 rfl rfl)
theorem dX4_unlike_18 : decode cX4_unlike 18 = .ok (.aload_n 0, 1) := dk_42 (dk_at dksX4_unlike_0 18 rfl rfl)
theorem dX4_unlike_19 : decode cX4_unlike 19 = .ok (.getfield 51, 3) := dk_180 0 51 (dk_at dksX4_unlike_0 19 rfl rfl)
theorem dX4_unlike_22 : decode cX4_unlike 22 = .ok (.iload_n 1, 1) := dk_27 (dk_at dksX4_unlike_0 22 rfl rfl)
theorem dX4_unlike_23 : decode cX4_unlike 23 = .ok (.iaload, 1) := dk_46 (dk_at dksX4_unlike_0 23 rfl rfl)
theorem dX4_unlike_24 : decode cX4_unlike 24 = .ok (.aload_n 0, 1) := dk_42 (dk_at dksX4_unlike_1 0 rfl rfl)
theorem dX4_unlike_25 : decode cX4_unlike 25 = .ok (.getfield 51, 3) := dk_180 0 51 (dk_at dksX4_unlike_1 1 rfl rfl)
theorem dX4_unlike_28 : decode cX4_unlike 28 = .ok (.iload_n 2, 1) := dk_28 (dk_at dksX4_unlike_1 4 rfl rfl)
theorem dX4_unlike_29 : decode cX4_unlike 29 = .ok (.iaload, 1) := dk_46 (dk_at dksX4_unlike_1 5 rfl rfl)
theorem dX4_unlike_30 : decode cX4_unlike 30 = .ok (.if_icmp .eq 8, 3) := dk_159 0 8 (dk_at dksX4_unlike_1 6 rfl rfl)
theorem dX4_unlike_33 : decode cX4_unlike 33 = .ok (.bipush (-3), 2) := dk_16 253 (dk_at dksX4_unlike_1 9 rfl rfl)
theorem dX4_unlike_35 : decode cX4_unlike 35 = .ok (.goto 16, 3) := dk_167 0 16 (dk_at dksX4_unlike_1 11 rfl rfl)
theorem dX4_unlike_38 : decode cX4_unlike 38 = .ok (.aload_n 0, 1) := dk_42 (dk_at dksX4_unlike_1 14 rfl rfl)
theorem dX4_unlike_39 : decode cX4_unlike 39 = .ok (.getfield 54, 3) := dk_180 0 54 (dk_at dksX4_unlike_1 15 rfl rfl)
theorem dX4_unlike_42 : decode cX4_unlike 42 = .ok (.iload_n 1, 1) := dk_27 (dk_at dksX4_unlike_1 18 rfl rfl)
theorem dX4_unlike_43 : decode cX4_unlike 43 = .ok (.iaload, 1) := dk_46 (dk_at dksX4_unlike_1 19 rfl rfl)
theorem dX4_unlike_44 : decode cX4_unlike 44 = .ok (.aload_n 0, 1) := dk_42 (dk_at dksX4_unlike_1 20 rfl rfl)
theorem dX4_unlike_45 : decode cX4_unlike 45 = .ok (.getfield 54, 3) := dk_180 0 54 (dk_at dksX4_unlike_1 21 rfl rfl)
theorem dX4_unlike_48 : decode cX4_unlike 48 = .ok (.iload_n 2, 1) := dk_28 (dk_at dksX4_unlike_2 0 rfl rfl)
theorem dX4_unlike_49 : decode cX4_unlike 49 = .ok (.iaload, 1) := dk_46 (dk_at dksX4_unlike_2 1 rfl rfl)
theorem dX4_unlike_50 : decode cX4_unlike 50 = .ok (.ixor, 1) := dk_130 (dk_at dksX4_unlike_2 2 rfl rfl)
theorem dX4_unlike_51 : decode cX4_unlike 51 = .ok (.ireturn, 1) := dk_172 (dk_at dksX4_unlike_2 3 rfl rfl)
abbrev cX4_passes : ByteArray := prog_30_method_73_code
def yX4_passes : MethodName := ⟨RX4, "passes", "(IIII)I"⟩
def dkwX4_passes_5 : List UInt8 := [182, 1, 142, 2, 130, 126, 154, 0, 7, 4, 167, 0, 4, 3, 172]
abbrev dktX4_passes_5 : List UInt8 := dkwX4_passes_5 ++ []
def dkwX4_passes_4 : List UInt8 := [153, 0, 36, 42, 180, 0, 54, 28, 46, 42, 180, 0, 54, 27, 46, 2, 130, 126, 42, 28, 29, 21, 4]
abbrev dktX4_passes_4 : List UInt8 := dkwX4_passes_4 ++ dktX4_passes_5
def dkwX4_passes_3 : List UInt8 := [27, 29, 21, 4, 182, 1, 142, 2, 130, 126, 154, 0, 7, 4, 167, 0, 4, 3, 54, 5, 21, 5]
abbrev dktX4_passes_3 : List UInt8 := dkwX4_passes_3 ++ dktX4_passes_4
def dkwX4_passes_2 : List UInt8 := [28, 46, 159, 0, 6, 16, 253, 172, 42, 180, 0, 54, 27, 46, 42, 180, 0, 54, 28, 46, 2, 130, 126, 42]
abbrev dktX4_passes_2 : List UInt8 := dkwX4_passes_2 ++ dktX4_passes_3
def dkwX4_passes_1 : List UInt8 := [2, 172, 42, 21, 4, 182, 1, 129, 154, 0, 6, 16, 254, 172, 42, 180, 0, 51, 27, 46, 42, 180, 0, 51]
abbrev dktX4_passes_1 : List UInt8 := dkwX4_passes_1 ++ dktX4_passes_2
def dkwX4_passes_0 : List UInt8 := [42, 27, 182, 1, 14, 153, 0, 19, 42, 28, 182, 1, 14, 153, 0, 11, 42, 29, 182, 1, 2, 154, 0, 5]
abbrev dktX4_passes_0 : List UInt8 := dkwX4_passes_0 ++ dktX4_passes_1
theorem dksX4_passes_0 : cX4_passes.data.toList.drop 0 = dktX4_passes_0 := by decide +kernel
theorem dksX4_passes_1 : cX4_passes.data.toList.drop 24 = dktX4_passes_1 := dk_seg dksX4_passes_0 24 rfl rfl
theorem dksX4_passes_2 : cX4_passes.data.toList.drop 48 = dktX4_passes_2 := dk_seg dksX4_passes_1 24 rfl rfl
theorem dksX4_passes_3 : cX4_passes.data.toList.drop 72 = dktX4_passes_3 := dk_seg dksX4_passes_2 24 rfl rfl
theorem dksX4_passes_4 : cX4_passes.data.toList.drop 94 = dktX4_passes_4 := dk_seg dksX4_passes_3 22 rfl rfl
theorem dksX4_passes_5 : cX4_passes.data.toList.drop 117 = dktX4_passes_5 := dk_seg dksX4_passes_4 23 rfl rfl
theorem dX4_passes_0 : decode cX4_passes 0 = .ok (.aload_n 0, 1) := dk_42 (dk_at dksX4_passes_0 0 rfl rfl)
theorem dX4_passes_1 : decode cX4_passes 1 = .ok (.iload_n 1, 1) := dk_27 (dk_at dksX4_passes_0 1 rfl rfl)
theorem dX4_passes_2 : decode cX4_passes 2 = .ok (.invokevirtual 270, 3) := dk_182 1 14 (dk_at dksX4_passes_0 2 rfl rfl)
theorem dX4_passes_5 : decode cX4_passes 5 = .ok (.ifCond .eq 19, 3) := dk_153 0 19 (dk_at dksX4_passes_0 5 rfl rfl)
theorem dX4_passes_8 : decode cX4_passes 8 = .ok (.aload_n 0, 1) := dk_42 (dk_at dksX4_passes_0 8 rfl rfl)
theorem dX4_passes_9 : decode cX4_passes 9 = .ok (.iload_n 2, 1) := dk_28 (dk_at dksX4_passes_0 9 rfl rfl)
theorem dX4_passes_10 : decode cX4_passes 10 = .ok (.invokevirtual 270, 3) := dk_182 1 14 (dk_at dksX4_passes_0 10 rfl rfl)
theorem dX4_passes_13 : decode cX4_passes 13 = .ok (.ifCond .eq 11, 3) := dk_153 0 11 (dk_at dksX4_passes_0 13 rfl rfl)
theorem dX4_passes_16 : decode cX4_passes 16 = .ok (.aload_n 0, 1) := dk_42 (dk_at dksX4_passes_0 16 rfl rfl)
theorem dX4_passes_17 : decode cX4_passes 17 = .ok (.iload_n 3, 1) := dk_29 (dk_at dksX4_passes_0 17 rfl rfl)
theorem dX4_passes_18 : decode cX4_passes 18 = .ok (.invokevirtual 258, 3) := dk_182 1 2 (dk_at dksX4_passes_0 18 rfl rfl)
theorem dX4_passes_21 : decode cX4_passes 21 = .ok (.ifCond .ne 5, 3) := dk_154 0 5 (dk_at dksX4_passes_0 21 rfl rfl)
theorem dX4_passes_24 : decode cX4_passes 24 = .ok (.iconst (-1), 1) := dk_2 (dk_at dksX4_passes_1 0 rfl rfl)
theorem dX4_passes_25 : decode cX4_passes 25 = .ok (.ireturn, 1) := dk_172 (dk_at dksX4_passes_1 1 rfl rfl)
theorem dX4_passes_26 : decode cX4_passes 26 = .ok (.aload_n 0, 1) := dk_42 (dk_at dksX4_passes_1 2 rfl rfl)
theorem dX4_passes_27 : decode cX4_passes 27 = .ok (.iload 4, 2) := dk_21 4 (dk_at dksX4_passes_1 3 rfl rfl)
theorem dX4_passes_29 : decode cX4_passes 29 = .ok (.invokevirtual 385, 3) := dk_182 1 129 (dk_at dksX4_passes_1 5 rfl rfl)
theorem dX4_passes_32 : decode cX4_passes 32 = .ok (.ifCond .ne 6, 3) := dk_154 0 6 (dk_at dksX4_passes_1 8 rfl rfl)
theorem dX4_passes_35 : decode cX4_passes 35 = .ok (.bipush (-2), 2) := dk_16 254 (dk_at dksX4_passes_1 11 rfl rfl)
theorem dX4_passes_37 : decode cX4_passes 37 = .ok (.ireturn, 1) := dk_172 (dk_at dksX4_passes_1 13 rfl rfl)
theorem dX4_passes_38 : decode cX4_passes 38 = .ok (.aload_n 0, 1) := dk_42 (dk_at dksX4_passes_1 14 rfl rfl)
theorem dX4_passes_39 : decode cX4_passes 39 = .ok (.getfield 51, 3) := dk_180 0 51 (dk_at dksX4_passes_1 15 rfl rfl)
theorem dX4_passes_42 : decode cX4_passes 42 = .ok (.iload_n 1, 1) := dk_27 (dk_at dksX4_passes_1 18 rfl rfl)
theorem dX4_passes_43 : decode cX4_passes 43 = .ok (.iaload, 1) := dk_46 (dk_at dksX4_passes_1 19 rfl rfl)
theorem dX4_passes_44 : decode cX4_passes 44 = .ok (.aload_n 0, 1) := dk_42 (dk_at dksX4_passes_1 20 rfl rfl)
theorem dX4_passes_45 : decode cX4_passes 45 = .ok (.getfield 51, 3) := dk_180 0 51 (dk_at dksX4_passes_1 21 rfl rfl)
theorem dX4_passes_48 : decode cX4_passes 48 = .ok (.iload_n 2, 1) := dk_28 (dk_at dksX4_passes_2 0 rfl rfl)
theorem dX4_passes_49 : decode cX4_passes 49 = .ok (.iaload, 1) := dk_46 (dk_at dksX4_passes_2 1 rfl rfl)
theorem dX4_passes_50 : decode cX4_passes 50 = .ok (.if_icmp .eq 6, 3) := dk_159 0 6 (dk_at dksX4_passes_2 2 rfl rfl)
theorem dX4_passes_53 : decode cX4_passes 53 = .ok (.bipush (-3), 2) := dk_16 253 (dk_at dksX4_passes_2 5 rfl rfl)
theorem dX4_passes_55 : decode cX4_passes 55 = .ok (.ireturn, 1) := dk_172 (dk_at dksX4_passes_2 7 rfl rfl)
theorem dX4_passes_56 : decode cX4_passes 56 = .ok (.aload_n 0, 1) := dk_42 (dk_at dksX4_passes_2 8 rfl rfl)
theorem dX4_passes_57 : decode cX4_passes 57 = .ok (.getfield 54, 3) := dk_180 0 54 (dk_at dksX4_passes_2 9 rfl rfl)
theorem dX4_passes_60 : decode cX4_passes 60 = .ok (.iload_n 1, 1) := dk_27 (dk_at dksX4_passes_2 12 rfl rfl)
theorem dX4_passes_61 : decode cX4_passes 61 = .ok (.iaload, 1) := dk_46 (dk_at dksX4_passes_2 13 rfl rfl)
theorem dX4_passes_62 : decode cX4_passes 62 = .ok (.aload_n 0, 1) := dk_42 (dk_at dksX4_passes_2 14 rfl rfl)
theorem dX4_passes_63 : decode cX4_passes 63 = .ok (.getfield 54, 3) := dk_180 0 54 (dk_at dksX4_passes_2 15 rfl rfl)
theorem dX4_passes_66 : decode cX4_passes 66 = .ok (.iload_n 2, 1) := dk_28 (dk_at dksX4_passes_2 18 rfl rfl)
theorem dX4_passes_67 : decode cX4_passes 67 = .ok (.iaload, 1) := dk_46 (dk_at dksX4_passes_2 19 rfl rfl)
theorem dX4_passes_68 : decode cX4_passes 68 = .ok (.iconst (-1), 1) := dk_2 (dk_at dksX4_passes_2 20 rfl rfl)
theorem dX4_passes_69 : decode cX4_passes 69 = .ok (.ixor, 1) := dk_130 (dk_at dksX4_passes_2 21 rfl rfl)
theorem dX4_passes_70 : decode cX4_passes 70 = .ok (.iand, 1) := dk_126 (dk_at dksX4_passes_2 22 rfl rfl)
theorem dX4_passes_71 : decode cX4_passes 71 = .ok (.aload_n 0, 1) := dk_42 (dk_at dksX4_passes_2 23 rfl rfl)
theorem dX4_passes_72 : decode cX4_passes 72 = .ok (.iload_n 1, 1) := dk_27 (dk_at dksX4_passes_3 0 rfl rfl)
theorem dX4_passes_73 : decode cX4_passes 73 = .ok (.iload_n 3, 1) := dk_29 (dk_at dksX4_passes_3 1 rfl rfl)
theorem dX4_passes_74 : decode cX4_passes 74 = .ok (.iload 4, 2) := dk_21 4 (dk_at dksX4_passes_3 2 rfl rfl)
theorem dX4_passes_76 : decode cX4_passes 76 = .ok (.invokevirtual 398, 3) := dk_182 1 142 (dk_at dksX4_passes_3 4 rfl rfl)
theorem dX4_passes_79 : decode cX4_passes 79 = .ok (.iconst (-1), 1) := dk_2 (dk_at dksX4_passes_3 7 rfl rfl)
theorem dX4_passes_80 : decode cX4_passes 80 = .ok (.ixor, 1) := dk_130 (dk_at dksX4_passes_3 8 rfl rfl)
theorem dX4_passes_81 : decode cX4_passes 81 = .ok (.iand, 1) := dk_126 (dk_at dksX4_passes_3 9 rfl rfl)
theorem dX4_passes_82 : decode cX4_passes 82 = .ok (.ifCond .ne 7, 3) := dk_154 0 7 (dk_at dksX4_passes_3 10 rfl rfl)
theorem dX4_passes_85 : decode cX4_passes 85 = .ok (.iconst 1, 1) := dk_4 (dk_at dksX4_passes_3 13 rfl rfl)
theorem dX4_passes_86 : decode cX4_passes 86 = .ok (.goto 4, 3) := dk_167 0 4 (dk_at dksX4_passes_3 14 rfl rfl)
theorem dX4_passes_89 : decode cX4_passes 89 = .ok (.iconst 0, 1) := dk_3 (dk_at dksX4_passes_3 17 rfl rfl)
theorem dX4_passes_90 : decode cX4_passes 90 = .ok (.istore 5, 2) := dk_54 5 (dk_at dksX4_passes_3 18 rfl rfl)
theorem dX4_passes_92 : decode cX4_passes 92 = .ok (.iload 5, 2) := dk_21 5 (dk_at dksX4_passes_3 20 rfl rfl)
theorem dX4_passes_94 : decode cX4_passes 94 = .ok (.ifCond .eq 36, 3) := dk_153 0 36 (dk_at dksX4_passes_4 0 rfl rfl)
theorem dX4_passes_97 : decode cX4_passes 97 = .ok (.aload_n 0, 1) := dk_42 (dk_at dksX4_passes_4 3 rfl rfl)
theorem dX4_passes_98 : decode cX4_passes 98 = .ok (.getfield 54, 3) := dk_180 0 54 (dk_at dksX4_passes_4 4 rfl rfl)
theorem dX4_passes_101 : decode cX4_passes 101 = .ok (.iload_n 2, 1) := dk_28 (dk_at dksX4_passes_4 7 rfl rfl)
theorem dX4_passes_102 : decode cX4_passes 102 = .ok (.iaload, 1) := dk_46 (dk_at dksX4_passes_4 8 rfl rfl)
theorem dX4_passes_103 : decode cX4_passes 103 = .ok (.aload_n 0, 1) := dk_42 (dk_at dksX4_passes_4 9 rfl rfl)
theorem dX4_passes_104 : decode cX4_passes 104 = .ok (.getfield 54, 3) := dk_180 0 54 (dk_at dksX4_passes_4 10 rfl rfl)
theorem dX4_passes_107 : decode cX4_passes 107 = .ok (.iload_n 1, 1) := dk_27 (dk_at dksX4_passes_4 13 rfl rfl)
theorem dX4_passes_108 : decode cX4_passes 108 = .ok (.iaload, 1) := dk_46 (dk_at dksX4_passes_4 14 rfl rfl)
theorem dX4_passes_109 : decode cX4_passes 109 = .ok (.iconst (-1), 1) := dk_2 (dk_at dksX4_passes_4 15 rfl rfl)
theorem dX4_passes_110 : decode cX4_passes 110 = .ok (.ixor, 1) := dk_130 (dk_at dksX4_passes_4 16 rfl rfl)
theorem dX4_passes_111 : decode cX4_passes 111 = .ok (.iand, 1) := dk_126 (dk_at dksX4_passes_4 17 rfl rfl)
theorem dX4_passes_112 : decode cX4_passes 112 = .ok (.aload_n 0, 1) := dk_42 (dk_at dksX4_passes_4 18 rfl rfl)
theorem dX4_passes_113 : decode cX4_passes 113 = .ok (.iload_n 2, 1) := dk_28 (dk_at dksX4_passes_4 19 rfl rfl)
theorem dX4_passes_114 : decode cX4_passes 114 = .ok (.iload_n 3, 1) := dk_29 (dk_at dksX4_passes_4 20 rfl rfl)
theorem dX4_passes_115 : decode cX4_passes 115 = .ok (.iload 4, 2) := dk_21 4 (dk_at dksX4_passes_4 21 rfl rfl)
theorem dX4_passes_117 : decode cX4_passes 117 = .ok (.invokevirtual 398, 3) := dk_182 1 142 (dk_at dksX4_passes_5 0 rfl rfl)
theorem dX4_passes_120 : decode cX4_passes 120 = .ok (.iconst (-1), 1) := dk_2 (dk_at dksX4_passes_5 3 rfl rfl)
theorem dX4_passes_121 : decode cX4_passes 121 = .ok (.ixor, 1) := dk_130 (dk_at dksX4_passes_5 4 rfl rfl)
theorem dX4_passes_122 : decode cX4_passes 122 = .ok (.iand, 1) := dk_126 (dk_at dksX4_passes_5 5 rfl rfl)
theorem dX4_passes_123 : decode cX4_passes 123 = .ok (.ifCond .ne 7, 3) := dk_154 0 7 (dk_at dksX4_passes_5 6 rfl rfl)
theorem dX4_passes_126 : decode cX4_passes 126 = .ok (.iconst 1, 1) := dk_4 (dk_at dksX4_passes_5 9 rfl rfl)
theorem dX4_passes_127 : decode cX4_passes 127 = .ok (.goto 4, 3) := dk_167 0 4 (dk_at dksX4_passes_5 10 rfl rfl)
theorem dX4_passes_130 : decode cX4_passes 130 = .ok (.iconst 0, 1) := dk_3 (dk_at dksX4_passes_5 13 rfl rfl)
theorem dX4_passes_131 : decode cX4_passes 131 = .ok (.ireturn, 1) := dk_172 (dk_at dksX4_passes_5 14 rfl rfl)
abbrev cX4_part : ByteArray := prog_30_method_74_code
def yX4_part : MethodName := ⟨RX4, "part", "(III)I"⟩
def dkwX4_part_5 : List UInt8 := [46, 4, 28, 120, 128, 79, 42, 180, 0, 197, 27, 92, 46, 4, 96, 79, 42, 180, 0, 197, 27, 46, 172]
abbrev dktX4_part_5 : List UInt8 := dkwX4_part_5 ++ []
def dkwX4_part_4 : List UInt8 := [16, 16, 27, 104, 28, 96, 92, 46, 4, 29, 120, 128, 79, 42, 180, 0, 200, 16, 16, 27, 104, 29, 96, 92]
abbrev dktX4_part_4 : List UInt8 := dkwX4_part_4 ++ dktX4_part_5
def dkwX4_part_3 : List UInt8 := [160, 0, 6, 16, 253, 172, 42, 180, 0, 197, 27, 46, 16, 20, 160, 0, 6, 16, 252, 172, 42, 180, 0, 200]
abbrev dktX4_part_3 : List UInt8 := dkwX4_part_3 ++ dktX4_part_4
def dkwX4_part_2 : List UInt8 := [160, 0, 6, 16, 254, 172, 42, 180, 0, 200, 16, 16, 27, 104, 28, 96, 46, 29, 122, 4, 126, 4]
abbrev dktX4_part_2 : List UInt8 := dkwX4_part_2 ++ dktX4_part_3
def dkwX4_part_1 : List UInt8 := [153, 0, 20, 42, 29, 3, 42, 180, 0, 45, 27, 46, 4, 100, 182, 0, 3, 154, 0, 5, 2, 172, 28, 29]
abbrev dktX4_part_1 : List UInt8 := dkwX4_part_1 ++ dktX4_part_2
def dkwX4_part_0 : List UInt8 := [42, 27, 182, 1, 10, 153, 0, 37, 42, 28, 3, 42, 180, 0, 45, 27, 46, 4, 100, 182, 0, 3]
abbrev dktX4_part_0 : List UInt8 := dkwX4_part_0 ++ dktX4_part_1
theorem dksX4_part_0 : cX4_part.data.toList.drop 0 = dktX4_part_0 := by decide +kernel
theorem dksX4_part_1 : cX4_part.data.toList.drop 22 = dktX4_part_1 := dk_seg dksX4_part_0 22 rfl rfl
theorem dksX4_part_2 : cX4_part.data.toList.drop 46 = dktX4_part_2 := dk_seg dksX4_part_1 24 rfl rfl
theorem dksX4_part_3 : cX4_part.data.toList.drop 68 = dktX4_part_3 := dk_seg dksX4_part_2 22 rfl rfl
theorem dksX4_part_4 : cX4_part.data.toList.drop 92 = dktX4_part_4 := dk_seg dksX4_part_3 24 rfl rfl
theorem dksX4_part_5 : cX4_part.data.toList.drop 116 = dktX4_part_5 := dk_seg dksX4_part_4 24 rfl rfl
theorem dX4_part_0 : decode cX4_part 0 = .ok (.aload_n 0, 1) := dk_42 (dk_at dksX4_part_0 0 rfl rfl)
theorem dX4_part_1 : decode cX4_part 1 = .ok (.iload_n 1, 1) := dk_27 (dk_at dksX4_part_0 1 rfl rfl)
theorem dX4_part_2 : decode cX4_part 2 = .ok (.invokevirtual 266, 3) := dk_182 1 10 (dk_at dksX4_part_0 2 rfl rfl)
theorem dX4_part_5 : decode cX4_part 5 = .ok (.ifCond .eq 37, 3) := dk_153 0 37 (dk_at dksX4_part_0 5 rfl rfl)
theorem dX4_part_8 : decode cX4_part 8 = .ok (.aload_n 0, 1) := dk_42 (dk_at dksX4_part_0 8 rfl rfl)
theorem dX4_part_9 : decode cX4_part 9 = .ok (.iload_n 2, 1) := dk_28 (dk_at dksX4_part_0 9 rfl rfl)
theorem dX4_part_10 : decode cX4_part 10 = .ok (.iconst 0, 1) := dk_3 (dk_at dksX4_part_0 10 rfl rfl)
theorem dX4_part_11 : decode cX4_part 11 = .ok (.aload_n 0, 1) := dk_42 (dk_at dksX4_part_0 11 rfl rfl)
theorem dX4_part_12 : decode cX4_part 12 = .ok (.getfield 45, 3) := dk_180 0 45 (dk_at dksX4_part_0 12 rfl rfl)
theorem dX4_part_15 : decode cX4_part 15 = .ok (.iload_n 1, 1) := dk_27 (dk_at dksX4_part_0 15 rfl rfl)
theorem dX4_part_16 : decode cX4_part 16 = .ok (.iaload, 1) := dk_46 (dk_at dksX4_part_0 16 rfl rfl)
theorem dX4_part_17 : decode cX4_part 17 = .ok (.iconst 1, 1) := dk_4 (dk_at dksX4_part_0 17 rfl rfl)
theorem dX4_part_18 : decode cX4_part 18 = .ok (.isub, 1) := dk_100 (dk_at dksX4_part_0 18 rfl rfl)
theorem dX4_part_19 : decode cX4_part 19 = .ok (.invokevirtual 3, 3) := dk_182 0 3 (dk_at dksX4_part_0 19 rfl rfl)
theorem dX4_part_22 : decode cX4_part 22 = .ok (.ifCond .eq 20, 3) := dk_153 0 20 (dk_at dksX4_part_1 0 rfl rfl)
theorem dX4_part_25 : decode cX4_part 25 = .ok (.aload_n 0, 1) := dk_42 (dk_at dksX4_part_1 3 rfl rfl)
theorem dX4_part_26 : decode cX4_part 26 = .ok (.iload_n 3, 1) := dk_29 (dk_at dksX4_part_1 4 rfl rfl)
theorem dX4_part_27 : decode cX4_part 27 = .ok (.iconst 0, 1) := dk_3 (dk_at dksX4_part_1 5 rfl rfl)
theorem dX4_part_28 : decode cX4_part 28 = .ok (.aload_n 0, 1) := dk_42 (dk_at dksX4_part_1 6 rfl rfl)
theorem dX4_part_29 : decode cX4_part 29 = .ok (.getfield 45, 3) := dk_180 0 45 (dk_at dksX4_part_1 7 rfl rfl)
theorem dX4_part_32 : decode cX4_part 32 = .ok (.iload_n 1, 1) := dk_27 (dk_at dksX4_part_1 10 rfl rfl)
theorem dX4_part_33 : decode cX4_part 33 = .ok (.iaload, 1) := dk_46 (dk_at dksX4_part_1 11 rfl rfl)
theorem dX4_part_34 : decode cX4_part 34 = .ok (.iconst 1, 1) := dk_4 (dk_at dksX4_part_1 12 rfl rfl)
theorem dX4_part_35 : decode cX4_part 35 = .ok (.isub, 1) := dk_100 (dk_at dksX4_part_1 13 rfl rfl)
theorem dX4_part_36 : decode cX4_part 36 = .ok (.invokevirtual 3, 3) := dk_182 0 3 (dk_at dksX4_part_1 14 rfl rfl)
theorem dX4_part_39 : decode cX4_part 39 = .ok (.ifCond .ne 5, 3) := dk_154 0 5 (dk_at dksX4_part_1 17 rfl rfl)
theorem dX4_part_42 : decode cX4_part 42 = .ok (.iconst (-1), 1) := dk_2 (dk_at dksX4_part_1 20 rfl rfl)
theorem dX4_part_43 : decode cX4_part 43 = .ok (.ireturn, 1) := dk_172 (dk_at dksX4_part_1 21 rfl rfl)
theorem dX4_part_44 : decode cX4_part 44 = .ok (.iload_n 2, 1) := dk_28 (dk_at dksX4_part_1 22 rfl rfl)
theorem dX4_part_45 : decode cX4_part 45 = .ok (.iload_n 3, 1) := dk_29 (dk_at dksX4_part_1 23 rfl rfl)
theorem dX4_part_46 : decode cX4_part 46 = .ok (.if_icmp .ne 6, 3) := dk_160 0 6 (dk_at dksX4_part_2 0 rfl rfl)
theorem dX4_part_49 : decode cX4_part 49 = .ok (.bipush (-2), 2) := dk_16 254 (dk_at dksX4_part_2 3 rfl rfl)
theorem dX4_part_51 : decode cX4_part 51 = .ok (.ireturn, 1) := dk_172 (dk_at dksX4_part_2 5 rfl rfl)
theorem dX4_part_52 : decode cX4_part 52 = .ok (.aload_n 0, 1) := dk_42 (dk_at dksX4_part_2 6 rfl rfl)
theorem dX4_part_53 : decode cX4_part 53 = .ok (.getfield 200, 3) := dk_180 0 200 (dk_at dksX4_part_2 7 rfl rfl)
theorem dX4_part_56 : decode cX4_part 56 = .ok (.bipush 16, 2) := dk_16 16 (dk_at dksX4_part_2 10 rfl rfl)
theorem dX4_part_58 : decode cX4_part 58 = .ok (.iload_n 1, 1) := dk_27 (dk_at dksX4_part_2 12 rfl rfl)
theorem dX4_part_59 : decode cX4_part 59 = .ok (.imul, 1) := dk_104 (dk_at dksX4_part_2 13 rfl rfl)
theorem dX4_part_60 : decode cX4_part 60 = .ok (.iload_n 2, 1) := dk_28 (dk_at dksX4_part_2 14 rfl rfl)
theorem dX4_part_61 : decode cX4_part 61 = .ok (.iadd, 1) := dk_96 (dk_at dksX4_part_2 15 rfl rfl)
theorem dX4_part_62 : decode cX4_part 62 = .ok (.iaload, 1) := dk_46 (dk_at dksX4_part_2 16 rfl rfl)
theorem dX4_part_63 : decode cX4_part 63 = .ok (.iload_n 3, 1) := dk_29 (dk_at dksX4_part_2 17 rfl rfl)
theorem dX4_part_64 : decode cX4_part 64 = .ok (.ishr, 1) := dk_122 (dk_at dksX4_part_2 18 rfl rfl)
theorem dX4_part_65 : decode cX4_part 65 = .ok (.iconst 1, 1) := dk_4 (dk_at dksX4_part_2 19 rfl rfl)
theorem dX4_part_66 : decode cX4_part 66 = .ok (.iand, 1) := dk_126 (dk_at dksX4_part_2 20 rfl rfl)
theorem dX4_part_67 : decode cX4_part 67 = .ok (.iconst 1, 1) := dk_4 (dk_at dksX4_part_2 21 rfl rfl)
theorem dX4_part_68 : decode cX4_part 68 = .ok (.if_icmp .ne 6, 3) := dk_160 0 6 (dk_at dksX4_part_3 0 rfl rfl)
theorem dX4_part_71 : decode cX4_part 71 = .ok (.bipush (-3), 2) := dk_16 253 (dk_at dksX4_part_3 3 rfl rfl)
theorem dX4_part_73 : decode cX4_part 73 = .ok (.ireturn, 1) := dk_172 (dk_at dksX4_part_3 5 rfl rfl)
theorem dX4_part_74 : decode cX4_part 74 = .ok (.aload_n 0, 1) := dk_42 (dk_at dksX4_part_3 6 rfl rfl)
theorem dX4_part_75 : decode cX4_part 75 = .ok (.getfield 197, 3) := dk_180 0 197 (dk_at dksX4_part_3 7 rfl rfl)
theorem dX4_part_78 : decode cX4_part 78 = .ok (.iload_n 1, 1) := dk_27 (dk_at dksX4_part_3 10 rfl rfl)
theorem dX4_part_79 : decode cX4_part 79 = .ok (.iaload, 1) := dk_46 (dk_at dksX4_part_3 11 rfl rfl)
theorem dX4_part_80 : decode cX4_part 80 = .ok (.bipush 20, 2) := dk_16 20 (dk_at dksX4_part_3 12 rfl rfl)
theorem dX4_part_82 : decode cX4_part 82 = .ok (.if_icmp .ne 6, 3) := dk_160 0 6 (dk_at dksX4_part_3 14 rfl rfl)
theorem dX4_part_85 : decode cX4_part 85 = .ok (.bipush (-4), 2) := dk_16 252 (dk_at dksX4_part_3 17 rfl rfl)
theorem dX4_part_87 : decode cX4_part 87 = .ok (.ireturn, 1) := dk_172 (dk_at dksX4_part_3 19 rfl rfl)
theorem dX4_part_88 : decode cX4_part 88 = .ok (.aload_n 0, 1) := dk_42 (dk_at dksX4_part_3 20 rfl rfl)
theorem dX4_part_89 : decode cX4_part 89 = .ok (.getfield 200, 3) := dk_180 0 200 (dk_at dksX4_part_3 21 rfl rfl)
theorem dX4_part_92 : decode cX4_part 92 = .ok (.bipush 16, 2) := dk_16 16 (dk_at dksX4_part_4 0 rfl rfl)
theorem dX4_part_94 : decode cX4_part 94 = .ok (.iload_n 1, 1) := dk_27 (dk_at dksX4_part_4 2 rfl rfl)
theorem dX4_part_95 : decode cX4_part 95 = .ok (.imul, 1) := dk_104 (dk_at dksX4_part_4 3 rfl rfl)
theorem dX4_part_96 : decode cX4_part 96 = .ok (.iload_n 2, 1) := dk_28 (dk_at dksX4_part_4 4 rfl rfl)
theorem dX4_part_97 : decode cX4_part 97 = .ok (.iadd, 1) := dk_96 (dk_at dksX4_part_4 5 rfl rfl)
theorem dX4_part_98 : decode cX4_part 98 = .ok (.dup2, 1) := dk_92 (dk_at dksX4_part_4 6 rfl rfl)
theorem dX4_part_99 : decode cX4_part 99 = .ok (.iaload, 1) := dk_46 (dk_at dksX4_part_4 7 rfl rfl)
theorem dX4_part_100 : decode cX4_part 100 = .ok (.iconst 1, 1) := dk_4 (dk_at dksX4_part_4 8 rfl rfl)
theorem dX4_part_101 : decode cX4_part 101 = .ok (.iload_n 3, 1) := dk_29 (dk_at dksX4_part_4 9 rfl rfl)
theorem dX4_part_102 : decode cX4_part 102 = .ok (.ishl, 1) := dk_120 (dk_at dksX4_part_4 10 rfl rfl)
theorem dX4_part_103 : decode cX4_part 103 = .ok (.ior, 1) := dk_128 (dk_at dksX4_part_4 11 rfl rfl)
theorem dX4_part_104 : decode cX4_part 104 = .ok (.iastore, 1) := dk_79 (dk_at dksX4_part_4 12 rfl rfl)
theorem dX4_part_105 : decode cX4_part 105 = .ok (.aload_n 0, 1) := dk_42 (dk_at dksX4_part_4 13 rfl rfl)
theorem dX4_part_106 : decode cX4_part 106 = .ok (.getfield 200, 3) := dk_180 0 200 (dk_at dksX4_part_4 14 rfl rfl)
theorem dX4_part_109 : decode cX4_part 109 = .ok (.bipush 16, 2) := dk_16 16 (dk_at dksX4_part_4 17 rfl rfl)
theorem dX4_part_111 : decode cX4_part 111 = .ok (.iload_n 1, 1) := dk_27 (dk_at dksX4_part_4 19 rfl rfl)
theorem dX4_part_112 : decode cX4_part 112 = .ok (.imul, 1) := dk_104 (dk_at dksX4_part_4 20 rfl rfl)
theorem dX4_part_113 : decode cX4_part 113 = .ok (.iload_n 3, 1) := dk_29 (dk_at dksX4_part_4 21 rfl rfl)
theorem dX4_part_114 : decode cX4_part 114 = .ok (.iadd, 1) := dk_96 (dk_at dksX4_part_4 22 rfl rfl)
theorem dX4_part_115 : decode cX4_part 115 = .ok (.dup2, 1) := dk_92 (dk_at dksX4_part_4 23 rfl rfl)
theorem dX4_part_116 : decode cX4_part 116 = .ok (.iaload, 1) := dk_46 (dk_at dksX4_part_5 0 rfl rfl)
theorem dX4_part_117 : decode cX4_part 117 = .ok (.iconst 1, 1) := dk_4 (dk_at dksX4_part_5 1 rfl rfl)
theorem dX4_part_118 : decode cX4_part 118 = .ok (.iload_n 2, 1) := dk_28 (dk_at dksX4_part_5 2 rfl rfl)
theorem dX4_part_119 : decode cX4_part 119 = .ok (.ishl, 1) := dk_120 (dk_at dksX4_part_5 3 rfl rfl)
theorem dX4_part_120 : decode cX4_part 120 = .ok (.ior, 1) := dk_128 (dk_at dksX4_part_5 4 rfl rfl)
theorem dX4_part_121 : decode cX4_part 121 = .ok (.iastore, 1) := dk_79 (dk_at dksX4_part_5 5 rfl rfl)
theorem dX4_part_122 : decode cX4_part 122 = .ok (.aload_n 0, 1) := dk_42 (dk_at dksX4_part_5 6 rfl rfl)
theorem dX4_part_123 : decode cX4_part 123 = .ok (.getfield 197, 3) := dk_180 0 197 (dk_at dksX4_part_5 7 rfl rfl)
theorem dX4_part_126 : decode cX4_part 126 = .ok (.iload_n 1, 1) := dk_27 (dk_at dksX4_part_5 10 rfl rfl)
theorem dX4_part_127 : decode cX4_part 127 = .ok (.dup2, 1) := dk_92 (dk_at dksX4_part_5 11 rfl rfl)
theorem dX4_part_128 : decode cX4_part 128 = .ok (.iaload, 1) := dk_46 (dk_at dksX4_part_5 12 rfl rfl)
theorem dX4_part_129 : decode cX4_part 129 = .ok (.iconst 1, 1) := dk_4 (dk_at dksX4_part_5 13 rfl rfl)
theorem dX4_part_130 : decode cX4_part 130 = .ok (.iadd, 1) := dk_96 (dk_at dksX4_part_5 14 rfl rfl)
theorem dX4_part_131 : decode cX4_part 131 = .ok (.iastore, 1) := dk_79 (dk_at dksX4_part_5 15 rfl rfl)
theorem dX4_part_132 : decode cX4_part 132 = .ok (.aload_n 0, 1) := dk_42 (dk_at dksX4_part_5 16 rfl rfl)
theorem dX4_part_133 : decode cX4_part 133 = .ok (.getfield 197, 3) := dk_180 0 197 (dk_at dksX4_part_5 17 rfl rfl)
theorem dX4_part_136 : decode cX4_part 136 = .ok (.iload_n 1, 1) := dk_27 (dk_at dksX4_part_5 20 rfl rfl)
theorem dX4_part_137 : decode cX4_part 137 = .ok (.iaload, 1) := dk_46 (dk_at dksX4_part_5 21 rfl rfl)
theorem dX4_part_138 : decode cX4_part 138 = .ok (.ireturn, 1) := dk_172 (dk_at dksX4_part_5 22 rfl rfl)
abbrev cX4_blind : ByteArray := prog_30_method_76_code
def yX4_blind : MethodName := ⟨RX4, "blind", "(II)I"⟩
def dkwX4_blind_6 : List UInt8 := [159, 0, 9, 132, 4, 1, 167, 255, 242, 42, 180, 0, 206, 21, 4, 46, 172]
abbrev dktX4_blind_6 : List UInt8 := dkwX4_blind_6 ++ []
def dkwX4_blind_5 : List UInt8 := [132, 3, 1, 167, 255, 239, 28, 2, 160, 0, 5, 29, 172, 3, 54, 4, 42, 180, 0, 203, 21, 4, 46, 28]
abbrev dktX4_blind_5 : List UInt8 := dkwX4_blind_5 ++ dktX4_blind_6
def dkwX4_blind_4 : List UInt8 := [132, 3, 1, 167, 255, 211, 4, 62, 42, 42, 180, 0, 51, 27, 46, 29, 182, 1, 163, 154, 0, 9]
abbrev dktX4_blind_4 : List UInt8 := dkwX4_blind_4 ++ dktX4_blind_5
def dkwX4_blind_3 : List UInt8 := [167, 0, 23, 42, 180, 0, 203, 42, 180, 0, 209, 29, 79, 42, 89, 180, 0, 209, 4, 96, 181, 0, 209]
abbrev dktX4_blind_3 : List UInt8 := dkwX4_blind_3 ++ dktX4_blind_4
def dkwX4_blind_2 : List UInt8 := [181, 0, 209, 3, 62, 29, 16, 16, 162, 0, 45, 42, 180, 0, 54, 27, 46, 29, 122, 4, 126, 154, 0, 6]
abbrev dktX4_blind_2 : List UInt8 := dkwX4_blind_2 ++ dktX4_blind_3
def dkwX4_blind_1 : List UInt8 := [164, 0, 6, 16, 253, 172, 28, 2, 159, 0, 14, 42, 27, 28, 182, 1, 148, 154, 0, 5, 2, 172, 42, 3]
abbrev dktX4_blind_1 : List UInt8 := dkwX4_blind_1 ++ dktX4_blind_2
def dkwX4_blind_0 : List UInt8 := [42, 27, 182, 1, 14, 154, 0, 5, 2, 172, 42, 42, 180, 0, 54, 27, 46, 182, 1, 69, 16, 9]
abbrev dktX4_blind_0 : List UInt8 := dkwX4_blind_0 ++ dktX4_blind_1
theorem dksX4_blind_0 : cX4_blind.data.toList.drop 0 = dktX4_blind_0 := by decide +kernel
theorem dksX4_blind_1 : cX4_blind.data.toList.drop 22 = dktX4_blind_1 := dk_seg dksX4_blind_0 22 rfl rfl
theorem dksX4_blind_2 : cX4_blind.data.toList.drop 46 = dktX4_blind_2 := dk_seg dksX4_blind_1 24 rfl rfl
theorem dksX4_blind_3 : cX4_blind.data.toList.drop 70 = dktX4_blind_3 := dk_seg dksX4_blind_2 24 rfl rfl
theorem dksX4_blind_4 : cX4_blind.data.toList.drop 93 = dktX4_blind_4 := dk_seg dksX4_blind_3 23 rfl rfl
theorem dksX4_blind_5 : cX4_blind.data.toList.drop 115 = dktX4_blind_5 := dk_seg dksX4_blind_4 22 rfl rfl
theorem dksX4_blind_6 : cX4_blind.data.toList.drop 139 = dktX4_blind_6 := dk_seg dksX4_blind_5 24 rfl rfl
theorem dX4_blind_0 : decode cX4_blind 0 = .ok (.aload_n 0, 1) := dk_42 (dk_at dksX4_blind_0 0 rfl rfl)
theorem dX4_blind_1 : decode cX4_blind 1 = .ok (.iload_n 1, 1) := dk_27 (dk_at dksX4_blind_0 1 rfl rfl)
theorem dX4_blind_2 : decode cX4_blind 2 = .ok (.invokevirtual 270, 3) := dk_182 1 14 (dk_at dksX4_blind_0 2 rfl rfl)
theorem dX4_blind_5 : decode cX4_blind 5 = .ok (.ifCond .ne 5, 3) := dk_154 0 5 (dk_at dksX4_blind_0 5 rfl rfl)
theorem dX4_blind_8 : decode cX4_blind 8 = .ok (.iconst (-1), 1) := dk_2 (dk_at dksX4_blind_0 8 rfl rfl)
theorem dX4_blind_9 : decode cX4_blind 9 = .ok (.ireturn, 1) := dk_172 (dk_at dksX4_blind_0 9 rfl rfl)
theorem dX4_blind_10 : decode cX4_blind 10 = .ok (.aload_n 0, 1) := dk_42 (dk_at dksX4_blind_0 10 rfl rfl)
theorem dX4_blind_11 : decode cX4_blind 11 = .ok (.aload_n 0, 1) := dk_42 (dk_at dksX4_blind_0 11 rfl rfl)
theorem dX4_blind_12 : decode cX4_blind 12 = .ok (.getfield 54, 3) := dk_180 0 54 (dk_at dksX4_blind_0 12 rfl rfl)
theorem dX4_blind_15 : decode cX4_blind 15 = .ok (.iload_n 1, 1) := dk_27 (dk_at dksX4_blind_0 15 rfl rfl)
theorem dX4_blind_16 : decode cX4_blind 16 = .ok (.iaload, 1) := dk_46 (dk_at dksX4_blind_0 16 rfl rfl)
theorem dX4_blind_17 : decode cX4_blind 17 = .ok (.invokevirtual 325, 3) := dk_182 1 69 (dk_at dksX4_blind_0 17 rfl rfl)
theorem dX4_blind_20 : decode cX4_blind 20 = .ok (.bipush 9, 2) := dk_16 9 (dk_at dksX4_blind_0 20 rfl rfl)
theorem dX4_blind_22 : decode cX4_blind 22 = .ok (.if_icmp .le 6, 3) := dk_164 0 6 (dk_at dksX4_blind_1 0 rfl rfl)
theorem dX4_blind_25 : decode cX4_blind 25 = .ok (.bipush (-3), 2) := dk_16 253 (dk_at dksX4_blind_1 3 rfl rfl)
theorem dX4_blind_27 : decode cX4_blind 27 = .ok (.ireturn, 1) := dk_172 (dk_at dksX4_blind_1 5 rfl rfl)
theorem dX4_blind_28 : decode cX4_blind 28 = .ok (.iload_n 2, 1) := dk_28 (dk_at dksX4_blind_1 6 rfl rfl)
theorem dX4_blind_29 : decode cX4_blind 29 = .ok (.iconst (-1), 1) := dk_2 (dk_at dksX4_blind_1 7 rfl rfl)
theorem dX4_blind_30 : decode cX4_blind 30 = .ok (.if_icmp .eq 14, 3) := dk_159 0 14 (dk_at dksX4_blind_1 8 rfl rfl)
theorem dX4_blind_33 : decode cX4_blind 33 = .ok (.aload_n 0, 1) := dk_42 (dk_at dksX4_blind_1 11 rfl rfl)
theorem dX4_blind_34 : decode cX4_blind 34 = .ok (.iload_n 1, 1) := dk_27 (dk_at dksX4_blind_1 12 rfl rfl)
theorem dX4_blind_35 : decode cX4_blind 35 = .ok (.iload_n 2, 1) := dk_28 (dk_at dksX4_blind_1 13 rfl rfl)
theorem dX4_blind_36 : decode cX4_blind 36 = .ok (.invokevirtual 404, 3) := dk_182 1 148 (dk_at dksX4_blind_1 14 rfl rfl)
theorem dX4_blind_39 : decode cX4_blind 39 = .ok (.ifCond .ne 5, 3) := dk_154 0 5 (dk_at dksX4_blind_1 17 rfl rfl)
theorem dX4_blind_42 : decode cX4_blind 42 = .ok (.iconst (-1), 1) := dk_2 (dk_at dksX4_blind_1 20 rfl rfl)
theorem dX4_blind_43 : decode cX4_blind 43 = .ok (.ireturn, 1) := dk_172 (dk_at dksX4_blind_1 21 rfl rfl)
theorem dX4_blind_44 : decode cX4_blind 44 = .ok (.aload_n 0, 1) := dk_42 (dk_at dksX4_blind_1 22 rfl rfl)
theorem dX4_blind_45 : decode cX4_blind 45 = .ok (.iconst 0, 1) := dk_3 (dk_at dksX4_blind_1 23 rfl rfl)
theorem dX4_blind_46 : decode cX4_blind 46 = .ok (.putfield 209, 3) := dk_181 0 209 (dk_at dksX4_blind_2 0 rfl rfl)
theorem dX4_blind_49 : decode cX4_blind 49 = .ok (.iconst 0, 1) := dk_3 (dk_at dksX4_blind_2 3 rfl rfl)
theorem dX4_blind_50 : decode cX4_blind 50 = .ok (.istore_n 3, 1) := dk_62 (dk_at dksX4_blind_2 4 rfl rfl)
theorem dX4_blind_51 : decode cX4_blind 51 = .ok (.iload_n 3, 1) := dk_29 (dk_at dksX4_blind_2 5 rfl rfl)
theorem dX4_blind_52 : decode cX4_blind 52 = .ok (.bipush 16, 2) := dk_16 16 (dk_at dksX4_blind_2 6 rfl rfl)
theorem dX4_blind_54 : decode cX4_blind 54 = .ok (.if_icmp .ge 45, 3) := dk_162 0 45 (dk_at dksX4_blind_2 8 rfl rfl)
theorem dX4_blind_57 : decode cX4_blind 57 = .ok (.aload_n 0, 1) := dk_42 (dk_at dksX4_blind_2 11 rfl rfl)
theorem dX4_blind_58 : decode cX4_blind 58 = .ok (.getfield 54, 3) := dk_180 0 54 (dk_at dksX4_blind_2 12 rfl rfl)
theorem dX4_blind_61 : decode cX4_blind 61 = .ok (.iload_n 1, 1) := dk_27 (dk_at dksX4_blind_2 15 rfl rfl)
theorem dX4_blind_62 : decode cX4_blind 62 = .ok (.iaload, 1) := dk_46 (dk_at dksX4_blind_2 16 rfl rfl)
theorem dX4_blind_63 : decode cX4_blind 63 = .ok (.iload_n 3, 1) := dk_29 (dk_at dksX4_blind_2 17 rfl rfl)
theorem dX4_blind_64 : decode cX4_blind 64 = .ok (.ishr, 1) := dk_122 (dk_at dksX4_blind_2 18 rfl rfl)
theorem dX4_blind_65 : decode cX4_blind 65 = .ok (.iconst 1, 1) := dk_4 (dk_at dksX4_blind_2 19 rfl rfl)
theorem dX4_blind_66 : decode cX4_blind 66 = .ok (.iand, 1) := dk_126 (dk_at dksX4_blind_2 20 rfl rfl)
theorem dX4_blind_67 : decode cX4_blind 67 = .ok (.ifCond .ne 6, 3) := dk_154 0 6 (dk_at dksX4_blind_2 21 rfl rfl)
theorem dX4_blind_70 : decode cX4_blind 70 = .ok (.goto 23, 3) := dk_167 0 23 (dk_at dksX4_blind_3 0 rfl rfl)
theorem dX4_blind_73 : decode cX4_blind 73 = .ok (.aload_n 0, 1) := dk_42 (dk_at dksX4_blind_3 3 rfl rfl)
theorem dX4_blind_74 : decode cX4_blind 74 = .ok (.getfield 203, 3) := dk_180 0 203 (dk_at dksX4_blind_3 4 rfl rfl)
theorem dX4_blind_77 : decode cX4_blind 77 = .ok (.aload_n 0, 1) := dk_42 (dk_at dksX4_blind_3 7 rfl rfl)
theorem dX4_blind_78 : decode cX4_blind 78 = .ok (.getfield 209, 3) := dk_180 0 209 (dk_at dksX4_blind_3 8 rfl rfl)
theorem dX4_blind_81 : decode cX4_blind 81 = .ok (.iload_n 3, 1) := dk_29 (dk_at dksX4_blind_3 11 rfl rfl)
theorem dX4_blind_82 : decode cX4_blind 82 = .ok (.iastore, 1) := dk_79 (dk_at dksX4_blind_3 12 rfl rfl)
theorem dX4_blind_83 : decode cX4_blind 83 = .ok (.aload_n 0, 1) := dk_42 (dk_at dksX4_blind_3 13 rfl rfl)
theorem dX4_blind_84 : decode cX4_blind 84 = .ok (.dup, 1) := dk_89 (dk_at dksX4_blind_3 14 rfl rfl)
theorem dX4_blind_85 : decode cX4_blind 85 = .ok (.getfield 209, 3) := dk_180 0 209 (dk_at dksX4_blind_3 15 rfl rfl)
theorem dX4_blind_88 : decode cX4_blind 88 = .ok (.iconst 1, 1) := dk_4 (dk_at dksX4_blind_3 18 rfl rfl)
theorem dX4_blind_89 : decode cX4_blind 89 = .ok (.iadd, 1) := dk_96 (dk_at dksX4_blind_3 19 rfl rfl)
theorem dX4_blind_90 : decode cX4_blind 90 = .ok (.putfield 209, 3) := dk_181 0 209 (dk_at dksX4_blind_3 20 rfl rfl)
theorem dX4_blind_93 : decode cX4_blind 93 = .ok (.iinc 3 1, 3) := dk_132 3 1 (dk_at dksX4_blind_4 0 rfl rfl)
theorem dX4_blind_96 : decode cX4_blind 96 = .ok (.goto (-45), 3) := dk_167 255 211 (dk_at dksX4_blind_4 3 rfl rfl)
theorem dX4_blind_99 : decode cX4_blind 99 = .ok (.iconst 1, 1) := dk_4 (dk_at dksX4_blind_4 6 rfl rfl)
theorem dX4_blind_100 : decode cX4_blind 100 = .ok (.istore_n 3, 1) := dk_62 (dk_at dksX4_blind_4 7 rfl rfl)
theorem dX4_blind_101 : decode cX4_blind 101 = .ok (.aload_n 0, 1) := dk_42 (dk_at dksX4_blind_4 8 rfl rfl)
theorem dX4_blind_102 : decode cX4_blind 102 = .ok (.aload_n 0, 1) := dk_42 (dk_at dksX4_blind_4 9 rfl rfl)
theorem dX4_blind_103 : decode cX4_blind 103 = .ok (.getfield 51, 3) := dk_180 0 51 (dk_at dksX4_blind_4 10 rfl rfl)
theorem dX4_blind_106 : decode cX4_blind 106 = .ok (.iload_n 1, 1) := dk_27 (dk_at dksX4_blind_4 13 rfl rfl)
theorem dX4_blind_107 : decode cX4_blind 107 = .ok (.iaload, 1) := dk_46 (dk_at dksX4_blind_4 14 rfl rfl)
theorem dX4_blind_108 : decode cX4_blind 108 = .ok (.iload_n 3, 1) := dk_29 (dk_at dksX4_blind_4 15 rfl rfl)
theorem dX4_blind_109 : decode cX4_blind 109 = .ok (.invokevirtual 419, 3) := dk_182 1 163 (dk_at dksX4_blind_4 16 rfl rfl)
theorem dX4_blind_112 : decode cX4_blind 112 = .ok (.ifCond .ne 9, 3) := dk_154 0 9 (dk_at dksX4_blind_4 19 rfl rfl)
theorem dX4_blind_115 : decode cX4_blind 115 = .ok (.iinc 3 1, 3) := dk_132 3 1 (dk_at dksX4_blind_5 0 rfl rfl)
theorem dX4_blind_118 : decode cX4_blind 118 = .ok (.goto (-17), 3) := dk_167 255 239 (dk_at dksX4_blind_5 3 rfl rfl)
theorem dX4_blind_121 : decode cX4_blind 121 = .ok (.iload_n 2, 1) := dk_28 (dk_at dksX4_blind_5 6 rfl rfl)
theorem dX4_blind_122 : decode cX4_blind 122 = .ok (.iconst (-1), 1) := dk_2 (dk_at dksX4_blind_5 7 rfl rfl)
theorem dX4_blind_123 : decode cX4_blind 123 = .ok (.if_icmp .ne 5, 3) := dk_160 0 5 (dk_at dksX4_blind_5 8 rfl rfl)
theorem dX4_blind_126 : decode cX4_blind 126 = .ok (.iload_n 3, 1) := dk_29 (dk_at dksX4_blind_5 11 rfl rfl)
theorem dX4_blind_127 : decode cX4_blind 127 = .ok (.ireturn, 1) := dk_172 (dk_at dksX4_blind_5 12 rfl rfl)
theorem dX4_blind_128 : decode cX4_blind 128 = .ok (.iconst 0, 1) := dk_3 (dk_at dksX4_blind_5 13 rfl rfl)
theorem dX4_blind_129 : decode cX4_blind 129 = .ok (.istore 4, 2) := dk_54 4 (dk_at dksX4_blind_5 14 rfl rfl)
theorem dX4_blind_131 : decode cX4_blind 131 = .ok (.aload_n 0, 1) := dk_42 (dk_at dksX4_blind_5 16 rfl rfl)
theorem dX4_blind_132 : decode cX4_blind 132 = .ok (.getfield 203, 3) := dk_180 0 203 (dk_at dksX4_blind_5 17 rfl rfl)
theorem dX4_blind_135 : decode cX4_blind 135 = .ok (.iload 4, 2) := dk_21 4 (dk_at dksX4_blind_5 20 rfl rfl)
theorem dX4_blind_137 : decode cX4_blind 137 = .ok (.iaload, 1) := dk_46 (dk_at dksX4_blind_5 22 rfl rfl)
theorem dX4_blind_138 : decode cX4_blind 138 = .ok (.iload_n 2, 1) := dk_28 (dk_at dksX4_blind_5 23 rfl rfl)
theorem dX4_blind_139 : decode cX4_blind 139 = .ok (.if_icmp .eq 9, 3) := dk_159 0 9 (dk_at dksX4_blind_6 0 rfl rfl)
theorem dX4_blind_142 : decode cX4_blind 142 = .ok (.iinc 4 1, 3) := dk_132 4 1 (dk_at dksX4_blind_6 3 rfl rfl)
theorem dX4_blind_145 : decode cX4_blind 145 = .ok (.goto (-14), 3) := dk_167 255 242 (dk_at dksX4_blind_6 6 rfl rfl)
theorem dX4_blind_148 : decode cX4_blind 148 = .ok (.aload_n 0, 1) := dk_42 (dk_at dksX4_blind_6 9 rfl rfl)
theorem dX4_blind_149 : decode cX4_blind 149 = .ok (.getfield 206, 3) := dk_180 0 206 (dk_at dksX4_blind_6 10 rfl rfl)
theorem dX4_blind_152 : decode cX4_blind 152 = .ok (.iload 4, 2) := dk_21 4 (dk_at dksX4_blind_6 13 rfl rfl)
theorem dX4_blind_154 : decode cX4_blind 154 = .ok (.iaload, 1) := dk_46 (dk_at dksX4_blind_6 15 rfl rfl)
theorem dX4_blind_155 : decode cX4_blind 155 = .ok (.ireturn, 1) := dk_172 (dk_at dksX4_blind_6 16 rfl rfl)
abbrev cX4_canPart : ByteArray := prog_30_method_75_code
def yX4_canPart : MethodName := ⟨RX4, "canPart", "(II)Z"⟩
def dkwX4_canPart_7 : List UInt8 := [167, 0, 4, 3, 172]
abbrev dktX4_canPart_7 : List UInt8 := dkwX4_canPart_7 ++ []
def dkwX4_canPart_6 : List UInt8 := [162, 0, 10, 42, 180, 0, 206, 29, 2, 79, 167, 255, 117, 29, 42, 180, 0, 209, 160, 0, 7, 4]
abbrev dktX4_canPart_6 : List UInt8 := dkwX4_canPart_6 ++ dktX4_canPart_7
def dkwX4_canPart_5 : List UInt8 := [132, 5, 1, 167, 255, 190, 21, 4, 154, 0, 6, 167, 255, 138, 132, 3, 1, 29, 42, 180, 0, 209]
abbrev dktX4_canPart_5 : List UInt8 := dkwX4_canPart_5 ++ dktX4_canPart_6
def dkwX4_canPart_4 : List UInt8 := [21, 5, 46, 96, 46, 42, 180, 0, 203, 29, 46, 122, 4, 126, 154, 0, 7, 4, 167, 0, 4, 3, 54, 4]
abbrev dktX4_canPart_4 : List UInt8 := dkwX4_canPart_4 ++ dktX4_canPart_5
def dkwX4_canPart_3 : List UInt8 := [21, 5, 46, 42, 180, 0, 206, 29, 46, 160, 0, 32, 42, 180, 0, 200, 16, 16, 27, 104, 42, 180, 0, 203]
abbrev dktX4_canPart_3 : List UInt8 := dkwX4_canPart_3 ++ dktX4_canPart_4
def dkwX4_canPart_2 : List UInt8 := [167, 255, 221, 4, 54, 4, 3, 54, 5, 21, 5, 29, 162, 0, 66, 21, 4, 153, 0, 52, 42, 180, 0, 206]
abbrev dktX4_canPart_2 : List UInt8 := dkwX4_canPart_2 ++ dktX4_canPart_3
def dkwX4_canPart_1 : List UInt8 := [180, 0, 206, 29, 92, 46, 4, 96, 79, 42, 180, 0, 206, 29, 46, 28, 161, 0, 9, 132, 3, 255]
abbrev dktX4_canPart_1 : List UInt8 := dkwX4_canPart_1 ++ dktX4_canPart_2
def dkwX4_canPart_0 : List UInt8 := [3, 62, 42, 180, 0, 206, 3, 2, 79, 29, 155, 0, 141, 29, 42, 180, 0, 209, 162, 0, 133, 42]
abbrev dktX4_canPart_0 : List UInt8 := dkwX4_canPart_0 ++ dktX4_canPart_1
theorem dksX4_canPart_0 : cX4_canPart.data.toList.drop 0 = dktX4_canPart_0 := by decide +kernel
theorem dksX4_canPart_1 : cX4_canPart.data.toList.drop 22 = dktX4_canPart_1 := dk_seg dksX4_canPart_0 22 rfl rfl
theorem dksX4_canPart_2 : cX4_canPart.data.toList.drop 44 = dktX4_canPart_2 := dk_seg dksX4_canPart_1 22 rfl rfl
theorem dksX4_canPart_3 : cX4_canPart.data.toList.drop 68 = dktX4_canPart_3 := dk_seg dksX4_canPart_2 24 rfl rfl
theorem dksX4_canPart_4 : cX4_canPart.data.toList.drop 92 = dktX4_canPart_4 := dk_seg dksX4_canPart_3 24 rfl rfl
theorem dksX4_canPart_5 : cX4_canPart.data.toList.drop 116 = dktX4_canPart_5 := dk_seg dksX4_canPart_4 24 rfl rfl
theorem dksX4_canPart_6 : cX4_canPart.data.toList.drop 138 = dktX4_canPart_6 := dk_seg dksX4_canPart_5 22 rfl rfl
theorem dksX4_canPart_7 : cX4_canPart.data.toList.drop 160 = dktX4_canPart_7 := dk_seg dksX4_canPart_6 22 rfl rfl
theorem dX4_canPart_0 : decode cX4_canPart 0 = .ok (.iconst 0, 1) := dk_3 (dk_at dksX4_canPart_0 0 rfl rfl)
theorem dX4_canPart_1 : decode cX4_canPart 1 = .ok (.istore_n 3, 1) := dk_62 (dk_at dksX4_canPart_0 1 rfl rfl)
theorem dX4_canPart_2 : decode cX4_canPart 2 = .ok (.aload_n 0, 1) := dk_42 (dk_at dksX4_canPart_0 2 rfl rfl)
theorem dX4_canPart_3 : decode cX4_canPart 3 = .ok (.getfield 206, 3) := dk_180 0 206 (dk_at dksX4_canPart_0 3 rfl rfl)
theorem dX4_canPart_6 : decode cX4_canPart 6 = .ok (.iconst 0, 1) := dk_3 (dk_at dksX4_canPart_0 6 rfl rfl)
theorem dX4_canPart_7 : decode cX4_canPart 7 = .ok (.iconst (-1), 1) := dk_2 (dk_at dksX4_canPart_0 7 rfl rfl)
theorem dX4_canPart_8 : decode cX4_canPart 8 = .ok (.iastore, 1) := dk_79 (dk_at dksX4_canPart_0 8 rfl rfl)
theorem dX4_canPart_9 : decode cX4_canPart 9 = .ok (.iload_n 3, 1) := dk_29 (dk_at dksX4_canPart_0 9 rfl rfl)
theorem dX4_canPart_10 : decode cX4_canPart 10 = .ok (.ifCond .lt 141, 3) := dk_155 0 141 (dk_at dksX4_canPart_0 10 rfl rfl)
theorem dX4_canPart_13 : decode cX4_canPart 13 = .ok (.iload_n 3, 1) := dk_29 (dk_at dksX4_canPart_0 13 rfl rfl)
theorem dX4_canPart_14 : decode cX4_canPart 14 = .ok (.aload_n 0, 1) := dk_42 (dk_at dksX4_canPart_0 14 rfl rfl)
theorem dX4_canPart_15 : decode cX4_canPart 15 = .ok (.getfield 209, 3) := dk_180 0 209 (dk_at dksX4_canPart_0 15 rfl rfl)
theorem dX4_canPart_18 : decode cX4_canPart 18 = .ok (.if_icmp .ge 133, 3) := dk_162 0 133 (dk_at dksX4_canPart_0 18 rfl rfl)
theorem dX4_canPart_21 : decode cX4_canPart 21 = .ok (.aload_n 0, 1) := dk_42 (dk_at dksX4_canPart_0 21 rfl rfl)
theorem dX4_canPart_22 : decode cX4_canPart 22 = .ok (.getfield 206, 3) := dk_180 0 206 (dk_at dksX4_canPart_1 0 rfl rfl)
theorem dX4_canPart_25 : decode cX4_canPart 25 = .ok (.iload_n 3, 1) := dk_29 (dk_at dksX4_canPart_1 3 rfl rfl)
theorem dX4_canPart_26 : decode cX4_canPart 26 = .ok (.dup2, 1) := dk_92 (dk_at dksX4_canPart_1 4 rfl rfl)
theorem dX4_canPart_27 : decode cX4_canPart 27 = .ok (.iaload, 1) := dk_46 (dk_at dksX4_canPart_1 5 rfl rfl)
theorem dX4_canPart_28 : decode cX4_canPart 28 = .ok (.iconst 1, 1) := dk_4 (dk_at dksX4_canPart_1 6 rfl rfl)
theorem dX4_canPart_29 : decode cX4_canPart 29 = .ok (.iadd, 1) := dk_96 (dk_at dksX4_canPart_1 7 rfl rfl)
theorem dX4_canPart_30 : decode cX4_canPart 30 = .ok (.iastore, 1) := dk_79 (dk_at dksX4_canPart_1 8 rfl rfl)
theorem dX4_canPart_31 : decode cX4_canPart 31 = .ok (.aload_n 0, 1) := dk_42 (dk_at dksX4_canPart_1 9 rfl rfl)
theorem dX4_canPart_32 : decode cX4_canPart 32 = .ok (.getfield 206, 3) := dk_180 0 206 (dk_at dksX4_canPart_1 10 rfl rfl)
theorem dX4_canPart_35 : decode cX4_canPart 35 = .ok (.iload_n 3, 1) := dk_29 (dk_at dksX4_canPart_1 13 rfl rfl)
theorem dX4_canPart_36 : decode cX4_canPart 36 = .ok (.iaload, 1) := dk_46 (dk_at dksX4_canPart_1 14 rfl rfl)
theorem dX4_canPart_37 : decode cX4_canPart 37 = .ok (.iload_n 2, 1) := dk_28 (dk_at dksX4_canPart_1 15 rfl rfl)
theorem dX4_canPart_38 : decode cX4_canPart 38 = .ok (.if_icmp .lt 9, 3) := dk_161 0 9 (dk_at dksX4_canPart_1 16 rfl rfl)
theorem dX4_canPart_41 : decode cX4_canPart 41 = .ok (.iinc 3 (-1), 3) := dk_132 3 255 (dk_at dksX4_canPart_1 19 rfl rfl)
theorem dX4_canPart_44 : decode cX4_canPart 44 = .ok (.goto (-35), 3) := dk_167 255 221 (dk_at dksX4_canPart_2 0 rfl rfl)
theorem dX4_canPart_47 : decode cX4_canPart 47 = .ok (.iconst 1, 1) := dk_4 (dk_at dksX4_canPart_2 3 rfl rfl)
theorem dX4_canPart_48 : decode cX4_canPart 48 = .ok (.istore 4, 2) := dk_54 4 (dk_at dksX4_canPart_2 4 rfl rfl)
theorem dX4_canPart_50 : decode cX4_canPart 50 = .ok (.iconst 0, 1) := dk_3 (dk_at dksX4_canPart_2 6 rfl rfl)
theorem dX4_canPart_51 : decode cX4_canPart 51 = .ok (.istore 5, 2) := dk_54 5 (dk_at dksX4_canPart_2 7 rfl rfl)
theorem dX4_canPart_53 : decode cX4_canPart 53 = .ok (.iload 5, 2) := dk_21 5 (dk_at dksX4_canPart_2 9 rfl rfl)
theorem dX4_canPart_55 : decode cX4_canPart 55 = .ok (.iload_n 3, 1) := dk_29 (dk_at dksX4_canPart_2 11 rfl rfl)
theorem dX4_canPart_56 : decode cX4_canPart 56 = .ok (.if_icmp .ge 66, 3) := dk_162 0 66 (dk_at dksX4_canPart_2 12 rfl rfl)
theorem dX4_canPart_59 : decode cX4_canPart 59 = .ok (.iload 4, 2) := dk_21 4 (dk_at dksX4_canPart_2 15 rfl rfl)
theorem dX4_canPart_61 : decode cX4_canPart 61 = .ok (.ifCond .eq 52, 3) := dk_153 0 52 (dk_at dksX4_canPart_2 17 rfl rfl)
theorem dX4_canPart_64 : decode cX4_canPart 64 = .ok (.aload_n 0, 1) := dk_42 (dk_at dksX4_canPart_2 20 rfl rfl)
theorem dX4_canPart_65 : decode cX4_canPart 65 = .ok (.getfield 206, 3) := dk_180 0 206 (dk_at dksX4_canPart_2 21 rfl rfl)
theorem dX4_canPart_68 : decode cX4_canPart 68 = .ok (.iload 5, 2) := dk_21 5 (dk_at dksX4_canPart_3 0 rfl rfl)
theorem dX4_canPart_70 : decode cX4_canPart 70 = .ok (.iaload, 1) := dk_46 (dk_at dksX4_canPart_3 2 rfl rfl)
theorem dX4_canPart_71 : decode cX4_canPart 71 = .ok (.aload_n 0, 1) := dk_42 (dk_at dksX4_canPart_3 3 rfl rfl)
theorem dX4_canPart_72 : decode cX4_canPart 72 = .ok (.getfield 206, 3) := dk_180 0 206 (dk_at dksX4_canPart_3 4 rfl rfl)
theorem dX4_canPart_75 : decode cX4_canPart 75 = .ok (.iload_n 3, 1) := dk_29 (dk_at dksX4_canPart_3 7 rfl rfl)
theorem dX4_canPart_76 : decode cX4_canPart 76 = .ok (.iaload, 1) := dk_46 (dk_at dksX4_canPart_3 8 rfl rfl)
theorem dX4_canPart_77 : decode cX4_canPart 77 = .ok (.if_icmp .ne 32, 3) := dk_160 0 32 (dk_at dksX4_canPart_3 9 rfl rfl)
theorem dX4_canPart_80 : decode cX4_canPart 80 = .ok (.aload_n 0, 1) := dk_42 (dk_at dksX4_canPart_3 12 rfl rfl)
theorem dX4_canPart_81 : decode cX4_canPart 81 = .ok (.getfield 200, 3) := dk_180 0 200 (dk_at dksX4_canPart_3 13 rfl rfl)
theorem dX4_canPart_84 : decode cX4_canPart 84 = .ok (.bipush 16, 2) := dk_16 16 (dk_at dksX4_canPart_3 16 rfl rfl)
theorem dX4_canPart_86 : decode cX4_canPart 86 = .ok (.iload_n 1, 1) := dk_27 (dk_at dksX4_canPart_3 18 rfl rfl)
theorem dX4_canPart_87 : decode cX4_canPart 87 = .ok (.imul, 1) := dk_104 (dk_at dksX4_canPart_3 19 rfl rfl)
theorem dX4_canPart_88 : decode cX4_canPart 88 = .ok (.aload_n 0, 1) := dk_42 (dk_at dksX4_canPart_3 20 rfl rfl)
theorem dX4_canPart_89 : decode cX4_canPart 89 = .ok (.getfield 203, 3) := dk_180 0 203 (dk_at dksX4_canPart_3 21 rfl rfl)
theorem dX4_canPart_92 : decode cX4_canPart 92 = .ok (.iload 5, 2) := dk_21 5 (dk_at dksX4_canPart_4 0 rfl rfl)
theorem dX4_canPart_94 : decode cX4_canPart 94 = .ok (.iaload, 1) := dk_46 (dk_at dksX4_canPart_4 2 rfl rfl)
theorem dX4_canPart_95 : decode cX4_canPart 95 = .ok (.iadd, 1) := dk_96 (dk_at dksX4_canPart_4 3 rfl rfl)
theorem dX4_canPart_96 : decode cX4_canPart 96 = .ok (.iaload, 1) := dk_46 (dk_at dksX4_canPart_4 4 rfl rfl)
theorem dX4_canPart_97 : decode cX4_canPart 97 = .ok (.aload_n 0, 1) := dk_42 (dk_at dksX4_canPart_4 5 rfl rfl)
theorem dX4_canPart_98 : decode cX4_canPart 98 = .ok (.getfield 203, 3) := dk_180 0 203 (dk_at dksX4_canPart_4 6 rfl rfl)
theorem dX4_canPart_101 : decode cX4_canPart 101 = .ok (.iload_n 3, 1) := dk_29 (dk_at dksX4_canPart_4 9 rfl rfl)
theorem dX4_canPart_102 : decode cX4_canPart 102 = .ok (.iaload, 1) := dk_46 (dk_at dksX4_canPart_4 10 rfl rfl)
theorem dX4_canPart_103 : decode cX4_canPart 103 = .ok (.ishr, 1) := dk_122 (dk_at dksX4_canPart_4 11 rfl rfl)
theorem dX4_canPart_104 : decode cX4_canPart 104 = .ok (.iconst 1, 1) := dk_4 (dk_at dksX4_canPart_4 12 rfl rfl)
theorem dX4_canPart_105 : decode cX4_canPart 105 = .ok (.iand, 1) := dk_126 (dk_at dksX4_canPart_4 13 rfl rfl)
theorem dX4_canPart_106 : decode cX4_canPart 106 = .ok (.ifCond .ne 7, 3) := dk_154 0 7 (dk_at dksX4_canPart_4 14 rfl rfl)
theorem dX4_canPart_109 : decode cX4_canPart 109 = .ok (.iconst 1, 1) := dk_4 (dk_at dksX4_canPart_4 17 rfl rfl)
theorem dX4_canPart_110 : decode cX4_canPart 110 = .ok (.goto 4, 3) := dk_167 0 4 (dk_at dksX4_canPart_4 18 rfl rfl)
theorem dX4_canPart_113 : decode cX4_canPart 113 = .ok (.iconst 0, 1) := dk_3 (dk_at dksX4_canPart_4 21 rfl rfl)
theorem dX4_canPart_114 : decode cX4_canPart 114 = .ok (.istore 4, 2) := dk_54 4 (dk_at dksX4_canPart_4 22 rfl rfl)
theorem dX4_canPart_116 : decode cX4_canPart 116 = .ok (.iinc 5 1, 3) := dk_132 5 1 (dk_at dksX4_canPart_5 0 rfl rfl)
theorem dX4_canPart_119 : decode cX4_canPart 119 = .ok (.goto (-66), 3) := dk_167 255 190 (dk_at dksX4_canPart_5 3 rfl rfl)
theorem dX4_canPart_122 : decode cX4_canPart 122 = .ok (.iload 4, 2) := dk_21 4 (dk_at dksX4_canPart_5 6 rfl rfl)
theorem dX4_canPart_124 : decode cX4_canPart 124 = .ok (.ifCond .ne 6, 3) := dk_154 0 6 (dk_at dksX4_canPart_5 8 rfl rfl)
theorem dX4_canPart_127 : decode cX4_canPart 127 = .ok (.goto (-118), 3) := dk_167 255 138 (dk_at dksX4_canPart_5 11 rfl rfl)
theorem dX4_canPart_130 : decode cX4_canPart 130 = .ok (.iinc 3 1, 3) := dk_132 3 1 (dk_at dksX4_canPart_5 14 rfl rfl)
theorem dX4_canPart_133 : decode cX4_canPart 133 = .ok (.iload_n 3, 1) := dk_29 (dk_at dksX4_canPart_5 17 rfl rfl)
theorem dX4_canPart_134 : decode cX4_canPart 134 = .ok (.aload_n 0, 1) := dk_42 (dk_at dksX4_canPart_5 18 rfl rfl)
theorem dX4_canPart_135 : decode cX4_canPart 135 = .ok (.getfield 209, 3) := dk_180 0 209 (dk_at dksX4_canPart_5 19 rfl rfl)
theorem dX4_canPart_138 : decode cX4_canPart 138 = .ok (.if_icmp .ge 10, 3) := dk_162 0 10 (dk_at dksX4_canPart_6 0 rfl rfl)
theorem dX4_canPart_141 : decode cX4_canPart 141 = .ok (.aload_n 0, 1) := dk_42 (dk_at dksX4_canPart_6 3 rfl rfl)
theorem dX4_canPart_142 : decode cX4_canPart 142 = .ok (.getfield 206, 3) := dk_180 0 206 (dk_at dksX4_canPart_6 4 rfl rfl)
theorem dX4_canPart_145 : decode cX4_canPart 145 = .ok (.iload_n 3, 1) := dk_29 (dk_at dksX4_canPart_6 7 rfl rfl)
theorem dX4_canPart_146 : decode cX4_canPart 146 = .ok (.iconst (-1), 1) := dk_2 (dk_at dksX4_canPart_6 8 rfl rfl)
theorem dX4_canPart_147 : decode cX4_canPart 147 = .ok (.iastore, 1) := dk_79 (dk_at dksX4_canPart_6 9 rfl rfl)
theorem dX4_canPart_148 : decode cX4_canPart 148 = .ok (.goto (-139), 3) := dk_167 255 117 (dk_at dksX4_canPart_6 10 rfl rfl)
theorem dX4_canPart_151 : decode cX4_canPart 151 = .ok (.iload_n 3, 1) := dk_29 (dk_at dksX4_canPart_6 13 rfl rfl)
theorem dX4_canPart_152 : decode cX4_canPart 152 = .ok (.aload_n 0, 1) := dk_42 (dk_at dksX4_canPart_6 14 rfl rfl)
theorem dX4_canPart_153 : decode cX4_canPart 153 = .ok (.getfield 209, 3) := dk_180 0 209 (dk_at dksX4_canPart_6 15 rfl rfl)
theorem dX4_canPart_156 : decode cX4_canPart 156 = .ok (.if_icmp .ne 7, 3) := dk_160 0 7 (dk_at dksX4_canPart_6 18 rfl rfl)
theorem dX4_canPart_159 : decode cX4_canPart 159 = .ok (.iconst 1, 1) := dk_4 (dk_at dksX4_canPart_6 21 rfl rfl)
theorem dX4_canPart_160 : decode cX4_canPart 160 = .ok (.goto 4, 3) := dk_167 0 4 (dk_at dksX4_canPart_7 0 rfl rfl)
theorem dX4_canPart_163 : decode cX4_canPart 163 = .ok (.iconst 0, 1) := dk_3 (dk_at dksX4_canPart_7 3 rfl rfl)
theorem dX4_canPart_164 : decode cX4_canPart 164 = .ok (.ireturn, 1) := dk_172 (dk_at dksX4_canPart_7 4 rfl rfl)
abbrev cX4_port : ByteArray := prog_30_method_77_code
def yX4_port : MethodName := ⟨RX4, "port", "(III)I"⟩
def dkwX4_port_2 : List UInt8 := [96, 46, 54, 4, 42, 180, 0, 212, 16, 7, 27, 104, 28, 96, 29, 79, 21, 4, 172]
abbrev dktX4_port_2 : List UInt8 := dkwX4_port_2 ++ []
def dkwX4_port_1 : List UInt8 := [42, 29, 3, 17, 3, 231, 182, 0, 3, 154, 0, 6, 16, 254, 172, 42, 180, 0, 212, 16, 7, 27, 104, 28]
abbrev dktX4_port_1 : List UInt8 := dkwX4_port_1 ++ dktX4_port_2
def dkwX4_port_0 : List UInt8 := [42, 27, 3, 16, 7, 182, 0, 3, 153, 0, 14, 42, 28, 3, 16, 6, 182, 0, 3, 154, 0, 5, 2, 172]
abbrev dktX4_port_0 : List UInt8 := dkwX4_port_0 ++ dktX4_port_1
theorem dksX4_port_0 : cX4_port.data.toList.drop 0 = dktX4_port_0 := by decide +kernel
theorem dksX4_port_1 : cX4_port.data.toList.drop 24 = dktX4_port_1 := dk_seg dksX4_port_0 24 rfl rfl
theorem dksX4_port_2 : cX4_port.data.toList.drop 48 = dktX4_port_2 := dk_seg dksX4_port_1 24 rfl rfl
theorem dX4_port_0 : decode cX4_port 0 = .ok (.aload_n 0, 1) := dk_42 (dk_at dksX4_port_0 0 rfl rfl)
theorem dX4_port_1 : decode cX4_port 1 = .ok (.iload_n 1, 1) := dk_27 (dk_at dksX4_port_0 1 rfl rfl)
theorem dX4_port_2 : decode cX4_port 2 = .ok (.iconst 0, 1) := dk_3 (dk_at dksX4_port_0 2 rfl rfl)
theorem dX4_port_3 : decode cX4_port 3 = .ok (.bipush 7, 2) := dk_16 7 (dk_at dksX4_port_0 3 rfl rfl)
theorem dX4_port_5 : decode cX4_port 5 = .ok (.invokevirtual 3, 3) := dk_182 0 3 (dk_at dksX4_port_0 5 rfl rfl)
theorem dX4_port_8 : decode cX4_port 8 = .ok (.ifCond .eq 14, 3) := dk_153 0 14 (dk_at dksX4_port_0 8 rfl rfl)
theorem dX4_port_11 : decode cX4_port 11 = .ok (.aload_n 0, 1) := dk_42 (dk_at dksX4_port_0 11 rfl rfl)
theorem dX4_port_12 : decode cX4_port 12 = .ok (.iload_n 2, 1) := dk_28 (dk_at dksX4_port_0 12 rfl rfl)
theorem dX4_port_13 : decode cX4_port 13 = .ok (.iconst 0, 1) := dk_3 (dk_at dksX4_port_0 13 rfl rfl)
theorem dX4_port_14 : decode cX4_port 14 = .ok (.bipush 6, 2) := dk_16 6 (dk_at dksX4_port_0 14 rfl rfl)
theorem dX4_port_16 : decode cX4_port 16 = .ok (.invokevirtual 3, 3) := dk_182 0 3 (dk_at dksX4_port_0 16 rfl rfl)
theorem dX4_port_19 : decode cX4_port 19 = .ok (.ifCond .ne 5, 3) := dk_154 0 5 (dk_at dksX4_port_0 19 rfl rfl)
theorem dX4_port_22 : decode cX4_port 22 = .ok (.iconst (-1), 1) := dk_2 (dk_at dksX4_port_0 22 rfl rfl)
theorem dX4_port_23 : decode cX4_port 23 = .ok (.ireturn, 1) := dk_172 (dk_at dksX4_port_0 23 rfl rfl)
theorem dX4_port_24 : decode cX4_port 24 = .ok (.aload_n 0, 1) := dk_42 (dk_at dksX4_port_1 0 rfl rfl)
theorem dX4_port_25 : decode cX4_port 25 = .ok (.iload_n 3, 1) := dk_29 (dk_at dksX4_port_1 1 rfl rfl)
theorem dX4_port_26 : decode cX4_port 26 = .ok (.iconst 0, 1) := dk_3 (dk_at dksX4_port_1 2 rfl rfl)
theorem dX4_port_27 : decode cX4_port 27 = .ok (.sipush 999, 3) := dk_17 3 231 (dk_at dksX4_port_1 3 rfl rfl)
theorem dX4_port_30 : decode cX4_port 30 = .ok (.invokevirtual 3, 3) := dk_182 0 3 (dk_at dksX4_port_1 6 rfl rfl)
theorem dX4_port_33 : decode cX4_port 33 = .ok (.ifCond .ne 6, 3) := dk_154 0 6 (dk_at dksX4_port_1 9 rfl rfl)
theorem dX4_port_36 : decode cX4_port 36 = .ok (.bipush (-2), 2) := dk_16 254 (dk_at dksX4_port_1 12 rfl rfl)
theorem dX4_port_38 : decode cX4_port 38 = .ok (.ireturn, 1) := dk_172 (dk_at dksX4_port_1 14 rfl rfl)
theorem dX4_port_39 : decode cX4_port 39 = .ok (.aload_n 0, 1) := dk_42 (dk_at dksX4_port_1 15 rfl rfl)
theorem dX4_port_40 : decode cX4_port 40 = .ok (.getfield 212, 3) := dk_180 0 212 (dk_at dksX4_port_1 16 rfl rfl)
theorem dX4_port_43 : decode cX4_port 43 = .ok (.bipush 7, 2) := dk_16 7 (dk_at dksX4_port_1 19 rfl rfl)
theorem dX4_port_45 : decode cX4_port 45 = .ok (.iload_n 1, 1) := dk_27 (dk_at dksX4_port_1 21 rfl rfl)
theorem dX4_port_46 : decode cX4_port 46 = .ok (.imul, 1) := dk_104 (dk_at dksX4_port_1 22 rfl rfl)
theorem dX4_port_47 : decode cX4_port 47 = .ok (.iload_n 2, 1) := dk_28 (dk_at dksX4_port_1 23 rfl rfl)
theorem dX4_port_48 : decode cX4_port 48 = .ok (.iadd, 1) := dk_96 (dk_at dksX4_port_2 0 rfl rfl)
theorem dX4_port_49 : decode cX4_port 49 = .ok (.iaload, 1) := dk_46 (dk_at dksX4_port_2 1 rfl rfl)
theorem dX4_port_50 : decode cX4_port 50 = .ok (.istore 4, 2) := dk_54 4 (dk_at dksX4_port_2 2 rfl rfl)
theorem dX4_port_52 : decode cX4_port 52 = .ok (.aload_n 0, 1) := dk_42 (dk_at dksX4_port_2 4 rfl rfl)
theorem dX4_port_53 : decode cX4_port 53 = .ok (.getfield 212, 3) := dk_180 0 212 (dk_at dksX4_port_2 5 rfl rfl)
theorem dX4_port_56 : decode cX4_port 56 = .ok (.bipush 7, 2) := dk_16 7 (dk_at dksX4_port_2 8 rfl rfl)
theorem dX4_port_58 : decode cX4_port 58 = .ok (.iload_n 1, 1) := dk_27 (dk_at dksX4_port_2 10 rfl rfl)
theorem dX4_port_59 : decode cX4_port 59 = .ok (.imul, 1) := dk_104 (dk_at dksX4_port_2 11 rfl rfl)
theorem dX4_port_60 : decode cX4_port 60 = .ok (.iload_n 2, 1) := dk_28 (dk_at dksX4_port_2 12 rfl rfl)
theorem dX4_port_61 : decode cX4_port 61 = .ok (.iadd, 1) := dk_96 (dk_at dksX4_port_2 13 rfl rfl)
theorem dX4_port_62 : decode cX4_port 62 = .ok (.iload_n 3, 1) := dk_29 (dk_at dksX4_port_2 14 rfl rfl)
theorem dX4_port_63 : decode cX4_port 63 = .ok (.iastore, 1) := dk_79 (dk_at dksX4_port_2 15 rfl rfl)
theorem dX4_port_64 : decode cX4_port 64 = .ok (.iload 4, 2) := dk_21 4 (dk_at dksX4_port_2 16 rfl rfl)
theorem dX4_port_66 : decode cX4_port 66 = .ok (.ireturn, 1) := dk_172 (dk_at dksX4_port_2 18 rfl rfl)
abbrev cX4_search : ByteArray := prog_30_method_78_code
def yX4_search : MethodName := ⟨RX4, "search", "(II)I"⟩
def dkwX4_search_11 : List UInt8 := [29, 21, 4, 100, 62, 132, 5, 1, 167, 255, 187, 21, 4, 172]
abbrev dktX4_search_11 : List UInt8 := dkwX4_search_11 ++ []
def dkwX4_search_10 : List UInt8 := [100, 46, 96, 42, 180, 0, 215, 16, 31, 21, 5, 104, 29, 96, 46, 159, 0, 9, 132, 4, 1, 167, 255, 207]
abbrev dktX4_search_10 : List UInt8 := dkwX4_search_10 ++ dktX4_search_11
def dkwX4_search_9 : List UInt8 := [16, 7, 21, 5, 104, 21, 4, 96, 46, 42, 180, 0, 215, 16, 31, 21, 5, 4, 96, 104, 29, 96, 21, 4]
abbrev dktX4_search_9 : List UInt8 := dkwX4_search_9 ++ dktX4_search_10
def dkwX4_search_8 : List UInt8 := [27, 46, 172, 27, 62, 3, 54, 4, 3, 54, 5, 21, 5, 28, 163, 0, 69, 3, 54, 4, 42, 180, 0, 212]
abbrev dktX4_search_8 : List UInt8 := dkwX4_search_8 ++ dktX4_search_9
def dkwX4_search_7 : List UInt8 := [167, 255, 176, 132, 4, 1, 167, 255, 148, 132, 3, 255, 167, 255, 135, 28, 2, 160, 0, 10, 42, 180, 0, 215]
abbrev dktX4_search_7 : List UInt8 := dkwX4_search_7 ++ dktX4_search_8
def dkwX4_search_6 : List UInt8 := [21, 4, 96, 46, 164, 0, 17, 42, 180, 0, 215, 16, 31, 29, 104, 21, 4, 96, 21, 6, 79, 132, 5, 1]
abbrev dktX4_search_6 : List UInt8 := dkwX4_search_6 ++ dktX4_search_7
def dkwX4_search_5 : List UInt8 := [4, 96, 104, 21, 4, 96, 21, 5, 100, 46, 96, 54, 6, 21, 6, 42, 180, 0, 215, 16, 31, 29, 104]
abbrev dktX4_search_5 : List UInt8 := dkwX4_search_5 ++ dktX4_search_6
def dkwX4_search_4 : List UInt8 := [21, 4, 163, 0, 72, 42, 180, 0, 212, 16, 7, 29, 104, 21, 5, 96, 46, 42, 180, 0, 215, 16, 31, 29]
abbrev dktX4_search_4 : List UInt8 := dkwX4_search_4 ++ dktX4_search_5
def dkwX4_search_3 : List UInt8 := [180, 0, 215, 16, 31, 29, 104, 21, 4, 96, 3, 79, 3, 54, 5, 21, 5, 16, 6, 163, 0, 79, 21, 5]
abbrev dktX4_search_3 : List UInt8 := dkwX4_search_3 ++ dktX4_search_4
def dkwX4_search_2 : List UInt8 := [132, 3, 1, 167, 255, 236, 16, 7, 62, 29, 155, 0, 123, 3, 54, 4, 21, 4, 27, 163, 0, 108, 42]
abbrev dktX4_search_2 : List UInt8 := dkwX4_search_2 ++ dktX4_search_3
def dkwX4_search_1 : List UInt8 := [16, 254, 172, 3, 62, 29, 16, 30, 163, 0, 20, 42, 180, 0, 215, 17, 0, 248, 29, 96, 3, 79]
abbrev dktX4_search_1 : List UInt8 := dkwX4_search_1 ++ dktX4_search_2
def dkwX4_search_0 : List UInt8 := [42, 28, 2, 16, 7, 182, 0, 3, 154, 0, 5, 2, 172, 42, 27, 3, 16, 30, 182, 0, 3, 154, 0, 6]
abbrev dktX4_search_0 : List UInt8 := dkwX4_search_0 ++ dktX4_search_1
theorem dksX4_search_0 : cX4_search.data.toList.drop 0 = dktX4_search_0 := by decide +kernel
theorem dksX4_search_1 : cX4_search.data.toList.drop 24 = dktX4_search_1 := dk_seg dksX4_search_0 24 rfl rfl
theorem dksX4_search_2 : cX4_search.data.toList.drop 46 = dktX4_search_2 := dk_seg dksX4_search_1 22 rfl rfl
theorem dksX4_search_3 : cX4_search.data.toList.drop 69 = dktX4_search_3 := dk_seg dksX4_search_2 23 rfl rfl
theorem dksX4_search_4 : cX4_search.data.toList.drop 93 = dktX4_search_4 := dk_seg dksX4_search_3 24 rfl rfl
theorem dksX4_search_5 : cX4_search.data.toList.drop 117 = dktX4_search_5 := dk_seg dksX4_search_4 24 rfl rfl
theorem dksX4_search_6 : cX4_search.data.toList.drop 140 = dktX4_search_6 := dk_seg dksX4_search_5 23 rfl rfl
theorem dksX4_search_7 : cX4_search.data.toList.drop 164 = dktX4_search_7 := dk_seg dksX4_search_6 24 rfl rfl
theorem dksX4_search_8 : cX4_search.data.toList.drop 188 = dktX4_search_8 := dk_seg dksX4_search_7 24 rfl rfl
theorem dksX4_search_9 : cX4_search.data.toList.drop 212 = dktX4_search_9 := dk_seg dksX4_search_8 24 rfl rfl
theorem dksX4_search_10 : cX4_search.data.toList.drop 236 = dktX4_search_10 := dk_seg dksX4_search_9 24 rfl rfl
theorem dksX4_search_11 : cX4_search.data.toList.drop 260 = dktX4_search_11 := dk_seg dksX4_search_10 24 rfl rfl
theorem dX4_search_0 : decode cX4_search 0 = .ok (.aload_n 0, 1) := dk_42 (dk_at dksX4_search_0 0 rfl rfl)
theorem dX4_search_1 : decode cX4_search 1 = .ok (.iload_n 2, 1) := dk_28 (dk_at dksX4_search_0 1 rfl rfl)
theorem dX4_search_2 : decode cX4_search 2 = .ok (.iconst (-1), 1) := dk_2 (dk_at dksX4_search_0 2 rfl rfl)
theorem dX4_search_3 : decode cX4_search 3 = .ok (.bipush 7, 2) := dk_16 7 (dk_at dksX4_search_0 3 rfl rfl)
theorem dX4_search_5 : decode cX4_search 5 = .ok (.invokevirtual 3, 3) := dk_182 0 3 (dk_at dksX4_search_0 5 rfl rfl)
theorem dX4_search_8 : decode cX4_search 8 = .ok (.ifCond .ne 5, 3) := dk_154 0 5 (dk_at dksX4_search_0 8 rfl rfl)
theorem dX4_search_11 : decode cX4_search 11 = .ok (.iconst (-1), 1) := dk_2 (dk_at dksX4_search_0 11 rfl rfl)
theorem dX4_search_12 : decode cX4_search 12 = .ok (.ireturn, 1) := dk_172 (dk_at dksX4_search_0 12 rfl rfl)
theorem dX4_search_13 : decode cX4_search 13 = .ok (.aload_n 0, 1) := dk_42 (dk_at dksX4_search_0 13 rfl rfl)
theorem dX4_search_14 : decode cX4_search 14 = .ok (.iload_n 1, 1) := dk_27 (dk_at dksX4_search_0 14 rfl rfl)
theorem dX4_search_15 : decode cX4_search 15 = .ok (.iconst 0, 1) := dk_3 (dk_at dksX4_search_0 15 rfl rfl)
theorem dX4_search_16 : decode cX4_search 16 = .ok (.bipush 30, 2) := dk_16 30 (dk_at dksX4_search_0 16 rfl rfl)
theorem dX4_search_18 : decode cX4_search 18 = .ok (.invokevirtual 3, 3) := dk_182 0 3 (dk_at dksX4_search_0 18 rfl rfl)
theorem dX4_search_21 : decode cX4_search 21 = .ok (.ifCond .ne 6, 3) := dk_154 0 6 (dk_at dksX4_search_0 21 rfl rfl)
theorem dX4_search_24 : decode cX4_search 24 = .ok (.bipush (-2), 2) := dk_16 254 (dk_at dksX4_search_1 0 rfl rfl)
theorem dX4_search_26 : decode cX4_search 26 = .ok (.ireturn, 1) := dk_172 (dk_at dksX4_search_1 2 rfl rfl)
theorem dX4_search_27 : decode cX4_search 27 = .ok (.iconst 0, 1) := dk_3 (dk_at dksX4_search_1 3 rfl rfl)
theorem dX4_search_28 : decode cX4_search 28 = .ok (.istore_n 3, 1) := dk_62 (dk_at dksX4_search_1 4 rfl rfl)
theorem dX4_search_29 : decode cX4_search 29 = .ok (.iload_n 3, 1) := dk_29 (dk_at dksX4_search_1 5 rfl rfl)
theorem dX4_search_30 : decode cX4_search 30 = .ok (.bipush 30, 2) := dk_16 30 (dk_at dksX4_search_1 6 rfl rfl)
theorem dX4_search_32 : decode cX4_search 32 = .ok (.if_icmp .gt 20, 3) := dk_163 0 20 (dk_at dksX4_search_1 8 rfl rfl)
theorem dX4_search_35 : decode cX4_search 35 = .ok (.aload_n 0, 1) := dk_42 (dk_at dksX4_search_1 11 rfl rfl)
theorem dX4_search_36 : decode cX4_search 36 = .ok (.getfield 215, 3) := dk_180 0 215 (dk_at dksX4_search_1 12 rfl rfl)
theorem dX4_search_39 : decode cX4_search 39 = .ok (.sipush 248, 3) := dk_17 0 248 (dk_at dksX4_search_1 15 rfl rfl)
theorem dX4_search_42 : decode cX4_search 42 = .ok (.iload_n 3, 1) := dk_29 (dk_at dksX4_search_1 18 rfl rfl)
theorem dX4_search_43 : decode cX4_search 43 = .ok (.iadd, 1) := dk_96 (dk_at dksX4_search_1 19 rfl rfl)
theorem dX4_search_44 : decode cX4_search 44 = .ok (.iconst 0, 1) := dk_3 (dk_at dksX4_search_1 20 rfl rfl)
theorem dX4_search_45 : decode cX4_search 45 = .ok (.iastore, 1) := dk_79 (dk_at dksX4_search_1 21 rfl rfl)
theorem dX4_search_46 : decode cX4_search 46 = .ok (.iinc 3 1, 3) := dk_132 3 1 (dk_at dksX4_search_2 0 rfl rfl)
theorem dX4_search_49 : decode cX4_search 49 = .ok (.goto (-20), 3) := dk_167 255 236 (dk_at dksX4_search_2 3 rfl rfl)
theorem dX4_search_52 : decode cX4_search 52 = .ok (.bipush 7, 2) := dk_16 7 (dk_at dksX4_search_2 6 rfl rfl)
theorem dX4_search_54 : decode cX4_search 54 = .ok (.istore_n 3, 1) := dk_62 (dk_at dksX4_search_2 8 rfl rfl)
theorem dX4_search_55 : decode cX4_search 55 = .ok (.iload_n 3, 1) := dk_29 (dk_at dksX4_search_2 9 rfl rfl)
theorem dX4_search_56 : decode cX4_search 56 = .ok (.ifCond .lt 123, 3) := dk_155 0 123 (dk_at dksX4_search_2 10 rfl rfl)
theorem dX4_search_59 : decode cX4_search 59 = .ok (.iconst 0, 1) := dk_3 (dk_at dksX4_search_2 13 rfl rfl)
theorem dX4_search_60 : decode cX4_search 60 = .ok (.istore 4, 2) := dk_54 4 (dk_at dksX4_search_2 14 rfl rfl)
theorem dX4_search_62 : decode cX4_search 62 = .ok (.iload 4, 2) := dk_21 4 (dk_at dksX4_search_2 16 rfl rfl)
theorem dX4_search_64 : decode cX4_search 64 = .ok (.iload_n 1, 1) := dk_27 (dk_at dksX4_search_2 18 rfl rfl)
theorem dX4_search_65 : decode cX4_search 65 = .ok (.if_icmp .gt 108, 3) := dk_163 0 108 (dk_at dksX4_search_2 19 rfl rfl)
theorem dX4_search_68 : decode cX4_search 68 = .ok (.aload_n 0, 1) := dk_42 (dk_at dksX4_search_2 22 rfl rfl)
theorem dX4_search_69 : decode cX4_search 69 = .ok (.getfield 215, 3) := dk_180 0 215 (dk_at dksX4_search_3 0 rfl rfl)
theorem dX4_search_72 : decode cX4_search 72 = .ok (.bipush 31, 2) := dk_16 31 (dk_at dksX4_search_3 3 rfl rfl)
theorem dX4_search_74 : decode cX4_search 74 = .ok (.iload_n 3, 1) := dk_29 (dk_at dksX4_search_3 5 rfl rfl)
theorem dX4_search_75 : decode cX4_search 75 = .ok (.imul, 1) := dk_104 (dk_at dksX4_search_3 6 rfl rfl)
theorem dX4_search_76 : decode cX4_search 76 = .ok (.iload 4, 2) := dk_21 4 (dk_at dksX4_search_3 7 rfl rfl)
theorem dX4_search_78 : decode cX4_search 78 = .ok (.iadd, 1) := dk_96 (dk_at dksX4_search_3 9 rfl rfl)
theorem dX4_search_79 : decode cX4_search 79 = .ok (.iconst 0, 1) := dk_3 (dk_at dksX4_search_3 10 rfl rfl)
theorem dX4_search_80 : decode cX4_search 80 = .ok (.iastore, 1) := dk_79 (dk_at dksX4_search_3 11 rfl rfl)
theorem dX4_search_81 : decode cX4_search 81 = .ok (.iconst 0, 1) := dk_3 (dk_at dksX4_search_3 12 rfl rfl)
theorem dX4_search_82 : decode cX4_search 82 = .ok (.istore 5, 2) := dk_54 5 (dk_at dksX4_search_3 13 rfl rfl)
theorem dX4_search_84 : decode cX4_search 84 = .ok (.iload 5, 2) := dk_21 5 (dk_at dksX4_search_3 15 rfl rfl)
theorem dX4_search_86 : decode cX4_search 86 = .ok (.bipush 6, 2) := dk_16 6 (dk_at dksX4_search_3 17 rfl rfl)
theorem dX4_search_88 : decode cX4_search 88 = .ok (.if_icmp .gt 79, 3) := dk_163 0 79 (dk_at dksX4_search_3 19 rfl rfl)
theorem dX4_search_91 : decode cX4_search 91 = .ok (.iload 5, 2) := dk_21 5 (dk_at dksX4_search_3 22 rfl rfl)
theorem dX4_search_93 : decode cX4_search 93 = .ok (.iload 4, 2) := dk_21 4 (dk_at dksX4_search_4 0 rfl rfl)
theorem dX4_search_95 : decode cX4_search 95 = .ok (.if_icmp .gt 72, 3) := dk_163 0 72 (dk_at dksX4_search_4 2 rfl rfl)
theorem dX4_search_98 : decode cX4_search 98 = .ok (.aload_n 0, 1) := dk_42 (dk_at dksX4_search_4 5 rfl rfl)
theorem dX4_search_99 : decode cX4_search 99 = .ok (.getfield 212, 3) := dk_180 0 212 (dk_at dksX4_search_4 6 rfl rfl)
theorem dX4_search_102 : decode cX4_search 102 = .ok (.bipush 7, 2) := dk_16 7 (dk_at dksX4_search_4 9 rfl rfl)
theorem dX4_search_104 : decode cX4_search 104 = .ok (.iload_n 3, 1) := dk_29 (dk_at dksX4_search_4 11 rfl rfl)
theorem dX4_search_105 : decode cX4_search 105 = .ok (.imul, 1) := dk_104 (dk_at dksX4_search_4 12 rfl rfl)
theorem dX4_search_106 : decode cX4_search 106 = .ok (.iload 5, 2) := dk_21 5 (dk_at dksX4_search_4 13 rfl rfl)
theorem dX4_search_108 : decode cX4_search 108 = .ok (.iadd, 1) := dk_96 (dk_at dksX4_search_4 15 rfl rfl)
theorem dX4_search_109 : decode cX4_search 109 = .ok (.iaload, 1) := dk_46 (dk_at dksX4_search_4 16 rfl rfl)
theorem dX4_search_110 : decode cX4_search 110 = .ok (.aload_n 0, 1) := dk_42 (dk_at dksX4_search_4 17 rfl rfl)
theorem dX4_search_111 : decode cX4_search 111 = .ok (.getfield 215, 3) := dk_180 0 215 (dk_at dksX4_search_4 18 rfl rfl)
theorem dX4_search_114 : decode cX4_search 114 = .ok (.bipush 31, 2) := dk_16 31 (dk_at dksX4_search_4 21 rfl rfl)
theorem dX4_search_116 : decode cX4_search 116 = .ok (.iload_n 3, 1) := dk_29 (dk_at dksX4_search_4 23 rfl rfl)
theorem dX4_search_117 : decode cX4_search 117 = .ok (.iconst 1, 1) := dk_4 (dk_at dksX4_search_5 0 rfl rfl)
theorem dX4_search_118 : decode cX4_search 118 = .ok (.iadd, 1) := dk_96 (dk_at dksX4_search_5 1 rfl rfl)
theorem dX4_search_119 : decode cX4_search 119 = .ok (.imul, 1) := dk_104 (dk_at dksX4_search_5 2 rfl rfl)
theorem dX4_search_120 : decode cX4_search 120 = .ok (.iload 4, 2) := dk_21 4 (dk_at dksX4_search_5 3 rfl rfl)
theorem dX4_search_122 : decode cX4_search 122 = .ok (.iadd, 1) := dk_96 (dk_at dksX4_search_5 5 rfl rfl)
theorem dX4_search_123 : decode cX4_search 123 = .ok (.iload 5, 2) := dk_21 5 (dk_at dksX4_search_5 6 rfl rfl)
theorem dX4_search_125 : decode cX4_search 125 = .ok (.isub, 1) := dk_100 (dk_at dksX4_search_5 8 rfl rfl)
theorem dX4_search_126 : decode cX4_search 126 = .ok (.iaload, 1) := dk_46 (dk_at dksX4_search_5 9 rfl rfl)
theorem dX4_search_127 : decode cX4_search 127 = .ok (.iadd, 1) := dk_96 (dk_at dksX4_search_5 10 rfl rfl)
theorem dX4_search_128 : decode cX4_search 128 = .ok (.istore 6, 2) := dk_54 6 (dk_at dksX4_search_5 11 rfl rfl)
theorem dX4_search_130 : decode cX4_search 130 = .ok (.iload 6, 2) := dk_21 6 (dk_at dksX4_search_5 13 rfl rfl)
theorem dX4_search_132 : decode cX4_search 132 = .ok (.aload_n 0, 1) := dk_42 (dk_at dksX4_search_5 15 rfl rfl)
theorem dX4_search_133 : decode cX4_search 133 = .ok (.getfield 215, 3) := dk_180 0 215 (dk_at dksX4_search_5 16 rfl rfl)
theorem dX4_search_136 : decode cX4_search 136 = .ok (.bipush 31, 2) := dk_16 31 (dk_at dksX4_search_5 19 rfl rfl)
theorem dX4_search_138 : decode cX4_search 138 = .ok (.iload_n 3, 1) := dk_29 (dk_at dksX4_search_5 21 rfl rfl)
theorem dX4_search_139 : decode cX4_search 139 = .ok (.imul, 1) := dk_104 (dk_at dksX4_search_5 22 rfl rfl)
theorem dX4_search_140 : decode cX4_search 140 = .ok (.iload 4, 2) := dk_21 4 (dk_at dksX4_search_6 0 rfl rfl)
theorem dX4_search_142 : decode cX4_search 142 = .ok (.iadd, 1) := dk_96 (dk_at dksX4_search_6 2 rfl rfl)
theorem dX4_search_143 : decode cX4_search 143 = .ok (.iaload, 1) := dk_46 (dk_at dksX4_search_6 3 rfl rfl)
theorem dX4_search_144 : decode cX4_search 144 = .ok (.if_icmp .le 17, 3) := dk_164 0 17 (dk_at dksX4_search_6 4 rfl rfl)
theorem dX4_search_147 : decode cX4_search 147 = .ok (.aload_n 0, 1) := dk_42 (dk_at dksX4_search_6 7 rfl rfl)
theorem dX4_search_148 : decode cX4_search 148 = .ok (.getfield 215, 3) := dk_180 0 215 (dk_at dksX4_search_6 8 rfl rfl)
theorem dX4_search_151 : decode cX4_search 151 = .ok (.bipush 31, 2) := dk_16 31 (dk_at dksX4_search_6 11 rfl rfl)
theorem dX4_search_153 : decode cX4_search 153 = .ok (.iload_n 3, 1) := dk_29 (dk_at dksX4_search_6 13 rfl rfl)
theorem dX4_search_154 : decode cX4_search 154 = .ok (.imul, 1) := dk_104 (dk_at dksX4_search_6 14 rfl rfl)
theorem dX4_search_155 : decode cX4_search 155 = .ok (.iload 4, 2) := dk_21 4 (dk_at dksX4_search_6 15 rfl rfl)
theorem dX4_search_157 : decode cX4_search 157 = .ok (.iadd, 1) := dk_96 (dk_at dksX4_search_6 17 rfl rfl)
theorem dX4_search_158 : decode cX4_search 158 = .ok (.iload 6, 2) := dk_21 6 (dk_at dksX4_search_6 18 rfl rfl)
theorem dX4_search_160 : decode cX4_search 160 = .ok (.iastore, 1) := dk_79 (dk_at dksX4_search_6 20 rfl rfl)
theorem dX4_search_161 : decode cX4_search 161 = .ok (.iinc 5 1, 3) := dk_132 5 1 (dk_at dksX4_search_6 21 rfl rfl)
theorem dX4_search_164 : decode cX4_search 164 = .ok (.goto (-80), 3) := dk_167 255 176 (dk_at dksX4_search_7 0 rfl rfl)
theorem dX4_search_167 : decode cX4_search 167 = .ok (.iinc 4 1, 3) := dk_132 4 1 (dk_at dksX4_search_7 3 rfl rfl)
theorem dX4_search_170 : decode cX4_search 170 = .ok (.goto (-108), 3) := dk_167 255 148 (dk_at dksX4_search_7 6 rfl rfl)
theorem dX4_search_173 : decode cX4_search 173 = .ok (.iinc 3 (-1), 3) := dk_132 3 255 (dk_at dksX4_search_7 9 rfl rfl)
theorem dX4_search_176 : decode cX4_search 176 = .ok (.goto (-121), 3) := dk_167 255 135 (dk_at dksX4_search_7 12 rfl rfl)
theorem dX4_search_179 : decode cX4_search 179 = .ok (.iload_n 2, 1) := dk_28 (dk_at dksX4_search_7 15 rfl rfl)
theorem dX4_search_180 : decode cX4_search 180 = .ok (.iconst (-1), 1) := dk_2 (dk_at dksX4_search_7 16 rfl rfl)
theorem dX4_search_181 : decode cX4_search 181 = .ok (.if_icmp .ne 10, 3) := dk_160 0 10 (dk_at dksX4_search_7 17 rfl rfl)
theorem dX4_search_184 : decode cX4_search 184 = .ok (.aload_n 0, 1) := dk_42 (dk_at dksX4_search_7 20 rfl rfl)
theorem dX4_search_185 : decode cX4_search 185 = .ok (.getfield 215, 3) := dk_180 0 215 (dk_at dksX4_search_7 21 rfl rfl)
theorem dX4_search_188 : decode cX4_search 188 = .ok (.iload_n 1, 1) := dk_27 (dk_at dksX4_search_8 0 rfl rfl)
theorem dX4_search_189 : decode cX4_search 189 = .ok (.iaload, 1) := dk_46 (dk_at dksX4_search_8 1 rfl rfl)
theorem dX4_search_190 : decode cX4_search 190 = .ok (.ireturn, 1) := dk_172 (dk_at dksX4_search_8 2 rfl rfl)
theorem dX4_search_191 : decode cX4_search 191 = .ok (.iload_n 1, 1) := dk_27 (dk_at dksX4_search_8 3 rfl rfl)
theorem dX4_search_192 : decode cX4_search 192 = .ok (.istore_n 3, 1) := dk_62 (dk_at dksX4_search_8 4 rfl rfl)
theorem dX4_search_193 : decode cX4_search 193 = .ok (.iconst 0, 1) := dk_3 (dk_at dksX4_search_8 5 rfl rfl)
theorem dX4_search_194 : decode cX4_search 194 = .ok (.istore 4, 2) := dk_54 4 (dk_at dksX4_search_8 6 rfl rfl)
theorem dX4_search_196 : decode cX4_search 196 = .ok (.iconst 0, 1) := dk_3 (dk_at dksX4_search_8 8 rfl rfl)
theorem dX4_search_197 : decode cX4_search 197 = .ok (.istore 5, 2) := dk_54 5 (dk_at dksX4_search_8 9 rfl rfl)
theorem dX4_search_199 : decode cX4_search 199 = .ok (.iload 5, 2) := dk_21 5 (dk_at dksX4_search_8 11 rfl rfl)
theorem dX4_search_201 : decode cX4_search 201 = .ok (.iload_n 2, 1) := dk_28 (dk_at dksX4_search_8 13 rfl rfl)
theorem dX4_search_202 : decode cX4_search 202 = .ok (.if_icmp .gt 69, 3) := dk_163 0 69 (dk_at dksX4_search_8 14 rfl rfl)
theorem dX4_search_205 : decode cX4_search 205 = .ok (.iconst 0, 1) := dk_3 (dk_at dksX4_search_8 17 rfl rfl)
theorem dX4_search_206 : decode cX4_search 206 = .ok (.istore 4, 2) := dk_54 4 (dk_at dksX4_search_8 18 rfl rfl)
theorem dX4_search_208 : decode cX4_search 208 = .ok (.aload_n 0, 1) := dk_42 (dk_at dksX4_search_8 20 rfl rfl)
theorem dX4_search_209 : decode cX4_search 209 = .ok (.getfield 212, 3) := dk_180 0 212 (dk_at dksX4_search_8 21 rfl rfl)
theorem dX4_search_212 : decode cX4_search 212 = .ok (.bipush 7, 2) := dk_16 7 (dk_at dksX4_search_9 0 rfl rfl)
theorem dX4_search_214 : decode cX4_search 214 = .ok (.iload 5, 2) := dk_21 5 (dk_at dksX4_search_9 2 rfl rfl)
theorem dX4_search_216 : decode cX4_search 216 = .ok (.imul, 1) := dk_104 (dk_at dksX4_search_9 4 rfl rfl)
theorem dX4_search_217 : decode cX4_search 217 = .ok (.iload 4, 2) := dk_21 4 (dk_at dksX4_search_9 5 rfl rfl)
theorem dX4_search_219 : decode cX4_search 219 = .ok (.iadd, 1) := dk_96 (dk_at dksX4_search_9 7 rfl rfl)
theorem dX4_search_220 : decode cX4_search 220 = .ok (.iaload, 1) := dk_46 (dk_at dksX4_search_9 8 rfl rfl)
theorem dX4_search_221 : decode cX4_search 221 = .ok (.aload_n 0, 1) := dk_42 (dk_at dksX4_search_9 9 rfl rfl)
theorem dX4_search_222 : decode cX4_search 222 = .ok (.getfield 215, 3) := dk_180 0 215 (dk_at dksX4_search_9 10 rfl rfl)
theorem dX4_search_225 : decode cX4_search 225 = .ok (.bipush 31, 2) := dk_16 31 (dk_at dksX4_search_9 13 rfl rfl)
theorem dX4_search_227 : decode cX4_search 227 = .ok (.iload 5, 2) := dk_21 5 (dk_at dksX4_search_9 15 rfl rfl)
theorem dX4_search_229 : decode cX4_search 229 = .ok (.iconst 1, 1) := dk_4 (dk_at dksX4_search_9 17 rfl rfl)
theorem dX4_search_230 : decode cX4_search 230 = .ok (.iadd, 1) := dk_96 (dk_at dksX4_search_9 18 rfl rfl)
theorem dX4_search_231 : decode cX4_search 231 = .ok (.imul, 1) := dk_104 (dk_at dksX4_search_9 19 rfl rfl)
theorem dX4_search_232 : decode cX4_search 232 = .ok (.iload_n 3, 1) := dk_29 (dk_at dksX4_search_9 20 rfl rfl)
theorem dX4_search_233 : decode cX4_search 233 = .ok (.iadd, 1) := dk_96 (dk_at dksX4_search_9 21 rfl rfl)
theorem dX4_search_234 : decode cX4_search 234 = .ok (.iload 4, 2) := dk_21 4 (dk_at dksX4_search_9 22 rfl rfl)
theorem dX4_search_236 : decode cX4_search 236 = .ok (.isub, 1) := dk_100 (dk_at dksX4_search_10 0 rfl rfl)
theorem dX4_search_237 : decode cX4_search 237 = .ok (.iaload, 1) := dk_46 (dk_at dksX4_search_10 1 rfl rfl)
theorem dX4_search_238 : decode cX4_search 238 = .ok (.iadd, 1) := dk_96 (dk_at dksX4_search_10 2 rfl rfl)
theorem dX4_search_239 : decode cX4_search 239 = .ok (.aload_n 0, 1) := dk_42 (dk_at dksX4_search_10 3 rfl rfl)
theorem dX4_search_240 : decode cX4_search 240 = .ok (.getfield 215, 3) := dk_180 0 215 (dk_at dksX4_search_10 4 rfl rfl)
theorem dX4_search_243 : decode cX4_search 243 = .ok (.bipush 31, 2) := dk_16 31 (dk_at dksX4_search_10 7 rfl rfl)
theorem dX4_search_245 : decode cX4_search 245 = .ok (.iload 5, 2) := dk_21 5 (dk_at dksX4_search_10 9 rfl rfl)
theorem dX4_search_247 : decode cX4_search 247 = .ok (.imul, 1) := dk_104 (dk_at dksX4_search_10 11 rfl rfl)
theorem dX4_search_248 : decode cX4_search 248 = .ok (.iload_n 3, 1) := dk_29 (dk_at dksX4_search_10 12 rfl rfl)
theorem dX4_search_249 : decode cX4_search 249 = .ok (.iadd, 1) := dk_96 (dk_at dksX4_search_10 13 rfl rfl)
theorem dX4_search_250 : decode cX4_search 250 = .ok (.iaload, 1) := dk_46 (dk_at dksX4_search_10 14 rfl rfl)
theorem dX4_search_251 : decode cX4_search 251 = .ok (.if_icmp .eq 9, 3) := dk_159 0 9 (dk_at dksX4_search_10 15 rfl rfl)
theorem dX4_search_254 : decode cX4_search 254 = .ok (.iinc 4 1, 3) := dk_132 4 1 (dk_at dksX4_search_10 18 rfl rfl)
theorem dX4_search_257 : decode cX4_search 257 = .ok (.goto (-49), 3) := dk_167 255 207 (dk_at dksX4_search_10 21 rfl rfl)
theorem dX4_search_260 : decode cX4_search 260 = .ok (.iload_n 3, 1) := dk_29 (dk_at dksX4_search_11 0 rfl rfl)
theorem dX4_search_261 : decode cX4_search 261 = .ok (.iload 4, 2) := dk_21 4 (dk_at dksX4_search_11 1 rfl rfl)
theorem dX4_search_263 : decode cX4_search 263 = .ok (.isub, 1) := dk_100 (dk_at dksX4_search_11 3 rfl rfl)
theorem dX4_search_264 : decode cX4_search 264 = .ok (.istore_n 3, 1) := dk_62 (dk_at dksX4_search_11 4 rfl rfl)
theorem dX4_search_265 : decode cX4_search 265 = .ok (.iinc 5 1, 3) := dk_132 5 1 (dk_at dksX4_search_11 5 rfl rfl)
theorem dX4_search_268 : decode cX4_search 268 = .ok (.goto (-69), 3) := dk_167 255 187 (dk_at dksX4_search_11 8 rfl rfl)
theorem dX4_search_271 : decode cX4_search 271 = .ok (.iload 4, 2) := dk_21 4 (dk_at dksX4_search_11 11 rfl rfl)
theorem dX4_search_273 : decode cX4_search 273 = .ok (.ireturn, 1) := dk_172 (dk_at dksX4_search_11 13 rfl rfl)
abbrev cX4_choice : ByteArray := prog_30_method_79_code
def yX4_choice : MethodName := ⟨RX4, "choice", "()I"⟩
def dkwX4_choice_3 : List UInt8 := [4, 100, 172]
abbrev dktX4_choice_3 : List UInt8 := dkwX4_choice_3 ++ []
def dkwX4_choice_2 : List UInt8 := [16, 16, 42, 180, 0, 94, 96, 182, 1, 126, 42, 89, 180, 0, 94, 4, 96, 181, 0, 94, 42, 180, 0, 94]
abbrev dktX4_choice_2 : List UInt8 := dkwX4_choice_2 ++ dktX4_choice_3
def dkwX4_choice_1 : List UInt8 := [180, 0, 136, 100, 172, 42, 180, 0, 127, 4, 160, 0, 10, 42, 180, 0, 143, 153, 0, 6, 16, 254, 172, 42]
abbrev dktX4_choice_1 : List UInt8 := dkwX4_choice_1 ++ dktX4_choice_2
def dkwX4_choice_0 : List UInt8 := [42, 180, 0, 94, 16, 8, 160, 0, 6, 16, 252, 172, 42, 182, 1, 123, 154, 0, 11, 16, 246, 42]
abbrev dktX4_choice_0 : List UInt8 := dkwX4_choice_0 ++ dktX4_choice_1
theorem dksX4_choice_0 : cX4_choice.data.toList.drop 0 = dktX4_choice_0 := by decide +kernel
theorem dksX4_choice_1 : cX4_choice.data.toList.drop 22 = dktX4_choice_1 := dk_seg dksX4_choice_0 22 rfl rfl
theorem dksX4_choice_2 : cX4_choice.data.toList.drop 46 = dktX4_choice_2 := dk_seg dksX4_choice_1 24 rfl rfl
theorem dksX4_choice_3 : cX4_choice.data.toList.drop 70 = dktX4_choice_3 := dk_seg dksX4_choice_2 24 rfl rfl
theorem dX4_choice_0 : decode cX4_choice 0 = .ok (.aload_n 0, 1) := dk_42 (dk_at dksX4_choice_0 0 rfl rfl)
theorem dX4_choice_1 : decode cX4_choice 1 = .ok (.getfield 94, 3) := dk_180 0 94 (dk_at dksX4_choice_0 1 rfl rfl)
theorem dX4_choice_4 : decode cX4_choice 4 = .ok (.bipush 8, 2) := dk_16 8 (dk_at dksX4_choice_0 4 rfl rfl)
theorem dX4_choice_6 : decode cX4_choice 6 = .ok (.if_icmp .ne 6, 3) := dk_160 0 6 (dk_at dksX4_choice_0 6 rfl rfl)
theorem dX4_choice_9 : decode cX4_choice 9 = .ok (.bipush (-4), 2) := dk_16 252 (dk_at dksX4_choice_0 9 rfl rfl)
theorem dX4_choice_11 : decode cX4_choice 11 = .ok (.ireturn, 1) := dk_172 (dk_at dksX4_choice_0 11 rfl rfl)
theorem dX4_choice_12 : decode cX4_choice 12 = .ok (.aload_n 0, 1) := dk_42 (dk_at dksX4_choice_0 12 rfl rfl)
theorem dX4_choice_13 : decode cX4_choice 13 = .ok (.invokevirtual 379, 3) := dk_182 1 123 (dk_at dksX4_choice_0 13 rfl rfl)
theorem dX4_choice_16 : decode cX4_choice 16 = .ok (.ifCond .ne 11, 3) := dk_154 0 11 (dk_at dksX4_choice_0 16 rfl rfl)
theorem dX4_choice_19 : decode cX4_choice 19 = .ok (.bipush (-10), 2) := dk_16 246 (dk_at dksX4_choice_0 19 rfl rfl)
theorem dX4_choice_21 : decode cX4_choice 21 = .ok (.aload_n 0, 1) := dk_42 (dk_at dksX4_choice_0 21 rfl rfl)
theorem dX4_choice_22 : decode cX4_choice 22 = .ok (.getfield 136, 3) := dk_180 0 136 (dk_at dksX4_choice_1 0 rfl rfl)
theorem dX4_choice_25 : decode cX4_choice 25 = .ok (.isub, 1) := dk_100 (dk_at dksX4_choice_1 3 rfl rfl)
theorem dX4_choice_26 : decode cX4_choice 26 = .ok (.ireturn, 1) := dk_172 (dk_at dksX4_choice_1 4 rfl rfl)
theorem dX4_choice_27 : decode cX4_choice 27 = .ok (.aload_n 0, 1) := dk_42 (dk_at dksX4_choice_1 5 rfl rfl)
theorem dX4_choice_28 : decode cX4_choice 28 = .ok (.getfield 127, 3) := dk_180 0 127 (dk_at dksX4_choice_1 6 rfl rfl)
theorem dX4_choice_31 : decode cX4_choice 31 = .ok (.iconst 1, 1) := dk_4 (dk_at dksX4_choice_1 9 rfl rfl)
theorem dX4_choice_32 : decode cX4_choice 32 = .ok (.if_icmp .ne 10, 3) := dk_160 0 10 (dk_at dksX4_choice_1 10 rfl rfl)
theorem dX4_choice_35 : decode cX4_choice 35 = .ok (.aload_n 0, 1) := dk_42 (dk_at dksX4_choice_1 13 rfl rfl)
theorem dX4_choice_36 : decode cX4_choice 36 = .ok (.getfield 143, 3) := dk_180 0 143 (dk_at dksX4_choice_1 14 rfl rfl)
theorem dX4_choice_39 : decode cX4_choice 39 = .ok (.ifCond .eq 6, 3) := dk_153 0 6 (dk_at dksX4_choice_1 17 rfl rfl)
theorem dX4_choice_42 : decode cX4_choice 42 = .ok (.bipush (-2), 2) := dk_16 254 (dk_at dksX4_choice_1 20 rfl rfl)
theorem dX4_choice_44 : decode cX4_choice 44 = .ok (.ireturn, 1) := dk_172 (dk_at dksX4_choice_1 22 rfl rfl)
theorem dX4_choice_45 : decode cX4_choice 45 = .ok (.aload_n 0, 1) := dk_42 (dk_at dksX4_choice_1 23 rfl rfl)
theorem dX4_choice_46 : decode cX4_choice 46 = .ok (.bipush 16, 2) := dk_16 16 (dk_at dksX4_choice_2 0 rfl rfl)
theorem dX4_choice_48 : decode cX4_choice 48 = .ok (.aload_n 0, 1) := dk_42 (dk_at dksX4_choice_2 2 rfl rfl)
theorem dX4_choice_49 : decode cX4_choice 49 = .ok (.getfield 94, 3) := dk_180 0 94 (dk_at dksX4_choice_2 3 rfl rfl)
theorem dX4_choice_52 : decode cX4_choice 52 = .ok (.iadd, 1) := dk_96 (dk_at dksX4_choice_2 6 rfl rfl)
theorem dX4_choice_53 : decode cX4_choice 53 = .ok (.invokevirtual 382, 3) := dk_182 1 126 (dk_at dksX4_choice_2 7 rfl rfl)
theorem dX4_choice_56 : decode cX4_choice 56 = .ok (.aload_n 0, 1) := dk_42 (dk_at dksX4_choice_2 10 rfl rfl)
theorem dX4_choice_57 : decode cX4_choice 57 = .ok (.dup, 1) := dk_89 (dk_at dksX4_choice_2 11 rfl rfl)
theorem dX4_choice_58 : decode cX4_choice 58 = .ok (.getfield 94, 3) := dk_180 0 94 (dk_at dksX4_choice_2 12 rfl rfl)
theorem dX4_choice_61 : decode cX4_choice 61 = .ok (.iconst 1, 1) := dk_4 (dk_at dksX4_choice_2 15 rfl rfl)
theorem dX4_choice_62 : decode cX4_choice 62 = .ok (.iadd, 1) := dk_96 (dk_at dksX4_choice_2 16 rfl rfl)
theorem dX4_choice_63 : decode cX4_choice 63 = .ok (.putfield 94, 3) := dk_181 0 94 (dk_at dksX4_choice_2 17 rfl rfl)
theorem dX4_choice_66 : decode cX4_choice 66 = .ok (.aload_n 0, 1) := dk_42 (dk_at dksX4_choice_2 20 rfl rfl)
theorem dX4_choice_67 : decode cX4_choice 67 = .ok (.getfield 94, 3) := dk_180 0 94 (dk_at dksX4_choice_2 21 rfl rfl)
theorem dX4_choice_70 : decode cX4_choice 70 = .ok (.iconst 1, 1) := dk_4 (dk_at dksX4_choice_3 0 rfl rfl)
theorem dX4_choice_71 : decode cX4_choice 71 = .ok (.isub, 1) := dk_100 (dk_at dksX4_choice_3 1 rfl rfl)
theorem dX4_choice_72 : decode cX4_choice 72 = .ok (.ireturn, 1) := dk_172 (dk_at dksX4_choice_3 2 rfl rfl)
abbrev cX4_aim : ByteArray := prog_30_method_80_code
def yX4_aim : MethodName := ⟨RX4, "aim", "(II)I"⟩
def dkwX4_aim_2 : List UInt8 := [46, 4, 28, 120, 128, 79, 42, 89, 180, 0, 218, 4, 96, 181, 0, 218, 42, 180, 0, 218, 172]
abbrev dktX4_aim_2 : List UInt8 := dkwX4_aim_2 ++ []
def dkwX4_aim_1 : List UInt8 := [160, 0, 6, 16, 253, 172, 42, 180, 0, 218, 16, 20, 160, 0, 6, 16, 252, 172, 42, 180, 0, 221, 27, 92]
abbrev dktX4_aim_1 : List UInt8 := dkwX4_aim_1 ++ dktX4_aim_2
def dkwX4_aim_0 : List UInt8 := [42, 27, 28, 182, 1, 148, 154, 0, 5, 2, 172, 42, 180, 0, 221, 27, 46, 28, 122, 4, 126, 4]
abbrev dktX4_aim_0 : List UInt8 := dkwX4_aim_0 ++ dktX4_aim_1
theorem dksX4_aim_0 : cX4_aim.data.toList.drop 0 = dktX4_aim_0 := by decide +kernel
theorem dksX4_aim_1 : cX4_aim.data.toList.drop 22 = dktX4_aim_1 := dk_seg dksX4_aim_0 22 rfl rfl
theorem dksX4_aim_2 : cX4_aim.data.toList.drop 46 = dktX4_aim_2 := dk_seg dksX4_aim_1 24 rfl rfl
theorem dX4_aim_0 : decode cX4_aim 0 = .ok (.aload_n 0, 1) := dk_42 (dk_at dksX4_aim_0 0 rfl rfl)
theorem dX4_aim_1 : decode cX4_aim 1 = .ok (.iload_n 1, 1) := dk_27 (dk_at dksX4_aim_0 1 rfl rfl)
theorem dX4_aim_2 : decode cX4_aim 2 = .ok (.iload_n 2, 1) := dk_28 (dk_at dksX4_aim_0 2 rfl rfl)
theorem dX4_aim_3 : decode cX4_aim 3 = .ok (.invokevirtual 404, 3) := dk_182 1 148 (dk_at dksX4_aim_0 3 rfl rfl)
theorem dX4_aim_6 : decode cX4_aim 6 = .ok (.ifCond .ne 5, 3) := dk_154 0 5 (dk_at dksX4_aim_0 6 rfl rfl)
theorem dX4_aim_9 : decode cX4_aim 9 = .ok (.iconst (-1), 1) := dk_2 (dk_at dksX4_aim_0 9 rfl rfl)
theorem dX4_aim_10 : decode cX4_aim 10 = .ok (.ireturn, 1) := dk_172 (dk_at dksX4_aim_0 10 rfl rfl)
theorem dX4_aim_11 : decode cX4_aim 11 = .ok (.aload_n 0, 1) := dk_42 (dk_at dksX4_aim_0 11 rfl rfl)
theorem dX4_aim_12 : decode cX4_aim 12 = .ok (.getfield 221, 3) := dk_180 0 221 (dk_at dksX4_aim_0 12 rfl rfl)
theorem dX4_aim_15 : decode cX4_aim 15 = .ok (.iload_n 1, 1) := dk_27 (dk_at dksX4_aim_0 15 rfl rfl)
theorem dX4_aim_16 : decode cX4_aim 16 = .ok (.iaload, 1) := dk_46 (dk_at dksX4_aim_0 16 rfl rfl)
theorem dX4_aim_17 : decode cX4_aim 17 = .ok (.iload_n 2, 1) := dk_28 (dk_at dksX4_aim_0 17 rfl rfl)
theorem dX4_aim_18 : decode cX4_aim 18 = .ok (.ishr, 1) := dk_122 (dk_at dksX4_aim_0 18 rfl rfl)
theorem dX4_aim_19 : decode cX4_aim 19 = .ok (.iconst 1, 1) := dk_4 (dk_at dksX4_aim_0 19 rfl rfl)
theorem dX4_aim_20 : decode cX4_aim 20 = .ok (.iand, 1) := dk_126 (dk_at dksX4_aim_0 20 rfl rfl)
theorem dX4_aim_21 : decode cX4_aim 21 = .ok (.iconst 1, 1) := dk_4 (dk_at dksX4_aim_0 21 rfl rfl)
theorem dX4_aim_22 : decode cX4_aim 22 = .ok (.if_icmp .ne 6, 3) := dk_160 0 6 (dk_at dksX4_aim_1 0 rfl rfl)
theorem dX4_aim_25 : decode cX4_aim 25 = .ok (.bipush (-3), 2) := dk_16 253 (dk_at dksX4_aim_1 3 rfl rfl)
theorem dX4_aim_27 : decode cX4_aim 27 = .ok (.ireturn, 1) := dk_172 (dk_at dksX4_aim_1 5 rfl rfl)
theorem dX4_aim_28 : decode cX4_aim 28 = .ok (.aload_n 0, 1) := dk_42 (dk_at dksX4_aim_1 6 rfl rfl)
theorem dX4_aim_29 : decode cX4_aim 29 = .ok (.getfield 218, 3) := dk_180 0 218 (dk_at dksX4_aim_1 7 rfl rfl)
theorem dX4_aim_32 : decode cX4_aim 32 = .ok (.bipush 20, 2) := dk_16 20 (dk_at dksX4_aim_1 10 rfl rfl)
theorem dX4_aim_34 : decode cX4_aim 34 = .ok (.if_icmp .ne 6, 3) := dk_160 0 6 (dk_at dksX4_aim_1 12 rfl rfl)
theorem dX4_aim_37 : decode cX4_aim 37 = .ok (.bipush (-4), 2) := dk_16 252 (dk_at dksX4_aim_1 15 rfl rfl)
theorem dX4_aim_39 : decode cX4_aim 39 = .ok (.ireturn, 1) := dk_172 (dk_at dksX4_aim_1 17 rfl rfl)
theorem dX4_aim_40 : decode cX4_aim 40 = .ok (.aload_n 0, 1) := dk_42 (dk_at dksX4_aim_1 18 rfl rfl)
theorem dX4_aim_41 : decode cX4_aim 41 = .ok (.getfield 221, 3) := dk_180 0 221 (dk_at dksX4_aim_1 19 rfl rfl)
theorem dX4_aim_44 : decode cX4_aim 44 = .ok (.iload_n 1, 1) := dk_27 (dk_at dksX4_aim_1 22 rfl rfl)
theorem dX4_aim_45 : decode cX4_aim 45 = .ok (.dup2, 1) := dk_92 (dk_at dksX4_aim_1 23 rfl rfl)
theorem dX4_aim_46 : decode cX4_aim 46 = .ok (.iaload, 1) := dk_46 (dk_at dksX4_aim_2 0 rfl rfl)
theorem dX4_aim_47 : decode cX4_aim 47 = .ok (.iconst 1, 1) := dk_4 (dk_at dksX4_aim_2 1 rfl rfl)
theorem dX4_aim_48 : decode cX4_aim 48 = .ok (.iload_n 2, 1) := dk_28 (dk_at dksX4_aim_2 2 rfl rfl)
theorem dX4_aim_49 : decode cX4_aim 49 = .ok (.ishl, 1) := dk_120 (dk_at dksX4_aim_2 3 rfl rfl)
theorem dX4_aim_50 : decode cX4_aim 50 = .ok (.ior, 1) := dk_128 (dk_at dksX4_aim_2 4 rfl rfl)
theorem dX4_aim_51 : decode cX4_aim 51 = .ok (.iastore, 1) := dk_79 (dk_at dksX4_aim_2 5 rfl rfl)
theorem dX4_aim_52 : decode cX4_aim 52 = .ok (.aload_n 0, 1) := dk_42 (dk_at dksX4_aim_2 6 rfl rfl)
theorem dX4_aim_53 : decode cX4_aim 53 = .ok (.dup, 1) := dk_89 (dk_at dksX4_aim_2 7 rfl rfl)
theorem dX4_aim_54 : decode cX4_aim 54 = .ok (.getfield 218, 3) := dk_180 0 218 (dk_at dksX4_aim_2 8 rfl rfl)
theorem dX4_aim_57 : decode cX4_aim 57 = .ok (.iconst 1, 1) := dk_4 (dk_at dksX4_aim_2 11 rfl rfl)
theorem dX4_aim_58 : decode cX4_aim 58 = .ok (.iadd, 1) := dk_96 (dk_at dksX4_aim_2 12 rfl rfl)
theorem dX4_aim_59 : decode cX4_aim 59 = .ok (.putfield 218, 3) := dk_181 0 218 (dk_at dksX4_aim_2 13 rfl rfl)
theorem dX4_aim_62 : decode cX4_aim 62 = .ok (.aload_n 0, 1) := dk_42 (dk_at dksX4_aim_2 16 rfl rfl)
theorem dX4_aim_63 : decode cX4_aim 63 = .ok (.getfield 218, 3) := dk_180 0 218 (dk_at dksX4_aim_2 17 rfl rfl)
theorem dX4_aim_66 : decode cX4_aim 66 = .ok (.ireturn, 1) := dk_172 (dk_at dksX4_aim_2 20 rfl rfl)
abbrev cX4_weigh : ByteArray := prog_30_method_86_code
def yX4_weigh : MethodName := ⟨RX4, "weigh", "(II)I"⟩
def dkwX4_weigh_2 : List UInt8 := [167, 0, 8, 42, 27, 182, 1, 178, 172]
abbrev dktX4_weigh_2 : List UInt8 := dkwX4_weigh_2 ++ []
def dkwX4_weigh_1 : List UInt8 := [182, 0, 3, 154, 0, 6, 16, 254, 172, 42, 182, 1, 172, 28, 154, 0, 11, 42, 27, 182, 1, 175]
abbrev dktX4_weigh_1 : List UInt8 := dkwX4_weigh_1 ++ dktX4_weigh_2
def dkwX4_weigh_0 : List UInt8 := [42, 28, 3, 4, 182, 0, 3, 154, 0, 5, 2, 172, 42, 27, 3, 4, 42, 180, 0, 94, 120, 4, 100]
abbrev dktX4_weigh_0 : List UInt8 := dkwX4_weigh_0 ++ dktX4_weigh_1
theorem dksX4_weigh_0 : cX4_weigh.data.toList.drop 0 = dktX4_weigh_0 := by decide +kernel
theorem dksX4_weigh_1 : cX4_weigh.data.toList.drop 23 = dktX4_weigh_1 := dk_seg dksX4_weigh_0 23 rfl rfl
theorem dksX4_weigh_2 : cX4_weigh.data.toList.drop 45 = dktX4_weigh_2 := dk_seg dksX4_weigh_1 22 rfl rfl
theorem dX4_weigh_0 : decode cX4_weigh 0 = .ok (.aload_n 0, 1) := dk_42 (dk_at dksX4_weigh_0 0 rfl rfl)
theorem dX4_weigh_1 : decode cX4_weigh 1 = .ok (.iload_n 2, 1) := dk_28 (dk_at dksX4_weigh_0 1 rfl rfl)
theorem dX4_weigh_2 : decode cX4_weigh 2 = .ok (.iconst 0, 1) := dk_3 (dk_at dksX4_weigh_0 2 rfl rfl)
theorem dX4_weigh_3 : decode cX4_weigh 3 = .ok (.iconst 1, 1) := dk_4 (dk_at dksX4_weigh_0 3 rfl rfl)
theorem dX4_weigh_4 : decode cX4_weigh 4 = .ok (.invokevirtual 3, 3) := dk_182 0 3 (dk_at dksX4_weigh_0 4 rfl rfl)
theorem dX4_weigh_7 : decode cX4_weigh 7 = .ok (.ifCond .ne 5, 3) := dk_154 0 5 (dk_at dksX4_weigh_0 7 rfl rfl)
theorem dX4_weigh_10 : decode cX4_weigh 10 = .ok (.iconst (-1), 1) := dk_2 (dk_at dksX4_weigh_0 10 rfl rfl)
theorem dX4_weigh_11 : decode cX4_weigh 11 = .ok (.ireturn, 1) := dk_172 (dk_at dksX4_weigh_0 11 rfl rfl)
theorem dX4_weigh_12 : decode cX4_weigh 12 = .ok (.aload_n 0, 1) := dk_42 (dk_at dksX4_weigh_0 12 rfl rfl)
theorem dX4_weigh_13 : decode cX4_weigh 13 = .ok (.iload_n 1, 1) := dk_27 (dk_at dksX4_weigh_0 13 rfl rfl)
theorem dX4_weigh_14 : decode cX4_weigh 14 = .ok (.iconst 0, 1) := dk_3 (dk_at dksX4_weigh_0 14 rfl rfl)
theorem dX4_weigh_15 : decode cX4_weigh 15 = .ok (.iconst 1, 1) := dk_4 (dk_at dksX4_weigh_0 15 rfl rfl)
theorem dX4_weigh_16 : decode cX4_weigh 16 = .ok (.aload_n 0, 1) := dk_42 (dk_at dksX4_weigh_0 16 rfl rfl)
theorem dX4_weigh_17 : decode cX4_weigh 17 = .ok (.getfield 94, 3) := dk_180 0 94 (dk_at dksX4_weigh_0 17 rfl rfl)
theorem dX4_weigh_20 : decode cX4_weigh 20 = .ok (.ishl, 1) := dk_120 (dk_at dksX4_weigh_0 20 rfl rfl)
theorem dX4_weigh_21 : decode cX4_weigh 21 = .ok (.iconst 1, 1) := dk_4 (dk_at dksX4_weigh_0 21 rfl rfl)
theorem dX4_weigh_22 : decode cX4_weigh 22 = .ok (.isub, 1) := dk_100 (dk_at dksX4_weigh_0 22 rfl rfl)
theorem dX4_weigh_23 : decode cX4_weigh 23 = .ok (.invokevirtual 3, 3) := dk_182 0 3 (dk_at dksX4_weigh_1 0 rfl rfl)
theorem dX4_weigh_26 : decode cX4_weigh 26 = .ok (.ifCond .ne 6, 3) := dk_154 0 6 (dk_at dksX4_weigh_1 3 rfl rfl)
theorem dX4_weigh_29 : decode cX4_weigh 29 = .ok (.bipush (-2), 2) := dk_16 254 (dk_at dksX4_weigh_1 6 rfl rfl)
theorem dX4_weigh_31 : decode cX4_weigh 31 = .ok (.ireturn, 1) := dk_172 (dk_at dksX4_weigh_1 8 rfl rfl)
theorem dX4_weigh_32 : decode cX4_weigh 32 = .ok (.aload_n 0, 1) := dk_42 (dk_at dksX4_weigh_1 9 rfl rfl)
theorem dX4_weigh_33 : decode cX4_weigh 33 = .ok (.invokevirtual 428, 3) := dk_182 1 172 (dk_at dksX4_weigh_1 10 rfl rfl)
theorem dX4_weigh_36 : decode cX4_weigh 36 = .ok (.iload_n 2, 1) := dk_28 (dk_at dksX4_weigh_1 13 rfl rfl)
theorem dX4_weigh_37 : decode cX4_weigh 37 = .ok (.ifCond .ne 11, 3) := dk_154 0 11 (dk_at dksX4_weigh_1 14 rfl rfl)
theorem dX4_weigh_40 : decode cX4_weigh 40 = .ok (.aload_n 0, 1) := dk_42 (dk_at dksX4_weigh_1 17 rfl rfl)
theorem dX4_weigh_41 : decode cX4_weigh 41 = .ok (.iload_n 1, 1) := dk_27 (dk_at dksX4_weigh_1 18 rfl rfl)
theorem dX4_weigh_42 : decode cX4_weigh 42 = .ok (.invokevirtual 431, 3) := dk_182 1 175 (dk_at dksX4_weigh_1 19 rfl rfl)
theorem dX4_weigh_45 : decode cX4_weigh 45 = .ok (.goto 8, 3) := dk_167 0 8 (dk_at dksX4_weigh_2 0 rfl rfl)
theorem dX4_weigh_48 : decode cX4_weigh 48 = .ok (.aload_n 0, 1) := dk_42 (dk_at dksX4_weigh_2 3 rfl rfl)
theorem dX4_weigh_49 : decode cX4_weigh 49 = .ok (.iload_n 1, 1) := dk_27 (dk_at dksX4_weigh_2 4 rfl rfl)
theorem dX4_weigh_50 : decode cX4_weigh 50 = .ok (.invokevirtual 434, 3) := dk_182 1 178 (dk_at dksX4_weigh_2 5 rfl rfl)
theorem dX4_weigh_53 : decode cX4_weigh 53 = .ok (.ireturn, 1) := dk_172 (dk_at dksX4_weigh_2 8 rfl rfl)
abbrev cX4_findHits : ByteArray := prog_30_method_82_code
def yX4_findHits : MethodName := ⟨RX4, "findHits", "()V"⟩
def dkwX4_findHits_2 : List UInt8 := [167, 255, 212, 177]
abbrev dktX4_findHits_2 : List UInt8 := dkwX4_findHits_2 ++ []
def dkwX4_findHits_1 : List UInt8 := [16, 24, 27, 104, 28, 96, 42, 27, 28, 182, 1, 166, 79, 132, 2, 1, 167, 255, 228, 132, 1, 1]
abbrev dktX4_findHits_1 : List UInt8 := dkwX4_findHits_1 ++ dktX4_findHits_2
def dkwX4_findHits_0 : List UInt8 := [3, 60, 27, 42, 180, 0, 94, 162, 0, 42, 3, 61, 28, 42, 180, 0, 23, 162, 0, 26, 42, 180, 0, 224]
abbrev dktX4_findHits_0 : List UInt8 := dkwX4_findHits_0 ++ dktX4_findHits_1
theorem dksX4_findHits_0 : cX4_findHits.data.toList.drop 0 = dktX4_findHits_0 := by decide +kernel
theorem dksX4_findHits_1 : cX4_findHits.data.toList.drop 24 = dktX4_findHits_1 := dk_seg dksX4_findHits_0 24 rfl rfl
theorem dksX4_findHits_2 : cX4_findHits.data.toList.drop 46 = dktX4_findHits_2 := dk_seg dksX4_findHits_1 22 rfl rfl
theorem dX4_findHits_0 : decode cX4_findHits 0 = .ok (.iconst 0, 1) := dk_3 (dk_at dksX4_findHits_0 0 rfl rfl)
theorem dX4_findHits_1 : decode cX4_findHits 1 = .ok (.istore_n 1, 1) := dk_60 (dk_at dksX4_findHits_0 1 rfl rfl)
theorem dX4_findHits_2 : decode cX4_findHits 2 = .ok (.iload_n 1, 1) := dk_27 (dk_at dksX4_findHits_0 2 rfl rfl)
theorem dX4_findHits_3 : decode cX4_findHits 3 = .ok (.aload_n 0, 1) := dk_42 (dk_at dksX4_findHits_0 3 rfl rfl)
theorem dX4_findHits_4 : decode cX4_findHits 4 = .ok (.getfield 94, 3) := dk_180 0 94 (dk_at dksX4_findHits_0 4 rfl rfl)
theorem dX4_findHits_7 : decode cX4_findHits 7 = .ok (.if_icmp .ge 42, 3) := dk_162 0 42 (dk_at dksX4_findHits_0 7 rfl rfl)
theorem dX4_findHits_10 : decode cX4_findHits 10 = .ok (.iconst 0, 1) := dk_3 (dk_at dksX4_findHits_0 10 rfl rfl)
theorem dX4_findHits_11 : decode cX4_findHits 11 = .ok (.istore_n 2, 1) := dk_61 (dk_at dksX4_findHits_0 11 rfl rfl)
theorem dX4_findHits_12 : decode cX4_findHits 12 = .ok (.iload_n 2, 1) := dk_28 (dk_at dksX4_findHits_0 12 rfl rfl)
theorem dX4_findHits_13 : decode cX4_findHits 13 = .ok (.aload_n 0, 1) := dk_42 (dk_at dksX4_findHits_0 13 rfl rfl)
theorem dX4_findHits_14 : decode cX4_findHits 14 = .ok (.getfield 23, 3) := dk_180 0 23 (dk_at dksX4_findHits_0 14 rfl rfl)
theorem dX4_findHits_17 : decode cX4_findHits 17 = .ok (.if_icmp .ge 26, 3) := dk_162 0 26 (dk_at dksX4_findHits_0 17 rfl rfl)
theorem dX4_findHits_20 : decode cX4_findHits 20 = .ok (.aload_n 0, 1) := dk_42 (dk_at dksX4_findHits_0 20 rfl rfl)
theorem dX4_findHits_21 : decode cX4_findHits 21 = .ok (.getfield 224, 3) := dk_180 0 224 (dk_at dksX4_findHits_0 21 rfl rfl)
theorem dX4_findHits_24 : decode cX4_findHits 24 = .ok (.bipush 24, 2) := dk_16 24 (dk_at dksX4_findHits_1 0 rfl rfl)
theorem dX4_findHits_26 : decode cX4_findHits 26 = .ok (.iload_n 1, 1) := dk_27 (dk_at dksX4_findHits_1 2 rfl rfl)
theorem dX4_findHits_27 : decode cX4_findHits 27 = .ok (.imul, 1) := dk_104 (dk_at dksX4_findHits_1 3 rfl rfl)
theorem dX4_findHits_28 : decode cX4_findHits 28 = .ok (.iload_n 2, 1) := dk_28 (dk_at dksX4_findHits_1 4 rfl rfl)
theorem dX4_findHits_29 : decode cX4_findHits 29 = .ok (.iadd, 1) := dk_96 (dk_at dksX4_findHits_1 5 rfl rfl)
theorem dX4_findHits_30 : decode cX4_findHits 30 = .ok (.aload_n 0, 1) := dk_42 (dk_at dksX4_findHits_1 6 rfl rfl)
theorem dX4_findHits_31 : decode cX4_findHits 31 = .ok (.iload_n 1, 1) := dk_27 (dk_at dksX4_findHits_1 7 rfl rfl)
theorem dX4_findHits_32 : decode cX4_findHits 32 = .ok (.iload_n 2, 1) := dk_28 (dk_at dksX4_findHits_1 8 rfl rfl)
theorem dX4_findHits_33 : decode cX4_findHits 33 = .ok (.invokevirtual 422, 3) := dk_182 1 166 (dk_at dksX4_findHits_1 9 rfl rfl)
theorem dX4_findHits_36 : decode cX4_findHits 36 = .ok (.iastore, 1) := dk_79 (dk_at dksX4_findHits_1 12 rfl rfl)
theorem dX4_findHits_37 : decode cX4_findHits 37 = .ok (.iinc 2 1, 3) := dk_132 2 1 (dk_at dksX4_findHits_1 13 rfl rfl)
theorem dX4_findHits_40 : decode cX4_findHits 40 = .ok (.goto (-28), 3) := dk_167 255 228 (dk_at dksX4_findHits_1 16 rfl rfl)
theorem dX4_findHits_43 : decode cX4_findHits 43 = .ok (.iinc 1 1, 3) := dk_132 1 1 (dk_at dksX4_findHits_1 19 rfl rfl)
theorem dX4_findHits_46 : decode cX4_findHits 46 = .ok (.goto (-44), 3) := dk_167 255 212 (dk_at dksX4_findHits_2 0 rfl rfl)
theorem dX4_findHits_49 : decode cX4_findHits 49 = .ok (.return_, 1) := dk_177 (dk_at dksX4_findHits_2 3 rfl rfl)
abbrev cX4_hit : ByteArray := prog_30_method_81_code
def yX4_hit : MethodName := ⟨RX4, "hit", "(II)I"⟩
def dkwX4_hit_4 : List UInt8 := [62, 132, 4, 1, 167, 255, 196, 29, 172]
abbrev dktX4_hit_4 : List UInt8 := dkwX4_hit_4 ++ []
def dkwX4_hit_3 : List UInt8 := [42, 16, 16, 27, 96, 182, 1, 120, 153, 0, 17, 42, 180, 0, 139, 153, 0, 10, 29, 4, 21, 4, 120, 128]
abbrev dktX4_hit_3 : List UInt8 := dkwX4_hit_3 ++ dktX4_hit_4
def dkwX4_hit_2 : List UInt8 := [180, 0, 54, 28, 46, 21, 4, 122, 4, 126, 154, 0, 6, 167, 0, 36, 42, 28, 21, 4, 2, 182, 1, 116]
abbrev dktX4_hit_2 : List UInt8 := dkwX4_hit_2 ++ dktX4_hit_3
def dkwX4_hit_1 : List UInt8 := [160, 0, 10, 42, 180, 0, 54, 28, 46, 172, 3, 62, 3, 54, 4, 21, 4, 16, 16, 162, 0, 59, 42]
abbrev dktX4_hit_1 : List UInt8 := dkwX4_hit_1 ++ dktX4_hit_2
def dkwX4_hit_0 : List UInt8 := [42, 28, 2, 2, 182, 1, 116, 42, 16, 16, 27, 96, 182, 1, 120, 153, 0, 18, 42, 180, 0, 121, 4]
abbrev dktX4_hit_0 : List UInt8 := dkwX4_hit_0 ++ dktX4_hit_1
theorem dksX4_hit_0 : cX4_hit.data.toList.drop 0 = dktX4_hit_0 := by decide +kernel
theorem dksX4_hit_1 : cX4_hit.data.toList.drop 23 = dktX4_hit_1 := dk_seg dksX4_hit_0 23 rfl rfl
theorem dksX4_hit_2 : cX4_hit.data.toList.drop 46 = dktX4_hit_2 := dk_seg dksX4_hit_1 23 rfl rfl
theorem dksX4_hit_3 : cX4_hit.data.toList.drop 70 = dktX4_hit_3 := dk_seg dksX4_hit_2 24 rfl rfl
theorem dksX4_hit_4 : cX4_hit.data.toList.drop 94 = dktX4_hit_4 := dk_seg dksX4_hit_3 24 rfl rfl
theorem dX4_hit_0 : decode cX4_hit 0 = .ok (.aload_n 0, 1) := dk_42 (dk_at dksX4_hit_0 0 rfl rfl)
theorem dX4_hit_1 : decode cX4_hit 1 = .ok (.iload_n 2, 1) := dk_28 (dk_at dksX4_hit_0 1 rfl rfl)
theorem dX4_hit_2 : decode cX4_hit 2 = .ok (.iconst (-1), 1) := dk_2 (dk_at dksX4_hit_0 2 rfl rfl)
theorem dX4_hit_3 : decode cX4_hit 3 = .ok (.iconst (-1), 1) := dk_2 (dk_at dksX4_hit_0 3 rfl rfl)
theorem dX4_hit_4 : decode cX4_hit 4 = .ok (.invokevirtual 372, 3) := dk_182 1 116 (dk_at dksX4_hit_0 4 rfl rfl)
theorem dX4_hit_7 : decode cX4_hit 7 = .ok (.aload_n 0, 1) := dk_42 (dk_at dksX4_hit_0 7 rfl rfl)
theorem dX4_hit_8 : decode cX4_hit 8 = .ok (.bipush 16, 2) := dk_16 16 (dk_at dksX4_hit_0 8 rfl rfl)
theorem dX4_hit_10 : decode cX4_hit 10 = .ok (.iload_n 1, 1) := dk_27 (dk_at dksX4_hit_0 10 rfl rfl)
theorem dX4_hit_11 : decode cX4_hit 11 = .ok (.iadd, 1) := dk_96 (dk_at dksX4_hit_0 11 rfl rfl)
theorem dX4_hit_12 : decode cX4_hit 12 = .ok (.invokevirtual 376, 3) := dk_182 1 120 (dk_at dksX4_hit_0 12 rfl rfl)
theorem dX4_hit_15 : decode cX4_hit 15 = .ok (.ifCond .eq 18, 3) := dk_153 0 18 (dk_at dksX4_hit_0 15 rfl rfl)
theorem dX4_hit_18 : decode cX4_hit 18 = .ok (.aload_n 0, 1) := dk_42 (dk_at dksX4_hit_0 18 rfl rfl)
theorem dX4_hit_19 : decode cX4_hit 19 = .ok (.getfield 121, 3) := dk_180 0 121 (dk_at dksX4_hit_0 19 rfl rfl)
theorem dX4_hit_22 : decode cX4_hit 22 = .ok (.iconst 1, 1) := dk_4 (dk_at dksX4_hit_0 22 rfl rfl)
theorem dX4_hit_23 : decode cX4_hit 23 = .ok (.if_icmp .ne 10, 3) := dk_160 0 10 (dk_at dksX4_hit_1 0 rfl rfl)
theorem dX4_hit_26 : decode cX4_hit 26 = .ok (.aload_n 0, 1) := dk_42 (dk_at dksX4_hit_1 3 rfl rfl)
theorem dX4_hit_27 : decode cX4_hit 27 = .ok (.getfield 54, 3) := dk_180 0 54 (dk_at dksX4_hit_1 4 rfl rfl)
theorem dX4_hit_30 : decode cX4_hit 30 = .ok (.iload_n 2, 1) := dk_28 (dk_at dksX4_hit_1 7 rfl rfl)
theorem dX4_hit_31 : decode cX4_hit 31 = .ok (.iaload, 1) := dk_46 (dk_at dksX4_hit_1 8 rfl rfl)
theorem dX4_hit_32 : decode cX4_hit 32 = .ok (.ireturn, 1) := dk_172 (dk_at dksX4_hit_1 9 rfl rfl)
theorem dX4_hit_33 : decode cX4_hit 33 = .ok (.iconst 0, 1) := dk_3 (dk_at dksX4_hit_1 10 rfl rfl)
theorem dX4_hit_34 : decode cX4_hit 34 = .ok (.istore_n 3, 1) := dk_62 (dk_at dksX4_hit_1 11 rfl rfl)
theorem dX4_hit_35 : decode cX4_hit 35 = .ok (.iconst 0, 1) := dk_3 (dk_at dksX4_hit_1 12 rfl rfl)
theorem dX4_hit_36 : decode cX4_hit 36 = .ok (.istore 4, 2) := dk_54 4 (dk_at dksX4_hit_1 13 rfl rfl)
theorem dX4_hit_38 : decode cX4_hit 38 = .ok (.iload 4, 2) := dk_21 4 (dk_at dksX4_hit_1 15 rfl rfl)
theorem dX4_hit_40 : decode cX4_hit 40 = .ok (.bipush 16, 2) := dk_16 16 (dk_at dksX4_hit_1 17 rfl rfl)
theorem dX4_hit_42 : decode cX4_hit 42 = .ok (.if_icmp .ge 59, 3) := dk_162 0 59 (dk_at dksX4_hit_1 19 rfl rfl)
theorem dX4_hit_45 : decode cX4_hit 45 = .ok (.aload_n 0, 1) := dk_42 (dk_at dksX4_hit_1 22 rfl rfl)
theorem dX4_hit_46 : decode cX4_hit 46 = .ok (.getfield 54, 3) := dk_180 0 54 (dk_at dksX4_hit_2 0 rfl rfl)
theorem dX4_hit_49 : decode cX4_hit 49 = .ok (.iload_n 2, 1) := dk_28 (dk_at dksX4_hit_2 3 rfl rfl)
theorem dX4_hit_50 : decode cX4_hit 50 = .ok (.iaload, 1) := dk_46 (dk_at dksX4_hit_2 4 rfl rfl)
theorem dX4_hit_51 : decode cX4_hit 51 = .ok (.iload 4, 2) := dk_21 4 (dk_at dksX4_hit_2 5 rfl rfl)
theorem dX4_hit_53 : decode cX4_hit 53 = .ok (.ishr, 1) := dk_122 (dk_at dksX4_hit_2 7 rfl rfl)
theorem dX4_hit_54 : decode cX4_hit 54 = .ok (.iconst 1, 1) := dk_4 (dk_at dksX4_hit_2 8 rfl rfl)
theorem dX4_hit_55 : decode cX4_hit 55 = .ok (.iand, 1) := dk_126 (dk_at dksX4_hit_2 9 rfl rfl)
theorem dX4_hit_56 : decode cX4_hit 56 = .ok (.ifCond .ne 6, 3) := dk_154 0 6 (dk_at dksX4_hit_2 10 rfl rfl)
theorem dX4_hit_59 : decode cX4_hit 59 = .ok (.goto 36, 3) := dk_167 0 36 (dk_at dksX4_hit_2 13 rfl rfl)
theorem dX4_hit_62 : decode cX4_hit 62 = .ok (.aload_n 0, 1) := dk_42 (dk_at dksX4_hit_2 16 rfl rfl)
theorem dX4_hit_63 : decode cX4_hit 63 = .ok (.iload_n 2, 1) := dk_28 (dk_at dksX4_hit_2 17 rfl rfl)
theorem dX4_hit_64 : decode cX4_hit 64 = .ok (.iload 4, 2) := dk_21 4 (dk_at dksX4_hit_2 18 rfl rfl)
theorem dX4_hit_66 : decode cX4_hit 66 = .ok (.iconst (-1), 1) := dk_2 (dk_at dksX4_hit_2 20 rfl rfl)
theorem dX4_hit_67 : decode cX4_hit 67 = .ok (.invokevirtual 372, 3) := dk_182 1 116 (dk_at dksX4_hit_2 21 rfl rfl)
theorem dX4_hit_70 : decode cX4_hit 70 = .ok (.aload_n 0, 1) := dk_42 (dk_at dksX4_hit_3 0 rfl rfl)
theorem dX4_hit_71 : decode cX4_hit 71 = .ok (.bipush 16, 2) := dk_16 16 (dk_at dksX4_hit_3 1 rfl rfl)
theorem dX4_hit_73 : decode cX4_hit 73 = .ok (.iload_n 1, 1) := dk_27 (dk_at dksX4_hit_3 3 rfl rfl)
theorem dX4_hit_74 : decode cX4_hit 74 = .ok (.iadd, 1) := dk_96 (dk_at dksX4_hit_3 4 rfl rfl)
theorem dX4_hit_75 : decode cX4_hit 75 = .ok (.invokevirtual 376, 3) := dk_182 1 120 (dk_at dksX4_hit_3 5 rfl rfl)
theorem dX4_hit_78 : decode cX4_hit 78 = .ok (.ifCond .eq 17, 3) := dk_153 0 17 (dk_at dksX4_hit_3 8 rfl rfl)
theorem dX4_hit_81 : decode cX4_hit 81 = .ok (.aload_n 0, 1) := dk_42 (dk_at dksX4_hit_3 11 rfl rfl)
theorem dX4_hit_82 : decode cX4_hit 82 = .ok (.getfield 139, 3) := dk_180 0 139 (dk_at dksX4_hit_3 12 rfl rfl)
theorem dX4_hit_85 : decode cX4_hit 85 = .ok (.ifCond .eq 10, 3) := dk_153 0 10 (dk_at dksX4_hit_3 15 rfl rfl)
theorem dX4_hit_88 : decode cX4_hit 88 = .ok (.iload_n 3, 1) := dk_29 (dk_at dksX4_hit_3 18 rfl rfl)
theorem dX4_hit_89 : decode cX4_hit 89 = .ok (.iconst 1, 1) := dk_4 (dk_at dksX4_hit_3 19 rfl rfl)
theorem dX4_hit_90 : decode cX4_hit 90 = .ok (.iload 4, 2) := dk_21 4 (dk_at dksX4_hit_3 20 rfl rfl)
theorem dX4_hit_92 : decode cX4_hit 92 = .ok (.ishl, 1) := dk_120 (dk_at dksX4_hit_3 22 rfl rfl)
theorem dX4_hit_93 : decode cX4_hit 93 = .ok (.ior, 1) := dk_128 (dk_at dksX4_hit_3 23 rfl rfl)
theorem dX4_hit_94 : decode cX4_hit 94 = .ok (.istore_n 3, 1) := dk_62 (dk_at dksX4_hit_4 0 rfl rfl)
theorem dX4_hit_95 : decode cX4_hit 95 = .ok (.iinc 4 1, 3) := dk_132 4 1 (dk_at dksX4_hit_4 1 rfl rfl)
theorem dX4_hit_98 : decode cX4_hit 98 = .ok (.goto (-60), 3) := dk_167 255 196 (dk_at dksX4_hit_4 4 rfl rfl)
theorem dX4_hit_101 : decode cX4_hit 101 = .ok (.iload_n 3, 1) := dk_29 (dk_at dksX4_hit_4 7 rfl rfl)
theorem dX4_hit_102 : decode cX4_hit 102 = .ok (.ireturn, 1) := dk_172 (dk_at dksX4_hit_4 8 rfl rfl)
abbrev cX4_metBy : ByteArray := prog_30_method_84_code
def yX4_metBy : MethodName := ⟨RX4, "metBy", "(I)I"⟩
def dkwX4_metBy_1 : List UInt8 := [29, 46, 126, 182, 1, 69, 96, 61, 132, 3, 1, 167, 255, 225, 28, 172]
abbrev dktX4_metBy_1 : List UInt8 := dkwX4_metBy_1 ++ []
def dkwX4_metBy_0 : List UInt8 := [3, 61, 3, 62, 29, 42, 180, 0, 23, 162, 0, 29, 28, 42, 42, 27, 29, 182, 1, 169, 42, 180, 0, 221]
abbrev dktX4_metBy_0 : List UInt8 := dkwX4_metBy_0 ++ dktX4_metBy_1
theorem dksX4_metBy_0 : cX4_metBy.data.toList.drop 0 = dktX4_metBy_0 := by decide +kernel
theorem dksX4_metBy_1 : cX4_metBy.data.toList.drop 24 = dktX4_metBy_1 := dk_seg dksX4_metBy_0 24 rfl rfl
theorem dX4_metBy_0 : decode cX4_metBy 0 = .ok (.iconst 0, 1) := dk_3 (dk_at dksX4_metBy_0 0 rfl rfl)
theorem dX4_metBy_1 : decode cX4_metBy 1 = .ok (.istore_n 2, 1) := dk_61 (dk_at dksX4_metBy_0 1 rfl rfl)
theorem dX4_metBy_2 : decode cX4_metBy 2 = .ok (.iconst 0, 1) := dk_3 (dk_at dksX4_metBy_0 2 rfl rfl)
theorem dX4_metBy_3 : decode cX4_metBy 3 = .ok (.istore_n 3, 1) := dk_62 (dk_at dksX4_metBy_0 3 rfl rfl)
theorem dX4_metBy_4 : decode cX4_metBy 4 = .ok (.iload_n 3, 1) := dk_29 (dk_at dksX4_metBy_0 4 rfl rfl)
theorem dX4_metBy_5 : decode cX4_metBy 5 = .ok (.aload_n 0, 1) := dk_42 (dk_at dksX4_metBy_0 5 rfl rfl)
theorem dX4_metBy_6 : decode cX4_metBy 6 = .ok (.getfield 23, 3) := dk_180 0 23 (dk_at dksX4_metBy_0 6 rfl rfl)
theorem dX4_metBy_9 : decode cX4_metBy 9 = .ok (.if_icmp .ge 29, 3) := dk_162 0 29 (dk_at dksX4_metBy_0 9 rfl rfl)
theorem dX4_metBy_12 : decode cX4_metBy 12 = .ok (.iload_n 2, 1) := dk_28 (dk_at dksX4_metBy_0 12 rfl rfl)
theorem dX4_metBy_13 : decode cX4_metBy 13 = .ok (.aload_n 0, 1) := dk_42 (dk_at dksX4_metBy_0 13 rfl rfl)
theorem dX4_metBy_14 : decode cX4_metBy 14 = .ok (.aload_n 0, 1) := dk_42 (dk_at dksX4_metBy_0 14 rfl rfl)
theorem dX4_metBy_15 : decode cX4_metBy 15 = .ok (.iload_n 1, 1) := dk_27 (dk_at dksX4_metBy_0 15 rfl rfl)
theorem dX4_metBy_16 : decode cX4_metBy 16 = .ok (.iload_n 3, 1) := dk_29 (dk_at dksX4_metBy_0 16 rfl rfl)
theorem dX4_metBy_17 : decode cX4_metBy 17 = .ok (.invokevirtual 425, 3) := dk_182 1 169 (dk_at dksX4_metBy_0 17 rfl rfl)
theorem dX4_metBy_20 : decode cX4_metBy 20 = .ok (.aload_n 0, 1) := dk_42 (dk_at dksX4_metBy_0 20 rfl rfl)
theorem dX4_metBy_21 : decode cX4_metBy 21 = .ok (.getfield 221, 3) := dk_180 0 221 (dk_at dksX4_metBy_0 21 rfl rfl)
theorem dX4_metBy_24 : decode cX4_metBy 24 = .ok (.iload_n 3, 1) := dk_29 (dk_at dksX4_metBy_1 0 rfl rfl)
theorem dX4_metBy_25 : decode cX4_metBy 25 = .ok (.iaload, 1) := dk_46 (dk_at dksX4_metBy_1 1 rfl rfl)
theorem dX4_metBy_26 : decode cX4_metBy 26 = .ok (.iand, 1) := dk_126 (dk_at dksX4_metBy_1 2 rfl rfl)
theorem dX4_metBy_27 : decode cX4_metBy 27 = .ok (.invokevirtual 325, 3) := dk_182 1 69 (dk_at dksX4_metBy_1 3 rfl rfl)
theorem dX4_metBy_30 : decode cX4_metBy 30 = .ok (.iadd, 1) := dk_96 (dk_at dksX4_metBy_1 6 rfl rfl)
theorem dX4_metBy_31 : decode cX4_metBy 31 = .ok (.istore_n 2, 1) := dk_61 (dk_at dksX4_metBy_1 7 rfl rfl)
theorem dX4_metBy_32 : decode cX4_metBy 32 = .ok (.iinc 3 1, 3) := dk_132 3 1 (dk_at dksX4_metBy_1 8 rfl rfl)
theorem dX4_metBy_35 : decode cX4_metBy 35 = .ok (.goto (-31), 3) := dk_167 255 225 (dk_at dksX4_metBy_1 11 rfl rfl)
theorem dX4_metBy_38 : decode cX4_metBy 38 = .ok (.iload_n 2, 1) := dk_28 (dk_at dksX4_metBy_1 14 rfl rfl)
theorem dX4_metBy_39 : decode cX4_metBy 39 = .ok (.ireturn, 1) := dk_172 (dk_at dksX4_metBy_1 15 rfl rfl)
abbrev cX4_hitBy : ByteArray := prog_30_method_83_code
def yX4_hitBy : MethodName := ⟨RX4, "hitBy", "(II)I"⟩
def dkwX4_hitBy_2 : List UInt8 := [167, 255, 215, 29, 172]
abbrev dktX4_hitBy_2 : List UInt8 := dkwX4_hitBy_2 ++ []
def dkwX4_hitBy_1 : List UInt8 := [160, 0, 18, 42, 180, 0, 224, 16, 24, 21, 4, 104, 28, 96, 46, 167, 0, 4, 3, 128, 62, 132, 4, 1]
abbrev dktX4_hitBy_1 : List UInt8 := dkwX4_hitBy_1 ++ dktX4_hitBy_2
def dkwX4_hitBy_0 : List UInt8 := [3, 62, 3, 54, 4, 21, 4, 42, 180, 0, 94, 162, 0, 38, 29, 27, 21, 4, 122, 4, 126, 4]
abbrev dktX4_hitBy_0 : List UInt8 := dkwX4_hitBy_0 ++ dktX4_hitBy_1
theorem dksX4_hitBy_0 : cX4_hitBy.data.toList.drop 0 = dktX4_hitBy_0 := by decide +kernel
theorem dksX4_hitBy_1 : cX4_hitBy.data.toList.drop 22 = dktX4_hitBy_1 := dk_seg dksX4_hitBy_0 22 rfl rfl
theorem dksX4_hitBy_2 : cX4_hitBy.data.toList.drop 46 = dktX4_hitBy_2 := dk_seg dksX4_hitBy_1 24 rfl rfl
theorem dX4_hitBy_0 : decode cX4_hitBy 0 = .ok (.iconst 0, 1) := dk_3 (dk_at dksX4_hitBy_0 0 rfl rfl)
theorem dX4_hitBy_1 : decode cX4_hitBy 1 = .ok (.istore_n 3, 1) := dk_62 (dk_at dksX4_hitBy_0 1 rfl rfl)
theorem dX4_hitBy_2 : decode cX4_hitBy 2 = .ok (.iconst 0, 1) := dk_3 (dk_at dksX4_hitBy_0 2 rfl rfl)
theorem dX4_hitBy_3 : decode cX4_hitBy 3 = .ok (.istore 4, 2) := dk_54 4 (dk_at dksX4_hitBy_0 3 rfl rfl)
theorem dX4_hitBy_5 : decode cX4_hitBy 5 = .ok (.iload 4, 2) := dk_21 4 (dk_at dksX4_hitBy_0 5 rfl rfl)
theorem dX4_hitBy_7 : decode cX4_hitBy 7 = .ok (.aload_n 0, 1) := dk_42 (dk_at dksX4_hitBy_0 7 rfl rfl)
theorem dX4_hitBy_8 : decode cX4_hitBy 8 = .ok (.getfield 94, 3) := dk_180 0 94 (dk_at dksX4_hitBy_0 8 rfl rfl)
theorem dX4_hitBy_11 : decode cX4_hitBy 11 = .ok (.if_icmp .ge 38, 3) := dk_162 0 38 (dk_at dksX4_hitBy_0 11 rfl rfl)
theorem dX4_hitBy_14 : decode cX4_hitBy 14 = .ok (.iload_n 3, 1) := dk_29 (dk_at dksX4_hitBy_0 14 rfl rfl)
theorem dX4_hitBy_15 : decode cX4_hitBy 15 = .ok (.iload_n 1, 1) := dk_27 (dk_at dksX4_hitBy_0 15 rfl rfl)
theorem dX4_hitBy_16 : decode cX4_hitBy 16 = .ok (.iload 4, 2) := dk_21 4 (dk_at dksX4_hitBy_0 16 rfl rfl)
theorem dX4_hitBy_18 : decode cX4_hitBy 18 = .ok (.ishr, 1) := dk_122 (dk_at dksX4_hitBy_0 18 rfl rfl)
theorem dX4_hitBy_19 : decode cX4_hitBy 19 = .ok (.iconst 1, 1) := dk_4 (dk_at dksX4_hitBy_0 19 rfl rfl)
theorem dX4_hitBy_20 : decode cX4_hitBy 20 = .ok (.iand, 1) := dk_126 (dk_at dksX4_hitBy_0 20 rfl rfl)
theorem dX4_hitBy_21 : decode cX4_hitBy 21 = .ok (.iconst 1, 1) := dk_4 (dk_at dksX4_hitBy_0 21 rfl rfl)
theorem dX4_hitBy_22 : decode cX4_hitBy 22 = .ok (.if_icmp .ne 18, 3) := dk_160 0 18 (dk_at dksX4_hitBy_1 0 rfl rfl)
theorem dX4_hitBy_25 : decode cX4_hitBy 25 = .ok (.aload_n 0, 1) := dk_42 (dk_at dksX4_hitBy_1 3 rfl rfl)
theorem dX4_hitBy_26 : decode cX4_hitBy 26 = .ok (.getfield 224, 3) := dk_180 0 224 (dk_at dksX4_hitBy_1 4 rfl rfl)
theorem dX4_hitBy_29 : decode cX4_hitBy 29 = .ok (.bipush 24, 2) := dk_16 24 (dk_at dksX4_hitBy_1 7 rfl rfl)
theorem dX4_hitBy_31 : decode cX4_hitBy 31 = .ok (.iload 4, 2) := dk_21 4 (dk_at dksX4_hitBy_1 9 rfl rfl)
theorem dX4_hitBy_33 : decode cX4_hitBy 33 = .ok (.imul, 1) := dk_104 (dk_at dksX4_hitBy_1 11 rfl rfl)
theorem dX4_hitBy_34 : decode cX4_hitBy 34 = .ok (.iload_n 2, 1) := dk_28 (dk_at dksX4_hitBy_1 12 rfl rfl)
theorem dX4_hitBy_35 : decode cX4_hitBy 35 = .ok (.iadd, 1) := dk_96 (dk_at dksX4_hitBy_1 13 rfl rfl)
theorem dX4_hitBy_36 : decode cX4_hitBy 36 = .ok (.iaload, 1) := dk_46 (dk_at dksX4_hitBy_1 14 rfl rfl)
theorem dX4_hitBy_37 : decode cX4_hitBy 37 = .ok (.goto 4, 3) := dk_167 0 4 (dk_at dksX4_hitBy_1 15 rfl rfl)
theorem dX4_hitBy_40 : decode cX4_hitBy 40 = .ok (.iconst 0, 1) := dk_3 (dk_at dksX4_hitBy_1 18 rfl rfl)
theorem dX4_hitBy_41 : decode cX4_hitBy 41 = .ok (.ior, 1) := dk_128 (dk_at dksX4_hitBy_1 19 rfl rfl)
theorem dX4_hitBy_42 : decode cX4_hitBy 42 = .ok (.istore_n 3, 1) := dk_62 (dk_at dksX4_hitBy_1 20 rfl rfl)
theorem dX4_hitBy_43 : decode cX4_hitBy 43 = .ok (.iinc 4 1, 3) := dk_132 4 1 (dk_at dksX4_hitBy_1 21 rfl rfl)
theorem dX4_hitBy_46 : decode cX4_hitBy 46 = .ok (.goto (-41), 3) := dk_167 255 215 (dk_at dksX4_hitBy_2 0 rfl rfl)
theorem dX4_hitBy_49 : decode cX4_hitBy 49 = .ok (.iload_n 3, 1) := dk_29 (dk_at dksX4_hitBy_2 3 rfl rfl)
theorem dX4_hitBy_50 : decode cX4_hitBy 50 = .ok (.ireturn, 1) := dk_172 (dk_at dksX4_hitBy_2 4 rfl rfl)
abbrev cX4_lossBy : ByteArray := prog_30_method_85_code
def yX4_lossBy : MethodName := ⟨RX4, "lossBy", "(I)I"⟩
def dkwX4_lossBy_1 : List UInt8 := [29, 46, 2, 130, 126, 182, 1, 69, 96, 61, 132, 3, 1, 167, 255, 223, 28, 172]
abbrev dktX4_lossBy_1 : List UInt8 := dkwX4_lossBy_1 ++ []
def dkwX4_lossBy_0 : List UInt8 := [3, 61, 3, 62, 29, 42, 180, 0, 23, 162, 0, 31, 28, 42, 42, 27, 29, 182, 1, 169, 42, 180, 0, 221]
abbrev dktX4_lossBy_0 : List UInt8 := dkwX4_lossBy_0 ++ dktX4_lossBy_1
theorem dksX4_lossBy_0 : cX4_lossBy.data.toList.drop 0 = dktX4_lossBy_0 := by decide +kernel
theorem dksX4_lossBy_1 : cX4_lossBy.data.toList.drop 24 = dktX4_lossBy_1 := dk_seg dksX4_lossBy_0 24 rfl rfl
theorem dX4_lossBy_0 : decode cX4_lossBy 0 = .ok (.iconst 0, 1) := dk_3 (dk_at dksX4_lossBy_0 0 rfl rfl)
theorem dX4_lossBy_1 : decode cX4_lossBy 1 = .ok (.istore_n 2, 1) := dk_61 (dk_at dksX4_lossBy_0 1 rfl rfl)
theorem dX4_lossBy_2 : decode cX4_lossBy 2 = .ok (.iconst 0, 1) := dk_3 (dk_at dksX4_lossBy_0 2 rfl rfl)
theorem dX4_lossBy_3 : decode cX4_lossBy 3 = .ok (.istore_n 3, 1) := dk_62 (dk_at dksX4_lossBy_0 3 rfl rfl)
theorem dX4_lossBy_4 : decode cX4_lossBy 4 = .ok (.iload_n 3, 1) := dk_29 (dk_at dksX4_lossBy_0 4 rfl rfl)
theorem dX4_lossBy_5 : decode cX4_lossBy 5 = .ok (.aload_n 0, 1) := dk_42 (dk_at dksX4_lossBy_0 5 rfl rfl)
theorem dX4_lossBy_6 : decode cX4_lossBy 6 = .ok (.getfield 23, 3) := dk_180 0 23 (dk_at dksX4_lossBy_0 6 rfl rfl)
theorem dX4_lossBy_9 : decode cX4_lossBy 9 = .ok (.if_icmp .ge 31, 3) := dk_162 0 31 (dk_at dksX4_lossBy_0 9 rfl rfl)
theorem dX4_lossBy_12 : decode cX4_lossBy 12 = .ok (.iload_n 2, 1) := dk_28 (dk_at dksX4_lossBy_0 12 rfl rfl)
theorem dX4_lossBy_13 : decode cX4_lossBy 13 = .ok (.aload_n 0, 1) := dk_42 (dk_at dksX4_lossBy_0 13 rfl rfl)
theorem dX4_lossBy_14 : decode cX4_lossBy 14 = .ok (.aload_n 0, 1) := dk_42 (dk_at dksX4_lossBy_0 14 rfl rfl)
theorem dX4_lossBy_15 : decode cX4_lossBy 15 = .ok (.iload_n 1, 1) := dk_27 (dk_at dksX4_lossBy_0 15 rfl rfl)
theorem dX4_lossBy_16 : decode cX4_lossBy 16 = .ok (.iload_n 3, 1) := dk_29 (dk_at dksX4_lossBy_0 16 rfl rfl)
theorem dX4_lossBy_17 : decode cX4_lossBy 17 = .ok (.invokevirtual 425, 3) := dk_182 1 169 (dk_at dksX4_lossBy_0 17 rfl rfl)
theorem dX4_lossBy_20 : decode cX4_lossBy 20 = .ok (.aload_n 0, 1) := dk_42 (dk_at dksX4_lossBy_0 20 rfl rfl)
theorem dX4_lossBy_21 : decode cX4_lossBy 21 = .ok (.getfield 221, 3) := dk_180 0 221 (dk_at dksX4_lossBy_0 21 rfl rfl)
theorem dX4_lossBy_24 : decode cX4_lossBy 24 = .ok (.iload_n 3, 1) := dk_29 (dk_at dksX4_lossBy_1 0 rfl rfl)
theorem dX4_lossBy_25 : decode cX4_lossBy 25 = .ok (.iaload, 1) := dk_46 (dk_at dksX4_lossBy_1 1 rfl rfl)
theorem dX4_lossBy_26 : decode cX4_lossBy 26 = .ok (.iconst (-1), 1) := dk_2 (dk_at dksX4_lossBy_1 2 rfl rfl)
theorem dX4_lossBy_27 : decode cX4_lossBy 27 = .ok (.ixor, 1) := dk_130 (dk_at dksX4_lossBy_1 3 rfl rfl)
theorem dX4_lossBy_28 : decode cX4_lossBy 28 = .ok (.iand, 1) := dk_126 (dk_at dksX4_lossBy_1 4 rfl rfl)
theorem dX4_lossBy_29 : decode cX4_lossBy 29 = .ok (.invokevirtual 325, 3) := dk_182 1 69 (dk_at dksX4_lossBy_1 5 rfl rfl)
theorem dX4_lossBy_32 : decode cX4_lossBy 32 = .ok (.iadd, 1) := dk_96 (dk_at dksX4_lossBy_1 8 rfl rfl)
theorem dX4_lossBy_33 : decode cX4_lossBy 33 = .ok (.istore_n 2, 1) := dk_61 (dk_at dksX4_lossBy_1 9 rfl rfl)
theorem dX4_lossBy_34 : decode cX4_lossBy 34 = .ok (.iinc 3 1, 3) := dk_132 3 1 (dk_at dksX4_lossBy_1 10 rfl rfl)
theorem dX4_lossBy_37 : decode cX4_lossBy 37 = .ok (.goto (-33), 3) := dk_167 255 223 (dk_at dksX4_lossBy_1 13 rfl rfl)
theorem dX4_lossBy_40 : decode cX4_lossBy 40 = .ok (.iload_n 2, 1) := dk_28 (dk_at dksX4_lossBy_1 16 rfl rfl)
theorem dX4_lossBy_41 : decode cX4_lossBy 41 = .ok (.ireturn, 1) := dk_172 (dk_at dksX4_lossBy_1 17 rfl rfl)
abbrev cX4_best : ByteArray := prog_30_method_87_code
def yX4_best : MethodName := ⟨RX4, "best", "()I"⟩
def dkwX4_best_3 : List UInt8 := [182, 1, 69, 162, 0, 5, 28, 60, 132, 2, 1, 167, 255, 183, 27, 172]
abbrev dktX4_best_3 : List UInt8 := dkwX4_best_3 ++ []
def dkwX4_best_2 : List UInt8 := [161, 0, 29, 42, 28, 182, 1, 178, 42, 27, 182, 1, 178, 160, 0, 18, 42, 28, 182, 1, 69, 42, 27]
abbrev dktX4_best_2 : List UInt8 := dkwX4_best_2 ++ dktX4_best_3
def dkwX4_best_1 : List UInt8 := [42, 180, 0, 218, 162, 0, 6, 167, 0, 48, 27, 155, 0, 42, 42, 28, 182, 1, 178, 42, 27, 182, 1, 178]
abbrev dktX4_best_1 : List UInt8 := dkwX4_best_1 ++ dktX4_best_2
def dkwX4_best_0 : List UInt8 := [42, 182, 1, 172, 16, 251, 60, 3, 61, 28, 4, 42, 180, 0, 94, 120, 162, 0, 69, 42, 28, 182, 1, 175]
abbrev dktX4_best_0 : List UInt8 := dkwX4_best_0 ++ dktX4_best_1
theorem dksX4_best_0 : cX4_best.data.toList.drop 0 = dktX4_best_0 := by decide +kernel
theorem dksX4_best_1 : cX4_best.data.toList.drop 24 = dktX4_best_1 := dk_seg dksX4_best_0 24 rfl rfl
theorem dksX4_best_2 : cX4_best.data.toList.drop 48 = dktX4_best_2 := dk_seg dksX4_best_1 24 rfl rfl
theorem dksX4_best_3 : cX4_best.data.toList.drop 71 = dktX4_best_3 := dk_seg dksX4_best_2 23 rfl rfl
theorem dX4_best_0 : decode cX4_best 0 = .ok (.aload_n 0, 1) := dk_42 (dk_at dksX4_best_0 0 rfl rfl)
theorem dX4_best_1 : decode cX4_best 1 = .ok (.invokevirtual 428, 3) := dk_182 1 172 (dk_at dksX4_best_0 1 rfl rfl)
theorem dX4_best_4 : decode cX4_best 4 = .ok (.bipush (-5), 2) := dk_16 251 (dk_at dksX4_best_0 4 rfl rfl)
theorem dX4_best_6 : decode cX4_best 6 = .ok (.istore_n 1, 1) := dk_60 (dk_at dksX4_best_0 6 rfl rfl)
theorem dX4_best_7 : decode cX4_best 7 = .ok (.iconst 0, 1) := dk_3 (dk_at dksX4_best_0 7 rfl rfl)
theorem dX4_best_8 : decode cX4_best 8 = .ok (.istore_n 2, 1) := dk_61 (dk_at dksX4_best_0 8 rfl rfl)
theorem dX4_best_9 : decode cX4_best 9 = .ok (.iload_n 2, 1) := dk_28 (dk_at dksX4_best_0 9 rfl rfl)
theorem dX4_best_10 : decode cX4_best 10 = .ok (.iconst 1, 1) := dk_4 (dk_at dksX4_best_0 10 rfl rfl)
theorem dX4_best_11 : decode cX4_best 11 = .ok (.aload_n 0, 1) := dk_42 (dk_at dksX4_best_0 11 rfl rfl)
theorem dX4_best_12 : decode cX4_best 12 = .ok (.getfield 94, 3) := dk_180 0 94 (dk_at dksX4_best_0 12 rfl rfl)
theorem dX4_best_15 : decode cX4_best 15 = .ok (.ishl, 1) := dk_120 (dk_at dksX4_best_0 15 rfl rfl)
theorem dX4_best_16 : decode cX4_best 16 = .ok (.if_icmp .ge 69, 3) := dk_162 0 69 (dk_at dksX4_best_0 16 rfl rfl)
theorem dX4_best_19 : decode cX4_best 19 = .ok (.aload_n 0, 1) := dk_42 (dk_at dksX4_best_0 19 rfl rfl)
theorem dX4_best_20 : decode cX4_best 20 = .ok (.iload_n 2, 1) := dk_28 (dk_at dksX4_best_0 20 rfl rfl)
theorem dX4_best_21 : decode cX4_best 21 = .ok (.invokevirtual 431, 3) := dk_182 1 175 (dk_at dksX4_best_0 21 rfl rfl)
theorem dX4_best_24 : decode cX4_best 24 = .ok (.aload_n 0, 1) := dk_42 (dk_at dksX4_best_1 0 rfl rfl)
theorem dX4_best_25 : decode cX4_best 25 = .ok (.getfield 218, 3) := dk_180 0 218 (dk_at dksX4_best_1 1 rfl rfl)
theorem dX4_best_28 : decode cX4_best 28 = .ok (.if_icmp .ge 6, 3) := dk_162 0 6 (dk_at dksX4_best_1 4 rfl rfl)
theorem dX4_best_31 : decode cX4_best 31 = .ok (.goto 48, 3) := dk_167 0 48 (dk_at dksX4_best_1 7 rfl rfl)
theorem dX4_best_34 : decode cX4_best 34 = .ok (.iload_n 1, 1) := dk_27 (dk_at dksX4_best_1 10 rfl rfl)
theorem dX4_best_35 : decode cX4_best 35 = .ok (.ifCond .lt 42, 3) := dk_155 0 42 (dk_at dksX4_best_1 11 rfl rfl)
theorem dX4_best_38 : decode cX4_best 38 = .ok (.aload_n 0, 1) := dk_42 (dk_at dksX4_best_1 14 rfl rfl)
theorem dX4_best_39 : decode cX4_best 39 = .ok (.iload_n 2, 1) := dk_28 (dk_at dksX4_best_1 15 rfl rfl)
theorem dX4_best_40 : decode cX4_best 40 = .ok (.invokevirtual 434, 3) := dk_182 1 178 (dk_at dksX4_best_1 16 rfl rfl)
theorem dX4_best_43 : decode cX4_best 43 = .ok (.aload_n 0, 1) := dk_42 (dk_at dksX4_best_1 19 rfl rfl)
theorem dX4_best_44 : decode cX4_best 44 = .ok (.iload_n 1, 1) := dk_27 (dk_at dksX4_best_1 20 rfl rfl)
theorem dX4_best_45 : decode cX4_best 45 = .ok (.invokevirtual 434, 3) := dk_182 1 178 (dk_at dksX4_best_1 21 rfl rfl)
theorem dX4_best_48 : decode cX4_best 48 = .ok (.if_icmp .lt 29, 3) := dk_161 0 29 (dk_at dksX4_best_2 0 rfl rfl)
theorem dX4_best_51 : decode cX4_best 51 = .ok (.aload_n 0, 1) := dk_42 (dk_at dksX4_best_2 3 rfl rfl)
theorem dX4_best_52 : decode cX4_best 52 = .ok (.iload_n 2, 1) := dk_28 (dk_at dksX4_best_2 4 rfl rfl)
theorem dX4_best_53 : decode cX4_best 53 = .ok (.invokevirtual 434, 3) := dk_182 1 178 (dk_at dksX4_best_2 5 rfl rfl)
theorem dX4_best_56 : decode cX4_best 56 = .ok (.aload_n 0, 1) := dk_42 (dk_at dksX4_best_2 8 rfl rfl)
theorem dX4_best_57 : decode cX4_best 57 = .ok (.iload_n 1, 1) := dk_27 (dk_at dksX4_best_2 9 rfl rfl)
theorem dX4_best_58 : decode cX4_best 58 = .ok (.invokevirtual 434, 3) := dk_182 1 178 (dk_at dksX4_best_2 10 rfl rfl)
theorem dX4_best_61 : decode cX4_best 61 = .ok (.if_icmp .ne 18, 3) := dk_160 0 18 (dk_at dksX4_best_2 13 rfl rfl)
theorem dX4_best_64 : decode cX4_best 64 = .ok (.aload_n 0, 1) := dk_42 (dk_at dksX4_best_2 16 rfl rfl)
theorem dX4_best_65 : decode cX4_best 65 = .ok (.iload_n 2, 1) := dk_28 (dk_at dksX4_best_2 17 rfl rfl)
theorem dX4_best_66 : decode cX4_best 66 = .ok (.invokevirtual 325, 3) := dk_182 1 69 (dk_at dksX4_best_2 18 rfl rfl)
theorem dX4_best_69 : decode cX4_best 69 = .ok (.aload_n 0, 1) := dk_42 (dk_at dksX4_best_2 21 rfl rfl)
theorem dX4_best_70 : decode cX4_best 70 = .ok (.iload_n 1, 1) := dk_27 (dk_at dksX4_best_2 22 rfl rfl)
theorem dX4_best_71 : decode cX4_best 71 = .ok (.invokevirtual 325, 3) := dk_182 1 69 (dk_at dksX4_best_3 0 rfl rfl)
theorem dX4_best_74 : decode cX4_best 74 = .ok (.if_icmp .ge 5, 3) := dk_162 0 5 (dk_at dksX4_best_3 3 rfl rfl)
theorem dX4_best_77 : decode cX4_best 77 = .ok (.iload_n 2, 1) := dk_28 (dk_at dksX4_best_3 6 rfl rfl)
theorem dX4_best_78 : decode cX4_best 78 = .ok (.istore_n 1, 1) := dk_60 (dk_at dksX4_best_3 7 rfl rfl)
theorem dX4_best_79 : decode cX4_best 79 = .ok (.iinc 2 1, 3) := dk_132 2 1 (dk_at dksX4_best_3 8 rfl rfl)
theorem dX4_best_82 : decode cX4_best 82 = .ok (.goto (-73), 3) := dk_167 255 183 (dk_at dksX4_best_3 11 rfl rfl)
theorem dX4_best_85 : decode cX4_best 85 = .ok (.iload_n 1, 1) := dk_27 (dk_at dksX4_best_3 14 rfl rfl)
theorem dX4_best_86 : decode cX4_best 86 = .ok (.ireturn, 1) := dk_172 (dk_at dksX4_best_3 15 rfl rfl)
abbrev cX4_copy : ByteArray := prog_30_method_89_code
def yX4_copy : MethodName := ⟨RX4, "copy", "(I)I"⟩
def dkwX4_copy_3 : List UInt8 := [42, 180, 0, 227, 4, 100, 172]
abbrev dktX4_copy_3 : List UInt8 := dkwX4_copy_3 ++ []
def dkwX4_copy_2 : List UInt8 := [42, 180, 0, 57, 27, 46, 42, 180, 0, 13, 182, 1, 181, 87, 42, 89, 180, 0, 227, 4, 96, 181, 0, 227]
abbrev dktX4_copy_2 : List UInt8 := dkwX4_copy_2 ++ dktX4_copy_3
def dkwX4_copy_1 : List UInt8 := [17, 0, 200, 160, 0, 6, 16, 252, 172, 42, 180, 0, 233, 42, 180, 0, 227, 27, 79, 42, 42, 180, 0, 227]
abbrev dktX4_copy_1 : List UInt8 := dkwX4_copy_1 ++ dktX4_copy_2
def dkwX4_copy_0 : List UInt8 := [42, 27, 182, 1, 14, 154, 0, 5, 2, 172, 42, 180, 0, 227, 16, 60, 159, 0, 13, 42, 180, 0, 230]
abbrev dktX4_copy_0 : List UInt8 := dkwX4_copy_0 ++ dktX4_copy_1
theorem dksX4_copy_0 : cX4_copy.data.toList.drop 0 = dktX4_copy_0 := by decide +kernel
theorem dksX4_copy_1 : cX4_copy.data.toList.drop 23 = dktX4_copy_1 := dk_seg dksX4_copy_0 23 rfl rfl
theorem dksX4_copy_2 : cX4_copy.data.toList.drop 47 = dktX4_copy_2 := dk_seg dksX4_copy_1 24 rfl rfl
theorem dksX4_copy_3 : cX4_copy.data.toList.drop 71 = dktX4_copy_3 := dk_seg dksX4_copy_2 24 rfl rfl
theorem dX4_copy_0 : decode cX4_copy 0 = .ok (.aload_n 0, 1) := dk_42 (dk_at dksX4_copy_0 0 rfl rfl)
theorem dX4_copy_1 : decode cX4_copy 1 = .ok (.iload_n 1, 1) := dk_27 (dk_at dksX4_copy_0 1 rfl rfl)
theorem dX4_copy_2 : decode cX4_copy 2 = .ok (.invokevirtual 270, 3) := dk_182 1 14 (dk_at dksX4_copy_0 2 rfl rfl)
theorem dX4_copy_5 : decode cX4_copy 5 = .ok (.ifCond .ne 5, 3) := dk_154 0 5 (dk_at dksX4_copy_0 5 rfl rfl)
theorem dX4_copy_8 : decode cX4_copy 8 = .ok (.iconst (-1), 1) := dk_2 (dk_at dksX4_copy_0 8 rfl rfl)
theorem dX4_copy_9 : decode cX4_copy 9 = .ok (.ireturn, 1) := dk_172 (dk_at dksX4_copy_0 9 rfl rfl)
theorem dX4_copy_10 : decode cX4_copy 10 = .ok (.aload_n 0, 1) := dk_42 (dk_at dksX4_copy_0 10 rfl rfl)
theorem dX4_copy_11 : decode cX4_copy 11 = .ok (.getfield 227, 3) := dk_180 0 227 (dk_at dksX4_copy_0 11 rfl rfl)
theorem dX4_copy_14 : decode cX4_copy 14 = .ok (.bipush 60, 2) := dk_16 60 (dk_at dksX4_copy_0 14 rfl rfl)
theorem dX4_copy_16 : decode cX4_copy 16 = .ok (.if_icmp .eq 13, 3) := dk_159 0 13 (dk_at dksX4_copy_0 16 rfl rfl)
theorem dX4_copy_19 : decode cX4_copy 19 = .ok (.aload_n 0, 1) := dk_42 (dk_at dksX4_copy_0 19 rfl rfl)
theorem dX4_copy_20 : decode cX4_copy 20 = .ok (.getfield 230, 3) := dk_180 0 230 (dk_at dksX4_copy_0 20 rfl rfl)
theorem dX4_copy_23 : decode cX4_copy 23 = .ok (.sipush 200, 3) := dk_17 0 200 (dk_at dksX4_copy_1 0 rfl rfl)
theorem dX4_copy_26 : decode cX4_copy 26 = .ok (.if_icmp .ne 6, 3) := dk_160 0 6 (dk_at dksX4_copy_1 3 rfl rfl)
theorem dX4_copy_29 : decode cX4_copy 29 = .ok (.bipush (-4), 2) := dk_16 252 (dk_at dksX4_copy_1 6 rfl rfl)
theorem dX4_copy_31 : decode cX4_copy 31 = .ok (.ireturn, 1) := dk_172 (dk_at dksX4_copy_1 8 rfl rfl)
theorem dX4_copy_32 : decode cX4_copy 32 = .ok (.aload_n 0, 1) := dk_42 (dk_at dksX4_copy_1 9 rfl rfl)
theorem dX4_copy_33 : decode cX4_copy 33 = .ok (.getfield 233, 3) := dk_180 0 233 (dk_at dksX4_copy_1 10 rfl rfl)
theorem dX4_copy_36 : decode cX4_copy 36 = .ok (.aload_n 0, 1) := dk_42 (dk_at dksX4_copy_1 13 rfl rfl)
theorem dX4_copy_37 : decode cX4_copy 37 = .ok (.getfield 227, 3) := dk_180 0 227 (dk_at dksX4_copy_1 14 rfl rfl)
theorem dX4_copy_40 : decode cX4_copy 40 = .ok (.iload_n 1, 1) := dk_27 (dk_at dksX4_copy_1 17 rfl rfl)
theorem dX4_copy_41 : decode cX4_copy 41 = .ok (.iastore, 1) := dk_79 (dk_at dksX4_copy_1 18 rfl rfl)
theorem dX4_copy_42 : decode cX4_copy 42 = .ok (.aload_n 0, 1) := dk_42 (dk_at dksX4_copy_1 19 rfl rfl)
theorem dX4_copy_43 : decode cX4_copy 43 = .ok (.aload_n 0, 1) := dk_42 (dk_at dksX4_copy_1 20 rfl rfl)
theorem dX4_copy_44 : decode cX4_copy 44 = .ok (.getfield 227, 3) := dk_180 0 227 (dk_at dksX4_copy_1 21 rfl rfl)
theorem dX4_copy_47 : decode cX4_copy 47 = .ok (.aload_n 0, 1) := dk_42 (dk_at dksX4_copy_2 0 rfl rfl)
theorem dX4_copy_48 : decode cX4_copy 48 = .ok (.getfield 57, 3) := dk_180 0 57 (dk_at dksX4_copy_2 1 rfl rfl)
theorem dX4_copy_51 : decode cX4_copy 51 = .ok (.iload_n 1, 1) := dk_27 (dk_at dksX4_copy_2 4 rfl rfl)
theorem dX4_copy_52 : decode cX4_copy 52 = .ok (.iaload, 1) := dk_46 (dk_at dksX4_copy_2 5 rfl rfl)
theorem dX4_copy_53 : decode cX4_copy 53 = .ok (.aload_n 0, 1) := dk_42 (dk_at dksX4_copy_2 6 rfl rfl)
theorem dX4_copy_54 : decode cX4_copy 54 = .ok (.getfield 13, 3) := dk_180 0 13 (dk_at dksX4_copy_2 7 rfl rfl)
theorem dX4_copy_57 : decode cX4_copy 57 = .ok (.invokevirtual 437, 3) := dk_182 1 181 (dk_at dksX4_copy_2 10 rfl rfl)
theorem dX4_copy_60 : decode cX4_copy 60 = .ok (.pop, 1) := dk_87 (dk_at dksX4_copy_2 13 rfl rfl)
theorem dX4_copy_61 : decode cX4_copy 61 = .ok (.aload_n 0, 1) := dk_42 (dk_at dksX4_copy_2 14 rfl rfl)
theorem dX4_copy_62 : decode cX4_copy 62 = .ok (.dup, 1) := dk_89 (dk_at dksX4_copy_2 15 rfl rfl)
theorem dX4_copy_63 : decode cX4_copy 63 = .ok (.getfield 227, 3) := dk_180 0 227 (dk_at dksX4_copy_2 16 rfl rfl)
theorem dX4_copy_66 : decode cX4_copy 66 = .ok (.iconst 1, 1) := dk_4 (dk_at dksX4_copy_2 19 rfl rfl)
theorem dX4_copy_67 : decode cX4_copy 67 = .ok (.iadd, 1) := dk_96 (dk_at dksX4_copy_2 20 rfl rfl)
theorem dX4_copy_68 : decode cX4_copy 68 = .ok (.putfield 227, 3) := dk_181 0 227 (dk_at dksX4_copy_2 21 rfl rfl)
theorem dX4_copy_71 : decode cX4_copy 71 = .ok (.aload_n 0, 1) := dk_42 (dk_at dksX4_copy_3 0 rfl rfl)
theorem dX4_copy_72 : decode cX4_copy 72 = .ok (.getfield 227, 3) := dk_180 0 227 (dk_at dksX4_copy_3 1 rfl rfl)
theorem dX4_copy_75 : decode cX4_copy 75 = .ok (.iconst 1, 1) := dk_4 (dk_at dksX4_copy_3 4 rfl rfl)
theorem dX4_copy_76 : decode cX4_copy 76 = .ok (.isub, 1) := dk_100 (dk_at dksX4_copy_3 5 rfl rfl)
theorem dX4_copy_77 : decode cX4_copy 77 = .ok (.ireturn, 1) := dk_172 (dk_at dksX4_copy_3 6 rfl rfl)
abbrev cX4_enter : ByteArray := prog_30_method_88_code
def yX4_enter : MethodName := ⟨RX4, "enter", "(III)I"⟩
def dkwX4_enter_1 : List UInt8 := [42, 180, 0, 230, 29, 79, 42, 89, 180, 0, 230, 4, 96, 181, 0, 230, 42, 180, 0, 230, 172]
abbrev dktX4_enter_1 : List UInt8 := dkwX4_enter_1 ++ []
def dkwX4_enter_0 : List UInt8 := [42, 180, 0, 236, 42, 180, 0, 230, 27, 79, 42, 180, 0, 239, 42, 180, 0, 230, 28, 79, 42, 180, 0, 242]
abbrev dktX4_enter_0 : List UInt8 := dkwX4_enter_0 ++ dktX4_enter_1
theorem dksX4_enter_0 : cX4_enter.data.toList.drop 0 = dktX4_enter_0 := by decide +kernel
theorem dksX4_enter_1 : cX4_enter.data.toList.drop 24 = dktX4_enter_1 := dk_seg dksX4_enter_0 24 rfl rfl
theorem dX4_enter_0 : decode cX4_enter 0 = .ok (.aload_n 0, 1) := dk_42 (dk_at dksX4_enter_0 0 rfl rfl)
theorem dX4_enter_1 : decode cX4_enter 1 = .ok (.getfield 236, 3) := dk_180 0 236 (dk_at dksX4_enter_0 1 rfl rfl)
theorem dX4_enter_4 : decode cX4_enter 4 = .ok (.aload_n 0, 1) := dk_42 (dk_at dksX4_enter_0 4 rfl rfl)
theorem dX4_enter_5 : decode cX4_enter 5 = .ok (.getfield 230, 3) := dk_180 0 230 (dk_at dksX4_enter_0 5 rfl rfl)
theorem dX4_enter_8 : decode cX4_enter 8 = .ok (.iload_n 1, 1) := dk_27 (dk_at dksX4_enter_0 8 rfl rfl)
theorem dX4_enter_9 : decode cX4_enter 9 = .ok (.iastore, 1) := dk_79 (dk_at dksX4_enter_0 9 rfl rfl)
theorem dX4_enter_10 : decode cX4_enter 10 = .ok (.aload_n 0, 1) := dk_42 (dk_at dksX4_enter_0 10 rfl rfl)
theorem dX4_enter_11 : decode cX4_enter 11 = .ok (.getfield 239, 3) := dk_180 0 239 (dk_at dksX4_enter_0 11 rfl rfl)
theorem dX4_enter_14 : decode cX4_enter 14 = .ok (.aload_n 0, 1) := dk_42 (dk_at dksX4_enter_0 14 rfl rfl)
theorem dX4_enter_15 : decode cX4_enter 15 = .ok (.getfield 230, 3) := dk_180 0 230 (dk_at dksX4_enter_0 15 rfl rfl)
theorem dX4_enter_18 : decode cX4_enter 18 = .ok (.iload_n 2, 1) := dk_28 (dk_at dksX4_enter_0 18 rfl rfl)
theorem dX4_enter_19 : decode cX4_enter 19 = .ok (.iastore, 1) := dk_79 (dk_at dksX4_enter_0 19 rfl rfl)
theorem dX4_enter_20 : decode cX4_enter 20 = .ok (.aload_n 0, 1) := dk_42 (dk_at dksX4_enter_0 20 rfl rfl)
theorem dX4_enter_21 : decode cX4_enter 21 = .ok (.getfield 242, 3) := dk_180 0 242 (dk_at dksX4_enter_0 21 rfl rfl)
theorem dX4_enter_24 : decode cX4_enter 24 = .ok (.aload_n 0, 1) := dk_42 (dk_at dksX4_enter_1 0 rfl rfl)
theorem dX4_enter_25 : decode cX4_enter 25 = .ok (.getfield 230, 3) := dk_180 0 230 (dk_at dksX4_enter_1 1 rfl rfl)
theorem dX4_enter_28 : decode cX4_enter 28 = .ok (.iload_n 3, 1) := dk_29 (dk_at dksX4_enter_1 4 rfl rfl)
theorem dX4_enter_29 : decode cX4_enter 29 = .ok (.iastore, 1) := dk_79 (dk_at dksX4_enter_1 5 rfl rfl)
theorem dX4_enter_30 : decode cX4_enter 30 = .ok (.aload_n 0, 1) := dk_42 (dk_at dksX4_enter_1 6 rfl rfl)
theorem dX4_enter_31 : decode cX4_enter 31 = .ok (.dup, 1) := dk_89 (dk_at dksX4_enter_1 7 rfl rfl)
theorem dX4_enter_32 : decode cX4_enter 32 = .ok (.getfield 230, 3) := dk_180 0 230 (dk_at dksX4_enter_1 8 rfl rfl)
theorem dX4_enter_35 : decode cX4_enter 35 = .ok (.iconst 1, 1) := dk_4 (dk_at dksX4_enter_1 11 rfl rfl)
theorem dX4_enter_36 : decode cX4_enter 36 = .ok (.iadd, 1) := dk_96 (dk_at dksX4_enter_1 12 rfl rfl)
theorem dX4_enter_37 : decode cX4_enter 37 = .ok (.putfield 230, 3) := dk_181 0 230 (dk_at dksX4_enter_1 13 rfl rfl)
theorem dX4_enter_40 : decode cX4_enter 40 = .ok (.aload_n 0, 1) := dk_42 (dk_at dksX4_enter_1 16 rfl rfl)
theorem dX4_enter_41 : decode cX4_enter 41 = .ok (.getfield 230, 3) := dk_180 0 230 (dk_at dksX4_enter_1 17 rfl rfl)
theorem dX4_enter_44 : decode cX4_enter 44 = .ok (.ireturn, 1) := dk_172 (dk_at dksX4_enter_1 20 rfl rfl)
abbrev cX4_moved : ByteArray := prog_30_method_91_code
def yX4_moved : MethodName := ⟨RX4, "moved", "(III)I"⟩
def dkwX4_moved_6 : List UInt8 := [182, 1, 181, 172]
abbrev dktX4_moved_6 : List UInt8 := dkwX4_moved_6 ++ []
def dkwX4_moved_5 : List UInt8 := [167, 255, 213, 42, 180, 0, 230, 17, 0, 200, 160, 0, 8, 16, 252, 167, 0, 10, 42, 27, 28, 29]
abbrev dktX4_moved_5 : List UInt8 := dkwX4_moved_5 ++ dktX4_moved_6
def dkwX4_moved_4 : List UInt8 := [21, 5, 46, 27, 160, 0, 17, 42, 180, 0, 242, 21, 5, 46, 29, 164, 0, 6, 16, 253, 172, 132, 5, 1]
abbrev dktX4_moved_4 : List UInt8 := dkwX4_moved_4 ++ dktX4_moved_5
def dkwX4_moved_3 : List UInt8 := [172, 3, 54, 5, 21, 5, 42, 180, 0, 230, 162, 0, 40, 28, 16, 10, 160, 0, 34, 42, 180, 0, 236]
abbrev dktX4_moved_3 : List UInt8 := dkwX4_moved_3 ++ dktX4_moved_4
def dkwX4_moved_2 : List UInt8 := [29, 42, 180, 0, 230, 182, 1, 184, 54, 4, 21, 4, 155, 0, 10, 21, 4, 16, 10, 160, 0, 6, 16, 253]
abbrev dktX4_moved_2 : List UInt8 := dkwX4_moved_2 ++ dktX4_moved_3
def dkwX4_moved_1 : List UInt8 := [182, 0, 3, 153, 0, 16, 42, 29, 3, 42, 180, 0, 13, 182, 0, 3, 154, 0, 6, 16, 254, 172, 42, 27]
abbrev dktX4_moved_1 : List UInt8 := dkwX4_moved_1 ++ dktX4_moved_2
def dkwX4_moved_0 : List UInt8 := [42, 27, 3, 42, 180, 0, 227, 4, 100, 182, 0, 3, 154, 0, 5, 2, 172, 42, 28, 3, 16, 10]
abbrev dktX4_moved_0 : List UInt8 := dkwX4_moved_0 ++ dktX4_moved_1
theorem dksX4_moved_0 : cX4_moved.data.toList.drop 0 = dktX4_moved_0 := by decide +kernel
theorem dksX4_moved_1 : cX4_moved.data.toList.drop 22 = dktX4_moved_1 := dk_seg dksX4_moved_0 22 rfl rfl
theorem dksX4_moved_2 : cX4_moved.data.toList.drop 46 = dktX4_moved_2 := dk_seg dksX4_moved_1 24 rfl rfl
theorem dksX4_moved_3 : cX4_moved.data.toList.drop 70 = dktX4_moved_3 := dk_seg dksX4_moved_2 24 rfl rfl
theorem dksX4_moved_4 : cX4_moved.data.toList.drop 93 = dktX4_moved_4 := dk_seg dksX4_moved_3 23 rfl rfl
theorem dksX4_moved_5 : cX4_moved.data.toList.drop 117 = dktX4_moved_5 := dk_seg dksX4_moved_4 24 rfl rfl
theorem dksX4_moved_6 : cX4_moved.data.toList.drop 139 = dktX4_moved_6 := dk_seg dksX4_moved_5 22 rfl rfl
theorem dX4_moved_0 : decode cX4_moved 0 = .ok (.aload_n 0, 1) := dk_42 (dk_at dksX4_moved_0 0 rfl rfl)
theorem dX4_moved_1 : decode cX4_moved 1 = .ok (.iload_n 1, 1) := dk_27 (dk_at dksX4_moved_0 1 rfl rfl)
theorem dX4_moved_2 : decode cX4_moved 2 = .ok (.iconst 0, 1) := dk_3 (dk_at dksX4_moved_0 2 rfl rfl)
theorem dX4_moved_3 : decode cX4_moved 3 = .ok (.aload_n 0, 1) := dk_42 (dk_at dksX4_moved_0 3 rfl rfl)
theorem dX4_moved_4 : decode cX4_moved 4 = .ok (.getfield 227, 3) := dk_180 0 227 (dk_at dksX4_moved_0 4 rfl rfl)
theorem dX4_moved_7 : decode cX4_moved 7 = .ok (.iconst 1, 1) := dk_4 (dk_at dksX4_moved_0 7 rfl rfl)
theorem dX4_moved_8 : decode cX4_moved 8 = .ok (.isub, 1) := dk_100 (dk_at dksX4_moved_0 8 rfl rfl)
theorem dX4_moved_9 : decode cX4_moved 9 = .ok (.invokevirtual 3, 3) := dk_182 0 3 (dk_at dksX4_moved_0 9 rfl rfl)
theorem dX4_moved_12 : decode cX4_moved 12 = .ok (.ifCond .ne 5, 3) := dk_154 0 5 (dk_at dksX4_moved_0 12 rfl rfl)
theorem dX4_moved_15 : decode cX4_moved 15 = .ok (.iconst (-1), 1) := dk_2 (dk_at dksX4_moved_0 15 rfl rfl)
theorem dX4_moved_16 : decode cX4_moved 16 = .ok (.ireturn, 1) := dk_172 (dk_at dksX4_moved_0 16 rfl rfl)
theorem dX4_moved_17 : decode cX4_moved 17 = .ok (.aload_n 0, 1) := dk_42 (dk_at dksX4_moved_0 17 rfl rfl)
theorem dX4_moved_18 : decode cX4_moved 18 = .ok (.iload_n 2, 1) := dk_28 (dk_at dksX4_moved_0 18 rfl rfl)
theorem dX4_moved_19 : decode cX4_moved 19 = .ok (.iconst 0, 1) := dk_3 (dk_at dksX4_moved_0 19 rfl rfl)
theorem dX4_moved_20 : decode cX4_moved 20 = .ok (.bipush 10, 2) := dk_16 10 (dk_at dksX4_moved_0 20 rfl rfl)
theorem dX4_moved_22 : decode cX4_moved 22 = .ok (.invokevirtual 3, 3) := dk_182 0 3 (dk_at dksX4_moved_1 0 rfl rfl)
theorem dX4_moved_25 : decode cX4_moved 25 = .ok (.ifCond .eq 16, 3) := dk_153 0 16 (dk_at dksX4_moved_1 3 rfl rfl)
theorem dX4_moved_28 : decode cX4_moved 28 = .ok (.aload_n 0, 1) := dk_42 (dk_at dksX4_moved_1 6 rfl rfl)
theorem dX4_moved_29 : decode cX4_moved 29 = .ok (.iload_n 3, 1) := dk_29 (dk_at dksX4_moved_1 7 rfl rfl)
theorem dX4_moved_30 : decode cX4_moved 30 = .ok (.iconst 0, 1) := dk_3 (dk_at dksX4_moved_1 8 rfl rfl)
theorem dX4_moved_31 : decode cX4_moved 31 = .ok (.aload_n 0, 1) := dk_42 (dk_at dksX4_moved_1 9 rfl rfl)
theorem dX4_moved_32 : decode cX4_moved 32 = .ok (.getfield 13, 3) := dk_180 0 13 (dk_at dksX4_moved_1 10 rfl rfl)
theorem dX4_moved_35 : decode cX4_moved 35 = .ok (.invokevirtual 3, 3) := dk_182 0 3 (dk_at dksX4_moved_1 13 rfl rfl)
theorem dX4_moved_38 : decode cX4_moved 38 = .ok (.ifCond .ne 6, 3) := dk_154 0 6 (dk_at dksX4_moved_1 16 rfl rfl)
theorem dX4_moved_41 : decode cX4_moved 41 = .ok (.bipush (-2), 2) := dk_16 254 (dk_at dksX4_moved_1 19 rfl rfl)
theorem dX4_moved_43 : decode cX4_moved 43 = .ok (.ireturn, 1) := dk_172 (dk_at dksX4_moved_1 21 rfl rfl)
theorem dX4_moved_44 : decode cX4_moved 44 = .ok (.aload_n 0, 1) := dk_42 (dk_at dksX4_moved_1 22 rfl rfl)
theorem dX4_moved_45 : decode cX4_moved 45 = .ok (.iload_n 1, 1) := dk_27 (dk_at dksX4_moved_1 23 rfl rfl)
theorem dX4_moved_46 : decode cX4_moved 46 = .ok (.iload_n 3, 1) := dk_29 (dk_at dksX4_moved_2 0 rfl rfl)
theorem dX4_moved_47 : decode cX4_moved 47 = .ok (.aload_n 0, 1) := dk_42 (dk_at dksX4_moved_2 1 rfl rfl)
theorem dX4_moved_48 : decode cX4_moved 48 = .ok (.getfield 230, 3) := dk_180 0 230 (dk_at dksX4_moved_2 2 rfl rfl)
theorem dX4_moved_51 : decode cX4_moved 51 = .ok (.invokevirtual 440, 3) := dk_182 1 184 (dk_at dksX4_moved_2 5 rfl rfl)
theorem dX4_moved_54 : decode cX4_moved 54 = .ok (.istore 4, 2) := dk_54 4 (dk_at dksX4_moved_2 8 rfl rfl)
theorem dX4_moved_56 : decode cX4_moved 56 = .ok (.iload 4, 2) := dk_21 4 (dk_at dksX4_moved_2 10 rfl rfl)
theorem dX4_moved_58 : decode cX4_moved 58 = .ok (.ifCond .lt 10, 3) := dk_155 0 10 (dk_at dksX4_moved_2 12 rfl rfl)
theorem dX4_moved_61 : decode cX4_moved 61 = .ok (.iload 4, 2) := dk_21 4 (dk_at dksX4_moved_2 15 rfl rfl)
theorem dX4_moved_63 : decode cX4_moved 63 = .ok (.bipush 10, 2) := dk_16 10 (dk_at dksX4_moved_2 17 rfl rfl)
theorem dX4_moved_65 : decode cX4_moved 65 = .ok (.if_icmp .ne 6, 3) := dk_160 0 6 (dk_at dksX4_moved_2 19 rfl rfl)
theorem dX4_moved_68 : decode cX4_moved 68 = .ok (.bipush (-3), 2) := dk_16 253 (dk_at dksX4_moved_2 22 rfl rfl)
theorem dX4_moved_70 : decode cX4_moved 70 = .ok (.ireturn, 1) := dk_172 (dk_at dksX4_moved_3 0 rfl rfl)
theorem dX4_moved_71 : decode cX4_moved 71 = .ok (.iconst 0, 1) := dk_3 (dk_at dksX4_moved_3 1 rfl rfl)
theorem dX4_moved_72 : decode cX4_moved 72 = .ok (.istore 5, 2) := dk_54 5 (dk_at dksX4_moved_3 2 rfl rfl)
theorem dX4_moved_74 : decode cX4_moved 74 = .ok (.iload 5, 2) := dk_21 5 (dk_at dksX4_moved_3 4 rfl rfl)
theorem dX4_moved_76 : decode cX4_moved 76 = .ok (.aload_n 0, 1) := dk_42 (dk_at dksX4_moved_3 6 rfl rfl)
theorem dX4_moved_77 : decode cX4_moved 77 = .ok (.getfield 230, 3) := dk_180 0 230 (dk_at dksX4_moved_3 7 rfl rfl)
theorem dX4_moved_80 : decode cX4_moved 80 = .ok (.if_icmp .ge 40, 3) := dk_162 0 40 (dk_at dksX4_moved_3 10 rfl rfl)
theorem dX4_moved_83 : decode cX4_moved 83 = .ok (.iload_n 2, 1) := dk_28 (dk_at dksX4_moved_3 13 rfl rfl)
theorem dX4_moved_84 : decode cX4_moved 84 = .ok (.bipush 10, 2) := dk_16 10 (dk_at dksX4_moved_3 14 rfl rfl)
theorem dX4_moved_86 : decode cX4_moved 86 = .ok (.if_icmp .ne 34, 3) := dk_160 0 34 (dk_at dksX4_moved_3 16 rfl rfl)
theorem dX4_moved_89 : decode cX4_moved 89 = .ok (.aload_n 0, 1) := dk_42 (dk_at dksX4_moved_3 19 rfl rfl)
theorem dX4_moved_90 : decode cX4_moved 90 = .ok (.getfield 236, 3) := dk_180 0 236 (dk_at dksX4_moved_3 20 rfl rfl)
theorem dX4_moved_93 : decode cX4_moved 93 = .ok (.iload 5, 2) := dk_21 5 (dk_at dksX4_moved_4 0 rfl rfl)
theorem dX4_moved_95 : decode cX4_moved 95 = .ok (.iaload, 1) := dk_46 (dk_at dksX4_moved_4 2 rfl rfl)
theorem dX4_moved_96 : decode cX4_moved 96 = .ok (.iload_n 1, 1) := dk_27 (dk_at dksX4_moved_4 3 rfl rfl)
theorem dX4_moved_97 : decode cX4_moved 97 = .ok (.if_icmp .ne 17, 3) := dk_160 0 17 (dk_at dksX4_moved_4 4 rfl rfl)
theorem dX4_moved_100 : decode cX4_moved 100 = .ok (.aload_n 0, 1) := dk_42 (dk_at dksX4_moved_4 7 rfl rfl)
theorem dX4_moved_101 : decode cX4_moved 101 = .ok (.getfield 242, 3) := dk_180 0 242 (dk_at dksX4_moved_4 8 rfl rfl)
theorem dX4_moved_104 : decode cX4_moved 104 = .ok (.iload 5, 2) := dk_21 5 (dk_at dksX4_moved_4 11 rfl rfl)
theorem dX4_moved_106 : decode cX4_moved 106 = .ok (.iaload, 1) := dk_46 (dk_at dksX4_moved_4 13 rfl rfl)
theorem dX4_moved_107 : decode cX4_moved 107 = .ok (.iload_n 3, 1) := dk_29 (dk_at dksX4_moved_4 14 rfl rfl)
theorem dX4_moved_108 : decode cX4_moved 108 = .ok (.if_icmp .le 6, 3) := dk_164 0 6 (dk_at dksX4_moved_4 15 rfl rfl)
theorem dX4_moved_111 : decode cX4_moved 111 = .ok (.bipush (-3), 2) := dk_16 253 (dk_at dksX4_moved_4 18 rfl rfl)
theorem dX4_moved_113 : decode cX4_moved 113 = .ok (.ireturn, 1) := dk_172 (dk_at dksX4_moved_4 20 rfl rfl)
theorem dX4_moved_114 : decode cX4_moved 114 = .ok (.iinc 5 1, 3) := dk_132 5 1 (dk_at dksX4_moved_4 21 rfl rfl)
theorem dX4_moved_117 : decode cX4_moved 117 = .ok (.goto (-43), 3) := dk_167 255 213 (dk_at dksX4_moved_5 0 rfl rfl)
theorem dX4_moved_120 : decode cX4_moved 120 = .ok (.aload_n 0, 1) := dk_42 (dk_at dksX4_moved_5 3 rfl rfl)
theorem dX4_moved_121 : decode cX4_moved 121 = .ok (.getfield 230, 3) := dk_180 0 230 (dk_at dksX4_moved_5 4 rfl rfl)
theorem dX4_moved_124 : decode cX4_moved 124 = .ok (.sipush 200, 3) := dk_17 0 200 (dk_at dksX4_moved_5 7 rfl rfl)
theorem dX4_moved_127 : decode cX4_moved 127 = .ok (.if_icmp .ne 8, 3) := dk_160 0 8 (dk_at dksX4_moved_5 10 rfl rfl)
theorem dX4_moved_130 : decode cX4_moved 130 = .ok (.bipush (-4), 2) := dk_16 252 (dk_at dksX4_moved_5 13 rfl rfl)
theorem dX4_moved_132 : decode cX4_moved 132 = .ok (.goto 10, 3) := dk_167 0 10 (dk_at dksX4_moved_5 15 rfl rfl)
theorem dX4_moved_135 : decode cX4_moved 135 = .ok (.aload_n 0, 1) := dk_42 (dk_at dksX4_moved_5 18 rfl rfl)
theorem dX4_moved_136 : decode cX4_moved 136 = .ok (.iload_n 1, 1) := dk_27 (dk_at dksX4_moved_5 19 rfl rfl)
theorem dX4_moved_137 : decode cX4_moved 137 = .ok (.iload_n 2, 1) := dk_28 (dk_at dksX4_moved_5 20 rfl rfl)
theorem dX4_moved_138 : decode cX4_moved 138 = .ok (.iload_n 3, 1) := dk_29 (dk_at dksX4_moved_5 21 rfl rfl)
theorem dX4_moved_139 : decode cX4_moved 139 = .ok (.invokevirtual 437, 3) := dk_182 1 181 (dk_at dksX4_moved_6 0 rfl rfl)
theorem dX4_moved_142 : decode cX4_moved 142 = .ok (.ireturn, 1) := dk_172 (dk_at dksX4_moved_6 3 rfl rfl)
abbrev cX4_spotOf : ByteArray := prog_30_method_90_code
def yX4_spotOf : MethodName := ⟨RX4, "spotOf", "(III)I"⟩
def dkwX4_spotOf_3 : List UInt8 := [16, 251, 167, 0, 10, 42, 180, 0, 239, 21, 4, 46, 172]
abbrev dktX4_spotOf_3 : List UInt8 := dkwX4_spotOf_3 ++ []
def dkwX4_spotOf_2 : List UInt8 := [180, 0, 242, 21, 4, 46, 161, 0, 7, 21, 5, 54, 4, 132, 5, 1, 167, 255, 199, 21, 4, 156, 0, 8]
abbrev dktX4_spotOf_2 : List UInt8 := dkwX4_spotOf_2 ++ dktX4_spotOf_3
def dkwX4_spotOf_1 : List UInt8 := [180, 0, 242, 21, 5, 46, 28, 163, 0, 29, 21, 4, 155, 0, 20, 42, 180, 0, 242, 21, 5, 46, 42]
abbrev dktX4_spotOf_1 : List UInt8 := dkwX4_spotOf_1 ++ dktX4_spotOf_2
def dkwX4_spotOf_0 : List UInt8 := [2, 54, 4, 3, 54, 5, 21, 5, 29, 162, 0, 57, 42, 180, 0, 236, 21, 5, 46, 27, 160, 0, 40, 42]
abbrev dktX4_spotOf_0 : List UInt8 := dkwX4_spotOf_0 ++ dktX4_spotOf_1
theorem dksX4_spotOf_0 : cX4_spotOf.data.toList.drop 0 = dktX4_spotOf_0 := by decide +kernel
theorem dksX4_spotOf_1 : cX4_spotOf.data.toList.drop 24 = dktX4_spotOf_1 := dk_seg dksX4_spotOf_0 24 rfl rfl
theorem dksX4_spotOf_2 : cX4_spotOf.data.toList.drop 47 = dktX4_spotOf_2 := dk_seg dksX4_spotOf_1 23 rfl rfl
theorem dksX4_spotOf_3 : cX4_spotOf.data.toList.drop 71 = dktX4_spotOf_3 := dk_seg dksX4_spotOf_2 24 rfl rfl
theorem dX4_spotOf_0 : decode cX4_spotOf 0 = .ok (.iconst (-1), 1) := dk_2 (dk_at dksX4_spotOf_0 0 rfl rfl)
theorem dX4_spotOf_1 : decode cX4_spotOf 1 = .ok (.istore 4, 2) := dk_54 4 (dk_at dksX4_spotOf_0 1 rfl rfl)
theorem dX4_spotOf_3 : decode cX4_spotOf 3 = .ok (.iconst 0, 1) := dk_3 (dk_at dksX4_spotOf_0 3 rfl rfl)
theorem dX4_spotOf_4 : decode cX4_spotOf 4 = .ok (.istore 5, 2) := dk_54 5 (dk_at dksX4_spotOf_0 4 rfl rfl)
theorem dX4_spotOf_6 : decode cX4_spotOf 6 = .ok (.iload 5, 2) := dk_21 5 (dk_at dksX4_spotOf_0 6 rfl rfl)
theorem dX4_spotOf_8 : decode cX4_spotOf 8 = .ok (.iload_n 3, 1) := dk_29 (dk_at dksX4_spotOf_0 8 rfl rfl)
theorem dX4_spotOf_9 : decode cX4_spotOf 9 = .ok (.if_icmp .ge 57, 3) := dk_162 0 57 (dk_at dksX4_spotOf_0 9 rfl rfl)
theorem dX4_spotOf_12 : decode cX4_spotOf 12 = .ok (.aload_n 0, 1) := dk_42 (dk_at dksX4_spotOf_0 12 rfl rfl)
theorem dX4_spotOf_13 : decode cX4_spotOf 13 = .ok (.getfield 236, 3) := dk_180 0 236 (dk_at dksX4_spotOf_0 13 rfl rfl)
theorem dX4_spotOf_16 : decode cX4_spotOf 16 = .ok (.iload 5, 2) := dk_21 5 (dk_at dksX4_spotOf_0 16 rfl rfl)
theorem dX4_spotOf_18 : decode cX4_spotOf 18 = .ok (.iaload, 1) := dk_46 (dk_at dksX4_spotOf_0 18 rfl rfl)
theorem dX4_spotOf_19 : decode cX4_spotOf 19 = .ok (.iload_n 1, 1) := dk_27 (dk_at dksX4_spotOf_0 19 rfl rfl)
theorem dX4_spotOf_20 : decode cX4_spotOf 20 = .ok (.if_icmp .ne 40, 3) := dk_160 0 40 (dk_at dksX4_spotOf_0 20 rfl rfl)
theorem dX4_spotOf_23 : decode cX4_spotOf 23 = .ok (.aload_n 0, 1) := dk_42 (dk_at dksX4_spotOf_0 23 rfl rfl)
theorem dX4_spotOf_24 : decode cX4_spotOf 24 = .ok (.getfield 242, 3) := dk_180 0 242 (dk_at dksX4_spotOf_1 0 rfl rfl)
theorem dX4_spotOf_27 : decode cX4_spotOf 27 = .ok (.iload 5, 2) := dk_21 5 (dk_at dksX4_spotOf_1 3 rfl rfl)
theorem dX4_spotOf_29 : decode cX4_spotOf 29 = .ok (.iaload, 1) := dk_46 (dk_at dksX4_spotOf_1 5 rfl rfl)
theorem dX4_spotOf_30 : decode cX4_spotOf 30 = .ok (.iload_n 2, 1) := dk_28 (dk_at dksX4_spotOf_1 6 rfl rfl)
theorem dX4_spotOf_31 : decode cX4_spotOf 31 = .ok (.if_icmp .gt 29, 3) := dk_163 0 29 (dk_at dksX4_spotOf_1 7 rfl rfl)
theorem dX4_spotOf_34 : decode cX4_spotOf 34 = .ok (.iload 4, 2) := dk_21 4 (dk_at dksX4_spotOf_1 10 rfl rfl)
theorem dX4_spotOf_36 : decode cX4_spotOf 36 = .ok (.ifCond .lt 20, 3) := dk_155 0 20 (dk_at dksX4_spotOf_1 12 rfl rfl)
theorem dX4_spotOf_39 : decode cX4_spotOf 39 = .ok (.aload_n 0, 1) := dk_42 (dk_at dksX4_spotOf_1 15 rfl rfl)
theorem dX4_spotOf_40 : decode cX4_spotOf 40 = .ok (.getfield 242, 3) := dk_180 0 242 (dk_at dksX4_spotOf_1 16 rfl rfl)
theorem dX4_spotOf_43 : decode cX4_spotOf 43 = .ok (.iload 5, 2) := dk_21 5 (dk_at dksX4_spotOf_1 19 rfl rfl)
theorem dX4_spotOf_45 : decode cX4_spotOf 45 = .ok (.iaload, 1) := dk_46 (dk_at dksX4_spotOf_1 21 rfl rfl)
theorem dX4_spotOf_46 : decode cX4_spotOf 46 = .ok (.aload_n 0, 1) := dk_42 (dk_at dksX4_spotOf_1 22 rfl rfl)
theorem dX4_spotOf_47 : decode cX4_spotOf 47 = .ok (.getfield 242, 3) := dk_180 0 242 (dk_at dksX4_spotOf_2 0 rfl rfl)
theorem dX4_spotOf_50 : decode cX4_spotOf 50 = .ok (.iload 4, 2) := dk_21 4 (dk_at dksX4_spotOf_2 3 rfl rfl)
theorem dX4_spotOf_52 : decode cX4_spotOf 52 = .ok (.iaload, 1) := dk_46 (dk_at dksX4_spotOf_2 5 rfl rfl)
theorem dX4_spotOf_53 : decode cX4_spotOf 53 = .ok (.if_icmp .lt 7, 3) := dk_161 0 7 (dk_at dksX4_spotOf_2 6 rfl rfl)
theorem dX4_spotOf_56 : decode cX4_spotOf 56 = .ok (.iload 5, 2) := dk_21 5 (dk_at dksX4_spotOf_2 9 rfl rfl)
theorem dX4_spotOf_58 : decode cX4_spotOf 58 = .ok (.istore 4, 2) := dk_54 4 (dk_at dksX4_spotOf_2 11 rfl rfl)
theorem dX4_spotOf_60 : decode cX4_spotOf 60 = .ok (.iinc 5 1, 3) := dk_132 5 1 (dk_at dksX4_spotOf_2 13 rfl rfl)
theorem dX4_spotOf_63 : decode cX4_spotOf 63 = .ok (.goto (-57), 3) := dk_167 255 199 (dk_at dksX4_spotOf_2 16 rfl rfl)
theorem dX4_spotOf_66 : decode cX4_spotOf 66 = .ok (.iload 4, 2) := dk_21 4 (dk_at dksX4_spotOf_2 19 rfl rfl)
theorem dX4_spotOf_68 : decode cX4_spotOf 68 = .ok (.ifCond .ge 8, 3) := dk_156 0 8 (dk_at dksX4_spotOf_2 21 rfl rfl)
theorem dX4_spotOf_71 : decode cX4_spotOf 71 = .ok (.bipush (-5), 2) := dk_16 251 (dk_at dksX4_spotOf_3 0 rfl rfl)
theorem dX4_spotOf_73 : decode cX4_spotOf 73 = .ok (.goto 10, 3) := dk_167 0 10 (dk_at dksX4_spotOf_3 2 rfl rfl)
theorem dX4_spotOf_76 : decode cX4_spotOf 76 = .ok (.aload_n 0, 1) := dk_42 (dk_at dksX4_spotOf_3 5 rfl rfl)
theorem dX4_spotOf_77 : decode cX4_spotOf 77 = .ok (.getfield 239, 3) := dk_180 0 239 (dk_at dksX4_spotOf_3 6 rfl rfl)
theorem dX4_spotOf_80 : decode cX4_spotOf 80 = .ok (.iload 4, 2) := dk_21 4 (dk_at dksX4_spotOf_3 9 rfl rfl)
theorem dX4_spotOf_82 : decode cX4_spotOf 82 = .ok (.iaload, 1) := dk_46 (dk_at dksX4_spotOf_3 11 rfl rfl)
theorem dX4_spotOf_83 : decode cX4_spotOf 83 = .ok (.ireturn, 1) := dk_172 (dk_at dksX4_spotOf_3 12 rfl rfl)
abbrev cX4_spot : ByteArray := prog_30_method_94_code
def yX4_spot : MethodName := ⟨RX4, "spot", "(III)I"⟩
def dkwX4_spot_2 : List UInt8 := [16, 254, 172]
abbrev dktX4_spot_2 : List UInt8 := dkwX4_spot_2 ++ []
def dkwX4_spot_1 : List UInt8 := [172, 42, 28, 182, 1, 129, 153, 0, 17, 42, 27, 28, 42, 29, 182, 1, 190, 182, 1, 184, 167, 0, 5]
abbrev dktX4_spot_1 : List UInt8 := dkwX4_spot_1 ++ dktX4_spot_2
def dkwX4_spot_0 : List UInt8 := [42, 27, 3, 42, 180, 0, 227, 4, 100, 182, 0, 3, 153, 0, 11, 42, 29, 182, 1, 187, 154, 0, 5, 2]
abbrev dktX4_spot_0 : List UInt8 := dkwX4_spot_0 ++ dktX4_spot_1
theorem dksX4_spot_0 : cX4_spot.data.toList.drop 0 = dktX4_spot_0 := by decide +kernel
theorem dksX4_spot_1 : cX4_spot.data.toList.drop 24 = dktX4_spot_1 := dk_seg dksX4_spot_0 24 rfl rfl
theorem dksX4_spot_2 : cX4_spot.data.toList.drop 47 = dktX4_spot_2 := dk_seg dksX4_spot_1 23 rfl rfl
theorem dX4_spot_0 : decode cX4_spot 0 = .ok (.aload_n 0, 1) := dk_42 (dk_at dksX4_spot_0 0 rfl rfl)
theorem dX4_spot_1 : decode cX4_spot 1 = .ok (.iload_n 1, 1) := dk_27 (dk_at dksX4_spot_0 1 rfl rfl)
theorem dX4_spot_2 : decode cX4_spot 2 = .ok (.iconst 0, 1) := dk_3 (dk_at dksX4_spot_0 2 rfl rfl)
theorem dX4_spot_3 : decode cX4_spot 3 = .ok (.aload_n 0, 1) := dk_42 (dk_at dksX4_spot_0 3 rfl rfl)
theorem dX4_spot_4 : decode cX4_spot 4 = .ok (.getfield 227, 3) := dk_180 0 227 (dk_at dksX4_spot_0 4 rfl rfl)
theorem dX4_spot_7 : decode cX4_spot 7 = .ok (.iconst 1, 1) := dk_4 (dk_at dksX4_spot_0 7 rfl rfl)
theorem dX4_spot_8 : decode cX4_spot 8 = .ok (.isub, 1) := dk_100 (dk_at dksX4_spot_0 8 rfl rfl)
theorem dX4_spot_9 : decode cX4_spot 9 = .ok (.invokevirtual 3, 3) := dk_182 0 3 (dk_at dksX4_spot_0 9 rfl rfl)
theorem dX4_spot_12 : decode cX4_spot 12 = .ok (.ifCond .eq 11, 3) := dk_153 0 11 (dk_at dksX4_spot_0 12 rfl rfl)
theorem dX4_spot_15 : decode cX4_spot 15 = .ok (.aload_n 0, 1) := dk_42 (dk_at dksX4_spot_0 15 rfl rfl)
theorem dX4_spot_16 : decode cX4_spot 16 = .ok (.iload_n 3, 1) := dk_29 (dk_at dksX4_spot_0 16 rfl rfl)
theorem dX4_spot_17 : decode cX4_spot 17 = .ok (.invokevirtual 443, 3) := dk_182 1 187 (dk_at dksX4_spot_0 17 rfl rfl)
theorem dX4_spot_20 : decode cX4_spot 20 = .ok (.ifCond .ne 5, 3) := dk_154 0 5 (dk_at dksX4_spot_0 20 rfl rfl)
theorem dX4_spot_23 : decode cX4_spot 23 = .ok (.iconst (-1), 1) := dk_2 (dk_at dksX4_spot_0 23 rfl rfl)
theorem dX4_spot_24 : decode cX4_spot 24 = .ok (.ireturn, 1) := dk_172 (dk_at dksX4_spot_1 0 rfl rfl)
theorem dX4_spot_25 : decode cX4_spot 25 = .ok (.aload_n 0, 1) := dk_42 (dk_at dksX4_spot_1 1 rfl rfl)
theorem dX4_spot_26 : decode cX4_spot 26 = .ok (.iload_n 2, 1) := dk_28 (dk_at dksX4_spot_1 2 rfl rfl)
theorem dX4_spot_27 : decode cX4_spot 27 = .ok (.invokevirtual 385, 3) := dk_182 1 129 (dk_at dksX4_spot_1 3 rfl rfl)
theorem dX4_spot_30 : decode cX4_spot 30 = .ok (.ifCond .eq 17, 3) := dk_153 0 17 (dk_at dksX4_spot_1 6 rfl rfl)
theorem dX4_spot_33 : decode cX4_spot 33 = .ok (.aload_n 0, 1) := dk_42 (dk_at dksX4_spot_1 9 rfl rfl)
theorem dX4_spot_34 : decode cX4_spot 34 = .ok (.iload_n 1, 1) := dk_27 (dk_at dksX4_spot_1 10 rfl rfl)
theorem dX4_spot_35 : decode cX4_spot 35 = .ok (.iload_n 2, 1) := dk_28 (dk_at dksX4_spot_1 11 rfl rfl)
theorem dX4_spot_36 : decode cX4_spot 36 = .ok (.aload_n 0, 1) := dk_42 (dk_at dksX4_spot_1 12 rfl rfl)
theorem dX4_spot_37 : decode cX4_spot 37 = .ok (.iload_n 3, 1) := dk_29 (dk_at dksX4_spot_1 13 rfl rfl)
theorem dX4_spot_38 : decode cX4_spot 38 = .ok (.invokevirtual 446, 3) := dk_182 1 190 (dk_at dksX4_spot_1 14 rfl rfl)
theorem dX4_spot_41 : decode cX4_spot 41 = .ok (.invokevirtual 440, 3) := dk_182 1 184 (dk_at dksX4_spot_1 17 rfl rfl)
theorem dX4_spot_44 : decode cX4_spot 44 = .ok (.goto 5, 3) := dk_167 0 5 (dk_at dksX4_spot_1 20 rfl rfl)
theorem dX4_spot_47 : decode cX4_spot 47 = .ok (.bipush (-2), 2) := dk_16 254 (dk_at dksX4_spot_2 0 rfl rfl)
theorem dX4_spot_49 : decode cX4_spot 49 = .ok (.ireturn, 1) := dk_172 (dk_at dksX4_spot_2 2 rfl rfl)
abbrev cX4_isTime : ByteArray := prog_30_method_92_code
def yX4_isTime : MethodName := ⟨RX4, "isTime", "(I)Z"⟩
def dkwX4_isTime_0 : List UInt8 := [42, 27, 2, 42, 180, 0, 230, 182, 0, 3, 172]
abbrev dktX4_isTime_0 : List UInt8 := dkwX4_isTime_0 ++ []
theorem dksX4_isTime_0 : cX4_isTime.data.toList.drop 0 = dktX4_isTime_0 := by decide +kernel
theorem dX4_isTime_0 : decode cX4_isTime 0 = .ok (.aload_n 0, 1) := dk_42 (dk_at dksX4_isTime_0 0 rfl rfl)
theorem dX4_isTime_1 : decode cX4_isTime 1 = .ok (.iload_n 1, 1) := dk_27 (dk_at dksX4_isTime_0 1 rfl rfl)
theorem dX4_isTime_2 : decode cX4_isTime 2 = .ok (.iconst (-1), 1) := dk_2 (dk_at dksX4_isTime_0 2 rfl rfl)
theorem dX4_isTime_3 : decode cX4_isTime 3 = .ok (.aload_n 0, 1) := dk_42 (dk_at dksX4_isTime_0 3 rfl rfl)
theorem dX4_isTime_4 : decode cX4_isTime 4 = .ok (.getfield 230, 3) := dk_180 0 230 (dk_at dksX4_isTime_0 4 rfl rfl)
theorem dX4_isTime_7 : decode cX4_isTime 7 = .ok (.invokevirtual 3, 3) := dk_182 0 3 (dk_at dksX4_isTime_0 7 rfl rfl)
theorem dX4_isTime_10 : decode cX4_isTime 10 = .ok (.ireturn, 1) := dk_172 (dk_at dksX4_isTime_0 10 rfl rfl)
abbrev cX4_by : ByteArray := prog_30_method_93_code
def yX4_by : MethodName := ⟨RX4, "by", "(I)I"⟩
def dkwX4_by_0 : List UInt8 := [27, 156, 0, 10, 42, 180, 0, 230, 167, 0, 4, 27, 172]
abbrev dktX4_by_0 : List UInt8 := dkwX4_by_0 ++ []
theorem dksX4_by_0 : cX4_by.data.toList.drop 0 = dktX4_by_0 := by decide +kernel
theorem dX4_by_0 : decode cX4_by 0 = .ok (.iload_n 1, 1) := dk_27 (dk_at dksX4_by_0 0 rfl rfl)
theorem dX4_by_1 : decode cX4_by 1 = .ok (.ifCond .ge 10, 3) := dk_156 0 10 (dk_at dksX4_by_0 1 rfl rfl)
theorem dX4_by_4 : decode cX4_by 4 = .ok (.aload_n 0, 1) := dk_42 (dk_at dksX4_by_0 4 rfl rfl)
theorem dX4_by_5 : decode cX4_by 5 = .ok (.getfield 230, 3) := dk_180 0 230 (dk_at dksX4_by_0 5 rfl rfl)
theorem dX4_by_8 : decode cX4_by 8 = .ok (.goto 4, 3) := dk_167 0 4 (dk_at dksX4_by_0 8 rfl rfl)
theorem dX4_by_11 : decode cX4_by 11 = .ok (.iload_n 1, 1) := dk_27 (dk_at dksX4_by_0 11 rfl rfl)
theorem dX4_by_12 : decode cX4_by 12 = .ok (.ireturn, 1) := dk_172 (dk_at dksX4_by_0 12 rfl rfl)
abbrev cX4_lost : ByteArray := prog_30_method_95_code
def yX4_lost : MethodName := ⟨RX4, "lost", "(III)I"⟩
def dkwX4_lost_5 : List UInt8 := [158, 0, 14, 21, 4, 21, 5, 160, 0, 7, 4, 167, 0, 4, 3, 172]
abbrev dktX4_lost_5 : List UInt8 := dkwX4_lost_5 ++ []
def dkwX4_lost_4 : List UInt8 := [21, 7, 16, 10, 160, 0, 7, 4, 167, 0, 4, 3, 96, 54, 5, 132, 6, 1, 167, 255, 182, 21, 4]
abbrev dktX4_lost_4 : List UInt8 := dkwX4_lost_4 ++ dktX4_lost_5
def dkwX4_lost_3 : List UInt8 := [167, 0, 5, 16, 251, 54, 7, 21, 4, 21, 7, 155, 0, 7, 4, 167, 0, 4, 3, 96, 54, 4, 21, 5]
abbrev dktX4_lost_3 : List UInt8 := dkwX4_lost_3 ++ dktX4_lost_4
def dkwX4_lost_2 : List UInt8 := [42, 180, 0, 233, 21, 6, 46, 27, 160, 0, 18, 42, 21, 6, 28, 42, 29, 182, 1, 190, 182, 1, 184]
abbrev dktX4_lost_2 : List UInt8 := dkwX4_lost_2 ++ dktX4_lost_3
def dkwX4_lost_1 : List UInt8 := [154, 0, 6, 16, 254, 172, 3, 54, 4, 3, 54, 5, 3, 54, 6, 21, 6, 42, 180, 0, 227, 162, 0, 71]
abbrev dktX4_lost_1 : List UInt8 := dkwX4_lost_1 ++ dktX4_lost_2
def dkwX4_lost_0 : List UInt8 := [42, 27, 182, 1, 14, 153, 0, 11, 42, 29, 182, 1, 187, 154, 0, 5, 2, 172, 42, 28, 182, 1, 129]
abbrev dktX4_lost_0 : List UInt8 := dkwX4_lost_0 ++ dktX4_lost_1
theorem dksX4_lost_0 : cX4_lost.data.toList.drop 0 = dktX4_lost_0 := by decide +kernel
theorem dksX4_lost_1 : cX4_lost.data.toList.drop 23 = dktX4_lost_1 := dk_seg dksX4_lost_0 23 rfl rfl
theorem dksX4_lost_2 : cX4_lost.data.toList.drop 47 = dktX4_lost_2 := dk_seg dksX4_lost_1 24 rfl rfl
theorem dksX4_lost_3 : cX4_lost.data.toList.drop 70 = dktX4_lost_3 := dk_seg dksX4_lost_2 23 rfl rfl
theorem dksX4_lost_4 : cX4_lost.data.toList.drop 94 = dktX4_lost_4 := dk_seg dksX4_lost_3 24 rfl rfl
theorem dksX4_lost_5 : cX4_lost.data.toList.drop 117 = dktX4_lost_5 := dk_seg dksX4_lost_4 23 rfl rfl
theorem dX4_lost_0 : decode cX4_lost 0 = .ok (.aload_n 0, 1) := dk_42 (dk_at dksX4_lost_0 0 rfl rfl)
theorem dX4_lost_1 : decode cX4_lost 1 = .ok (.iload_n 1, 1) := dk_27 (dk_at dksX4_lost_0 1 rfl rfl)
theorem dX4_lost_2 : decode cX4_lost 2 = .ok (.invokevirtual 270, 3) := dk_182 1 14 (dk_at dksX4_lost_0 2 rfl rfl)
theorem dX4_lost_5 : decode cX4_lost 5 = .ok (.ifCond .eq 11, 3) := dk_153 0 11 (dk_at dksX4_lost_0 5 rfl rfl)
theorem dX4_lost_8 : decode cX4_lost 8 = .ok (.aload_n 0, 1) := dk_42 (dk_at dksX4_lost_0 8 rfl rfl)
theorem dX4_lost_9 : decode cX4_lost 9 = .ok (.iload_n 3, 1) := dk_29 (dk_at dksX4_lost_0 9 rfl rfl)
theorem dX4_lost_10 : decode cX4_lost 10 = .ok (.invokevirtual 443, 3) := dk_182 1 187 (dk_at dksX4_lost_0 10 rfl rfl)
theorem dX4_lost_13 : decode cX4_lost 13 = .ok (.ifCond .ne 5, 3) := dk_154 0 5 (dk_at dksX4_lost_0 13 rfl rfl)
theorem dX4_lost_16 : decode cX4_lost 16 = .ok (.iconst (-1), 1) := dk_2 (dk_at dksX4_lost_0 16 rfl rfl)
theorem dX4_lost_17 : decode cX4_lost 17 = .ok (.ireturn, 1) := dk_172 (dk_at dksX4_lost_0 17 rfl rfl)
theorem dX4_lost_18 : decode cX4_lost 18 = .ok (.aload_n 0, 1) := dk_42 (dk_at dksX4_lost_0 18 rfl rfl)
theorem dX4_lost_19 : decode cX4_lost 19 = .ok (.iload_n 2, 1) := dk_28 (dk_at dksX4_lost_0 19 rfl rfl)
theorem dX4_lost_20 : decode cX4_lost 20 = .ok (.invokevirtual 385, 3) := dk_182 1 129 (dk_at dksX4_lost_0 20 rfl rfl)
theorem dX4_lost_23 : decode cX4_lost 23 = .ok (.ifCond .ne 6, 3) := dk_154 0 6 (dk_at dksX4_lost_1 0 rfl rfl)
theorem dX4_lost_26 : decode cX4_lost 26 = .ok (.bipush (-2), 2) := dk_16 254 (dk_at dksX4_lost_1 3 rfl rfl)
theorem dX4_lost_28 : decode cX4_lost 28 = .ok (.ireturn, 1) := dk_172 (dk_at dksX4_lost_1 5 rfl rfl)
theorem dX4_lost_29 : decode cX4_lost 29 = .ok (.iconst 0, 1) := dk_3 (dk_at dksX4_lost_1 6 rfl rfl)
theorem dX4_lost_30 : decode cX4_lost 30 = .ok (.istore 4, 2) := dk_54 4 (dk_at dksX4_lost_1 7 rfl rfl)
theorem dX4_lost_32 : decode cX4_lost 32 = .ok (.iconst 0, 1) := dk_3 (dk_at dksX4_lost_1 9 rfl rfl)
theorem dX4_lost_33 : decode cX4_lost 33 = .ok (.istore 5, 2) := dk_54 5 (dk_at dksX4_lost_1 10 rfl rfl)
theorem dX4_lost_35 : decode cX4_lost 35 = .ok (.iconst 0, 1) := dk_3 (dk_at dksX4_lost_1 12 rfl rfl)
theorem dX4_lost_36 : decode cX4_lost 36 = .ok (.istore 6, 2) := dk_54 6 (dk_at dksX4_lost_1 13 rfl rfl)
theorem dX4_lost_38 : decode cX4_lost 38 = .ok (.iload 6, 2) := dk_21 6 (dk_at dksX4_lost_1 15 rfl rfl)
theorem dX4_lost_40 : decode cX4_lost 40 = .ok (.aload_n 0, 1) := dk_42 (dk_at dksX4_lost_1 17 rfl rfl)
theorem dX4_lost_41 : decode cX4_lost 41 = .ok (.getfield 227, 3) := dk_180 0 227 (dk_at dksX4_lost_1 18 rfl rfl)
theorem dX4_lost_44 : decode cX4_lost 44 = .ok (.if_icmp .ge 71, 3) := dk_162 0 71 (dk_at dksX4_lost_1 21 rfl rfl)
theorem dX4_lost_47 : decode cX4_lost 47 = .ok (.aload_n 0, 1) := dk_42 (dk_at dksX4_lost_2 0 rfl rfl)
theorem dX4_lost_48 : decode cX4_lost 48 = .ok (.getfield 233, 3) := dk_180 0 233 (dk_at dksX4_lost_2 1 rfl rfl)
theorem dX4_lost_51 : decode cX4_lost 51 = .ok (.iload 6, 2) := dk_21 6 (dk_at dksX4_lost_2 4 rfl rfl)
theorem dX4_lost_53 : decode cX4_lost 53 = .ok (.iaload, 1) := dk_46 (dk_at dksX4_lost_2 6 rfl rfl)
theorem dX4_lost_54 : decode cX4_lost 54 = .ok (.iload_n 1, 1) := dk_27 (dk_at dksX4_lost_2 7 rfl rfl)
theorem dX4_lost_55 : decode cX4_lost 55 = .ok (.if_icmp .ne 18, 3) := dk_160 0 18 (dk_at dksX4_lost_2 8 rfl rfl)
theorem dX4_lost_58 : decode cX4_lost 58 = .ok (.aload_n 0, 1) := dk_42 (dk_at dksX4_lost_2 11 rfl rfl)
theorem dX4_lost_59 : decode cX4_lost 59 = .ok (.iload 6, 2) := dk_21 6 (dk_at dksX4_lost_2 12 rfl rfl)
theorem dX4_lost_61 : decode cX4_lost 61 = .ok (.iload_n 2, 1) := dk_28 (dk_at dksX4_lost_2 14 rfl rfl)
theorem dX4_lost_62 : decode cX4_lost 62 = .ok (.aload_n 0, 1) := dk_42 (dk_at dksX4_lost_2 15 rfl rfl)
theorem dX4_lost_63 : decode cX4_lost 63 = .ok (.iload_n 3, 1) := dk_29 (dk_at dksX4_lost_2 16 rfl rfl)
theorem dX4_lost_64 : decode cX4_lost 64 = .ok (.invokevirtual 446, 3) := dk_182 1 190 (dk_at dksX4_lost_2 17 rfl rfl)
theorem dX4_lost_67 : decode cX4_lost 67 = .ok (.invokevirtual 440, 3) := dk_182 1 184 (dk_at dksX4_lost_2 20 rfl rfl)
theorem dX4_lost_70 : decode cX4_lost 70 = .ok (.goto 5, 3) := dk_167 0 5 (dk_at dksX4_lost_3 0 rfl rfl)
theorem dX4_lost_73 : decode cX4_lost 73 = .ok (.bipush (-5), 2) := dk_16 251 (dk_at dksX4_lost_3 3 rfl rfl)
theorem dX4_lost_75 : decode cX4_lost 75 = .ok (.istore 7, 2) := dk_54 7 (dk_at dksX4_lost_3 5 rfl rfl)
theorem dX4_lost_77 : decode cX4_lost 77 = .ok (.iload 4, 2) := dk_21 4 (dk_at dksX4_lost_3 7 rfl rfl)
theorem dX4_lost_79 : decode cX4_lost 79 = .ok (.iload 7, 2) := dk_21 7 (dk_at dksX4_lost_3 9 rfl rfl)
theorem dX4_lost_81 : decode cX4_lost 81 = .ok (.ifCond .lt 7, 3) := dk_155 0 7 (dk_at dksX4_lost_3 11 rfl rfl)
theorem dX4_lost_84 : decode cX4_lost 84 = .ok (.iconst 1, 1) := dk_4 (dk_at dksX4_lost_3 14 rfl rfl)
theorem dX4_lost_85 : decode cX4_lost 85 = .ok (.goto 4, 3) := dk_167 0 4 (dk_at dksX4_lost_3 15 rfl rfl)
theorem dX4_lost_88 : decode cX4_lost 88 = .ok (.iconst 0, 1) := dk_3 (dk_at dksX4_lost_3 18 rfl rfl)
theorem dX4_lost_89 : decode cX4_lost 89 = .ok (.iadd, 1) := dk_96 (dk_at dksX4_lost_3 19 rfl rfl)
theorem dX4_lost_90 : decode cX4_lost 90 = .ok (.istore 4, 2) := dk_54 4 (dk_at dksX4_lost_3 20 rfl rfl)
theorem dX4_lost_92 : decode cX4_lost 92 = .ok (.iload 5, 2) := dk_21 5 (dk_at dksX4_lost_3 22 rfl rfl)
theorem dX4_lost_94 : decode cX4_lost 94 = .ok (.iload 7, 2) := dk_21 7 (dk_at dksX4_lost_4 0 rfl rfl)
theorem dX4_lost_96 : decode cX4_lost 96 = .ok (.bipush 10, 2) := dk_16 10 (dk_at dksX4_lost_4 2 rfl rfl)
theorem dX4_lost_98 : decode cX4_lost 98 = .ok (.if_icmp .ne 7, 3) := dk_160 0 7 (dk_at dksX4_lost_4 4 rfl rfl)
theorem dX4_lost_101 : decode cX4_lost 101 = .ok (.iconst 1, 1) := dk_4 (dk_at dksX4_lost_4 7 rfl rfl)
theorem dX4_lost_102 : decode cX4_lost 102 = .ok (.goto 4, 3) := dk_167 0 4 (dk_at dksX4_lost_4 8 rfl rfl)
theorem dX4_lost_105 : decode cX4_lost 105 = .ok (.iconst 0, 1) := dk_3 (dk_at dksX4_lost_4 11 rfl rfl)
theorem dX4_lost_106 : decode cX4_lost 106 = .ok (.iadd, 1) := dk_96 (dk_at dksX4_lost_4 12 rfl rfl)
theorem dX4_lost_107 : decode cX4_lost 107 = .ok (.istore 5, 2) := dk_54 5 (dk_at dksX4_lost_4 13 rfl rfl)
theorem dX4_lost_109 : decode cX4_lost 109 = .ok (.iinc 6 1, 3) := dk_132 6 1 (dk_at dksX4_lost_4 15 rfl rfl)
theorem dX4_lost_112 : decode cX4_lost 112 = .ok (.goto (-74), 3) := dk_167 255 182 (dk_at dksX4_lost_4 18 rfl rfl)
theorem dX4_lost_115 : decode cX4_lost 115 = .ok (.iload 4, 2) := dk_21 4 (dk_at dksX4_lost_4 21 rfl rfl)
theorem dX4_lost_117 : decode cX4_lost 117 = .ok (.ifCond .le 14, 3) := dk_158 0 14 (dk_at dksX4_lost_5 0 rfl rfl)
theorem dX4_lost_120 : decode cX4_lost 120 = .ok (.iload 4, 2) := dk_21 4 (dk_at dksX4_lost_5 3 rfl rfl)
theorem dX4_lost_122 : decode cX4_lost 122 = .ok (.iload 5, 2) := dk_21 5 (dk_at dksX4_lost_5 5 rfl rfl)
theorem dX4_lost_124 : decode cX4_lost 124 = .ok (.if_icmp .ne 7, 3) := dk_160 0 7 (dk_at dksX4_lost_5 7 rfl rfl)
theorem dX4_lost_127 : decode cX4_lost 127 = .ok (.iconst 1, 1) := dk_4 (dk_at dksX4_lost_5 10 rfl rfl)
theorem dX4_lost_128 : decode cX4_lost 128 = .ok (.goto 4, 3) := dk_167 0 4 (dk_at dksX4_lost_5 11 rfl rfl)
theorem dX4_lost_131 : decode cX4_lost 131 = .ok (.iconst 0, 1) := dk_3 (dk_at dksX4_lost_5 14 rfl rfl)
theorem dX4_lost_132 : decode cX4_lost 132 = .ok (.ireturn, 1) := dk_172 (dk_at dksX4_lost_5 15 rfl rfl)
abbrev cX4_met : ByteArray := prog_30_method_96_code
def yX4_met : MethodName := ⟨RX4, "met", "(III)I"⟩
def dkwX4_met_3 : List UInt8 := [28, 182, 1, 145, 153, 0, 7, 4, 167, 0, 4, 3, 96, 54, 4, 132, 5, 1, 167, 255, 202, 21, 4, 172]
abbrev dktX4_met_3 : List UInt8 := dkwX4_met_3 ++ []
def dkwX4_met_2 : List UInt8 := [21, 5, 28, 42, 29, 182, 1, 190, 182, 1, 184, 27, 160, 0, 23, 42, 42, 180, 0, 233, 21, 5, 46, 27]
abbrev dktX4_met_2 : List UInt8 := dkwX4_met_2 ++ dktX4_met_3
def dkwX4_met_1 : List UInt8 := [154, 0, 6, 16, 254, 172, 3, 54, 4, 3, 54, 5, 21, 5, 42, 180, 0, 227, 162, 0, 51, 21, 4, 42]
abbrev dktX4_met_1 : List UInt8 := dkwX4_met_1 ++ dktX4_met_2
def dkwX4_met_0 : List UInt8 := [42, 27, 182, 1, 2, 153, 0, 11, 42, 29, 182, 1, 187, 154, 0, 5, 2, 172, 42, 28, 182, 1, 129]
abbrev dktX4_met_0 : List UInt8 := dkwX4_met_0 ++ dktX4_met_1
theorem dksX4_met_0 : cX4_met.data.toList.drop 0 = dktX4_met_0 := by decide +kernel
theorem dksX4_met_1 : cX4_met.data.toList.drop 23 = dktX4_met_1 := dk_seg dksX4_met_0 23 rfl rfl
theorem dksX4_met_2 : cX4_met.data.toList.drop 47 = dktX4_met_2 := dk_seg dksX4_met_1 24 rfl rfl
theorem dksX4_met_3 : cX4_met.data.toList.drop 71 = dktX4_met_3 := dk_seg dksX4_met_2 24 rfl rfl
theorem dX4_met_0 : decode cX4_met 0 = .ok (.aload_n 0, 1) := dk_42 (dk_at dksX4_met_0 0 rfl rfl)
theorem dX4_met_1 : decode cX4_met 1 = .ok (.iload_n 1, 1) := dk_27 (dk_at dksX4_met_0 1 rfl rfl)
theorem dX4_met_2 : decode cX4_met 2 = .ok (.invokevirtual 258, 3) := dk_182 1 2 (dk_at dksX4_met_0 2 rfl rfl)
theorem dX4_met_5 : decode cX4_met 5 = .ok (.ifCond .eq 11, 3) := dk_153 0 11 (dk_at dksX4_met_0 5 rfl rfl)
theorem dX4_met_8 : decode cX4_met 8 = .ok (.aload_n 0, 1) := dk_42 (dk_at dksX4_met_0 8 rfl rfl)
theorem dX4_met_9 : decode cX4_met 9 = .ok (.iload_n 3, 1) := dk_29 (dk_at dksX4_met_0 9 rfl rfl)
theorem dX4_met_10 : decode cX4_met 10 = .ok (.invokevirtual 443, 3) := dk_182 1 187 (dk_at dksX4_met_0 10 rfl rfl)
theorem dX4_met_13 : decode cX4_met 13 = .ok (.ifCond .ne 5, 3) := dk_154 0 5 (dk_at dksX4_met_0 13 rfl rfl)
theorem dX4_met_16 : decode cX4_met 16 = .ok (.iconst (-1), 1) := dk_2 (dk_at dksX4_met_0 16 rfl rfl)
theorem dX4_met_17 : decode cX4_met 17 = .ok (.ireturn, 1) := dk_172 (dk_at dksX4_met_0 17 rfl rfl)
theorem dX4_met_18 : decode cX4_met 18 = .ok (.aload_n 0, 1) := dk_42 (dk_at dksX4_met_0 18 rfl rfl)
theorem dX4_met_19 : decode cX4_met 19 = .ok (.iload_n 2, 1) := dk_28 (dk_at dksX4_met_0 19 rfl rfl)
theorem dX4_met_20 : decode cX4_met 20 = .ok (.invokevirtual 385, 3) := dk_182 1 129 (dk_at dksX4_met_0 20 rfl rfl)
theorem dX4_met_23 : decode cX4_met 23 = .ok (.ifCond .ne 6, 3) := dk_154 0 6 (dk_at dksX4_met_1 0 rfl rfl)
theorem dX4_met_26 : decode cX4_met 26 = .ok (.bipush (-2), 2) := dk_16 254 (dk_at dksX4_met_1 3 rfl rfl)
theorem dX4_met_28 : decode cX4_met 28 = .ok (.ireturn, 1) := dk_172 (dk_at dksX4_met_1 5 rfl rfl)
theorem dX4_met_29 : decode cX4_met 29 = .ok (.iconst 0, 1) := dk_3 (dk_at dksX4_met_1 6 rfl rfl)
theorem dX4_met_30 : decode cX4_met 30 = .ok (.istore 4, 2) := dk_54 4 (dk_at dksX4_met_1 7 rfl rfl)
theorem dX4_met_32 : decode cX4_met 32 = .ok (.iconst 0, 1) := dk_3 (dk_at dksX4_met_1 9 rfl rfl)
theorem dX4_met_33 : decode cX4_met 33 = .ok (.istore 5, 2) := dk_54 5 (dk_at dksX4_met_1 10 rfl rfl)
theorem dX4_met_35 : decode cX4_met 35 = .ok (.iload 5, 2) := dk_21 5 (dk_at dksX4_met_1 12 rfl rfl)
theorem dX4_met_37 : decode cX4_met 37 = .ok (.aload_n 0, 1) := dk_42 (dk_at dksX4_met_1 14 rfl rfl)
theorem dX4_met_38 : decode cX4_met 38 = .ok (.getfield 227, 3) := dk_180 0 227 (dk_at dksX4_met_1 15 rfl rfl)
theorem dX4_met_41 : decode cX4_met 41 = .ok (.if_icmp .ge 51, 3) := dk_162 0 51 (dk_at dksX4_met_1 18 rfl rfl)
theorem dX4_met_44 : decode cX4_met 44 = .ok (.iload 4, 2) := dk_21 4 (dk_at dksX4_met_1 21 rfl rfl)
theorem dX4_met_46 : decode cX4_met 46 = .ok (.aload_n 0, 1) := dk_42 (dk_at dksX4_met_1 23 rfl rfl)
theorem dX4_met_47 : decode cX4_met 47 = .ok (.iload 5, 2) := dk_21 5 (dk_at dksX4_met_2 0 rfl rfl)
theorem dX4_met_49 : decode cX4_met 49 = .ok (.iload_n 2, 1) := dk_28 (dk_at dksX4_met_2 2 rfl rfl)
theorem dX4_met_50 : decode cX4_met 50 = .ok (.aload_n 0, 1) := dk_42 (dk_at dksX4_met_2 3 rfl rfl)
theorem dX4_met_51 : decode cX4_met 51 = .ok (.iload_n 3, 1) := dk_29 (dk_at dksX4_met_2 4 rfl rfl)
theorem dX4_met_52 : decode cX4_met 52 = .ok (.invokevirtual 446, 3) := dk_182 1 190 (dk_at dksX4_met_2 5 rfl rfl)
theorem dX4_met_55 : decode cX4_met 55 = .ok (.invokevirtual 440, 3) := dk_182 1 184 (dk_at dksX4_met_2 8 rfl rfl)
theorem dX4_met_58 : decode cX4_met 58 = .ok (.iload_n 1, 1) := dk_27 (dk_at dksX4_met_2 11 rfl rfl)
theorem dX4_met_59 : decode cX4_met 59 = .ok (.if_icmp .ne 23, 3) := dk_160 0 23 (dk_at dksX4_met_2 12 rfl rfl)
theorem dX4_met_62 : decode cX4_met 62 = .ok (.aload_n 0, 1) := dk_42 (dk_at dksX4_met_2 15 rfl rfl)
theorem dX4_met_63 : decode cX4_met 63 = .ok (.aload_n 0, 1) := dk_42 (dk_at dksX4_met_2 16 rfl rfl)
theorem dX4_met_64 : decode cX4_met 64 = .ok (.getfield 233, 3) := dk_180 0 233 (dk_at dksX4_met_2 17 rfl rfl)
theorem dX4_met_67 : decode cX4_met 67 = .ok (.iload 5, 2) := dk_21 5 (dk_at dksX4_met_2 20 rfl rfl)
theorem dX4_met_69 : decode cX4_met 69 = .ok (.iaload, 1) := dk_46 (dk_at dksX4_met_2 22 rfl rfl)
theorem dX4_met_70 : decode cX4_met 70 = .ok (.iload_n 1, 1) := dk_27 (dk_at dksX4_met_2 23 rfl rfl)
theorem dX4_met_71 : decode cX4_met 71 = .ok (.iload_n 2, 1) := dk_28 (dk_at dksX4_met_3 0 rfl rfl)
theorem dX4_met_72 : decode cX4_met 72 = .ok (.invokevirtual 401, 3) := dk_182 1 145 (dk_at dksX4_met_3 1 rfl rfl)
theorem dX4_met_75 : decode cX4_met 75 = .ok (.ifCond .eq 7, 3) := dk_153 0 7 (dk_at dksX4_met_3 4 rfl rfl)
theorem dX4_met_78 : decode cX4_met 78 = .ok (.iconst 1, 1) := dk_4 (dk_at dksX4_met_3 7 rfl rfl)
theorem dX4_met_79 : decode cX4_met 79 = .ok (.goto 4, 3) := dk_167 0 4 (dk_at dksX4_met_3 8 rfl rfl)
theorem dX4_met_82 : decode cX4_met 82 = .ok (.iconst 0, 1) := dk_3 (dk_at dksX4_met_3 11 rfl rfl)
theorem dX4_met_83 : decode cX4_met 83 = .ok (.iadd, 1) := dk_96 (dk_at dksX4_met_3 12 rfl rfl)
theorem dX4_met_84 : decode cX4_met 84 = .ok (.istore 4, 2) := dk_54 4 (dk_at dksX4_met_3 13 rfl rfl)
theorem dX4_met_86 : decode cX4_met 86 = .ok (.iinc 5 1, 3) := dk_132 5 1 (dk_at dksX4_met_3 15 rfl rfl)
theorem dX4_met_89 : decode cX4_met 89 = .ok (.goto (-54), 3) := dk_167 255 202 (dk_at dksX4_met_3 18 rfl rfl)
theorem dX4_met_92 : decode cX4_met 92 = .ok (.iload 4, 2) := dk_21 4 (dk_at dksX4_met_3 21 rfl rfl)
theorem dX4_met_94 : decode cX4_met 94 = .ok (.ireturn, 1) := dk_172 (dk_at dksX4_met_3 23 rfl rfl)
abbrev cX4_catalogue : ByteArray := prog_30_method_98_code
def yX4_catalogue : MethodName := ⟨RX4, "catalogue", "(IIII)J"⟩
def dkwX4_catalogue_7 : List UInt8 := [20, 1, 202, 167, 0, 4, 10, 97, 55, 5, 132, 7, 1, 167, 255, 141, 22, 5, 173]
abbrev dktX4_catalogue_7 : List UInt8 := dkwX4_catalogue_7 ++ []
def dkwX4_catalogue_6 : List UInt8 := [182, 0, 3, 153, 0, 27, 42, 21, 8, 42, 180, 0, 13, 42, 180, 0, 230, 182, 1, 184, 27, 160, 0, 9]
abbrev dktX4_catalogue_6 : List UInt8 := dkwX4_catalogue_6 ++ dktX4_catalogue_7
def dkwX4_catalogue_5 : List UInt8 := [136, 54, 8, 21, 8, 2, 160, 0, 6, 167, 0, 49, 22, 5, 42, 21, 8, 3, 42, 180, 0, 227, 4, 100]
abbrev dktX4_catalogue_5 : List UInt8 := dkwX4_catalogue_5 ++ dktX4_catalogue_6
def dkwX4_catalogue_4 : List UInt8 := [161, 0, 10, 22, 5, 20, 1, 200, 101, 173, 42, 180, 0, 251, 16, 60, 28, 104, 29, 96, 21, 7, 96, 47]
abbrev dktX4_catalogue_4 : List UInt8 := dkwX4_catalogue_4 ++ dktX4_catalogue_5
def dkwX4_catalogue_3 : List UInt8 := [180, 0, 245, 28, 46, 155, 0, 20, 29, 155, 0, 16, 29, 42, 180, 0, 248, 28, 46, 21, 7, 100]
abbrev dktX4_catalogue_3 : List UInt8 := dkwX4_catalogue_3 ++ dktX4_catalogue_4
def dkwX4_catalogue_2 : List UInt8 := [46, 4, 159, 0, 7, 20, 1, 198, 173, 9, 55, 5, 3, 54, 7, 21, 7, 21, 4, 162, 0, 114, 42]
abbrev dktX4_catalogue_2 : List UInt8 := dkwX4_catalogue_2 ++ dktX4_catalogue_3
def dkwX4_catalogue_1 : List UInt8 := [182, 0, 3, 154, 0, 7, 20, 1, 196, 173, 42, 180, 0, 245, 28, 46, 155, 0, 17, 42, 180, 0, 245, 28]
abbrev dktX4_catalogue_1 : List UInt8 := dkwX4_catalogue_1 ++ dktX4_catalogue_2
def dkwX4_catalogue_0 : List UInt8 := [42, 27, 182, 1, 2, 153, 0, 23, 42, 28, 182, 1, 193, 153, 0, 15, 42, 21, 4, 4, 16, 40]
abbrev dktX4_catalogue_0 : List UInt8 := dkwX4_catalogue_0 ++ dktX4_catalogue_1
theorem dksX4_catalogue_0 : cX4_catalogue.data.toList.drop 0 = dktX4_catalogue_0 := by decide +kernel
theorem dksX4_catalogue_1 : cX4_catalogue.data.toList.drop 22 = dktX4_catalogue_1 := dk_seg dksX4_catalogue_0 22 rfl rfl
theorem dksX4_catalogue_2 : cX4_catalogue.data.toList.drop 46 = dktX4_catalogue_2 := dk_seg dksX4_catalogue_1 24 rfl rfl
theorem dksX4_catalogue_3 : cX4_catalogue.data.toList.drop 69 = dktX4_catalogue_3 := dk_seg dksX4_catalogue_2 23 rfl rfl
theorem dksX4_catalogue_4 : cX4_catalogue.data.toList.drop 91 = dktX4_catalogue_4 := dk_seg dksX4_catalogue_3 22 rfl rfl
theorem dksX4_catalogue_5 : cX4_catalogue.data.toList.drop 115 = dktX4_catalogue_5 := dk_seg dksX4_catalogue_4 24 rfl rfl
theorem dksX4_catalogue_6 : cX4_catalogue.data.toList.drop 139 = dktX4_catalogue_6 := dk_seg dksX4_catalogue_5 24 rfl rfl
theorem dksX4_catalogue_7 : cX4_catalogue.data.toList.drop 163 = dktX4_catalogue_7 := dk_seg dksX4_catalogue_6 24 rfl rfl
theorem dX4_catalogue_0 : decode cX4_catalogue 0 = .ok (.aload_n 0, 1) := dk_42 (dk_at dksX4_catalogue_0 0 rfl rfl)
theorem dX4_catalogue_1 : decode cX4_catalogue 1 = .ok (.iload_n 1, 1) := dk_27 (dk_at dksX4_catalogue_0 1 rfl rfl)
theorem dX4_catalogue_2 : decode cX4_catalogue 2 = .ok (.invokevirtual 258, 3) := dk_182 1 2 (dk_at dksX4_catalogue_0 2 rfl rfl)
theorem dX4_catalogue_5 : decode cX4_catalogue 5 = .ok (.ifCond .eq 23, 3) := dk_153 0 23 (dk_at dksX4_catalogue_0 5 rfl rfl)
theorem dX4_catalogue_8 : decode cX4_catalogue 8 = .ok (.aload_n 0, 1) := dk_42 (dk_at dksX4_catalogue_0 8 rfl rfl)
theorem dX4_catalogue_9 : decode cX4_catalogue 9 = .ok (.iload_n 2, 1) := dk_28 (dk_at dksX4_catalogue_0 9 rfl rfl)
theorem dX4_catalogue_10 : decode cX4_catalogue 10 = .ok (.invokevirtual 449, 3) := dk_182 1 193 (dk_at dksX4_catalogue_0 10 rfl rfl)
theorem dX4_catalogue_13 : decode cX4_catalogue 13 = .ok (.ifCond .eq 15, 3) := dk_153 0 15 (dk_at dksX4_catalogue_0 13 rfl rfl)
theorem dX4_catalogue_16 : decode cX4_catalogue 16 = .ok (.aload_n 0, 1) := dk_42 (dk_at dksX4_catalogue_0 16 rfl rfl)
theorem dX4_catalogue_17 : decode cX4_catalogue 17 = .ok (.iload 4, 2) := dk_21 4 (dk_at dksX4_catalogue_0 17 rfl rfl)
theorem dX4_catalogue_19 : decode cX4_catalogue 19 = .ok (.iconst 1, 1) := dk_4 (dk_at dksX4_catalogue_0 19 rfl rfl)
theorem dX4_catalogue_20 : decode cX4_catalogue 20 = .ok (.bipush 40, 2) := dk_16 40 (dk_at dksX4_catalogue_0 20 rfl rfl)
theorem dX4_catalogue_22 : decode cX4_catalogue 22 = .ok (.invokevirtual 3, 3) := dk_182 0 3 (dk_at dksX4_catalogue_1 0 rfl rfl)
theorem dX4_catalogue_25 : decode cX4_catalogue 25 = .ok (.ifCond .ne 7, 3) := dk_154 0 7 (dk_at dksX4_catalogue_1 3 rfl rfl)
theorem dX4_catalogue_28 : decode cX4_catalogue 28 = .ok (.ldc2_w 452, 3) := dk_20 1 196 (dk_at dksX4_catalogue_1 6 rfl rfl)
theorem dX4_catalogue_31 : decode cX4_catalogue 31 = .ok (.lreturn, 1) := dk_173 (dk_at dksX4_catalogue_1 9 rfl rfl)
theorem dX4_catalogue_32 : decode cX4_catalogue 32 = .ok (.aload_n 0, 1) := dk_42 (dk_at dksX4_catalogue_1 10 rfl rfl)
theorem dX4_catalogue_33 : decode cX4_catalogue 33 = .ok (.getfield 245, 3) := dk_180 0 245 (dk_at dksX4_catalogue_1 11 rfl rfl)
theorem dX4_catalogue_36 : decode cX4_catalogue 36 = .ok (.iload_n 2, 1) := dk_28 (dk_at dksX4_catalogue_1 14 rfl rfl)
theorem dX4_catalogue_37 : decode cX4_catalogue 37 = .ok (.iaload, 1) := dk_46 (dk_at dksX4_catalogue_1 15 rfl rfl)
theorem dX4_catalogue_38 : decode cX4_catalogue 38 = .ok (.ifCond .lt 17, 3) := dk_155 0 17 (dk_at dksX4_catalogue_1 16 rfl rfl)
theorem dX4_catalogue_41 : decode cX4_catalogue 41 = .ok (.aload_n 0, 1) := dk_42 (dk_at dksX4_catalogue_1 19 rfl rfl)
theorem dX4_catalogue_42 : decode cX4_catalogue 42 = .ok (.getfield 245, 3) := dk_180 0 245 (dk_at dksX4_catalogue_1 20 rfl rfl)
theorem dX4_catalogue_45 : decode cX4_catalogue 45 = .ok (.iload_n 2, 1) := dk_28 (dk_at dksX4_catalogue_1 23 rfl rfl)
theorem dX4_catalogue_46 : decode cX4_catalogue 46 = .ok (.iaload, 1) := dk_46 (dk_at dksX4_catalogue_2 0 rfl rfl)
theorem dX4_catalogue_47 : decode cX4_catalogue 47 = .ok (.iconst 1, 1) := dk_4 (dk_at dksX4_catalogue_2 1 rfl rfl)
theorem dX4_catalogue_48 : decode cX4_catalogue 48 = .ok (.if_icmp .eq 7, 3) := dk_159 0 7 (dk_at dksX4_catalogue_2 2 rfl rfl)
theorem dX4_catalogue_51 : decode cX4_catalogue 51 = .ok (.ldc2_w 454, 3) := dk_20 1 198 (dk_at dksX4_catalogue_2 5 rfl rfl)
theorem dX4_catalogue_54 : decode cX4_catalogue 54 = .ok (.lreturn, 1) := dk_173 (dk_at dksX4_catalogue_2 8 rfl rfl)
theorem dX4_catalogue_55 : decode cX4_catalogue 55 = .ok (.lconst 0, 1) := dk_9 (dk_at dksX4_catalogue_2 9 rfl rfl)
theorem dX4_catalogue_56 : decode cX4_catalogue 56 = .ok (.lstore 5, 2) := dk_55 5 (dk_at dksX4_catalogue_2 10 rfl rfl)
theorem dX4_catalogue_58 : decode cX4_catalogue 58 = .ok (.iconst 0, 1) := dk_3 (dk_at dksX4_catalogue_2 12 rfl rfl)
theorem dX4_catalogue_59 : decode cX4_catalogue 59 = .ok (.istore 7, 2) := dk_54 7 (dk_at dksX4_catalogue_2 13 rfl rfl)
theorem dX4_catalogue_61 : decode cX4_catalogue 61 = .ok (.iload 7, 2) := dk_21 7 (dk_at dksX4_catalogue_2 15 rfl rfl)
theorem dX4_catalogue_63 : decode cX4_catalogue 63 = .ok (.iload 4, 2) := dk_21 4 (dk_at dksX4_catalogue_2 17 rfl rfl)
theorem dX4_catalogue_65 : decode cX4_catalogue 65 = .ok (.if_icmp .ge 114, 3) := dk_162 0 114 (dk_at dksX4_catalogue_2 19 rfl rfl)
theorem dX4_catalogue_68 : decode cX4_catalogue 68 = .ok (.aload_n 0, 1) := dk_42 (dk_at dksX4_catalogue_2 22 rfl rfl)
theorem dX4_catalogue_69 : decode cX4_catalogue 69 = .ok (.getfield 245, 3) := dk_180 0 245 (dk_at dksX4_catalogue_3 0 rfl rfl)
theorem dX4_catalogue_72 : decode cX4_catalogue 72 = .ok (.iload_n 2, 1) := dk_28 (dk_at dksX4_catalogue_3 3 rfl rfl)
theorem dX4_catalogue_73 : decode cX4_catalogue 73 = .ok (.iaload, 1) := dk_46 (dk_at dksX4_catalogue_3 4 rfl rfl)
theorem dX4_catalogue_74 : decode cX4_catalogue 74 = .ok (.ifCond .lt 20, 3) := dk_155 0 20 (dk_at dksX4_catalogue_3 5 rfl rfl)
theorem dX4_catalogue_77 : decode cX4_catalogue 77 = .ok (.iload_n 3, 1) := dk_29 (dk_at dksX4_catalogue_3 8 rfl rfl)
theorem dX4_catalogue_78 : decode cX4_catalogue 78 = .ok (.ifCond .lt 16, 3) := dk_155 0 16 (dk_at dksX4_catalogue_3 9 rfl rfl)
theorem dX4_catalogue_81 : decode cX4_catalogue 81 = .ok (.iload_n 3, 1) := dk_29 (dk_at dksX4_catalogue_3 12 rfl rfl)
theorem dX4_catalogue_82 : decode cX4_catalogue 82 = .ok (.aload_n 0, 1) := dk_42 (dk_at dksX4_catalogue_3 13 rfl rfl)
theorem dX4_catalogue_83 : decode cX4_catalogue 83 = .ok (.getfield 248, 3) := dk_180 0 248 (dk_at dksX4_catalogue_3 14 rfl rfl)
theorem dX4_catalogue_86 : decode cX4_catalogue 86 = .ok (.iload_n 2, 1) := dk_28 (dk_at dksX4_catalogue_3 17 rfl rfl)
theorem dX4_catalogue_87 : decode cX4_catalogue 87 = .ok (.iaload, 1) := dk_46 (dk_at dksX4_catalogue_3 18 rfl rfl)
theorem dX4_catalogue_88 : decode cX4_catalogue 88 = .ok (.iload 7, 2) := dk_21 7 (dk_at dksX4_catalogue_3 19 rfl rfl)
theorem dX4_catalogue_90 : decode cX4_catalogue 90 = .ok (.isub, 1) := dk_100 (dk_at dksX4_catalogue_3 21 rfl rfl)
theorem dX4_catalogue_91 : decode cX4_catalogue 91 = .ok (.if_icmp .lt 10, 3) := dk_161 0 10 (dk_at dksX4_catalogue_4 0 rfl rfl)
theorem dX4_catalogue_94 : decode cX4_catalogue 94 = .ok (.lload 5, 2) := dk_22 5 (dk_at dksX4_catalogue_4 3 rfl rfl)
theorem dX4_catalogue_96 : decode cX4_catalogue 96 = .ok (.ldc2_w 456, 3) := dk_20 1 200 (dk_at dksX4_catalogue_4 5 rfl rfl)
theorem dX4_catalogue_99 : decode cX4_catalogue 99 = .ok (.lsub, 1) := dk_101 (dk_at dksX4_catalogue_4 8 rfl rfl)
theorem dX4_catalogue_100 : decode cX4_catalogue 100 = .ok (.lreturn, 1) := dk_173 (dk_at dksX4_catalogue_4 9 rfl rfl)
theorem dX4_catalogue_101 : decode cX4_catalogue 101 = .ok (.aload_n 0, 1) := dk_42 (dk_at dksX4_catalogue_4 10 rfl rfl)
theorem dX4_catalogue_102 : decode cX4_catalogue 102 = .ok (.getfield 251, 3) := dk_180 0 251 (dk_at dksX4_catalogue_4 11 rfl rfl)
theorem dX4_catalogue_105 : decode cX4_catalogue 105 = .ok (.bipush 60, 2) := dk_16 60 (dk_at dksX4_catalogue_4 14 rfl rfl)
theorem dX4_catalogue_107 : decode cX4_catalogue 107 = .ok (.iload_n 2, 1) := dk_28 (dk_at dksX4_catalogue_4 16 rfl rfl)
theorem dX4_catalogue_108 : decode cX4_catalogue 108 = .ok (.imul, 1) := dk_104 (dk_at dksX4_catalogue_4 17 rfl rfl)
theorem dX4_catalogue_109 : decode cX4_catalogue 109 = .ok (.iload_n 3, 1) := dk_29 (dk_at dksX4_catalogue_4 18 rfl rfl)
theorem dX4_catalogue_110 : decode cX4_catalogue 110 = .ok (.iadd, 1) := dk_96 (dk_at dksX4_catalogue_4 19 rfl rfl)
theorem dX4_catalogue_111 : decode cX4_catalogue 111 = .ok (.iload 7, 2) := dk_21 7 (dk_at dksX4_catalogue_4 20 rfl rfl)
theorem dX4_catalogue_113 : decode cX4_catalogue 113 = .ok (.iadd, 1) := dk_96 (dk_at dksX4_catalogue_4 22 rfl rfl)
theorem dX4_catalogue_114 : decode cX4_catalogue 114 = .ok (.laload, 1) := dk_47 (dk_at dksX4_catalogue_4 23 rfl rfl)
theorem dX4_catalogue_115 : decode cX4_catalogue 115 = .ok (.l2i, 1) := dk_136 (dk_at dksX4_catalogue_5 0 rfl rfl)
theorem dX4_catalogue_116 : decode cX4_catalogue 116 = .ok (.istore 8, 2) := dk_54 8 (dk_at dksX4_catalogue_5 1 rfl rfl)
theorem dX4_catalogue_118 : decode cX4_catalogue 118 = .ok (.iload 8, 2) := dk_21 8 (dk_at dksX4_catalogue_5 3 rfl rfl)
theorem dX4_catalogue_120 : decode cX4_catalogue 120 = .ok (.iconst (-1), 1) := dk_2 (dk_at dksX4_catalogue_5 5 rfl rfl)
theorem dX4_catalogue_121 : decode cX4_catalogue 121 = .ok (.if_icmp .ne 6, 3) := dk_160 0 6 (dk_at dksX4_catalogue_5 6 rfl rfl)
theorem dX4_catalogue_124 : decode cX4_catalogue 124 = .ok (.goto 49, 3) := dk_167 0 49 (dk_at dksX4_catalogue_5 9 rfl rfl)
theorem dX4_catalogue_127 : decode cX4_catalogue 127 = .ok (.lload 5, 2) := dk_22 5 (dk_at dksX4_catalogue_5 12 rfl rfl)
theorem dX4_catalogue_129 : decode cX4_catalogue 129 = .ok (.aload_n 0, 1) := dk_42 (dk_at dksX4_catalogue_5 14 rfl rfl)
theorem dX4_catalogue_130 : decode cX4_catalogue 130 = .ok (.iload 8, 2) := dk_21 8 (dk_at dksX4_catalogue_5 15 rfl rfl)
theorem dX4_catalogue_132 : decode cX4_catalogue 132 = .ok (.iconst 0, 1) := dk_3 (dk_at dksX4_catalogue_5 17 rfl rfl)
theorem dX4_catalogue_133 : decode cX4_catalogue 133 = .ok (.aload_n 0, 1) := dk_42 (dk_at dksX4_catalogue_5 18 rfl rfl)
theorem dX4_catalogue_134 : decode cX4_catalogue 134 = .ok (.getfield 227, 3) := dk_180 0 227 (dk_at dksX4_catalogue_5 19 rfl rfl)
theorem dX4_catalogue_137 : decode cX4_catalogue 137 = .ok (.iconst 1, 1) := dk_4 (dk_at dksX4_catalogue_5 22 rfl rfl)
theorem dX4_catalogue_138 : decode cX4_catalogue 138 = .ok (.isub, 1) := dk_100 (dk_at dksX4_catalogue_5 23 rfl rfl)
theorem dX4_catalogue_139 : decode cX4_catalogue 139 = .ok (.invokevirtual 3, 3) := dk_182 0 3 (dk_at dksX4_catalogue_6 0 rfl rfl)
theorem dX4_catalogue_142 : decode cX4_catalogue 142 = .ok (.ifCond .eq 27, 3) := dk_153 0 27 (dk_at dksX4_catalogue_6 3 rfl rfl)
theorem dX4_catalogue_145 : decode cX4_catalogue 145 = .ok (.aload_n 0, 1) := dk_42 (dk_at dksX4_catalogue_6 6 rfl rfl)
theorem dX4_catalogue_146 : decode cX4_catalogue 146 = .ok (.iload 8, 2) := dk_21 8 (dk_at dksX4_catalogue_6 7 rfl rfl)
theorem dX4_catalogue_148 : decode cX4_catalogue 148 = .ok (.aload_n 0, 1) := dk_42 (dk_at dksX4_catalogue_6 9 rfl rfl)
theorem dX4_catalogue_149 : decode cX4_catalogue 149 = .ok (.getfield 13, 3) := dk_180 0 13 (dk_at dksX4_catalogue_6 10 rfl rfl)
theorem dX4_catalogue_152 : decode cX4_catalogue 152 = .ok (.aload_n 0, 1) := dk_42 (dk_at dksX4_catalogue_6 13 rfl rfl)
theorem dX4_catalogue_153 : decode cX4_catalogue 153 = .ok (.getfield 230, 3) := dk_180 0 230 (dk_at dksX4_catalogue_6 14 rfl rfl)
theorem dX4_catalogue_156 : decode cX4_catalogue 156 = .ok (.invokevirtual 440, 3) := dk_182 1 184 (dk_at dksX4_catalogue_6 17 rfl rfl)
theorem dX4_catalogue_159 : decode cX4_catalogue 159 = .ok (.iload_n 1, 1) := dk_27 (dk_at dksX4_catalogue_6 20 rfl rfl)
theorem dX4_catalogue_160 : decode cX4_catalogue 160 = .ok (.if_icmp .ne 9, 3) := dk_160 0 9 (dk_at dksX4_catalogue_6 21 rfl rfl)
theorem dX4_catalogue_163 : decode cX4_catalogue 163 = .ok (.ldc2_w 458, 3) := dk_20 1 202 (dk_at dksX4_catalogue_7 0 rfl rfl)
theorem dX4_catalogue_166 : decode cX4_catalogue 166 = .ok (.goto 4, 3) := dk_167 0 4 (dk_at dksX4_catalogue_7 3 rfl rfl)
theorem dX4_catalogue_169 : decode cX4_catalogue 169 = .ok (.lconst 1, 1) := dk_10 (dk_at dksX4_catalogue_7 6 rfl rfl)
theorem dX4_catalogue_170 : decode cX4_catalogue 170 = .ok (.ladd, 1) := dk_97 (dk_at dksX4_catalogue_7 7 rfl rfl)
theorem dX4_catalogue_171 : decode cX4_catalogue 171 = .ok (.lstore 5, 2) := dk_55 5 (dk_at dksX4_catalogue_7 8 rfl rfl)
theorem dX4_catalogue_173 : decode cX4_catalogue 173 = .ok (.iinc 7 1, 3) := dk_132 7 1 (dk_at dksX4_catalogue_7 10 rfl rfl)
theorem dX4_catalogue_176 : decode cX4_catalogue 176 = .ok (.goto (-115), 3) := dk_167 255 141 (dk_at dksX4_catalogue_7 13 rfl rfl)
theorem dX4_catalogue_179 : decode cX4_catalogue 179 = .ok (.lload 5, 2) := dk_22 5 (dk_at dksX4_catalogue_7 16 rfl rfl)
theorem dX4_catalogue_181 : decode cX4_catalogue 181 = .ok (.lreturn, 1) := dk_173 (dk_at dksX4_catalogue_7 18 rfl rfl)
abbrev cX4_isTape : ByteArray := prog_30_method_97_code
def yX4_isTape : MethodName := ⟨RX4, "isTape", "(I)Z"⟩
def dkwX4_isTape_0 : List UInt8 := [42, 27, 3, 8, 182, 0, 3, 172]
abbrev dktX4_isTape_0 : List UInt8 := dkwX4_isTape_0 ++ []
theorem dksX4_isTape_0 : cX4_isTape.data.toList.drop 0 = dktX4_isTape_0 := by decide +kernel
theorem dX4_isTape_0 : decode cX4_isTape 0 = .ok (.aload_n 0, 1) := dk_42 (dk_at dksX4_isTape_0 0 rfl rfl)
theorem dX4_isTape_1 : decode cX4_isTape 1 = .ok (.iload_n 1, 1) := dk_27 (dk_at dksX4_isTape_0 1 rfl rfl)
theorem dX4_isTape_2 : decode cX4_isTape 2 = .ok (.iconst 0, 1) := dk_3 (dk_at dksX4_isTape_0 2 rfl rfl)
theorem dX4_isTape_3 : decode cX4_isTape 3 = .ok (.iconst 5, 1) := dk_8 (dk_at dksX4_isTape_0 3 rfl rfl)
theorem dX4_isTape_4 : decode cX4_isTape 4 = .ok (.invokevirtual 3, 3) := dk_182 0 3 (dk_at dksX4_isTape_0 4 rfl rfl)
theorem dX4_isTape_7 : decode cX4_isTape 7 = .ok (.ireturn, 1) := dk_172 (dk_at dksX4_isTape_0 7 rfl rfl)
abbrev cX4_count : ByteArray := prog_30_method_99_code
def yX4_count : MethodName := ⟨RX4, "count", "(I)I"⟩
def dkwX4_count_5 : List UInt8 := [16, 254, 172]
abbrev dktX4_count_5 : List UInt8 := dkwX4_count_5 ++ []
def dkwX4_count_4 : List UInt8 := [180, 0, 182, 172, 42, 180, 0, 94, 172, 42, 180, 0, 218, 172, 42, 180, 0, 230, 172, 42, 180, 0, 69, 172]
abbrev dktX4_count_4 : List UInt8 := dkwX4_count_4 ++ dktX4_count_5
def dkwX4_count_3 : List UInt8 := [172, 42, 180, 0, 66, 172, 42, 180, 0, 91, 172, 42, 180, 0, 97, 172, 42, 180, 0, 167, 172, 42]
abbrev dktX4_count_3 : List UInt8 := dkwX4_count_3 ++ dktX4_count_4
def dkwX4_count_2 : List UInt8 := [42, 180, 0, 13, 172, 42, 180, 0, 17, 172, 42, 180, 0, 20, 172, 42, 180, 0, 23, 172, 42, 180, 0, 227]
abbrev dktX4_count_2 : List UInt8 := dkwX4_count_2 ++ dktX4_count_3
def dkwX4_count_1 : List UInt8 := [170, 0, 0, 0, 0, 0, 141, 0, 0, 0, 0, 0, 0, 0, 13, 0, 0, 0, 71, 0, 0, 0, 76, 0, 0, 0, 81, 0, 0, 0, 86, 0, 0, 0, 91, 0, 0, 0, 96, 0, 0, 0, 101, 0, 0, 0, 106, 0, 0, 0, 111, 0, 0, 0, 116, 0, 0, 0, 121, 0, 0, 0, 126, 0, 0, 0, 131, 0, 0, 0, 136]
abbrev dktX4_count_1 : List UInt8 := dkwX4_count_1 ++ dktX4_count_2
def dkwX4_count_0 : List UInt8 := [27]
abbrev dktX4_count_0 : List UInt8 := dkwX4_count_0 ++ dktX4_count_1
theorem dksX4_count_0 : cX4_count.data.toList.drop 0 = dktX4_count_0 := by decide +kernel
theorem dksX4_count_1 : cX4_count.data.toList.drop 1 = dktX4_count_1 := dk_seg dksX4_count_0 1 rfl rfl
theorem dksX4_count_2 : cX4_count.data.toList.drop 72 = dktX4_count_2 := dk_seg dksX4_count_1 71 rfl rfl
theorem dksX4_count_3 : cX4_count.data.toList.drop 96 = dktX4_count_3 := dk_seg dksX4_count_2 24 rfl rfl
theorem dksX4_count_4 : cX4_count.data.toList.drop 118 = dktX4_count_4 := dk_seg dksX4_count_3 22 rfl rfl
theorem dksX4_count_5 : cX4_count.data.toList.drop 142 = dktX4_count_5 := dk_seg dksX4_count_4 24 rfl rfl
theorem dX4_count_0 : decode cX4_count 0 = .ok (.iload_n 1, 1) := dk_27 (dk_at dksX4_count_0 0 rfl rfl)
theorem dX4_count_1 : decode cX4_count 1 = .ok (.tableswitch 141 0 13 #[71, 76, 81, 86, 91, 96, 101, 106, 111, 116, 121, 126, 131, 136], 71) := by decide +kernel
theorem dX4_count_72 : decode cX4_count 72 = .ok (.aload_n 0, 1) := dk_42 (dk_at dksX4_count_2 0 rfl rfl)
theorem dX4_count_73 : decode cX4_count 73 = .ok (.getfield 13, 3) := dk_180 0 13 (dk_at dksX4_count_2 1 rfl rfl)
theorem dX4_count_76 : decode cX4_count 76 = .ok (.ireturn, 1) := dk_172 (dk_at dksX4_count_2 4 rfl rfl)
theorem dX4_count_77 : decode cX4_count 77 = .ok (.aload_n 0, 1) := dk_42 (dk_at dksX4_count_2 5 rfl rfl)
theorem dX4_count_78 : decode cX4_count 78 = .ok (.getfield 17, 3) := dk_180 0 17 (dk_at dksX4_count_2 6 rfl rfl)
theorem dX4_count_81 : decode cX4_count 81 = .ok (.ireturn, 1) := dk_172 (dk_at dksX4_count_2 9 rfl rfl)
theorem dX4_count_82 : decode cX4_count 82 = .ok (.aload_n 0, 1) := dk_42 (dk_at dksX4_count_2 10 rfl rfl)
theorem dX4_count_83 : decode cX4_count 83 = .ok (.getfield 20, 3) := dk_180 0 20 (dk_at dksX4_count_2 11 rfl rfl)
theorem dX4_count_86 : decode cX4_count 86 = .ok (.ireturn, 1) := dk_172 (dk_at dksX4_count_2 14 rfl rfl)
theorem dX4_count_87 : decode cX4_count 87 = .ok (.aload_n 0, 1) := dk_42 (dk_at dksX4_count_2 15 rfl rfl)
theorem dX4_count_88 : decode cX4_count 88 = .ok (.getfield 23, 3) := dk_180 0 23 (dk_at dksX4_count_2 16 rfl rfl)
theorem dX4_count_91 : decode cX4_count 91 = .ok (.ireturn, 1) := dk_172 (dk_at dksX4_count_2 19 rfl rfl)
theorem dX4_count_92 : decode cX4_count 92 = .ok (.aload_n 0, 1) := dk_42 (dk_at dksX4_count_2 20 rfl rfl)
theorem dX4_count_93 : decode cX4_count 93 = .ok (.getfield 227, 3) := dk_180 0 227 (dk_at dksX4_count_2 21 rfl rfl)
theorem dX4_count_96 : decode cX4_count 96 = .ok (.ireturn, 1) := dk_172 (dk_at dksX4_count_3 0 rfl rfl)
theorem dX4_count_97 : decode cX4_count 97 = .ok (.aload_n 0, 1) := dk_42 (dk_at dksX4_count_3 1 rfl rfl)
theorem dX4_count_98 : decode cX4_count 98 = .ok (.getfield 66, 3) := dk_180 0 66 (dk_at dksX4_count_3 2 rfl rfl)
theorem dX4_count_101 : decode cX4_count 101 = .ok (.ireturn, 1) := dk_172 (dk_at dksX4_count_3 5 rfl rfl)
theorem dX4_count_102 : decode cX4_count 102 = .ok (.aload_n 0, 1) := dk_42 (dk_at dksX4_count_3 6 rfl rfl)
theorem dX4_count_103 : decode cX4_count 103 = .ok (.getfield 91, 3) := dk_180 0 91 (dk_at dksX4_count_3 7 rfl rfl)
theorem dX4_count_106 : decode cX4_count 106 = .ok (.ireturn, 1) := dk_172 (dk_at dksX4_count_3 10 rfl rfl)
theorem dX4_count_107 : decode cX4_count 107 = .ok (.aload_n 0, 1) := dk_42 (dk_at dksX4_count_3 11 rfl rfl)
theorem dX4_count_108 : decode cX4_count 108 = .ok (.getfield 97, 3) := dk_180 0 97 (dk_at dksX4_count_3 12 rfl rfl)
theorem dX4_count_111 : decode cX4_count 111 = .ok (.ireturn, 1) := dk_172 (dk_at dksX4_count_3 15 rfl rfl)
theorem dX4_count_112 : decode cX4_count 112 = .ok (.aload_n 0, 1) := dk_42 (dk_at dksX4_count_3 16 rfl rfl)
theorem dX4_count_113 : decode cX4_count 113 = .ok (.getfield 167, 3) := dk_180 0 167 (dk_at dksX4_count_3 17 rfl rfl)
theorem dX4_count_116 : decode cX4_count 116 = .ok (.ireturn, 1) := dk_172 (dk_at dksX4_count_3 20 rfl rfl)
theorem dX4_count_117 : decode cX4_count 117 = .ok (.aload_n 0, 1) := dk_42 (dk_at dksX4_count_3 21 rfl rfl)
theorem dX4_count_118 : decode cX4_count 118 = .ok (.getfield 182, 3) := dk_180 0 182 (dk_at dksX4_count_4 0 rfl rfl)
theorem dX4_count_121 : decode cX4_count 121 = .ok (.ireturn, 1) := dk_172 (dk_at dksX4_count_4 3 rfl rfl)
theorem dX4_count_122 : decode cX4_count 122 = .ok (.aload_n 0, 1) := dk_42 (dk_at dksX4_count_4 4 rfl rfl)
theorem dX4_count_123 : decode cX4_count 123 = .ok (.getfield 94, 3) := dk_180 0 94 (dk_at dksX4_count_4 5 rfl rfl)
theorem dX4_count_126 : decode cX4_count 126 = .ok (.ireturn, 1) := dk_172 (dk_at dksX4_count_4 8 rfl rfl)
theorem dX4_count_127 : decode cX4_count 127 = .ok (.aload_n 0, 1) := dk_42 (dk_at dksX4_count_4 9 rfl rfl)
theorem dX4_count_128 : decode cX4_count 128 = .ok (.getfield 218, 3) := dk_180 0 218 (dk_at dksX4_count_4 10 rfl rfl)
theorem dX4_count_131 : decode cX4_count 131 = .ok (.ireturn, 1) := dk_172 (dk_at dksX4_count_4 13 rfl rfl)
theorem dX4_count_132 : decode cX4_count 132 = .ok (.aload_n 0, 1) := dk_42 (dk_at dksX4_count_4 14 rfl rfl)
theorem dX4_count_133 : decode cX4_count 133 = .ok (.getfield 230, 3) := dk_180 0 230 (dk_at dksX4_count_4 15 rfl rfl)
theorem dX4_count_136 : decode cX4_count 136 = .ok (.ireturn, 1) := dk_172 (dk_at dksX4_count_4 18 rfl rfl)
theorem dX4_count_137 : decode cX4_count 137 = .ok (.aload_n 0, 1) := dk_42 (dk_at dksX4_count_4 19 rfl rfl)
theorem dX4_count_138 : decode cX4_count 138 = .ok (.getfield 69, 3) := dk_180 0 69 (dk_at dksX4_count_4 20 rfl rfl)
theorem dX4_count_141 : decode cX4_count 141 = .ok (.ireturn, 1) := dk_172 (dk_at dksX4_count_4 23 rfl rfl)
theorem dX4_count_142 : decode cX4_count 142 = .ok (.bipush (-2), 2) := dk_16 254 (dk_at dksX4_count_5 0 rfl rfl)
theorem dX4_count_144 : decode cX4_count 144 = .ok (.ireturn, 1) := dk_172 (dk_at dksX4_count_5 2 rfl rfl)
abbrev cX4_tape : ByteArray := prog_30_method_100_code
def yX4_tape : MethodName := ⟨RX4, "tape", "(III)I"⟩
def dkwX4_tape_4 : List UInt8 := [4, 172]
abbrev dktX4_tape_4 : List UInt8 := dkwX4_tape_4 ++ []
def dkwX4_tape_3 : List UInt8 := [16, 60, 162, 0, 22, 42, 180, 0, 251, 16, 60, 27, 104, 21, 4, 96, 9, 80, 132, 4, 1, 167, 255, 233]
abbrev dktX4_tape_3 : List UInt8 := dkwX4_tape_3 ++ dktX4_tape_4
def dkwX4_tape_2 : List UInt8 := [27, 28, 79, 42, 180, 0, 248, 27, 28, 156, 0, 7, 3, 167, 0, 4, 29, 79, 3, 54, 4, 21, 4]
abbrev dktX4_tape_2 : List UInt8 := dkwX4_tape_2 ++ dktX4_tape_3
def dkwX4_tape_1 : List UInt8 := [29, 16, 60, 164, 0, 6, 16, 254, 172, 28, 155, 0, 10, 29, 156, 0, 6, 16, 242, 172, 42, 180, 0, 245]
abbrev dktX4_tape_1 : List UInt8 := dkwX4_tape_1 ++ dktX4_tape_2
def dkwX4_tape_0 : List UInt8 := [42, 27, 182, 1, 193, 154, 0, 5, 2, 172, 42, 28, 2, 7, 182, 0, 3, 153, 0, 13, 28, 155, 0, 12]
abbrev dktX4_tape_0 : List UInt8 := dkwX4_tape_0 ++ dktX4_tape_1
theorem dksX4_tape_0 : cX4_tape.data.toList.drop 0 = dktX4_tape_0 := by decide +kernel
theorem dksX4_tape_1 : cX4_tape.data.toList.drop 24 = dktX4_tape_1 := dk_seg dksX4_tape_0 24 rfl rfl
theorem dksX4_tape_2 : cX4_tape.data.toList.drop 48 = dktX4_tape_2 := dk_seg dksX4_tape_1 24 rfl rfl
theorem dksX4_tape_3 : cX4_tape.data.toList.drop 71 = dktX4_tape_3 := dk_seg dksX4_tape_2 23 rfl rfl
theorem dksX4_tape_4 : cX4_tape.data.toList.drop 95 = dktX4_tape_4 := dk_seg dksX4_tape_3 24 rfl rfl
theorem dX4_tape_0 : decode cX4_tape 0 = .ok (.aload_n 0, 1) := dk_42 (dk_at dksX4_tape_0 0 rfl rfl)
theorem dX4_tape_1 : decode cX4_tape 1 = .ok (.iload_n 1, 1) := dk_27 (dk_at dksX4_tape_0 1 rfl rfl)
theorem dX4_tape_2 : decode cX4_tape 2 = .ok (.invokevirtual 449, 3) := dk_182 1 193 (dk_at dksX4_tape_0 2 rfl rfl)
theorem dX4_tape_5 : decode cX4_tape 5 = .ok (.ifCond .ne 5, 3) := dk_154 0 5 (dk_at dksX4_tape_0 5 rfl rfl)
theorem dX4_tape_8 : decode cX4_tape 8 = .ok (.iconst (-1), 1) := dk_2 (dk_at dksX4_tape_0 8 rfl rfl)
theorem dX4_tape_9 : decode cX4_tape 9 = .ok (.ireturn, 1) := dk_172 (dk_at dksX4_tape_0 9 rfl rfl)
theorem dX4_tape_10 : decode cX4_tape 10 = .ok (.aload_n 0, 1) := dk_42 (dk_at dksX4_tape_0 10 rfl rfl)
theorem dX4_tape_11 : decode cX4_tape 11 = .ok (.iload_n 2, 1) := dk_28 (dk_at dksX4_tape_0 11 rfl rfl)
theorem dX4_tape_12 : decode cX4_tape 12 = .ok (.iconst (-1), 1) := dk_2 (dk_at dksX4_tape_0 12 rfl rfl)
theorem dX4_tape_13 : decode cX4_tape 13 = .ok (.iconst 4, 1) := dk_7 (dk_at dksX4_tape_0 13 rfl rfl)
theorem dX4_tape_14 : decode cX4_tape 14 = .ok (.invokevirtual 3, 3) := dk_182 0 3 (dk_at dksX4_tape_0 14 rfl rfl)
theorem dX4_tape_17 : decode cX4_tape 17 = .ok (.ifCond .eq 13, 3) := dk_153 0 13 (dk_at dksX4_tape_0 17 rfl rfl)
theorem dX4_tape_20 : decode cX4_tape 20 = .ok (.iload_n 2, 1) := dk_28 (dk_at dksX4_tape_0 20 rfl rfl)
theorem dX4_tape_21 : decode cX4_tape 21 = .ok (.ifCond .lt 12, 3) := dk_155 0 12 (dk_at dksX4_tape_0 21 rfl rfl)
theorem dX4_tape_24 : decode cX4_tape 24 = .ok (.iload_n 3, 1) := dk_29 (dk_at dksX4_tape_1 0 rfl rfl)
theorem dX4_tape_25 : decode cX4_tape 25 = .ok (.bipush 60, 2) := dk_16 60 (dk_at dksX4_tape_1 1 rfl rfl)
theorem dX4_tape_27 : decode cX4_tape 27 = .ok (.if_icmp .le 6, 3) := dk_164 0 6 (dk_at dksX4_tape_1 3 rfl rfl)
theorem dX4_tape_30 : decode cX4_tape 30 = .ok (.bipush (-2), 2) := dk_16 254 (dk_at dksX4_tape_1 6 rfl rfl)
theorem dX4_tape_32 : decode cX4_tape 32 = .ok (.ireturn, 1) := dk_172 (dk_at dksX4_tape_1 8 rfl rfl)
theorem dX4_tape_33 : decode cX4_tape 33 = .ok (.iload_n 2, 1) := dk_28 (dk_at dksX4_tape_1 9 rfl rfl)
theorem dX4_tape_34 : decode cX4_tape 34 = .ok (.ifCond .lt 10, 3) := dk_155 0 10 (dk_at dksX4_tape_1 10 rfl rfl)
theorem dX4_tape_37 : decode cX4_tape 37 = .ok (.iload_n 3, 1) := dk_29 (dk_at dksX4_tape_1 13 rfl rfl)
theorem dX4_tape_38 : decode cX4_tape 38 = .ok (.ifCond .ge 6, 3) := dk_156 0 6 (dk_at dksX4_tape_1 14 rfl rfl)
theorem dX4_tape_41 : decode cX4_tape 41 = .ok (.bipush (-14), 2) := dk_16 242 (dk_at dksX4_tape_1 17 rfl rfl)
theorem dX4_tape_43 : decode cX4_tape 43 = .ok (.ireturn, 1) := dk_172 (dk_at dksX4_tape_1 19 rfl rfl)
theorem dX4_tape_44 : decode cX4_tape 44 = .ok (.aload_n 0, 1) := dk_42 (dk_at dksX4_tape_1 20 rfl rfl)
theorem dX4_tape_45 : decode cX4_tape 45 = .ok (.getfield 245, 3) := dk_180 0 245 (dk_at dksX4_tape_1 21 rfl rfl)
theorem dX4_tape_48 : decode cX4_tape 48 = .ok (.iload_n 1, 1) := dk_27 (dk_at dksX4_tape_2 0 rfl rfl)
theorem dX4_tape_49 : decode cX4_tape 49 = .ok (.iload_n 2, 1) := dk_28 (dk_at dksX4_tape_2 1 rfl rfl)
theorem dX4_tape_50 : decode cX4_tape 50 = .ok (.iastore, 1) := dk_79 (dk_at dksX4_tape_2 2 rfl rfl)
theorem dX4_tape_51 : decode cX4_tape 51 = .ok (.aload_n 0, 1) := dk_42 (dk_at dksX4_tape_2 3 rfl rfl)
theorem dX4_tape_52 : decode cX4_tape 52 = .ok (.getfield 248, 3) := dk_180 0 248 (dk_at dksX4_tape_2 4 rfl rfl)
theorem dX4_tape_55 : decode cX4_tape 55 = .ok (.iload_n 1, 1) := dk_27 (dk_at dksX4_tape_2 7 rfl rfl)
theorem dX4_tape_56 : decode cX4_tape 56 = .ok (.iload_n 2, 1) := dk_28 (dk_at dksX4_tape_2 8 rfl rfl)
theorem dX4_tape_57 : decode cX4_tape 57 = .ok (.ifCond .ge 7, 3) := dk_156 0 7 (dk_at dksX4_tape_2 9 rfl rfl)
theorem dX4_tape_60 : decode cX4_tape 60 = .ok (.iconst 0, 1) := dk_3 (dk_at dksX4_tape_2 12 rfl rfl)
theorem dX4_tape_61 : decode cX4_tape 61 = .ok (.goto 4, 3) := dk_167 0 4 (dk_at dksX4_tape_2 13 rfl rfl)
theorem dX4_tape_64 : decode cX4_tape 64 = .ok (.iload_n 3, 1) := dk_29 (dk_at dksX4_tape_2 16 rfl rfl)
theorem dX4_tape_65 : decode cX4_tape 65 = .ok (.iastore, 1) := dk_79 (dk_at dksX4_tape_2 17 rfl rfl)
theorem dX4_tape_66 : decode cX4_tape 66 = .ok (.iconst 0, 1) := dk_3 (dk_at dksX4_tape_2 18 rfl rfl)
theorem dX4_tape_67 : decode cX4_tape 67 = .ok (.istore 4, 2) := dk_54 4 (dk_at dksX4_tape_2 19 rfl rfl)
theorem dX4_tape_69 : decode cX4_tape 69 = .ok (.iload 4, 2) := dk_21 4 (dk_at dksX4_tape_2 21 rfl rfl)
theorem dX4_tape_71 : decode cX4_tape 71 = .ok (.bipush 60, 2) := dk_16 60 (dk_at dksX4_tape_3 0 rfl rfl)
theorem dX4_tape_73 : decode cX4_tape 73 = .ok (.if_icmp .ge 22, 3) := dk_162 0 22 (dk_at dksX4_tape_3 2 rfl rfl)
theorem dX4_tape_76 : decode cX4_tape 76 = .ok (.aload_n 0, 1) := dk_42 (dk_at dksX4_tape_3 5 rfl rfl)
theorem dX4_tape_77 : decode cX4_tape 77 = .ok (.getfield 251, 3) := dk_180 0 251 (dk_at dksX4_tape_3 6 rfl rfl)
theorem dX4_tape_80 : decode cX4_tape 80 = .ok (.bipush 60, 2) := dk_16 60 (dk_at dksX4_tape_3 9 rfl rfl)
theorem dX4_tape_82 : decode cX4_tape 82 = .ok (.iload_n 1, 1) := dk_27 (dk_at dksX4_tape_3 11 rfl rfl)
theorem dX4_tape_83 : decode cX4_tape 83 = .ok (.imul, 1) := dk_104 (dk_at dksX4_tape_3 12 rfl rfl)
theorem dX4_tape_84 : decode cX4_tape 84 = .ok (.iload 4, 2) := dk_21 4 (dk_at dksX4_tape_3 13 rfl rfl)
theorem dX4_tape_86 : decode cX4_tape 86 = .ok (.iadd, 1) := dk_96 (dk_at dksX4_tape_3 15 rfl rfl)
theorem dX4_tape_87 : decode cX4_tape 87 = .ok (.lconst 0, 1) := dk_9 (dk_at dksX4_tape_3 16 rfl rfl)
theorem dX4_tape_88 : decode cX4_tape 88 = .ok (.lastore, 1) := dk_80 (dk_at dksX4_tape_3 17 rfl rfl)
theorem dX4_tape_89 : decode cX4_tape 89 = .ok (.iinc 4 1, 3) := dk_132 4 1 (dk_at dksX4_tape_3 18 rfl rfl)
theorem dX4_tape_92 : decode cX4_tape 92 = .ok (.goto (-23), 3) := dk_167 255 233 (dk_at dksX4_tape_3 21 rfl rfl)
theorem dX4_tape_95 : decode cX4_tape 95 = .ok (.iconst 1, 1) := dk_4 (dk_at dksX4_tape_4 0 rfl rfl)
theorem dX4_tape_96 : decode cX4_tape 96 = .ok (.ireturn, 1) := dk_172 (dk_at dksX4_tape_4 1 rfl rfl)
abbrev cX4_item : ByteArray := prog_30_method_102_code
def yX4_item : MethodName := ⟨RX4, "item", "(IIJ)I"⟩
def dkwX4_item_2 : List UInt8 := [27, 104, 28, 96, 42, 42, 180, 0, 245, 27, 46, 33, 182, 1, 204, 80, 4, 172]
abbrev dktX4_item_2 : List UInt8 := dkwX4_item_2 ++ []
def dkwX4_item_1 : List UInt8 := [3, 42, 180, 0, 248, 27, 46, 4, 100, 182, 0, 3, 154, 0, 6, 16, 243, 172, 42, 180, 0, 251, 16, 60]
abbrev dktX4_item_1 : List UInt8 := dkwX4_item_1 ++ dktX4_item_2
def dkwX4_item_0 : List UInt8 := [42, 27, 182, 1, 193, 154, 0, 5, 2, 172, 42, 180, 0, 245, 27, 46, 156, 0, 6, 16, 245, 172, 42, 28]
abbrev dktX4_item_0 : List UInt8 := dkwX4_item_0 ++ dktX4_item_1
theorem dksX4_item_0 : cX4_item.data.toList.drop 0 = dktX4_item_0 := by decide +kernel
theorem dksX4_item_1 : cX4_item.data.toList.drop 24 = dktX4_item_1 := dk_seg dksX4_item_0 24 rfl rfl
theorem dksX4_item_2 : cX4_item.data.toList.drop 48 = dktX4_item_2 := dk_seg dksX4_item_1 24 rfl rfl
theorem dX4_item_0 : decode cX4_item 0 = .ok (.aload_n 0, 1) := dk_42 (dk_at dksX4_item_0 0 rfl rfl)
theorem dX4_item_1 : decode cX4_item 1 = .ok (.iload_n 1, 1) := dk_27 (dk_at dksX4_item_0 1 rfl rfl)
theorem dX4_item_2 : decode cX4_item 2 = .ok (.invokevirtual 449, 3) := dk_182 1 193 (dk_at dksX4_item_0 2 rfl rfl)
theorem dX4_item_5 : decode cX4_item 5 = .ok (.ifCond .ne 5, 3) := dk_154 0 5 (dk_at dksX4_item_0 5 rfl rfl)
theorem dX4_item_8 : decode cX4_item 8 = .ok (.iconst (-1), 1) := dk_2 (dk_at dksX4_item_0 8 rfl rfl)
theorem dX4_item_9 : decode cX4_item 9 = .ok (.ireturn, 1) := dk_172 (dk_at dksX4_item_0 9 rfl rfl)
theorem dX4_item_10 : decode cX4_item 10 = .ok (.aload_n 0, 1) := dk_42 (dk_at dksX4_item_0 10 rfl rfl)
theorem dX4_item_11 : decode cX4_item 11 = .ok (.getfield 245, 3) := dk_180 0 245 (dk_at dksX4_item_0 11 rfl rfl)
theorem dX4_item_14 : decode cX4_item 14 = .ok (.iload_n 1, 1) := dk_27 (dk_at dksX4_item_0 14 rfl rfl)
theorem dX4_item_15 : decode cX4_item 15 = .ok (.iaload, 1) := dk_46 (dk_at dksX4_item_0 15 rfl rfl)
theorem dX4_item_16 : decode cX4_item 16 = .ok (.ifCond .ge 6, 3) := dk_156 0 6 (dk_at dksX4_item_0 16 rfl rfl)
theorem dX4_item_19 : decode cX4_item 19 = .ok (.bipush (-11), 2) := dk_16 245 (dk_at dksX4_item_0 19 rfl rfl)
theorem dX4_item_21 : decode cX4_item 21 = .ok (.ireturn, 1) := dk_172 (dk_at dksX4_item_0 21 rfl rfl)
theorem dX4_item_22 : decode cX4_item 22 = .ok (.aload_n 0, 1) := dk_42 (dk_at dksX4_item_0 22 rfl rfl)
theorem dX4_item_23 : decode cX4_item 23 = .ok (.iload_n 2, 1) := dk_28 (dk_at dksX4_item_0 23 rfl rfl)
theorem dX4_item_24 : decode cX4_item 24 = .ok (.iconst 0, 1) := dk_3 (dk_at dksX4_item_1 0 rfl rfl)
theorem dX4_item_25 : decode cX4_item 25 = .ok (.aload_n 0, 1) := dk_42 (dk_at dksX4_item_1 1 rfl rfl)
theorem dX4_item_26 : decode cX4_item 26 = .ok (.getfield 248, 3) := dk_180 0 248 (dk_at dksX4_item_1 2 rfl rfl)
theorem dX4_item_29 : decode cX4_item 29 = .ok (.iload_n 1, 1) := dk_27 (dk_at dksX4_item_1 5 rfl rfl)
theorem dX4_item_30 : decode cX4_item 30 = .ok (.iaload, 1) := dk_46 (dk_at dksX4_item_1 6 rfl rfl)
theorem dX4_item_31 : decode cX4_item 31 = .ok (.iconst 1, 1) := dk_4 (dk_at dksX4_item_1 7 rfl rfl)
theorem dX4_item_32 : decode cX4_item 32 = .ok (.isub, 1) := dk_100 (dk_at dksX4_item_1 8 rfl rfl)
theorem dX4_item_33 : decode cX4_item 33 = .ok (.invokevirtual 3, 3) := dk_182 0 3 (dk_at dksX4_item_1 9 rfl rfl)
theorem dX4_item_36 : decode cX4_item 36 = .ok (.ifCond .ne 6, 3) := dk_154 0 6 (dk_at dksX4_item_1 12 rfl rfl)
theorem dX4_item_39 : decode cX4_item 39 = .ok (.bipush (-13), 2) := dk_16 243 (dk_at dksX4_item_1 15 rfl rfl)
theorem dX4_item_41 : decode cX4_item 41 = .ok (.ireturn, 1) := dk_172 (dk_at dksX4_item_1 17 rfl rfl)
theorem dX4_item_42 : decode cX4_item 42 = .ok (.aload_n 0, 1) := dk_42 (dk_at dksX4_item_1 18 rfl rfl)
theorem dX4_item_43 : decode cX4_item 43 = .ok (.getfield 251, 3) := dk_180 0 251 (dk_at dksX4_item_1 19 rfl rfl)
theorem dX4_item_46 : decode cX4_item 46 = .ok (.bipush 60, 2) := dk_16 60 (dk_at dksX4_item_1 22 rfl rfl)
theorem dX4_item_48 : decode cX4_item 48 = .ok (.iload_n 1, 1) := dk_27 (dk_at dksX4_item_2 0 rfl rfl)
theorem dX4_item_49 : decode cX4_item 49 = .ok (.imul, 1) := dk_104 (dk_at dksX4_item_2 1 rfl rfl)
theorem dX4_item_50 : decode cX4_item 50 = .ok (.iload_n 2, 1) := dk_28 (dk_at dksX4_item_2 2 rfl rfl)
theorem dX4_item_51 : decode cX4_item 51 = .ok (.iadd, 1) := dk_96 (dk_at dksX4_item_2 3 rfl rfl)
theorem dX4_item_52 : decode cX4_item 52 = .ok (.aload_n 0, 1) := dk_42 (dk_at dksX4_item_2 4 rfl rfl)
theorem dX4_item_53 : decode cX4_item 53 = .ok (.aload_n 0, 1) := dk_42 (dk_at dksX4_item_2 5 rfl rfl)
theorem dX4_item_54 : decode cX4_item 54 = .ok (.getfield 245, 3) := dk_180 0 245 (dk_at dksX4_item_2 6 rfl rfl)
theorem dX4_item_57 : decode cX4_item 57 = .ok (.iload_n 1, 1) := dk_27 (dk_at dksX4_item_2 9 rfl rfl)
theorem dX4_item_58 : decode cX4_item 58 = .ok (.iaload, 1) := dk_46 (dk_at dksX4_item_2 10 rfl rfl)
theorem dX4_item_59 : decode cX4_item 59 = .ok (.lload_n 3, 1) := dk_33 (dk_at dksX4_item_2 11 rfl rfl)
theorem dX4_item_60 : decode cX4_item 60 = .ok (.invokevirtual 460, 3) := dk_182 1 204 (dk_at dksX4_item_2 12 rfl rfl)
theorem dX4_item_63 : decode cX4_item 63 = .ok (.lastore, 1) := dk_80 (dk_at dksX4_item_2 15 rfl rfl)
theorem dX4_item_64 : decode cX4_item 64 = .ok (.iconst 1, 1) := dk_4 (dk_at dksX4_item_2 16 rfl rfl)
theorem dX4_item_65 : decode cX4_item 65 = .ok (.ireturn, 1) := dk_172 (dk_at dksX4_item_2 17 rfl rfl)
abbrev cX4_narrow : ByteArray := prog_30_method_101_code
def yX4_narrow : MethodName := ⟨RX4, "narrow", "(IJ)J"⟩
def dkwX4_narrow_2 : List UInt8 := [167, 0, 8, 9, 167, 0, 4, 32, 173]
abbrev dktX4_narrow_2 : List UInt8 := dkwX4_narrow_2 ++ []
def dkwX4_narrow_1 : List UInt8 := [5, 160, 0, 9, 32, 136, 133, 167, 0, 23, 27, 7, 160, 0, 17, 32, 9, 148, 153, 0, 7, 10]
abbrev dktX4_narrow_1 : List UInt8 := dkwX4_narrow_1 ++ dktX4_narrow_2
def dkwX4_narrow_0 : List UInt8 := [27, 154, 0, 10, 32, 136, 145, 133, 167, 0, 46, 27, 4, 160, 0, 10, 32, 136, 147, 133, 167, 0, 34, 27]
abbrev dktX4_narrow_0 : List UInt8 := dkwX4_narrow_0 ++ dktX4_narrow_1
theorem dksX4_narrow_0 : cX4_narrow.data.toList.drop 0 = dktX4_narrow_0 := by decide +kernel
theorem dksX4_narrow_1 : cX4_narrow.data.toList.drop 24 = dktX4_narrow_1 := dk_seg dksX4_narrow_0 24 rfl rfl
theorem dksX4_narrow_2 : cX4_narrow.data.toList.drop 46 = dktX4_narrow_2 := dk_seg dksX4_narrow_1 22 rfl rfl
theorem dX4_narrow_0 : decode cX4_narrow 0 = .ok (.iload_n 1, 1) := dk_27 (dk_at dksX4_narrow_0 0 rfl rfl)
theorem dX4_narrow_1 : decode cX4_narrow 1 = .ok (.ifCond .ne 10, 3) := dk_154 0 10 (dk_at dksX4_narrow_0 1 rfl rfl)
theorem dX4_narrow_4 : decode cX4_narrow 4 = .ok (.lload_n 2, 1) := dk_32 (dk_at dksX4_narrow_0 4 rfl rfl)
theorem dX4_narrow_5 : decode cX4_narrow 5 = .ok (.l2i, 1) := dk_136 (dk_at dksX4_narrow_0 5 rfl rfl)
theorem dX4_narrow_6 : decode cX4_narrow 6 = .ok (.i2b, 1) := dk_145 (dk_at dksX4_narrow_0 6 rfl rfl)
theorem dX4_narrow_7 : decode cX4_narrow 7 = .ok (.i2l, 1) := dk_133 (dk_at dksX4_narrow_0 7 rfl rfl)
theorem dX4_narrow_8 : decode cX4_narrow 8 = .ok (.goto 46, 3) := dk_167 0 46 (dk_at dksX4_narrow_0 8 rfl rfl)
theorem dX4_narrow_11 : decode cX4_narrow 11 = .ok (.iload_n 1, 1) := dk_27 (dk_at dksX4_narrow_0 11 rfl rfl)
theorem dX4_narrow_12 : decode cX4_narrow 12 = .ok (.iconst 1, 1) := dk_4 (dk_at dksX4_narrow_0 12 rfl rfl)
theorem dX4_narrow_13 : decode cX4_narrow 13 = .ok (.if_icmp .ne 10, 3) := dk_160 0 10 (dk_at dksX4_narrow_0 13 rfl rfl)
theorem dX4_narrow_16 : decode cX4_narrow 16 = .ok (.lload_n 2, 1) := dk_32 (dk_at dksX4_narrow_0 16 rfl rfl)
theorem dX4_narrow_17 : decode cX4_narrow 17 = .ok (.l2i, 1) := dk_136 (dk_at dksX4_narrow_0 17 rfl rfl)
theorem dX4_narrow_18 : decode cX4_narrow 18 = .ok (.i2s, 1) := dk_147 (dk_at dksX4_narrow_0 18 rfl rfl)
theorem dX4_narrow_19 : decode cX4_narrow 19 = .ok (.i2l, 1) := dk_133 (dk_at dksX4_narrow_0 19 rfl rfl)
theorem dX4_narrow_20 : decode cX4_narrow 20 = .ok (.goto 34, 3) := dk_167 0 34 (dk_at dksX4_narrow_0 20 rfl rfl)
theorem dX4_narrow_23 : decode cX4_narrow 23 = .ok (.iload_n 1, 1) := dk_27 (dk_at dksX4_narrow_0 23 rfl rfl)
theorem dX4_narrow_24 : decode cX4_narrow 24 = .ok (.iconst 2, 1) := dk_5 (dk_at dksX4_narrow_1 0 rfl rfl)
theorem dX4_narrow_25 : decode cX4_narrow 25 = .ok (.if_icmp .ne 9, 3) := dk_160 0 9 (dk_at dksX4_narrow_1 1 rfl rfl)
theorem dX4_narrow_28 : decode cX4_narrow 28 = .ok (.lload_n 2, 1) := dk_32 (dk_at dksX4_narrow_1 4 rfl rfl)
theorem dX4_narrow_29 : decode cX4_narrow 29 = .ok (.l2i, 1) := dk_136 (dk_at dksX4_narrow_1 5 rfl rfl)
theorem dX4_narrow_30 : decode cX4_narrow 30 = .ok (.i2l, 1) := dk_133 (dk_at dksX4_narrow_1 6 rfl rfl)
theorem dX4_narrow_31 : decode cX4_narrow 31 = .ok (.goto 23, 3) := dk_167 0 23 (dk_at dksX4_narrow_1 7 rfl rfl)
theorem dX4_narrow_34 : decode cX4_narrow 34 = .ok (.iload_n 1, 1) := dk_27 (dk_at dksX4_narrow_1 10 rfl rfl)
theorem dX4_narrow_35 : decode cX4_narrow 35 = .ok (.iconst 4, 1) := dk_7 (dk_at dksX4_narrow_1 11 rfl rfl)
theorem dX4_narrow_36 : decode cX4_narrow 36 = .ok (.if_icmp .ne 17, 3) := dk_160 0 17 (dk_at dksX4_narrow_1 12 rfl rfl)
theorem dX4_narrow_39 : decode cX4_narrow 39 = .ok (.lload_n 2, 1) := dk_32 (dk_at dksX4_narrow_1 15 rfl rfl)
theorem dX4_narrow_40 : decode cX4_narrow 40 = .ok (.lconst 0, 1) := dk_9 (dk_at dksX4_narrow_1 16 rfl rfl)
theorem dX4_narrow_41 : decode cX4_narrow 41 = .ok (.lcmp, 1) := dk_148 (dk_at dksX4_narrow_1 17 rfl rfl)
theorem dX4_narrow_42 : decode cX4_narrow 42 = .ok (.ifCond .eq 7, 3) := dk_153 0 7 (dk_at dksX4_narrow_1 18 rfl rfl)
theorem dX4_narrow_45 : decode cX4_narrow 45 = .ok (.lconst 1, 1) := dk_10 (dk_at dksX4_narrow_1 21 rfl rfl)
theorem dX4_narrow_46 : decode cX4_narrow 46 = .ok (.goto 8, 3) := dk_167 0 8 (dk_at dksX4_narrow_2 0 rfl rfl)
theorem dX4_narrow_49 : decode cX4_narrow 49 = .ok (.lconst 0, 1) := dk_9 (dk_at dksX4_narrow_2 3 rfl rfl)
theorem dX4_narrow_50 : decode cX4_narrow 50 = .ok (.goto 4, 3) := dk_167 0 4 (dk_at dksX4_narrow_2 4 rfl rfl)
theorem dX4_narrow_53 : decode cX4_narrow 53 = .ok (.lload_n 2, 1) := dk_32 (dk_at dksX4_narrow_2 7 rfl rfl)
theorem dX4_narrow_54 : decode cX4_narrow 54 = .ok (.lreturn, 1) := dk_173 (dk_at dksX4_narrow_2 8 rfl rfl)
abbrev cX4_read : ByteArray := prog_30_method_103_code
def yX4_read : MethodName := ⟨RX4, "read", "(II)J"⟩
def dkwX4_read_2 : List UInt8 := [28, 96, 47, 173]
abbrev dktX4_read_2 : List UInt8 := dkwX4_read_2 ++ []
def dkwX4_read_1 : List UInt8 := [27, 46, 4, 100, 182, 0, 3, 154, 0, 9, 20, 1, 196, 167, 0, 14, 42, 180, 0, 251, 16, 60, 27, 104]
abbrev dktX4_read_1 : List UInt8 := dkwX4_read_1 ++ dktX4_read_2
def dkwX4_read_0 : List UInt8 := [42, 27, 182, 1, 193, 153, 0, 29, 42, 180, 0, 245, 27, 46, 155, 0, 20, 42, 28, 3, 42, 180, 0, 248]
abbrev dktX4_read_0 : List UInt8 := dkwX4_read_0 ++ dktX4_read_1
theorem dksX4_read_0 : cX4_read.data.toList.drop 0 = dktX4_read_0 := by decide +kernel
theorem dksX4_read_1 : cX4_read.data.toList.drop 24 = dktX4_read_1 := dk_seg dksX4_read_0 24 rfl rfl
theorem dksX4_read_2 : cX4_read.data.toList.drop 48 = dktX4_read_2 := dk_seg dksX4_read_1 24 rfl rfl
theorem dX4_read_0 : decode cX4_read 0 = .ok (.aload_n 0, 1) := dk_42 (dk_at dksX4_read_0 0 rfl rfl)
theorem dX4_read_1 : decode cX4_read 1 = .ok (.iload_n 1, 1) := dk_27 (dk_at dksX4_read_0 1 rfl rfl)
theorem dX4_read_2 : decode cX4_read 2 = .ok (.invokevirtual 449, 3) := dk_182 1 193 (dk_at dksX4_read_0 2 rfl rfl)
theorem dX4_read_5 : decode cX4_read 5 = .ok (.ifCond .eq 29, 3) := dk_153 0 29 (dk_at dksX4_read_0 5 rfl rfl)
theorem dX4_read_8 : decode cX4_read 8 = .ok (.aload_n 0, 1) := dk_42 (dk_at dksX4_read_0 8 rfl rfl)
theorem dX4_read_9 : decode cX4_read 9 = .ok (.getfield 245, 3) := dk_180 0 245 (dk_at dksX4_read_0 9 rfl rfl)
theorem dX4_read_12 : decode cX4_read 12 = .ok (.iload_n 1, 1) := dk_27 (dk_at dksX4_read_0 12 rfl rfl)
theorem dX4_read_13 : decode cX4_read 13 = .ok (.iaload, 1) := dk_46 (dk_at dksX4_read_0 13 rfl rfl)
theorem dX4_read_14 : decode cX4_read 14 = .ok (.ifCond .lt 20, 3) := dk_155 0 20 (dk_at dksX4_read_0 14 rfl rfl)
theorem dX4_read_17 : decode cX4_read 17 = .ok (.aload_n 0, 1) := dk_42 (dk_at dksX4_read_0 17 rfl rfl)
theorem dX4_read_18 : decode cX4_read 18 = .ok (.iload_n 2, 1) := dk_28 (dk_at dksX4_read_0 18 rfl rfl)
theorem dX4_read_19 : decode cX4_read 19 = .ok (.iconst 0, 1) := dk_3 (dk_at dksX4_read_0 19 rfl rfl)
theorem dX4_read_20 : decode cX4_read 20 = .ok (.aload_n 0, 1) := dk_42 (dk_at dksX4_read_0 20 rfl rfl)
theorem dX4_read_21 : decode cX4_read 21 = .ok (.getfield 248, 3) := dk_180 0 248 (dk_at dksX4_read_0 21 rfl rfl)
theorem dX4_read_24 : decode cX4_read 24 = .ok (.iload_n 1, 1) := dk_27 (dk_at dksX4_read_1 0 rfl rfl)
theorem dX4_read_25 : decode cX4_read 25 = .ok (.iaload, 1) := dk_46 (dk_at dksX4_read_1 1 rfl rfl)
theorem dX4_read_26 : decode cX4_read 26 = .ok (.iconst 1, 1) := dk_4 (dk_at dksX4_read_1 2 rfl rfl)
theorem dX4_read_27 : decode cX4_read 27 = .ok (.isub, 1) := dk_100 (dk_at dksX4_read_1 3 rfl rfl)
theorem dX4_read_28 : decode cX4_read 28 = .ok (.invokevirtual 3, 3) := dk_182 0 3 (dk_at dksX4_read_1 4 rfl rfl)
theorem dX4_read_31 : decode cX4_read 31 = .ok (.ifCond .ne 9, 3) := dk_154 0 9 (dk_at dksX4_read_1 7 rfl rfl)
theorem dX4_read_34 : decode cX4_read 34 = .ok (.ldc2_w 452, 3) := dk_20 1 196 (dk_at dksX4_read_1 10 rfl rfl)
theorem dX4_read_37 : decode cX4_read 37 = .ok (.goto 14, 3) := dk_167 0 14 (dk_at dksX4_read_1 13 rfl rfl)
theorem dX4_read_40 : decode cX4_read 40 = .ok (.aload_n 0, 1) := dk_42 (dk_at dksX4_read_1 16 rfl rfl)
theorem dX4_read_41 : decode cX4_read 41 = .ok (.getfield 251, 3) := dk_180 0 251 (dk_at dksX4_read_1 17 rfl rfl)
theorem dX4_read_44 : decode cX4_read 44 = .ok (.bipush 60, 2) := dk_16 60 (dk_at dksX4_read_1 20 rfl rfl)
theorem dX4_read_46 : decode cX4_read 46 = .ok (.iload_n 1, 1) := dk_27 (dk_at dksX4_read_1 22 rfl rfl)
theorem dX4_read_47 : decode cX4_read 47 = .ok (.imul, 1) := dk_104 (dk_at dksX4_read_1 23 rfl rfl)
theorem dX4_read_48 : decode cX4_read 48 = .ok (.iload_n 2, 1) := dk_28 (dk_at dksX4_read_2 0 rfl rfl)
theorem dX4_read_49 : decode cX4_read 49 = .ok (.iadd, 1) := dk_96 (dk_at dksX4_read_2 1 rfl rfl)
theorem dX4_read_50 : decode cX4_read 50 = .ok (.laload, 1) := dk_47 (dk_at dksX4_read_2 2 rfl rfl)
theorem dX4_read_51 : decode cX4_read 51 = .ok (.lreturn, 1) := dk_173 (dk_at dksX4_read_2 3 rfl rfl)
abbrev cX4_shift : ByteArray := prog_30_method_104_code
def yX4_shift : MethodName := ⟨RX4, "shift", "(IIIII)I"⟩
def dkwX4_shift_7 : List UInt8 := [180, 0, 255, 21, 6, 47, 80, 132, 6, 1, 167, 255, 224, 21, 5, 172]
abbrev dktX4_shift_7 : List UInt8 := dkwX4_shift_7 ++ []
def dkwX4_shift_6 : List UInt8 := [54, 6, 21, 6, 21, 5, 162, 0, 31, 42, 180, 0, 251, 16, 60, 29, 104, 21, 4, 96, 21, 6, 96, 42]
abbrev dktX4_shift_6 : List UInt8 := dkwX4_shift_6 ++ dktX4_shift_7
def dkwX4_shift_5 : List UInt8 := [21, 6, 42, 180, 0, 251, 16, 60, 27, 104, 28, 96, 21, 6, 96, 47, 80, 132, 6, 1, 167, 255, 225, 3]
abbrev dktX4_shift_5 : List UInt8 := dkwX4_shift_5 ++ dktX4_shift_6
def dkwX4_shift_4 : List UInt8 := [21, 5, 100, 164, 0, 6, 16, 243, 172, 3, 54, 6, 21, 6, 21, 5, 162, 0, 30, 42, 180, 0, 255]
abbrev dktX4_shift_4 : List UInt8 := dkwX4_shift_4 ++ dktX4_shift_5
def dkwX4_shift_3 : List UInt8 := [155, 0, 30, 28, 42, 180, 0, 248, 27, 46, 21, 5, 100, 163, 0, 17, 21, 4, 42, 180, 0, 248, 29, 46]
abbrev dktX4_shift_3 : List UInt8 := dkwX4_shift_3 ++ dktX4_shift_4
def dkwX4_shift_2 : List UInt8 := [180, 0, 245, 29, 46, 159, 0, 6, 16, 244, 172, 21, 5, 155, 0, 39, 28, 155, 0, 35, 21, 4]
abbrev dktX4_shift_2 : List UInt8 := dkwX4_shift_2 ++ dktX4_shift_3
def dkwX4_shift_1 : List UInt8 := [155, 0, 12, 42, 180, 0, 245, 29, 46, 156, 0, 6, 16, 245, 172, 42, 180, 0, 245, 27, 46, 42]
abbrev dktX4_shift_1 : List UInt8 := dkwX4_shift_1 ++ dktX4_shift_2
def dkwX4_shift_0 : List UInt8 := [42, 27, 182, 1, 193, 153, 0, 11, 42, 29, 182, 1, 193, 154, 0, 5, 2, 172, 42, 180, 0, 245, 27, 46]
abbrev dktX4_shift_0 : List UInt8 := dkwX4_shift_0 ++ dktX4_shift_1
theorem dksX4_shift_0 : cX4_shift.data.toList.drop 0 = dktX4_shift_0 := by decide +kernel
theorem dksX4_shift_1 : cX4_shift.data.toList.drop 24 = dktX4_shift_1 := dk_seg dksX4_shift_0 24 rfl rfl
theorem dksX4_shift_2 : cX4_shift.data.toList.drop 46 = dktX4_shift_2 := dk_seg dksX4_shift_1 22 rfl rfl
theorem dksX4_shift_3 : cX4_shift.data.toList.drop 68 = dktX4_shift_3 := dk_seg dksX4_shift_2 22 rfl rfl
theorem dksX4_shift_4 : cX4_shift.data.toList.drop 92 = dktX4_shift_4 := dk_seg dksX4_shift_3 24 rfl rfl
theorem dksX4_shift_5 : cX4_shift.data.toList.drop 115 = dktX4_shift_5 := dk_seg dksX4_shift_4 23 rfl rfl
theorem dksX4_shift_6 : cX4_shift.data.toList.drop 139 = dktX4_shift_6 := dk_seg dksX4_shift_5 24 rfl rfl
theorem dksX4_shift_7 : cX4_shift.data.toList.drop 163 = dktX4_shift_7 := dk_seg dksX4_shift_6 24 rfl rfl
theorem dX4_shift_0 : decode cX4_shift 0 = .ok (.aload_n 0, 1) := dk_42 (dk_at dksX4_shift_0 0 rfl rfl)
theorem dX4_shift_1 : decode cX4_shift 1 = .ok (.iload_n 1, 1) := dk_27 (dk_at dksX4_shift_0 1 rfl rfl)
theorem dX4_shift_2 : decode cX4_shift 2 = .ok (.invokevirtual 449, 3) := dk_182 1 193 (dk_at dksX4_shift_0 2 rfl rfl)
theorem dX4_shift_5 : decode cX4_shift 5 = .ok (.ifCond .eq 11, 3) := dk_153 0 11 (dk_at dksX4_shift_0 5 rfl rfl)
theorem dX4_shift_8 : decode cX4_shift 8 = .ok (.aload_n 0, 1) := dk_42 (dk_at dksX4_shift_0 8 rfl rfl)
theorem dX4_shift_9 : decode cX4_shift 9 = .ok (.iload_n 3, 1) := dk_29 (dk_at dksX4_shift_0 9 rfl rfl)
theorem dX4_shift_10 : decode cX4_shift 10 = .ok (.invokevirtual 449, 3) := dk_182 1 193 (dk_at dksX4_shift_0 10 rfl rfl)
theorem dX4_shift_13 : decode cX4_shift 13 = .ok (.ifCond .ne 5, 3) := dk_154 0 5 (dk_at dksX4_shift_0 13 rfl rfl)
theorem dX4_shift_16 : decode cX4_shift 16 = .ok (.iconst (-1), 1) := dk_2 (dk_at dksX4_shift_0 16 rfl rfl)
theorem dX4_shift_17 : decode cX4_shift 17 = .ok (.ireturn, 1) := dk_172 (dk_at dksX4_shift_0 17 rfl rfl)
theorem dX4_shift_18 : decode cX4_shift 18 = .ok (.aload_n 0, 1) := dk_42 (dk_at dksX4_shift_0 18 rfl rfl)
theorem dX4_shift_19 : decode cX4_shift 19 = .ok (.getfield 245, 3) := dk_180 0 245 (dk_at dksX4_shift_0 19 rfl rfl)
theorem dX4_shift_22 : decode cX4_shift 22 = .ok (.iload_n 1, 1) := dk_27 (dk_at dksX4_shift_0 22 rfl rfl)
theorem dX4_shift_23 : decode cX4_shift 23 = .ok (.iaload, 1) := dk_46 (dk_at dksX4_shift_0 23 rfl rfl)
theorem dX4_shift_24 : decode cX4_shift 24 = .ok (.ifCond .lt 12, 3) := dk_155 0 12 (dk_at dksX4_shift_1 0 rfl rfl)
theorem dX4_shift_27 : decode cX4_shift 27 = .ok (.aload_n 0, 1) := dk_42 (dk_at dksX4_shift_1 3 rfl rfl)
theorem dX4_shift_28 : decode cX4_shift 28 = .ok (.getfield 245, 3) := dk_180 0 245 (dk_at dksX4_shift_1 4 rfl rfl)
theorem dX4_shift_31 : decode cX4_shift 31 = .ok (.iload_n 3, 1) := dk_29 (dk_at dksX4_shift_1 7 rfl rfl)
theorem dX4_shift_32 : decode cX4_shift 32 = .ok (.iaload, 1) := dk_46 (dk_at dksX4_shift_1 8 rfl rfl)
theorem dX4_shift_33 : decode cX4_shift 33 = .ok (.ifCond .ge 6, 3) := dk_156 0 6 (dk_at dksX4_shift_1 9 rfl rfl)
theorem dX4_shift_36 : decode cX4_shift 36 = .ok (.bipush (-11), 2) := dk_16 245 (dk_at dksX4_shift_1 12 rfl rfl)
theorem dX4_shift_38 : decode cX4_shift 38 = .ok (.ireturn, 1) := dk_172 (dk_at dksX4_shift_1 14 rfl rfl)
theorem dX4_shift_39 : decode cX4_shift 39 = .ok (.aload_n 0, 1) := dk_42 (dk_at dksX4_shift_1 15 rfl rfl)
theorem dX4_shift_40 : decode cX4_shift 40 = .ok (.getfield 245, 3) := dk_180 0 245 (dk_at dksX4_shift_1 16 rfl rfl)
theorem dX4_shift_43 : decode cX4_shift 43 = .ok (.iload_n 1, 1) := dk_27 (dk_at dksX4_shift_1 19 rfl rfl)
theorem dX4_shift_44 : decode cX4_shift 44 = .ok (.iaload, 1) := dk_46 (dk_at dksX4_shift_1 20 rfl rfl)
theorem dX4_shift_45 : decode cX4_shift 45 = .ok (.aload_n 0, 1) := dk_42 (dk_at dksX4_shift_1 21 rfl rfl)
theorem dX4_shift_46 : decode cX4_shift 46 = .ok (.getfield 245, 3) := dk_180 0 245 (dk_at dksX4_shift_2 0 rfl rfl)
theorem dX4_shift_49 : decode cX4_shift 49 = .ok (.iload_n 3, 1) := dk_29 (dk_at dksX4_shift_2 3 rfl rfl)
theorem dX4_shift_50 : decode cX4_shift 50 = .ok (.iaload, 1) := dk_46 (dk_at dksX4_shift_2 4 rfl rfl)
theorem dX4_shift_51 : decode cX4_shift 51 = .ok (.if_icmp .eq 6, 3) := dk_159 0 6 (dk_at dksX4_shift_2 5 rfl rfl)
theorem dX4_shift_54 : decode cX4_shift 54 = .ok (.bipush (-12), 2) := dk_16 244 (dk_at dksX4_shift_2 8 rfl rfl)
theorem dX4_shift_56 : decode cX4_shift 56 = .ok (.ireturn, 1) := dk_172 (dk_at dksX4_shift_2 10 rfl rfl)
theorem dX4_shift_57 : decode cX4_shift 57 = .ok (.iload 5, 2) := dk_21 5 (dk_at dksX4_shift_2 11 rfl rfl)
theorem dX4_shift_59 : decode cX4_shift 59 = .ok (.ifCond .lt 39, 3) := dk_155 0 39 (dk_at dksX4_shift_2 13 rfl rfl)
theorem dX4_shift_62 : decode cX4_shift 62 = .ok (.iload_n 2, 1) := dk_28 (dk_at dksX4_shift_2 16 rfl rfl)
theorem dX4_shift_63 : decode cX4_shift 63 = .ok (.ifCond .lt 35, 3) := dk_155 0 35 (dk_at dksX4_shift_2 17 rfl rfl)
theorem dX4_shift_66 : decode cX4_shift 66 = .ok (.iload 4, 2) := dk_21 4 (dk_at dksX4_shift_2 20 rfl rfl)
theorem dX4_shift_68 : decode cX4_shift 68 = .ok (.ifCond .lt 30, 3) := dk_155 0 30 (dk_at dksX4_shift_3 0 rfl rfl)
theorem dX4_shift_71 : decode cX4_shift 71 = .ok (.iload_n 2, 1) := dk_28 (dk_at dksX4_shift_3 3 rfl rfl)
theorem dX4_shift_72 : decode cX4_shift 72 = .ok (.aload_n 0, 1) := dk_42 (dk_at dksX4_shift_3 4 rfl rfl)
theorem dX4_shift_73 : decode cX4_shift 73 = .ok (.getfield 248, 3) := dk_180 0 248 (dk_at dksX4_shift_3 5 rfl rfl)
theorem dX4_shift_76 : decode cX4_shift 76 = .ok (.iload_n 1, 1) := dk_27 (dk_at dksX4_shift_3 8 rfl rfl)
theorem dX4_shift_77 : decode cX4_shift 77 = .ok (.iaload, 1) := dk_46 (dk_at dksX4_shift_3 9 rfl rfl)
theorem dX4_shift_78 : decode cX4_shift 78 = .ok (.iload 5, 2) := dk_21 5 (dk_at dksX4_shift_3 10 rfl rfl)
theorem dX4_shift_80 : decode cX4_shift 80 = .ok (.isub, 1) := dk_100 (dk_at dksX4_shift_3 12 rfl rfl)
theorem dX4_shift_81 : decode cX4_shift 81 = .ok (.if_icmp .gt 17, 3) := dk_163 0 17 (dk_at dksX4_shift_3 13 rfl rfl)
theorem dX4_shift_84 : decode cX4_shift 84 = .ok (.iload 4, 2) := dk_21 4 (dk_at dksX4_shift_3 16 rfl rfl)
theorem dX4_shift_86 : decode cX4_shift 86 = .ok (.aload_n 0, 1) := dk_42 (dk_at dksX4_shift_3 18 rfl rfl)
theorem dX4_shift_87 : decode cX4_shift 87 = .ok (.getfield 248, 3) := dk_180 0 248 (dk_at dksX4_shift_3 19 rfl rfl)
theorem dX4_shift_90 : decode cX4_shift 90 = .ok (.iload_n 3, 1) := dk_29 (dk_at dksX4_shift_3 22 rfl rfl)
theorem dX4_shift_91 : decode cX4_shift 91 = .ok (.iaload, 1) := dk_46 (dk_at dksX4_shift_3 23 rfl rfl)
theorem dX4_shift_92 : decode cX4_shift 92 = .ok (.iload 5, 2) := dk_21 5 (dk_at dksX4_shift_4 0 rfl rfl)
theorem dX4_shift_94 : decode cX4_shift 94 = .ok (.isub, 1) := dk_100 (dk_at dksX4_shift_4 2 rfl rfl)
theorem dX4_shift_95 : decode cX4_shift 95 = .ok (.if_icmp .le 6, 3) := dk_164 0 6 (dk_at dksX4_shift_4 3 rfl rfl)
theorem dX4_shift_98 : decode cX4_shift 98 = .ok (.bipush (-13), 2) := dk_16 243 (dk_at dksX4_shift_4 6 rfl rfl)
theorem dX4_shift_100 : decode cX4_shift 100 = .ok (.ireturn, 1) := dk_172 (dk_at dksX4_shift_4 8 rfl rfl)
theorem dX4_shift_101 : decode cX4_shift 101 = .ok (.iconst 0, 1) := dk_3 (dk_at dksX4_shift_4 9 rfl rfl)
theorem dX4_shift_102 : decode cX4_shift 102 = .ok (.istore 6, 2) := dk_54 6 (dk_at dksX4_shift_4 10 rfl rfl)
theorem dX4_shift_104 : decode cX4_shift 104 = .ok (.iload 6, 2) := dk_21 6 (dk_at dksX4_shift_4 12 rfl rfl)
theorem dX4_shift_106 : decode cX4_shift 106 = .ok (.iload 5, 2) := dk_21 5 (dk_at dksX4_shift_4 14 rfl rfl)
theorem dX4_shift_108 : decode cX4_shift 108 = .ok (.if_icmp .ge 30, 3) := dk_162 0 30 (dk_at dksX4_shift_4 16 rfl rfl)
theorem dX4_shift_111 : decode cX4_shift 111 = .ok (.aload_n 0, 1) := dk_42 (dk_at dksX4_shift_4 19 rfl rfl)
theorem dX4_shift_112 : decode cX4_shift 112 = .ok (.getfield 255, 3) := dk_180 0 255 (dk_at dksX4_shift_4 20 rfl rfl)
theorem dX4_shift_115 : decode cX4_shift 115 = .ok (.iload 6, 2) := dk_21 6 (dk_at dksX4_shift_5 0 rfl rfl)
theorem dX4_shift_117 : decode cX4_shift 117 = .ok (.aload_n 0, 1) := dk_42 (dk_at dksX4_shift_5 2 rfl rfl)
theorem dX4_shift_118 : decode cX4_shift 118 = .ok (.getfield 251, 3) := dk_180 0 251 (dk_at dksX4_shift_5 3 rfl rfl)
theorem dX4_shift_121 : decode cX4_shift 121 = .ok (.bipush 60, 2) := dk_16 60 (dk_at dksX4_shift_5 6 rfl rfl)
theorem dX4_shift_123 : decode cX4_shift 123 = .ok (.iload_n 1, 1) := dk_27 (dk_at dksX4_shift_5 8 rfl rfl)
theorem dX4_shift_124 : decode cX4_shift 124 = .ok (.imul, 1) := dk_104 (dk_at dksX4_shift_5 9 rfl rfl)
theorem dX4_shift_125 : decode cX4_shift 125 = .ok (.iload_n 2, 1) := dk_28 (dk_at dksX4_shift_5 10 rfl rfl)
theorem dX4_shift_126 : decode cX4_shift 126 = .ok (.iadd, 1) := dk_96 (dk_at dksX4_shift_5 11 rfl rfl)
theorem dX4_shift_127 : decode cX4_shift 127 = .ok (.iload 6, 2) := dk_21 6 (dk_at dksX4_shift_5 12 rfl rfl)
theorem dX4_shift_129 : decode cX4_shift 129 = .ok (.iadd, 1) := dk_96 (dk_at dksX4_shift_5 14 rfl rfl)
theorem dX4_shift_130 : decode cX4_shift 130 = .ok (.laload, 1) := dk_47 (dk_at dksX4_shift_5 15 rfl rfl)
theorem dX4_shift_131 : decode cX4_shift 131 = .ok (.lastore, 1) := dk_80 (dk_at dksX4_shift_5 16 rfl rfl)
theorem dX4_shift_132 : decode cX4_shift 132 = .ok (.iinc 6 1, 3) := dk_132 6 1 (dk_at dksX4_shift_5 17 rfl rfl)
theorem dX4_shift_135 : decode cX4_shift 135 = .ok (.goto (-31), 3) := dk_167 255 225 (dk_at dksX4_shift_5 20 rfl rfl)
theorem dX4_shift_138 : decode cX4_shift 138 = .ok (.iconst 0, 1) := dk_3 (dk_at dksX4_shift_5 23 rfl rfl)
theorem dX4_shift_139 : decode cX4_shift 139 = .ok (.istore 6, 2) := dk_54 6 (dk_at dksX4_shift_6 0 rfl rfl)
theorem dX4_shift_141 : decode cX4_shift 141 = .ok (.iload 6, 2) := dk_21 6 (dk_at dksX4_shift_6 2 rfl rfl)
theorem dX4_shift_143 : decode cX4_shift 143 = .ok (.iload 5, 2) := dk_21 5 (dk_at dksX4_shift_6 4 rfl rfl)
theorem dX4_shift_145 : decode cX4_shift 145 = .ok (.if_icmp .ge 31, 3) := dk_162 0 31 (dk_at dksX4_shift_6 6 rfl rfl)
theorem dX4_shift_148 : decode cX4_shift 148 = .ok (.aload_n 0, 1) := dk_42 (dk_at dksX4_shift_6 9 rfl rfl)
theorem dX4_shift_149 : decode cX4_shift 149 = .ok (.getfield 251, 3) := dk_180 0 251 (dk_at dksX4_shift_6 10 rfl rfl)
theorem dX4_shift_152 : decode cX4_shift 152 = .ok (.bipush 60, 2) := dk_16 60 (dk_at dksX4_shift_6 13 rfl rfl)
theorem dX4_shift_154 : decode cX4_shift 154 = .ok (.iload_n 3, 1) := dk_29 (dk_at dksX4_shift_6 15 rfl rfl)
theorem dX4_shift_155 : decode cX4_shift 155 = .ok (.imul, 1) := dk_104 (dk_at dksX4_shift_6 16 rfl rfl)
theorem dX4_shift_156 : decode cX4_shift 156 = .ok (.iload 4, 2) := dk_21 4 (dk_at dksX4_shift_6 17 rfl rfl)
theorem dX4_shift_158 : decode cX4_shift 158 = .ok (.iadd, 1) := dk_96 (dk_at dksX4_shift_6 19 rfl rfl)
theorem dX4_shift_159 : decode cX4_shift 159 = .ok (.iload 6, 2) := dk_21 6 (dk_at dksX4_shift_6 20 rfl rfl)
theorem dX4_shift_161 : decode cX4_shift 161 = .ok (.iadd, 1) := dk_96 (dk_at dksX4_shift_6 22 rfl rfl)
theorem dX4_shift_162 : decode cX4_shift 162 = .ok (.aload_n 0, 1) := dk_42 (dk_at dksX4_shift_6 23 rfl rfl)
theorem dX4_shift_163 : decode cX4_shift 163 = .ok (.getfield 255, 3) := dk_180 0 255 (dk_at dksX4_shift_7 0 rfl rfl)
theorem dX4_shift_166 : decode cX4_shift 166 = .ok (.iload 6, 2) := dk_21 6 (dk_at dksX4_shift_7 3 rfl rfl)
theorem dX4_shift_168 : decode cX4_shift 168 = .ok (.laload, 1) := dk_47 (dk_at dksX4_shift_7 5 rfl rfl)
theorem dX4_shift_169 : decode cX4_shift 169 = .ok (.lastore, 1) := dk_80 (dk_at dksX4_shift_7 6 rfl rfl)
theorem dX4_shift_170 : decode cX4_shift 170 = .ok (.iinc 6 1, 3) := dk_132 6 1 (dk_at dksX4_shift_7 7 rfl rfl)
theorem dX4_shift_173 : decode cX4_shift 173 = .ok (.goto (-32), 3) := dk_167 255 224 (dk_at dksX4_shift_7 10 rfl rfl)
theorem dX4_shift_176 : decode cX4_shift 176 = .ok (.iload 5, 2) := dk_21 5 (dk_at dksX4_shift_7 13 rfl rfl)
theorem dX4_shift_178 : decode cX4_shift 178 = .ok (.ireturn, 1) := dk_172 (dk_at dksX4_shift_7 15 rfl rfl)
theorem q104 : (Jvm.Cond.initialized "BarredBooksModel") ∈ lw_all := lw_g (lw_at lw_m1 5 rfl) rfl
theorem q1158 : (Jvm.Cond.selects "BarredBooksModel" ({ cls := "java/lang/Object", name := "getClass", desc := "()Ljava/lang/Class;" } : Jvm.MethodName) ({ cls := "java/lang/Object", name := "getClass", desc := "()Ljava/lang/Class;" } : Jvm.MethodName)) ∈ lw_all := lw_g (lw_at lw_m5 99 rfl) rfl
theorem q1628 : (Jvm.Cond.instantiable "BarredBooksModel" (80 : Nat)) ∈ lw_all := lw_g (lw_at lw_m7 89 rfl) rfl
theorem q1630 : (Jvm.Cond.instanceMethod ({ cls := "BarredBooksModel", name := "<init>", desc := "()V" } : Jvm.MethodName)) ∈ lw_all := lw_g (lw_at lw_m7 91 rfl) rfl
theorem q1631 : (Jvm.Cond.code ({ cls := "BarredBooksModel", name := "<init>", desc := "()V" } : Jvm.MethodName) prog_30_method_4_code (2 : Nat) (Option.none : Option Jvm.ClassFile.FieldType)) ∈ lw_all := lw_g (lw_at lw_m7 92 rfl) rfl
theorem q1632 : (Jvm.Cond.methodLink "BarredBooksModel" (7 : Nat) ({ cls := "java/lang/Object", name := "<init>", desc := "()V" } : Jvm.MethodName)) ∈ lw_all := lw_g (lw_at lw_m7 93 rfl) rfl
theorem q1633 : (Jvm.Cond.fieldLink "BarredBooksModel" (13 : Nat) "BarredBooksModel" "today" "I") ∈ lw_all := lw_g (lw_at lw_m7 94 rfl) rfl
theorem q1634 : (Jvm.Cond.fieldLink "BarredBooksModel" (17 : Nat) "BarredBooksModel" "persons" "I") ∈ lw_all := lw_g (lw_at lw_m7 95 rfl) rfl
theorem q1635 : (Jvm.Cond.fieldLink "BarredBooksModel" (20 : Nat) "BarredBooksModel" "books" "I") ∈ lw_all := lw_g (lw_at lw_m7 96 rfl) rfl
theorem q1636 : (Jvm.Cond.fieldLink "BarredBooksModel" (23 : Nat) "BarredBooksModel" "editions" "I") ∈ lw_all := lw_g (lw_at lw_m7 97 rfl) rfl
theorem q1637 : (Jvm.Cond.fieldLink "BarredBooksModel" (26 : Nat) "BarredBooksModel" "road" "[I") ∈ lw_all := lw_g (lw_at lw_m7 98 rfl) rfl
theorem q1638 : (Jvm.Cond.fieldLink "BarredBooksModel" (30 : Nat) "BarredBooksModel" "homeOf" "[I") ∈ lw_all := lw_g (lw_at lw_m7 99 rfl) rfl
theorem q1639 : (Jvm.Cond.fieldLink "BarredBooksModel" (33 : Nat) "BarredBooksModel" "rankOf" "[I") ∈ lw_all := lw_g (lw_at lw_m7 100 rfl) rfl
theorem q1640 : (Jvm.Cond.fieldLink "BarredBooksModel" (36 : Nat) "BarredBooksModel" "title" "[I") ∈ lw_all := lw_g (lw_at lw_m7 101 rfl) rfl
theorem q1641 : (Jvm.Cond.fieldLink "BarredBooksModel" (39 : Nat) "BarredBooksModel" "author" "[I") ∈ lw_all := lw_g (lw_at lw_m7 102 rfl) rfl
theorem q1642 : (Jvm.Cond.fieldLink "BarredBooksModel" (42 : Nat) "BarredBooksModel" "year" "[I") ∈ lw_all := lw_g (lw_at lw_m7 103 rfl) rfl
theorem q1643 : (Jvm.Cond.fieldLink "BarredBooksModel" (45 : Nat) "BarredBooksModel" "lines" "[I") ∈ lw_all := lw_g (lw_at lw_m7 104 rfl) rfl
theorem q1644 : (Jvm.Cond.fieldLink "BarredBooksModel" (48 : Nat) "BarredBooksModel" "words" "[I") ∈ lw_all := lw_g (lw_at lw_m7 105 rfl) rfl
theorem q1645 : (Jvm.Cond.fieldLink "BarredBooksModel" (51 : Nat) "BarredBooksModel" "bookOf" "[I") ∈ lw_all := lw_g (lw_at lw_m7 106 rfl) rfl
theorem q1646 : (Jvm.Cond.fieldLink "BarredBooksModel" (54 : Nat) "BarredBooksModel" "linesOf" "[I") ∈ lw_all := lw_g (lw_at lw_m7 107 rfl) rfl
theorem q1647 : (Jvm.Cond.fieldLink "BarredBooksModel" (57 : Nat) "BarredBooksModel" "townOf" "[I") ∈ lw_all := lw_g (lw_at lw_m7 108 rfl) rfl
theorem q1648 : (Jvm.Cond.fieldLink "BarredBooksModel" (60 : Nat) "BarredBooksModel" "fromOf" "[I") ∈ lw_all := lw_g (lw_at lw_m7 109 rfl) rfl
theorem q1649 : (Jvm.Cond.fieldLink "BarredBooksModel" (63 : Nat) "BarredBooksModel" "fars" "[I") ∈ lw_all := lw_g (lw_at lw_m7 110 rfl) rfl
theorem q1650 : (Jvm.Cond.fieldLink "BarredBooksModel" (66 : Nat) "BarredBooksModel" "cards" "I") ∈ lw_all := lw_g (lw_at lw_m7 111 rfl) rfl
theorem q1651 : (Jvm.Cond.fieldLink "BarredBooksModel" (69 : Nat) "BarredBooksModel" "ran" "I") ∈ lw_all := lw_g (lw_at lw_m7 112 rfl) rfl
theorem q1652 : (Jvm.Cond.fieldLink "BarredBooksModel" (72 : Nat) "BarredBooksModel" "cardKind" "[I") ∈ lw_all := lw_g (lw_at lw_m7 113 rfl) rfl
theorem q1653 : (Jvm.Cond.fieldLink "BarredBooksModel" (75 : Nat) "BarredBooksModel" "cardEdition" "[I") ∈ lw_all := lw_g (lw_at lw_m7 114 rfl) rfl
theorem q1654 : (Jvm.Cond.fieldLink "BarredBooksModel" (78 : Nat) "BarredBooksModel" "cardNumber" "[I") ∈ lw_all := lw_g (lw_at lw_m7 115 rfl) rfl
theorem q1655 : (Jvm.Cond.fieldLink "BarredBooksModel" (81 : Nat) "BarredBooksModel" "righted" "[I") ∈ lw_all := lw_g (lw_at lw_m7 116 rfl) rfl
theorem q1656 : (Jvm.Cond.fieldLink "BarredBooksModel" (84 : Nat) "BarredBooksModel" "bodies" "[I") ∈ lw_all := lw_g (lw_at lw_m7 117 rfl) rfl
theorem q1657 : (Jvm.Cond.fieldLink "BarredBooksModel" (87 : Nat) "BarredBooksModel" "isMended" "[Z") ∈ lw_all := lw_g (lw_at lw_m7 118 rfl) rfl
theorem q1658 : (Jvm.Cond.fieldLink "BarredBooksModel" (91 : Nat) "BarredBooksModel" "decrees" "I") ∈ lw_all := lw_g (lw_at lw_m7 119 rfl) rfl
theorem q1659 : (Jvm.Cond.fieldLink "BarredBooksModel" (94 : Nat) "BarredBooksModel" "choices" "I") ∈ lw_all := lw_g (lw_at lw_m7 120 rfl) rfl
theorem q1660 : (Jvm.Cond.fieldLink "BarredBooksModel" (97 : Nat) "BarredBooksModel" "fed" "I") ∈ lw_all := lw_g (lw_at lw_m7 121 rfl) rfl
theorem q1661 : (Jvm.Cond.fieldLink "BarredBooksModel" (100 : Nat) "BarredBooksModel" "issued" "[I") ∈ lw_all := lw_g (lw_at lw_m7 122 rfl) rfl
theorem q1662 : (Jvm.Cond.fieldLink "BarredBooksModel" (103 : Nat) "BarredBooksModel" "revoked" "[I") ∈ lw_all := lw_g (lw_at lw_m7 123 rfl) rfl
theorem q1663 : (Jvm.Cond.fieldLink "BarredBooksModel" (106 : Nat) "BarredBooksModel" "text" "[I") ∈ lw_all := lw_g (lw_at lw_m7 124 rfl) rfl
theorem q1664 : (Jvm.Cond.fieldLink "BarredBooksModel" (109 : Nat) "BarredBooksModel" "size" "[I") ∈ lw_all := lw_g (lw_at lw_m7 125 rfl) rfl
theorem q1665 : (Jvm.Cond.fieldLink "BarredBooksModel" (112 : Nat) "BarredBooksModel" "askEdition" "I") ∈ lw_all := lw_g (lw_at lw_m7 126 rfl) rfl
theorem q1666 : (Jvm.Cond.fieldLink "BarredBooksModel" (115 : Nat) "BarredBooksModel" "askLine" "I") ∈ lw_all := lw_g (lw_at lw_m7 127 rfl) rfl
theorem q1667 : (Jvm.Cond.fieldLink "BarredBooksModel" (118 : Nat) "BarredBooksModel" "askRank" "I") ∈ lw_all := lw_g (lw_at lw_m7 128 rfl) rfl
theorem q1668 : (Jvm.Cond.fieldLink "BarredBooksModel" (121 : Nat) "BarredBooksModel" "bars" "I") ∈ lw_all := lw_g (lw_at lw_m7 129 rfl) rfl
theorem q1669 : (Jvm.Cond.fieldLink "BarredBooksModel" (124 : Nat) "BarredBooksModel" "leaveDays" "I") ∈ lw_all := lw_g (lw_at lw_m7 130 rfl) rfl
theorem q1670 : (Jvm.Cond.fieldLink "BarredBooksModel" (127 : Nat) "BarredBooksModel" "clauses" "I") ∈ lw_all := lw_g (lw_at lw_m7 131 rfl) rfl
theorem q1671 : (Jvm.Cond.fieldLink "BarredBooksModel" (130 : Nat) "BarredBooksModel" "base" "I") ∈ lw_all := lw_g (lw_at lw_m7 132 rfl) rfl
theorem q1672 : (Jvm.Cond.fieldLink "BarredBooksModel" (133 : Nat) "BarredBooksModel" "many" "I") ∈ lw_all := lw_g (lw_at lw_m7 133 rfl) rfl
theorem q1673 : (Jvm.Cond.fieldLink "BarredBooksModel" (136 : Nat) "BarredBooksModel" "at" "I") ∈ lw_all := lw_g (lw_at lw_m7 134 rfl) rfl
theorem q1674 : (Jvm.Cond.fieldLink "BarredBooksModel" (139 : Nat) "BarredBooksModel" "isStruck" "Z") ∈ lw_all := lw_g (lw_at lw_m7 135 rfl) rfl
theorem q1675 : (Jvm.Cond.fieldLink "BarredBooksModel" (143 : Nat) "BarredBooksModel" "isOther" "Z") ∈ lw_all := lw_g (lw_at lw_m7 136 rfl) rfl
theorem q1676 : (Jvm.Cond.fieldLink "BarredBooksModel" (146 : Nat) "BarredBooksModel" "value" "I") ∈ lw_all := lw_g (lw_at lw_m7 137 rfl) rfl
theorem q1677 : (Jvm.Cond.fieldLink "BarredBooksModel" (149 : Nat) "BarredBooksModel" "waits" "[I") ∈ lw_all := lw_g (lw_at lw_m7 138 rfl) rfl
theorem q1678 : (Jvm.Cond.fieldLink "BarredBooksModel" (152 : Nat) "BarredBooksModel" "pile" "[Z") ∈ lw_all := lw_g (lw_at lw_m7 139 rfl) rfl
theorem q1679 : (Jvm.Cond.fieldLink "BarredBooksModel" (155 : Nat) "BarredBooksModel" "waiting" "I") ∈ lw_all := lw_g (lw_at lw_m7 140 rfl) rfl
theorem q1680 : (Jvm.Cond.fieldLink "BarredBooksModel" (158 : Nat) "BarredBooksModel" "piled" "I") ∈ lw_all := lw_g (lw_at lw_m7 141 rfl) rfl
theorem q1681 : (Jvm.Cond.fieldLink "BarredBooksModel" (161 : Nat) "BarredBooksModel" "open" "I") ∈ lw_all := lw_g (lw_at lw_m7 142 rfl) rfl
theorem q1682 : (Jvm.Cond.fieldLink "BarredBooksModel" (164 : Nat) "BarredBooksModel" "isBarring" "Z") ∈ lw_all := lw_g (lw_at lw_m7 143 rfl) rfl
theorem q1683 : (Jvm.Cond.fieldLink "BarredBooksModel" (167 : Nat) "BarredBooksModel" "leaves" "I") ∈ lw_all := lw_g (lw_at lw_m7 144 rfl) rfl
theorem q1684 : (Jvm.Cond.fieldLink "BarredBooksModel" (170 : Nat) "BarredBooksModel" "leaveOf" "[I") ∈ lw_all := lw_g (lw_at lw_m7 145 rfl) rfl
theorem q1685 : (Jvm.Cond.fieldLink "BarredBooksModel" (173 : Nat) "BarredBooksModel" "leaveBook" "[I") ∈ lw_all := lw_g (lw_at lw_m7 146 rfl) rfl
theorem q1686 : (Jvm.Cond.fieldLink "BarredBooksModel" (176 : Nat) "BarredBooksModel" "leaveFrom" "[I") ∈ lw_all := lw_g (lw_at lw_m7 147 rfl) rfl
theorem q1687 : (Jvm.Cond.fieldLink "BarredBooksModel" (179 : Nat) "BarredBooksModel" "leaveTo" "[I") ∈ lw_all := lw_g (lw_at lw_m7 148 rfl) rfl
theorem q1688 : (Jvm.Cond.fieldLink "BarredBooksModel" (182 : Nat) "BarredBooksModel" "slips" "I") ∈ lw_all := lw_g (lw_at lw_m7 149 rfl) rfl
theorem q1689 : (Jvm.Cond.fieldLink "BarredBooksModel" (185 : Nat) "BarredBooksModel" "slipTitle" "[I") ∈ lw_all := lw_g (lw_at lw_m7 150 rfl) rfl
theorem q1690 : (Jvm.Cond.fieldLink "BarredBooksModel" (188 : Nat) "BarredBooksModel" "slipAuthor" "[I") ∈ lw_all := lw_g (lw_at lw_m7 151 rfl) rfl
theorem q1691 : (Jvm.Cond.fieldLink "BarredBooksModel" (191 : Nat) "BarredBooksModel" "slipYear" "[I") ∈ lw_all := lw_g (lw_at lw_m7 152 rfl) rfl
theorem q1692 : (Jvm.Cond.fieldLink "BarredBooksModel" (194 : Nat) "BarredBooksModel" "slipFrom" "[I") ∈ lw_all := lw_g (lw_at lw_m7 153 rfl) rfl
theorem q1693 : (Jvm.Cond.fieldLink "BarredBooksModel" (197 : Nat) "BarredBooksModel" "pairs" "[I") ∈ lw_all := lw_g (lw_at lw_m7 154 rfl) rfl
theorem q1694 : (Jvm.Cond.fieldLink "BarredBooksModel" (200 : Nat) "BarredBooksModel" "apart" "[I") ∈ lw_all := lw_g (lw_at lw_m7 155 rfl) rfl
theorem q1695 : (Jvm.Cond.fieldLink "BarredBooksModel" (203 : Nat) "BarredBooksModel" "lineAt" "[I") ∈ lw_all := lw_g (lw_at lw_m7 156 rfl) rfl
theorem q1696 : (Jvm.Cond.fieldLink "BarredBooksModel" (206 : Nat) "BarredBooksModel" "reader" "[I") ∈ lw_all := lw_g (lw_at lw_m7 157 rfl) rfl
theorem q1697 : (Jvm.Cond.fieldLink "BarredBooksModel" (209 : Nat) "BarredBooksModel" "lineMany" "I") ∈ lw_all := lw_g (lw_at lw_m7 158 rfl) rfl
theorem q1698 : (Jvm.Cond.fieldLink "BarredBooksModel" (212 : Nat) "BarredBooksModel" "found" "[I") ∈ lw_all := lw_g (lw_at lw_m7 159 rfl) rfl
theorem q1699 : (Jvm.Cond.fieldLink "BarredBooksModel" (215 : Nat) "BarredBooksModel" "most" "[I") ∈ lw_all := lw_g (lw_at lw_m7 160 rfl) rfl
theorem q1700 : (Jvm.Cond.fieldLink "BarredBooksModel" (218 : Nat) "BarredBooksModel" "aims" "I") ∈ lw_all := lw_g (lw_at lw_m7 161 rfl) rfl
theorem q1701 : (Jvm.Cond.fieldLink "BarredBooksModel" (221 : Nat) "BarredBooksModel" "aimSet" "[I") ∈ lw_all := lw_g (lw_at lw_m7 162 rfl) rfl
theorem q1702 : (Jvm.Cond.fieldLink "BarredBooksModel" (224 : Nat) "BarredBooksModel" "hits" "[I") ∈ lw_all := lw_g (lw_at lw_m7 163 rfl) rfl
theorem q1703 : (Jvm.Cond.fieldLink "BarredBooksModel" (227 : Nat) "BarredBooksModel" "copies" "I") ∈ lw_all := lw_g (lw_at lw_m7 164 rfl) rfl
theorem q1704 : (Jvm.Cond.fieldLink "BarredBooksModel" (230 : Nat) "BarredBooksModel" "entries" "I") ∈ lw_all := lw_g (lw_at lw_m7 165 rfl) rfl
theorem q1705 : (Jvm.Cond.fieldLink "BarredBooksModel" (233 : Nat) "BarredBooksModel" "copyOf" "[I") ∈ lw_all := lw_g (lw_at lw_m7 166 rfl) rfl
theorem q1706 : (Jvm.Cond.fieldLink "BarredBooksModel" (236 : Nat) "BarredBooksModel" "entryCopy" "[I") ∈ lw_all := lw_g (lw_at lw_m7 167 rfl) rfl
theorem q1707 : (Jvm.Cond.fieldLink "BarredBooksModel" (239 : Nat) "BarredBooksModel" "entrySpot" "[I") ∈ lw_all := lw_g (lw_at lw_m7 168 rfl) rfl
theorem q1708 : (Jvm.Cond.fieldLink "BarredBooksModel" (242 : Nat) "BarredBooksModel" "entryDay" "[I") ∈ lw_all := lw_g (lw_at lw_m7 169 rfl) rfl
theorem q1709 : (Jvm.Cond.fieldLink "BarredBooksModel" (245 : Nat) "BarredBooksModel" "sort" "[I") ∈ lw_all := lw_g (lw_at lw_m7 170 rfl) rfl
theorem q1710 : (Jvm.Cond.fieldLink "BarredBooksModel" (248 : Nat) "BarredBooksModel" "length" "[I") ∈ lw_all := lw_g (lw_at lw_m7 171 rfl) rfl
theorem q1711 : (Jvm.Cond.fieldLink "BarredBooksModel" (251 : Nat) "BarredBooksModel" "item" "[J") ∈ lw_all := lw_g (lw_at lw_m7 172 rfl) rfl
theorem q1712 : (Jvm.Cond.fieldLink "BarredBooksModel" (255 : Nat) "BarredBooksModel" "aside" "[J") ∈ lw_all := lw_g (lw_at lw_m7 173 rfl) rfl
theorem q1713 : (Jvm.Cond.lays "BarredBooksModel" "BarredBooksModel" "today" "I") ∈ lw_all := lw_g (lw_at lw_m7 174 rfl) rfl
theorem q1714 : (Jvm.Cond.soleField "BarredBooksModel" "today") ∈ lw_all := lw_g (lw_at lw_m7 175 rfl) rfl
theorem q1715 : (Jvm.Cond.lays "BarredBooksModel" "BarredBooksModel" "persons" "I") ∈ lw_all := lw_g (lw_at lw_m7 176 rfl) rfl
theorem q1716 : (Jvm.Cond.soleField "BarredBooksModel" "persons") ∈ lw_all := lw_g (lw_at lw_m7 177 rfl) rfl
theorem q1717 : (Jvm.Cond.lays "BarredBooksModel" "BarredBooksModel" "books" "I") ∈ lw_all := lw_g (lw_at lw_m7 178 rfl) rfl
theorem q1718 : (Jvm.Cond.soleField "BarredBooksModel" "books") ∈ lw_all := lw_g (lw_at lw_m7 179 rfl) rfl
theorem q1719 : (Jvm.Cond.lays "BarredBooksModel" "BarredBooksModel" "editions" "I") ∈ lw_all := lw_g (lw_at lw_m7 180 rfl) rfl
theorem q1720 : (Jvm.Cond.soleField "BarredBooksModel" "editions") ∈ lw_all := lw_g (lw_at lw_m7 181 rfl) rfl
theorem q1721 : (Jvm.Cond.laysFinal "BarredBooksModel" "BarredBooksModel" "road" "[I") ∈ lw_all := lw_g (lw_at lw_m7 182 rfl) rfl
theorem q1722 : (Jvm.Cond.soleField "BarredBooksModel" "road") ∈ lw_all := lw_g (lw_at lw_m7 183 rfl) rfl
theorem q1723 : (Jvm.Cond.laysFinal "BarredBooksModel" "BarredBooksModel" "homeOf" "[I") ∈ lw_all := lw_g (lw_at lw_m7 184 rfl) rfl
theorem q1724 : (Jvm.Cond.soleField "BarredBooksModel" "homeOf") ∈ lw_all := lw_g (lw_at lw_m7 185 rfl) rfl
theorem q1725 : (Jvm.Cond.laysFinal "BarredBooksModel" "BarredBooksModel" "rankOf" "[I") ∈ lw_all := lw_g (lw_at lw_m7 186 rfl) rfl
theorem q1726 : (Jvm.Cond.soleField "BarredBooksModel" "rankOf") ∈ lw_all := lw_g (lw_at lw_m7 187 rfl) rfl
theorem q1727 : (Jvm.Cond.laysFinal "BarredBooksModel" "BarredBooksModel" "title" "[I") ∈ lw_all := lw_g (lw_at lw_m7 188 rfl) rfl
theorem q1728 : (Jvm.Cond.soleField "BarredBooksModel" "title") ∈ lw_all := lw_g (lw_at lw_m7 189 rfl) rfl
theorem q1729 : (Jvm.Cond.laysFinal "BarredBooksModel" "BarredBooksModel" "author" "[I") ∈ lw_all := lw_g (lw_at lw_m7 190 rfl) rfl
theorem q1730 : (Jvm.Cond.soleField "BarredBooksModel" "author") ∈ lw_all := lw_g (lw_at lw_m7 191 rfl) rfl
theorem q1731 : (Jvm.Cond.laysFinal "BarredBooksModel" "BarredBooksModel" "year" "[I") ∈ lw_all := lw_g (lw_at lw_m7 192 rfl) rfl
theorem q1732 : (Jvm.Cond.soleField "BarredBooksModel" "year") ∈ lw_all := lw_g (lw_at lw_m7 193 rfl) rfl
theorem q1733 : (Jvm.Cond.laysFinal "BarredBooksModel" "BarredBooksModel" "lines" "[I") ∈ lw_all := lw_g (lw_at lw_m7 194 rfl) rfl
theorem q1734 : (Jvm.Cond.soleField "BarredBooksModel" "lines") ∈ lw_all := lw_g (lw_at lw_m7 195 rfl) rfl
theorem q1735 : (Jvm.Cond.laysFinal "BarredBooksModel" "BarredBooksModel" "words" "[I") ∈ lw_all := lw_g (lw_at lw_m7 196 rfl) rfl
theorem q1736 : (Jvm.Cond.soleField "BarredBooksModel" "words") ∈ lw_all := lw_g (lw_at lw_m7 197 rfl) rfl
theorem q1737 : (Jvm.Cond.laysFinal "BarredBooksModel" "BarredBooksModel" "bookOf" "[I") ∈ lw_all := lw_g (lw_at lw_m7 198 rfl) rfl
theorem q1738 : (Jvm.Cond.soleField "BarredBooksModel" "bookOf") ∈ lw_all := lw_g (lw_at lw_m7 199 rfl) rfl
theorem q1739 : (Jvm.Cond.laysFinal "BarredBooksModel" "BarredBooksModel" "linesOf" "[I") ∈ lw_all := lw_g (lw_at lw_m7 200 rfl) rfl
theorem q1740 : (Jvm.Cond.soleField "BarredBooksModel" "linesOf") ∈ lw_all := lw_g (lw_at lw_m7 201 rfl) rfl
theorem q1741 : (Jvm.Cond.laysFinal "BarredBooksModel" "BarredBooksModel" "townOf" "[I") ∈ lw_all := lw_g (lw_at lw_m7 202 rfl) rfl
theorem q1742 : (Jvm.Cond.soleField "BarredBooksModel" "townOf") ∈ lw_all := lw_g (lw_at lw_m7 203 rfl) rfl
theorem q1743 : (Jvm.Cond.laysFinal "BarredBooksModel" "BarredBooksModel" "fromOf" "[I") ∈ lw_all := lw_g (lw_at lw_m7 204 rfl) rfl
theorem q1744 : (Jvm.Cond.soleField "BarredBooksModel" "fromOf") ∈ lw_all := lw_g (lw_at lw_m7 205 rfl) rfl
theorem q1745 : (Jvm.Cond.laysFinal "BarredBooksModel" "BarredBooksModel" "fars" "[I") ∈ lw_all := lw_g (lw_at lw_m7 206 rfl) rfl
theorem q1746 : (Jvm.Cond.soleField "BarredBooksModel" "fars") ∈ lw_all := lw_g (lw_at lw_m7 207 rfl) rfl
theorem q1747 : (Jvm.Cond.lays "BarredBooksModel" "BarredBooksModel" "cards" "I") ∈ lw_all := lw_g (lw_at lw_m7 208 rfl) rfl
theorem q1748 : (Jvm.Cond.soleField "BarredBooksModel" "cards") ∈ lw_all := lw_g (lw_at lw_m7 209 rfl) rfl
theorem q1749 : (Jvm.Cond.lays "BarredBooksModel" "BarredBooksModel" "ran" "I") ∈ lw_all := lw_g (lw_at lw_m7 210 rfl) rfl
theorem q1750 : (Jvm.Cond.soleField "BarredBooksModel" "ran") ∈ lw_all := lw_g (lw_at lw_m7 211 rfl) rfl
theorem q1751 : (Jvm.Cond.laysFinal "BarredBooksModel" "BarredBooksModel" "cardKind" "[I") ∈ lw_all := lw_g (lw_at lw_m7 212 rfl) rfl
theorem q1752 : (Jvm.Cond.soleField "BarredBooksModel" "cardKind") ∈ lw_all := lw_g (lw_at lw_m7 213 rfl) rfl
theorem q1753 : (Jvm.Cond.laysFinal "BarredBooksModel" "BarredBooksModel" "cardEdition" "[I") ∈ lw_all := lw_g (lw_at lw_m7 214 rfl) rfl
theorem q1754 : (Jvm.Cond.soleField "BarredBooksModel" "cardEdition") ∈ lw_all := lw_g (lw_at lw_m7 215 rfl) rfl
theorem q1755 : (Jvm.Cond.laysFinal "BarredBooksModel" "BarredBooksModel" "cardNumber" "[I") ∈ lw_all := lw_g (lw_at lw_m7 216 rfl) rfl
theorem q1756 : (Jvm.Cond.soleField "BarredBooksModel" "cardNumber") ∈ lw_all := lw_g (lw_at lw_m7 217 rfl) rfl
theorem q1757 : (Jvm.Cond.laysFinal "BarredBooksModel" "BarredBooksModel" "righted" "[I") ∈ lw_all := lw_g (lw_at lw_m7 218 rfl) rfl
theorem q1758 : (Jvm.Cond.soleField "BarredBooksModel" "righted") ∈ lw_all := lw_g (lw_at lw_m7 219 rfl) rfl
theorem q1759 : (Jvm.Cond.laysFinal "BarredBooksModel" "BarredBooksModel" "bodies" "[I") ∈ lw_all := lw_g (lw_at lw_m7 220 rfl) rfl
theorem q1760 : (Jvm.Cond.soleField "BarredBooksModel" "bodies") ∈ lw_all := lw_g (lw_at lw_m7 221 rfl) rfl
theorem q1761 : (Jvm.Cond.laysFinal "BarredBooksModel" "BarredBooksModel" "isMended" "[Z") ∈ lw_all := lw_g (lw_at lw_m7 222 rfl) rfl
theorem q1762 : (Jvm.Cond.soleField "BarredBooksModel" "isMended") ∈ lw_all := lw_g (lw_at lw_m7 223 rfl) rfl
theorem q1763 : (Jvm.Cond.lays "BarredBooksModel" "BarredBooksModel" "decrees" "I") ∈ lw_all := lw_g (lw_at lw_m7 224 rfl) rfl
theorem q1764 : (Jvm.Cond.soleField "BarredBooksModel" "decrees") ∈ lw_all := lw_g (lw_at lw_m7 225 rfl) rfl
theorem q1765 : (Jvm.Cond.lays "BarredBooksModel" "BarredBooksModel" "choices" "I") ∈ lw_all := lw_g (lw_at lw_m7 226 rfl) rfl
theorem q1766 : (Jvm.Cond.soleField "BarredBooksModel" "choices") ∈ lw_all := lw_g (lw_at lw_m7 227 rfl) rfl
theorem q1767 : (Jvm.Cond.lays "BarredBooksModel" "BarredBooksModel" "fed" "I") ∈ lw_all := lw_g (lw_at lw_m7 228 rfl) rfl
theorem q1768 : (Jvm.Cond.soleField "BarredBooksModel" "fed") ∈ lw_all := lw_g (lw_at lw_m7 229 rfl) rfl
theorem q1769 : (Jvm.Cond.laysFinal "BarredBooksModel" "BarredBooksModel" "issued" "[I") ∈ lw_all := lw_g (lw_at lw_m7 230 rfl) rfl
theorem q1770 : (Jvm.Cond.soleField "BarredBooksModel" "issued") ∈ lw_all := lw_g (lw_at lw_m7 231 rfl) rfl
theorem q1771 : (Jvm.Cond.laysFinal "BarredBooksModel" "BarredBooksModel" "revoked" "[I") ∈ lw_all := lw_g (lw_at lw_m7 232 rfl) rfl
theorem q1772 : (Jvm.Cond.soleField "BarredBooksModel" "revoked") ∈ lw_all := lw_g (lw_at lw_m7 233 rfl) rfl
theorem q1773 : (Jvm.Cond.laysFinal "BarredBooksModel" "BarredBooksModel" "text" "[I") ∈ lw_all := lw_g (lw_at lw_m7 234 rfl) rfl
theorem q1774 : (Jvm.Cond.soleField "BarredBooksModel" "text") ∈ lw_all := lw_g (lw_at lw_m7 235 rfl) rfl
theorem q1775 : (Jvm.Cond.laysFinal "BarredBooksModel" "BarredBooksModel" "size" "[I") ∈ lw_all := lw_g (lw_at lw_m7 236 rfl) rfl
theorem q1776 : (Jvm.Cond.soleField "BarredBooksModel" "size") ∈ lw_all := lw_g (lw_at lw_m7 237 rfl) rfl
theorem q1777 : (Jvm.Cond.lays "BarredBooksModel" "BarredBooksModel" "askEdition" "I") ∈ lw_all := lw_g (lw_at lw_m7 238 rfl) rfl
theorem q1778 : (Jvm.Cond.soleField "BarredBooksModel" "askEdition") ∈ lw_all := lw_g (lw_at lw_m7 239 rfl) rfl
theorem q1779 : (Jvm.Cond.lays "BarredBooksModel" "BarredBooksModel" "askLine" "I") ∈ lw_all := lw_g (lw_at lw_m8 0 rfl) rfl
theorem q1780 : (Jvm.Cond.soleField "BarredBooksModel" "askLine") ∈ lw_all := lw_g (lw_at lw_m8 1 rfl) rfl
theorem q1781 : (Jvm.Cond.lays "BarredBooksModel" "BarredBooksModel" "askRank" "I") ∈ lw_all := lw_g (lw_at lw_m8 2 rfl) rfl
theorem q1782 : (Jvm.Cond.soleField "BarredBooksModel" "askRank") ∈ lw_all := lw_g (lw_at lw_m8 3 rfl) rfl
theorem q1783 : (Jvm.Cond.lays "BarredBooksModel" "BarredBooksModel" "bars" "I") ∈ lw_all := lw_g (lw_at lw_m8 4 rfl) rfl
theorem q1784 : (Jvm.Cond.soleField "BarredBooksModel" "bars") ∈ lw_all := lw_g (lw_at lw_m8 5 rfl) rfl
theorem q1785 : (Jvm.Cond.lays "BarredBooksModel" "BarredBooksModel" "leaveDays" "I") ∈ lw_all := lw_g (lw_at lw_m8 6 rfl) rfl
theorem q1786 : (Jvm.Cond.soleField "BarredBooksModel" "leaveDays") ∈ lw_all := lw_g (lw_at lw_m8 7 rfl) rfl
theorem q1787 : (Jvm.Cond.lays "BarredBooksModel" "BarredBooksModel" "clauses" "I") ∈ lw_all := lw_g (lw_at lw_m8 8 rfl) rfl
theorem q1788 : (Jvm.Cond.soleField "BarredBooksModel" "clauses") ∈ lw_all := lw_g (lw_at lw_m8 9 rfl) rfl
theorem q1789 : (Jvm.Cond.lays "BarredBooksModel" "BarredBooksModel" "base" "I") ∈ lw_all := lw_g (lw_at lw_m8 10 rfl) rfl
theorem q1790 : (Jvm.Cond.soleField "BarredBooksModel" "base") ∈ lw_all := lw_g (lw_at lw_m8 11 rfl) rfl
theorem q1791 : (Jvm.Cond.lays "BarredBooksModel" "BarredBooksModel" "many" "I") ∈ lw_all := lw_g (lw_at lw_m8 12 rfl) rfl
theorem q1792 : (Jvm.Cond.soleField "BarredBooksModel" "many") ∈ lw_all := lw_g (lw_at lw_m8 13 rfl) rfl
theorem q1793 : (Jvm.Cond.lays "BarredBooksModel" "BarredBooksModel" "at" "I") ∈ lw_all := lw_g (lw_at lw_m8 14 rfl) rfl
theorem q1794 : (Jvm.Cond.soleField "BarredBooksModel" "at") ∈ lw_all := lw_g (lw_at lw_m8 15 rfl) rfl
theorem q1795 : (Jvm.Cond.lays "BarredBooksModel" "BarredBooksModel" "isStruck" "Z") ∈ lw_all := lw_g (lw_at lw_m8 16 rfl) rfl
theorem q1796 : (Jvm.Cond.soleField "BarredBooksModel" "isStruck") ∈ lw_all := lw_g (lw_at lw_m8 17 rfl) rfl
theorem q1797 : (Jvm.Cond.lays "BarredBooksModel" "BarredBooksModel" "isOther" "Z") ∈ lw_all := lw_g (lw_at lw_m8 18 rfl) rfl
theorem q1798 : (Jvm.Cond.soleField "BarredBooksModel" "isOther") ∈ lw_all := lw_g (lw_at lw_m8 19 rfl) rfl
theorem q1799 : (Jvm.Cond.lays "BarredBooksModel" "BarredBooksModel" "value" "I") ∈ lw_all := lw_g (lw_at lw_m8 20 rfl) rfl
theorem q1800 : (Jvm.Cond.soleField "BarredBooksModel" "value") ∈ lw_all := lw_g (lw_at lw_m8 21 rfl) rfl
theorem q1801 : (Jvm.Cond.laysFinal "BarredBooksModel" "BarredBooksModel" "waits" "[I") ∈ lw_all := lw_g (lw_at lw_m8 22 rfl) rfl
theorem q1802 : (Jvm.Cond.soleField "BarredBooksModel" "waits") ∈ lw_all := lw_g (lw_at lw_m8 23 rfl) rfl
theorem q1803 : (Jvm.Cond.laysFinal "BarredBooksModel" "BarredBooksModel" "pile" "[Z") ∈ lw_all := lw_g (lw_at lw_m8 24 rfl) rfl
theorem q1804 : (Jvm.Cond.soleField "BarredBooksModel" "pile") ∈ lw_all := lw_g (lw_at lw_m8 25 rfl) rfl
theorem q1805 : (Jvm.Cond.lays "BarredBooksModel" "BarredBooksModel" "waiting" "I") ∈ lw_all := lw_g (lw_at lw_m8 26 rfl) rfl
theorem q1806 : (Jvm.Cond.soleField "BarredBooksModel" "waiting") ∈ lw_all := lw_g (lw_at lw_m8 27 rfl) rfl
theorem q1807 : (Jvm.Cond.lays "BarredBooksModel" "BarredBooksModel" "piled" "I") ∈ lw_all := lw_g (lw_at lw_m8 28 rfl) rfl
theorem q1808 : (Jvm.Cond.soleField "BarredBooksModel" "piled") ∈ lw_all := lw_g (lw_at lw_m8 29 rfl) rfl
theorem q1809 : (Jvm.Cond.lays "BarredBooksModel" "BarredBooksModel" "open" "I") ∈ lw_all := lw_g (lw_at lw_m8 30 rfl) rfl
theorem q1810 : (Jvm.Cond.soleField "BarredBooksModel" "open") ∈ lw_all := lw_g (lw_at lw_m8 31 rfl) rfl
theorem q1811 : (Jvm.Cond.lays "BarredBooksModel" "BarredBooksModel" "isBarring" "Z") ∈ lw_all := lw_g (lw_at lw_m8 32 rfl) rfl
theorem q1812 : (Jvm.Cond.soleField "BarredBooksModel" "isBarring") ∈ lw_all := lw_g (lw_at lw_m8 33 rfl) rfl
theorem q1813 : (Jvm.Cond.lays "BarredBooksModel" "BarredBooksModel" "leaves" "I") ∈ lw_all := lw_g (lw_at lw_m8 34 rfl) rfl
theorem q1814 : (Jvm.Cond.soleField "BarredBooksModel" "leaves") ∈ lw_all := lw_g (lw_at lw_m8 35 rfl) rfl
theorem q1815 : (Jvm.Cond.laysFinal "BarredBooksModel" "BarredBooksModel" "leaveOf" "[I") ∈ lw_all := lw_g (lw_at lw_m8 36 rfl) rfl
theorem q1816 : (Jvm.Cond.soleField "BarredBooksModel" "leaveOf") ∈ lw_all := lw_g (lw_at lw_m8 37 rfl) rfl
theorem q1817 : (Jvm.Cond.laysFinal "BarredBooksModel" "BarredBooksModel" "leaveBook" "[I") ∈ lw_all := lw_g (lw_at lw_m8 38 rfl) rfl
theorem q1818 : (Jvm.Cond.soleField "BarredBooksModel" "leaveBook") ∈ lw_all := lw_g (lw_at lw_m8 39 rfl) rfl
theorem q1819 : (Jvm.Cond.laysFinal "BarredBooksModel" "BarredBooksModel" "leaveFrom" "[I") ∈ lw_all := lw_g (lw_at lw_m8 40 rfl) rfl
theorem q1820 : (Jvm.Cond.soleField "BarredBooksModel" "leaveFrom") ∈ lw_all := lw_g (lw_at lw_m8 41 rfl) rfl
theorem q1821 : (Jvm.Cond.laysFinal "BarredBooksModel" "BarredBooksModel" "leaveTo" "[I") ∈ lw_all := lw_g (lw_at lw_m8 42 rfl) rfl
theorem q1822 : (Jvm.Cond.soleField "BarredBooksModel" "leaveTo") ∈ lw_all := lw_g (lw_at lw_m8 43 rfl) rfl
theorem q1823 : (Jvm.Cond.lays "BarredBooksModel" "BarredBooksModel" "slips" "I") ∈ lw_all := lw_g (lw_at lw_m8 44 rfl) rfl
theorem q1824 : (Jvm.Cond.soleField "BarredBooksModel" "slips") ∈ lw_all := lw_g (lw_at lw_m8 45 rfl) rfl
theorem q1825 : (Jvm.Cond.laysFinal "BarredBooksModel" "BarredBooksModel" "slipTitle" "[I") ∈ lw_all := lw_g (lw_at lw_m8 46 rfl) rfl
theorem q1826 : (Jvm.Cond.soleField "BarredBooksModel" "slipTitle") ∈ lw_all := lw_g (lw_at lw_m8 47 rfl) rfl
theorem q1827 : (Jvm.Cond.laysFinal "BarredBooksModel" "BarredBooksModel" "slipAuthor" "[I") ∈ lw_all := lw_g (lw_at lw_m8 48 rfl) rfl
theorem q1828 : (Jvm.Cond.soleField "BarredBooksModel" "slipAuthor") ∈ lw_all := lw_g (lw_at lw_m8 49 rfl) rfl
theorem q1829 : (Jvm.Cond.laysFinal "BarredBooksModel" "BarredBooksModel" "slipYear" "[I") ∈ lw_all := lw_g (lw_at lw_m8 50 rfl) rfl
theorem q1830 : (Jvm.Cond.soleField "BarredBooksModel" "slipYear") ∈ lw_all := lw_g (lw_at lw_m8 51 rfl) rfl
theorem q1831 : (Jvm.Cond.laysFinal "BarredBooksModel" "BarredBooksModel" "slipFrom" "[I") ∈ lw_all := lw_g (lw_at lw_m8 52 rfl) rfl
theorem q1832 : (Jvm.Cond.soleField "BarredBooksModel" "slipFrom") ∈ lw_all := lw_g (lw_at lw_m8 53 rfl) rfl
theorem q1833 : (Jvm.Cond.laysFinal "BarredBooksModel" "BarredBooksModel" "pairs" "[I") ∈ lw_all := lw_g (lw_at lw_m8 54 rfl) rfl
theorem q1834 : (Jvm.Cond.soleField "BarredBooksModel" "pairs") ∈ lw_all := lw_g (lw_at lw_m8 55 rfl) rfl
theorem q1835 : (Jvm.Cond.laysFinal "BarredBooksModel" "BarredBooksModel" "apart" "[I") ∈ lw_all := lw_g (lw_at lw_m8 56 rfl) rfl
theorem q1836 : (Jvm.Cond.soleField "BarredBooksModel" "apart") ∈ lw_all := lw_g (lw_at lw_m8 57 rfl) rfl
theorem q1837 : (Jvm.Cond.laysFinal "BarredBooksModel" "BarredBooksModel" "lineAt" "[I") ∈ lw_all := lw_g (lw_at lw_m8 58 rfl) rfl
theorem q1838 : (Jvm.Cond.soleField "BarredBooksModel" "lineAt") ∈ lw_all := lw_g (lw_at lw_m8 59 rfl) rfl
theorem q1839 : (Jvm.Cond.laysFinal "BarredBooksModel" "BarredBooksModel" "reader" "[I") ∈ lw_all := lw_g (lw_at lw_m8 60 rfl) rfl
theorem q1840 : (Jvm.Cond.soleField "BarredBooksModel" "reader") ∈ lw_all := lw_g (lw_at lw_m8 61 rfl) rfl
theorem q1841 : (Jvm.Cond.lays "BarredBooksModel" "BarredBooksModel" "lineMany" "I") ∈ lw_all := lw_g (lw_at lw_m8 62 rfl) rfl
theorem q1842 : (Jvm.Cond.soleField "BarredBooksModel" "lineMany") ∈ lw_all := lw_g (lw_at lw_m8 63 rfl) rfl
theorem q1843 : (Jvm.Cond.laysFinal "BarredBooksModel" "BarredBooksModel" "found" "[I") ∈ lw_all := lw_g (lw_at lw_m8 64 rfl) rfl
theorem q1844 : (Jvm.Cond.soleField "BarredBooksModel" "found") ∈ lw_all := lw_g (lw_at lw_m8 65 rfl) rfl
theorem q1845 : (Jvm.Cond.laysFinal "BarredBooksModel" "BarredBooksModel" "most" "[I") ∈ lw_all := lw_g (lw_at lw_m8 66 rfl) rfl
theorem q1846 : (Jvm.Cond.soleField "BarredBooksModel" "most") ∈ lw_all := lw_g (lw_at lw_m8 67 rfl) rfl
theorem q1847 : (Jvm.Cond.lays "BarredBooksModel" "BarredBooksModel" "aims" "I") ∈ lw_all := lw_g (lw_at lw_m8 68 rfl) rfl
theorem q1848 : (Jvm.Cond.soleField "BarredBooksModel" "aims") ∈ lw_all := lw_g (lw_at lw_m8 69 rfl) rfl
theorem q1849 : (Jvm.Cond.laysFinal "BarredBooksModel" "BarredBooksModel" "aimSet" "[I") ∈ lw_all := lw_g (lw_at lw_m8 70 rfl) rfl
theorem q1850 : (Jvm.Cond.soleField "BarredBooksModel" "aimSet") ∈ lw_all := lw_g (lw_at lw_m8 71 rfl) rfl
theorem q1851 : (Jvm.Cond.laysFinal "BarredBooksModel" "BarredBooksModel" "hits" "[I") ∈ lw_all := lw_g (lw_at lw_m8 72 rfl) rfl
theorem q1852 : (Jvm.Cond.soleField "BarredBooksModel" "hits") ∈ lw_all := lw_g (lw_at lw_m8 73 rfl) rfl
theorem q1853 : (Jvm.Cond.lays "BarredBooksModel" "BarredBooksModel" "copies" "I") ∈ lw_all := lw_g (lw_at lw_m8 74 rfl) rfl
theorem q1854 : (Jvm.Cond.soleField "BarredBooksModel" "copies") ∈ lw_all := lw_g (lw_at lw_m8 75 rfl) rfl
theorem q1855 : (Jvm.Cond.lays "BarredBooksModel" "BarredBooksModel" "entries" "I") ∈ lw_all := lw_g (lw_at lw_m8 76 rfl) rfl
theorem q1856 : (Jvm.Cond.soleField "BarredBooksModel" "entries") ∈ lw_all := lw_g (lw_at lw_m8 77 rfl) rfl
theorem q1857 : (Jvm.Cond.laysFinal "BarredBooksModel" "BarredBooksModel" "copyOf" "[I") ∈ lw_all := lw_g (lw_at lw_m8 78 rfl) rfl
theorem q1858 : (Jvm.Cond.soleField "BarredBooksModel" "copyOf") ∈ lw_all := lw_g (lw_at lw_m8 79 rfl) rfl
theorem q1859 : (Jvm.Cond.laysFinal "BarredBooksModel" "BarredBooksModel" "entryCopy" "[I") ∈ lw_all := lw_g (lw_at lw_m8 80 rfl) rfl
theorem q1860 : (Jvm.Cond.soleField "BarredBooksModel" "entryCopy") ∈ lw_all := lw_g (lw_at lw_m8 81 rfl) rfl
theorem q1861 : (Jvm.Cond.laysFinal "BarredBooksModel" "BarredBooksModel" "entrySpot" "[I") ∈ lw_all := lw_g (lw_at lw_m8 82 rfl) rfl
theorem q1862 : (Jvm.Cond.soleField "BarredBooksModel" "entrySpot") ∈ lw_all := lw_g (lw_at lw_m8 83 rfl) rfl
theorem q1863 : (Jvm.Cond.laysFinal "BarredBooksModel" "BarredBooksModel" "entryDay" "[I") ∈ lw_all := lw_g (lw_at lw_m8 84 rfl) rfl
theorem q1864 : (Jvm.Cond.soleField "BarredBooksModel" "entryDay") ∈ lw_all := lw_g (lw_at lw_m8 85 rfl) rfl
theorem q1865 : (Jvm.Cond.laysFinal "BarredBooksModel" "BarredBooksModel" "sort" "[I") ∈ lw_all := lw_g (lw_at lw_m8 86 rfl) rfl
theorem q1866 : (Jvm.Cond.soleField "BarredBooksModel" "sort") ∈ lw_all := lw_g (lw_at lw_m8 87 rfl) rfl
theorem q1867 : (Jvm.Cond.laysFinal "BarredBooksModel" "BarredBooksModel" "length" "[I") ∈ lw_all := lw_g (lw_at lw_m8 88 rfl) rfl
theorem q1868 : (Jvm.Cond.soleField "BarredBooksModel" "length") ∈ lw_all := lw_g (lw_at lw_m8 89 rfl) rfl
theorem q1869 : (Jvm.Cond.laysFinal "BarredBooksModel" "BarredBooksModel" "item" "[J") ∈ lw_all := lw_g (lw_at lw_m8 90 rfl) rfl
theorem q1870 : (Jvm.Cond.soleField "BarredBooksModel" "item") ∈ lw_all := lw_g (lw_at lw_m8 91 rfl) rfl
theorem q1871 : (Jvm.Cond.laysFinal "BarredBooksModel" "BarredBooksModel" "aside" "[J") ∈ lw_all := lw_g (lw_at lw_m8 92 rfl) rfl
theorem q1872 : (Jvm.Cond.soleField "BarredBooksModel" "aside") ∈ lw_all := lw_g (lw_at lw_m8 93 rfl) rfl
theorem q1873 : (Jvm.Cond.superclass "BarredBooksModel" "java/lang/Object") ∈ lw_all := lw_g (lw_at lw_m8 94 rfl) rfl
theorem q1875 : (Jvm.Cond.instanceMethod ({ cls := "BarredBooksModel", name := "pass", desc := "(I)I" } : Jvm.MethodName)) ∈ lw_all := lw_g (lw_at lw_m8 96 rfl) rfl
theorem q1876 : (Jvm.Cond.selects "BarredBooksModel" ({ cls := "BarredBooksModel", name := "pass", desc := "(I)I" } : Jvm.MethodName) ({ cls := "BarredBooksModel", name := "pass", desc := "(I)I" } : Jvm.MethodName)) ∈ lw_all := lw_g (lw_at lw_m8 97 rfl) rfl
theorem q1877 : (Jvm.Cond.code ({ cls := "BarredBooksModel", name := "pass", desc := "(I)I" } : Jvm.MethodName) prog_30_method_6_code (2 : Nat) (Option.some Jvm.ClassFile.FieldType.int)) ∈ lw_all := lw_g (lw_at lw_m8 98 rfl) rfl
theorem q1878 : (Jvm.Cond.methodLink "BarredBooksModel" (3 : Nat) ({ cls := "BarredBooksModel", name := "in", desc := "(III)Z" } : Jvm.MethodName)) ∈ lw_all := lw_g (lw_at lw_m8 99 rfl) rfl
theorem q1879 : (Jvm.Cond.privateMethod ({ cls := "BarredBooksModel", name := "in", desc := "(III)Z" } : Jvm.MethodName)) ∈ lw_tbl := lw_at lw_m8 100 rfl
theorem q1880 : (Jvm.Cond.instanceMethod ({ cls := "BarredBooksModel", name := "in", desc := "(III)Z" } : Jvm.MethodName)) ∈ lw_all := lw_g (lw_at lw_m8 101 rfl) rfl
theorem q1881 : (Jvm.Cond.code ({ cls := "BarredBooksModel", name := "in", desc := "(III)Z" } : Jvm.MethodName) prog_30_method_1_code (4 : Nat) (Option.some Jvm.ClassFile.FieldType.boolean)) ∈ lw_all := lw_g (lw_at lw_m8 102 rfl) rfl
theorem q1883 : (Jvm.Cond.instanceMethod ({ cls := "BarredBooksModel", name := "road", desc := "(III)I" } : Jvm.MethodName)) ∈ lw_all := lw_g (lw_at lw_m8 104 rfl) rfl
theorem q1884 : (Jvm.Cond.selects "BarredBooksModel" ({ cls := "BarredBooksModel", name := "road", desc := "(III)I" } : Jvm.MethodName) ({ cls := "BarredBooksModel", name := "road", desc := "(III)I" } : Jvm.MethodName)) ∈ lw_all := lw_g (lw_at lw_m8 105 rfl) rfl
theorem q1885 : (Jvm.Cond.code ({ cls := "BarredBooksModel", name := "road", desc := "(III)I" } : Jvm.MethodName) prog_30_method_7_code (4 : Nat) (Option.some Jvm.ClassFile.FieldType.int)) ∈ lw_all := lw_g (lw_at lw_m8 106 rfl) rfl
theorem q1886 : (Jvm.Cond.methodLink "BarredBooksModel" (258 : Nat) ({ cls := "BarredBooksModel", name := "isTown", desc := "(I)Z" } : Jvm.MethodName)) ∈ lw_all := lw_g (lw_at lw_m8 107 rfl) rfl
theorem q1887 : (Jvm.Cond.privateMethod ({ cls := "BarredBooksModel", name := "isTown", desc := "(I)Z" } : Jvm.MethodName)) ∈ lw_tbl := lw_at lw_m8 108 rfl
theorem q1888 : (Jvm.Cond.instanceMethod ({ cls := "BarredBooksModel", name := "isTown", desc := "(I)Z" } : Jvm.MethodName)) ∈ lw_all := lw_g (lw_at lw_m8 109 rfl) rfl
theorem q1889 : (Jvm.Cond.code ({ cls := "BarredBooksModel", name := "isTown", desc := "(I)Z" } : Jvm.MethodName) prog_30_method_5_code (2 : Nat) (Option.some Jvm.ClassFile.FieldType.boolean)) ∈ lw_all := lw_g (lw_at lw_m8 110 rfl) rfl
theorem q1891 : (Jvm.Cond.instanceMethod ({ cls := "BarredBooksModel", name := "far", desc := "(I)I" } : Jvm.MethodName)) ∈ lw_all := lw_g (lw_at lw_m8 112 rfl) rfl
theorem q1892 : (Jvm.Cond.selects "BarredBooksModel" ({ cls := "BarredBooksModel", name := "far", desc := "(I)I" } : Jvm.MethodName) ({ cls := "BarredBooksModel", name := "far", desc := "(I)I" } : Jvm.MethodName)) ∈ lw_all := lw_g (lw_at lw_m8 113 rfl) rfl
theorem q1893 : (Jvm.Cond.code ({ cls := "BarredBooksModel", name := "far", desc := "(I)I" } : Jvm.MethodName) prog_30_method_9_code (2 : Nat) (Option.some Jvm.ClassFile.FieldType.int)) ∈ lw_all := lw_g (lw_at lw_m8 114 rfl) rfl
theorem q1894 : (Jvm.Cond.methodLink "BarredBooksModel" (262 : Nat) ({ cls := "BarredBooksModel", name := "farOf", desc := "(I)I" } : Jvm.MethodName)) ∈ lw_all := lw_g (lw_at lw_m8 115 rfl) rfl
theorem q1895 : (Jvm.Cond.privateMethod ({ cls := "BarredBooksModel", name := "farOf", desc := "(I)I" } : Jvm.MethodName)) ∈ lw_tbl := lw_at lw_m8 116 rfl
theorem q1896 : (Jvm.Cond.instanceMethod ({ cls := "BarredBooksModel", name := "farOf", desc := "(I)I" } : Jvm.MethodName)) ∈ lw_all := lw_g (lw_at lw_m8 117 rfl) rfl
theorem q1897 : (Jvm.Cond.code ({ cls := "BarredBooksModel", name := "farOf", desc := "(I)I" } : Jvm.MethodName) prog_30_method_8_code (4 : Nat) (Option.some Jvm.ClassFile.FieldType.int)) ∈ lw_all := lw_g (lw_at lw_m8 118 rfl) rfl
theorem q1899 : (Jvm.Cond.instanceMethod ({ cls := "BarredBooksModel", name := "person", desc := "(II)I" } : Jvm.MethodName)) ∈ lw_all := lw_g (lw_at lw_m8 120 rfl) rfl
theorem q1900 : (Jvm.Cond.selects "BarredBooksModel" ({ cls := "BarredBooksModel", name := "person", desc := "(II)I" } : Jvm.MethodName) ({ cls := "BarredBooksModel", name := "person", desc := "(II)I" } : Jvm.MethodName)) ∈ lw_all := lw_g (lw_at lw_m8 121 rfl) rfl
theorem q1901 : (Jvm.Cond.code ({ cls := "BarredBooksModel", name := "person", desc := "(II)I" } : Jvm.MethodName) prog_30_method_10_code (3 : Nat) (Option.some Jvm.ClassFile.FieldType.int)) ∈ lw_all := lw_g (lw_at lw_m8 122 rfl) rfl
theorem q1903 : (Jvm.Cond.instanceMethod ({ cls := "BarredBooksModel", name := "book", desc := "(III)I" } : Jvm.MethodName)) ∈ lw_all := lw_g (lw_at lw_m8 124 rfl) rfl
theorem q1904 : (Jvm.Cond.selects "BarredBooksModel" ({ cls := "BarredBooksModel", name := "book", desc := "(III)I" } : Jvm.MethodName) ({ cls := "BarredBooksModel", name := "book", desc := "(III)I" } : Jvm.MethodName)) ∈ lw_all := lw_g (lw_at lw_m8 125 rfl) rfl
theorem q1905 : (Jvm.Cond.code ({ cls := "BarredBooksModel", name := "book", desc := "(III)I" } : Jvm.MethodName) prog_30_method_12_code (4 : Nat) (Option.some Jvm.ClassFile.FieldType.int)) ∈ lw_all := lw_g (lw_at lw_m8 126 rfl) rfl
theorem q1907 : (Jvm.Cond.instanceMethod ({ cls := "BarredBooksModel", name := "line", desc := "(II)I" } : Jvm.MethodName)) ∈ lw_all := lw_g (lw_at lw_m8 128 rfl) rfl
theorem q1908 : (Jvm.Cond.selects "BarredBooksModel" ({ cls := "BarredBooksModel", name := "line", desc := "(II)I" } : Jvm.MethodName) ({ cls := "BarredBooksModel", name := "line", desc := "(II)I" } : Jvm.MethodName)) ∈ lw_all := lw_g (lw_at lw_m8 129 rfl) rfl
theorem q1909 : (Jvm.Cond.code ({ cls := "BarredBooksModel", name := "line", desc := "(II)I" } : Jvm.MethodName) prog_30_method_13_code (3 : Nat) (Option.some Jvm.ClassFile.FieldType.int)) ∈ lw_all := lw_g (lw_at lw_m8 130 rfl) rfl
theorem q1910 : (Jvm.Cond.methodLink "BarredBooksModel" (266 : Nat) ({ cls := "BarredBooksModel", name := "isBook", desc := "(I)Z" } : Jvm.MethodName)) ∈ lw_all := lw_g (lw_at lw_m8 131 rfl) rfl
theorem q1911 : (Jvm.Cond.privateMethod ({ cls := "BarredBooksModel", name := "isBook", desc := "(I)Z" } : Jvm.MethodName)) ∈ lw_tbl := lw_at lw_m8 132 rfl
theorem q1912 : (Jvm.Cond.instanceMethod ({ cls := "BarredBooksModel", name := "isBook", desc := "(I)Z" } : Jvm.MethodName)) ∈ lw_all := lw_g (lw_at lw_m8 133 rfl) rfl
theorem q1913 : (Jvm.Cond.code ({ cls := "BarredBooksModel", name := "isBook", desc := "(I)Z" } : Jvm.MethodName) prog_30_method_11_code (2 : Nat) (Option.some Jvm.ClassFile.FieldType.boolean)) ∈ lw_all := lw_g (lw_at lw_m8 134 rfl) rfl
theorem q1914 : (Jvm.Cond.constant "BarredBooksModel" (269 : Nat) (65535 : Int32)) ∈ lw_all := lw_g (lw_at lw_m8 135 rfl) rfl
theorem q1916 : (Jvm.Cond.instanceMethod ({ cls := "BarredBooksModel", name := "edition", desc := "(IIII)I" } : Jvm.MethodName)) ∈ lw_all := lw_g (lw_at lw_m8 137 rfl) rfl
theorem q1917 : (Jvm.Cond.selects "BarredBooksModel" ({ cls := "BarredBooksModel", name := "edition", desc := "(IIII)I" } : Jvm.MethodName) ({ cls := "BarredBooksModel", name := "edition", desc := "(IIII)I" } : Jvm.MethodName)) ∈ lw_all := lw_g (lw_at lw_m8 138 rfl) rfl
theorem q1918 : (Jvm.Cond.code ({ cls := "BarredBooksModel", name := "edition", desc := "(IIII)I" } : Jvm.MethodName) prog_30_method_15_code (5 : Nat) (Option.some Jvm.ClassFile.FieldType.int)) ∈ lw_all := lw_g (lw_at lw_m8 139 rfl) rfl
theorem q1919 : (Jvm.Cond.methodLink "BarredBooksModel" (270 : Nat) ({ cls := "BarredBooksModel", name := "isEdition", desc := "(I)Z" } : Jvm.MethodName)) ∈ lw_all := lw_g (lw_at lw_m8 140 rfl) rfl
theorem q1920 : (Jvm.Cond.privateMethod ({ cls := "BarredBooksModel", name := "isEdition", desc := "(I)Z" } : Jvm.MethodName)) ∈ lw_tbl := lw_at lw_m8 141 rfl
theorem q1921 : (Jvm.Cond.instanceMethod ({ cls := "BarredBooksModel", name := "isEdition", desc := "(I)Z" } : Jvm.MethodName)) ∈ lw_all := lw_g (lw_at lw_m8 142 rfl) rfl
theorem q1922 : (Jvm.Cond.code ({ cls := "BarredBooksModel", name := "isEdition", desc := "(I)Z" } : Jvm.MethodName) prog_30_method_14_code (2 : Nat) (Option.some Jvm.ClassFile.FieldType.boolean)) ∈ lw_all := lw_g (lw_at lw_m8 143 rfl) rfl
theorem q1924 : (Jvm.Cond.instanceMethod ({ cls := "BarredBooksModel", name := "of", desc := "(II)I" } : Jvm.MethodName)) ∈ lw_all := lw_g (lw_at lw_m8 145 rfl) rfl
theorem q1925 : (Jvm.Cond.selects "BarredBooksModel" ({ cls := "BarredBooksModel", name := "of", desc := "(II)I" } : Jvm.MethodName) ({ cls := "BarredBooksModel", name := "of", desc := "(II)I" } : Jvm.MethodName)) ∈ lw_all := lw_g (lw_at lw_m8 146 rfl) rfl
theorem q1926 : (Jvm.Cond.code ({ cls := "BarredBooksModel", name := "of", desc := "(II)I" } : Jvm.MethodName) prog_30_method_16_code (3 : Nat) (Option.some Jvm.ClassFile.FieldType.int)) ∈ lw_all := lw_g (lw_at lw_m8 147 rfl) rfl
theorem q1928 : (Jvm.Cond.instanceMethod ({ cls := "BarredBooksModel", name := "card", desc := "(III)I" } : Jvm.MethodName)) ∈ lw_all := lw_g (lw_at lw_m8 149 rfl) rfl
theorem q1929 : (Jvm.Cond.selects "BarredBooksModel" ({ cls := "BarredBooksModel", name := "card", desc := "(III)I" } : Jvm.MethodName) ({ cls := "BarredBooksModel", name := "card", desc := "(III)I" } : Jvm.MethodName)) ∈ lw_all := lw_g (lw_at lw_m8 150 rfl) rfl
theorem q1930 : (Jvm.Cond.code ({ cls := "BarredBooksModel", name := "card", desc := "(III)I" } : Jvm.MethodName) prog_30_method_19_code (4 : Nat) (Option.some Jvm.ClassFile.FieldType.int)) ∈ lw_all := lw_g (lw_at lw_m8 151 rfl) rfl
theorem q1932 : (Jvm.Cond.instanceMethod ({ cls := "BarredBooksModel", name := "mend", desc := "(II)I" } : Jvm.MethodName)) ∈ lw_all := lw_g (lw_at lw_m8 153 rfl) rfl
theorem q1933 : (Jvm.Cond.selects "BarredBooksModel" ({ cls := "BarredBooksModel", name := "mend", desc := "(II)I" } : Jvm.MethodName) ({ cls := "BarredBooksModel", name := "mend", desc := "(II)I" } : Jvm.MethodName)) ∈ lw_all := lw_g (lw_at lw_m8 154 rfl) rfl
theorem q1934 : (Jvm.Cond.code ({ cls := "BarredBooksModel", name := "mend", desc := "(II)I" } : Jvm.MethodName) prog_30_method_20_code (3 : Nat) (Option.some Jvm.ClassFile.FieldType.int)) ∈ lw_all := lw_g (lw_at lw_m8 155 rfl) rfl
theorem q1935 : (Jvm.Cond.methodLink "BarredBooksModel" (273 : Nat) ({ cls := "BarredBooksModel", name := "isCard", desc := "(I)Z" } : Jvm.MethodName)) ∈ lw_all := lw_g (lw_at lw_m8 156 rfl) rfl
theorem q1936 : (Jvm.Cond.privateMethod ({ cls := "BarredBooksModel", name := "isCard", desc := "(I)Z" } : Jvm.MethodName)) ∈ lw_tbl := lw_at lw_m8 157 rfl
theorem q1937 : (Jvm.Cond.instanceMethod ({ cls := "BarredBooksModel", name := "isCard", desc := "(I)Z" } : Jvm.MethodName)) ∈ lw_all := lw_g (lw_at lw_m8 158 rfl) rfl
theorem q1938 : (Jvm.Cond.code ({ cls := "BarredBooksModel", name := "isCard", desc := "(I)Z" } : Jvm.MethodName) prog_30_method_17_code (2 : Nat) (Option.some Jvm.ClassFile.FieldType.boolean)) ∈ lw_all := lw_g (lw_at lw_m8 159 rfl) rfl
theorem q1939 : (Jvm.Cond.methodLink "BarredBooksModel" (276 : Nat) ({ cls := "BarredBooksModel", name := "kindOf", desc := "(I)I" } : Jvm.MethodName)) ∈ lw_all := lw_g (lw_at lw_m8 160 rfl) rfl
theorem q1940 : (Jvm.Cond.privateMethod ({ cls := "BarredBooksModel", name := "kindOf", desc := "(I)I" } : Jvm.MethodName)) ∈ lw_tbl := lw_at lw_m8 161 rfl
theorem q1941 : (Jvm.Cond.instanceMethod ({ cls := "BarredBooksModel", name := "kindOf", desc := "(I)I" } : Jvm.MethodName)) ∈ lw_all := lw_g (lw_at lw_m8 162 rfl) rfl
theorem q1942 : (Jvm.Cond.code ({ cls := "BarredBooksModel", name := "kindOf", desc := "(I)I" } : Jvm.MethodName) prog_30_method_18_code (2 : Nat) (Option.some Jvm.ClassFile.FieldType.int)) ∈ lw_all := lw_g (lw_at lw_m8 163 rfl) rfl
theorem q1944 : (Jvm.Cond.instanceMethod ({ cls := "BarredBooksModel", name := "kind", desc := "(I)I" } : Jvm.MethodName)) ∈ lw_all := lw_g (lw_at lw_m8 165 rfl) rfl
theorem q1945 : (Jvm.Cond.selects "BarredBooksModel" ({ cls := "BarredBooksModel", name := "kind", desc := "(I)I" } : Jvm.MethodName) ({ cls := "BarredBooksModel", name := "kind", desc := "(I)I" } : Jvm.MethodName)) ∈ lw_all := lw_g (lw_at lw_m8 166 rfl) rfl
theorem q1946 : (Jvm.Cond.code ({ cls := "BarredBooksModel", name := "kind", desc := "(I)I" } : Jvm.MethodName) prog_30_method_21_code (2 : Nat) (Option.some Jvm.ClassFile.FieldType.int)) ∈ lw_all := lw_g (lw_at lw_m8 167 rfl) rfl
theorem q1948 : (Jvm.Cond.instanceMethod ({ cls := "BarredBooksModel", name := "act", desc := "(III)I" } : Jvm.MethodName)) ∈ lw_all := lw_g (lw_at lw_m8 169 rfl) rfl
theorem q1949 : (Jvm.Cond.selects "BarredBooksModel" ({ cls := "BarredBooksModel", name := "act", desc := "(III)I" } : Jvm.MethodName) ({ cls := "BarredBooksModel", name := "act", desc := "(III)I" } : Jvm.MethodName)) ∈ lw_all := lw_g (lw_at lw_m8 170 rfl) rfl
theorem q1950 : (Jvm.Cond.code ({ cls := "BarredBooksModel", name := "act", desc := "(III)I" } : Jvm.MethodName) prog_30_method_30_code (5 : Nat) (Option.some Jvm.ClassFile.FieldType.int)) ∈ lw_all := lw_g (lw_at lw_m8 171 rfl) rfl
theorem q1951 : (Jvm.Cond.methodLink "BarredBooksModel" (287 : Nat) ({ cls := "BarredBooksModel", name := "barsOf", desc := "(III)I" } : Jvm.MethodName)) ∈ lw_all := lw_g (lw_at lw_m8 172 rfl) rfl
theorem q1952 : (Jvm.Cond.privateMethod ({ cls := "BarredBooksModel", name := "barsOf", desc := "(III)I" } : Jvm.MethodName)) ∈ lw_tbl := lw_at lw_m8 173 rfl
theorem q1953 : (Jvm.Cond.instanceMethod ({ cls := "BarredBooksModel", name := "barsOf", desc := "(III)I" } : Jvm.MethodName)) ∈ lw_all := lw_g (lw_at lw_m8 174 rfl) rfl
theorem q1954 : (Jvm.Cond.code ({ cls := "BarredBooksModel", name := "barsOf", desc := "(III)I" } : Jvm.MethodName) prog_30_method_24_code (4 : Nat) (Option.some Jvm.ClassFile.FieldType.int)) ∈ lw_all := lw_g (lw_at lw_m8 175 rfl) rfl
theorem q1955 : (Jvm.Cond.methodLink "BarredBooksModel" (279 : Nat) ({ cls := "BarredBooksModel", name := "body", desc := "(I)V" } : Jvm.MethodName)) ∈ lw_all := lw_g (lw_at lw_m8 176 rfl) rfl
theorem q1956 : (Jvm.Cond.privateMethod ({ cls := "BarredBooksModel", name := "body", desc := "(I)V" } : Jvm.MethodName)) ∈ lw_tbl := lw_at lw_m8 177 rfl
theorem q1957 : (Jvm.Cond.instanceMethod ({ cls := "BarredBooksModel", name := "body", desc := "(I)V" } : Jvm.MethodName)) ∈ lw_all := lw_g (lw_at lw_m8 178 rfl) rfl
theorem q1958 : (Jvm.Cond.code ({ cls := "BarredBooksModel", name := "body", desc := "(I)V" } : Jvm.MethodName) prog_30_method_22_code (2 : Nat) (Option.none : Option Jvm.ClassFile.FieldType)) ∈ lw_all := lw_g (lw_at lw_m8 179 rfl) rfl
theorem q1959 : (Jvm.Cond.methodLink "BarredBooksModel" (283 : Nat) ({ cls := "BarredBooksModel", name := "plainBars", desc := "(II)I" } : Jvm.MethodName)) ∈ lw_all := lw_g (lw_at lw_m8 180 rfl) rfl
theorem q1960 : (Jvm.Cond.privateMethod ({ cls := "BarredBooksModel", name := "plainBars", desc := "(II)I" } : Jvm.MethodName)) ∈ lw_tbl := lw_at lw_m8 181 rfl
theorem q1961 : (Jvm.Cond.instanceMethod ({ cls := "BarredBooksModel", name := "plainBars", desc := "(II)I" } : Jvm.MethodName)) ∈ lw_all := lw_g (lw_at lw_m8 182 rfl) rfl
theorem q1962 : (Jvm.Cond.code ({ cls := "BarredBooksModel", name := "plainBars", desc := "(II)I" } : Jvm.MethodName) prog_30_method_23_code (3 : Nat) (Option.some Jvm.ClassFile.FieldType.int)) ∈ lw_all := lw_g (lw_at lw_m8 183 rfl) rfl
theorem q1963 : (Jvm.Cond.methodLink "BarredBooksModel" (294 : Nat) ({ cls := "BarredBooksModel", name := "hangsOf", desc := "(III)I" } : Jvm.MethodName)) ∈ lw_all := lw_g (lw_at lw_m8 184 rfl) rfl
theorem q1964 : (Jvm.Cond.privateMethod ({ cls := "BarredBooksModel", name := "hangsOf", desc := "(III)I" } : Jvm.MethodName)) ∈ lw_tbl := lw_at lw_m8 185 rfl
theorem q1965 : (Jvm.Cond.instanceMethod ({ cls := "BarredBooksModel", name := "hangsOf", desc := "(III)I" } : Jvm.MethodName)) ∈ lw_all := lw_g (lw_at lw_m8 186 rfl) rfl
theorem q1966 : (Jvm.Cond.code ({ cls := "BarredBooksModel", name := "hangsOf", desc := "(III)I" } : Jvm.MethodName) prog_30_method_26_code (4 : Nat) (Option.some Jvm.ClassFile.FieldType.int)) ∈ lw_all := lw_g (lw_at lw_m8 187 rfl) rfl
theorem q1967 : (Jvm.Cond.methodLink "BarredBooksModel" (291 : Nat) ({ cls := "BarredBooksModel", name := "plainHangs", desc := "(III)I" } : Jvm.MethodName)) ∈ lw_all := lw_g (lw_at lw_m8 188 rfl) rfl
theorem q1968 : (Jvm.Cond.privateMethod ({ cls := "BarredBooksModel", name := "plainHangs", desc := "(III)I" } : Jvm.MethodName)) ∈ lw_tbl := lw_at lw_m8 189 rfl
theorem q1969 : (Jvm.Cond.instanceMethod ({ cls := "BarredBooksModel", name := "plainHangs", desc := "(III)I" } : Jvm.MethodName)) ∈ lw_all := lw_g (lw_at lw_m8 190 rfl) rfl
theorem q1970 : (Jvm.Cond.code ({ cls := "BarredBooksModel", name := "plainHangs", desc := "(III)I" } : Jvm.MethodName) prog_30_method_25_code (4 : Nat) (Option.some Jvm.ClassFile.FieldType.int)) ∈ lw_all := lw_g (lw_at lw_m8 191 rfl) rfl
theorem q1971 : (Jvm.Cond.methodLink "BarredBooksModel" (303 : Nat) ({ cls := "BarredBooksModel", name := "passesOf", desc := "(III)I" } : Jvm.MethodName)) ∈ lw_all := lw_g (lw_at lw_m8 192 rfl) rfl
theorem q1972 : (Jvm.Cond.privateMethod ({ cls := "BarredBooksModel", name := "passesOf", desc := "(III)I" } : Jvm.MethodName)) ∈ lw_tbl := lw_at lw_m8 193 rfl
theorem q1973 : (Jvm.Cond.instanceMethod ({ cls := "BarredBooksModel", name := "passesOf", desc := "(III)I" } : Jvm.MethodName)) ∈ lw_all := lw_g (lw_at lw_m8 194 rfl) rfl
theorem q1974 : (Jvm.Cond.code ({ cls := "BarredBooksModel", name := "passesOf", desc := "(III)I" } : Jvm.MethodName) prog_30_method_29_code (5 : Nat) (Option.some Jvm.ClassFile.FieldType.int)) ∈ lw_all := lw_g (lw_at lw_m8 195 rfl) rfl
theorem q1975 : (Jvm.Cond.methodLink "BarredBooksModel" (300 : Nat) ({ cls := "BarredBooksModel", name := "struckPasses", desc := "(III)I" } : Jvm.MethodName)) ∈ lw_all := lw_g (lw_at lw_m8 196 rfl) rfl
theorem q1976 : (Jvm.Cond.privateMethod ({ cls := "BarredBooksModel", name := "struckPasses", desc := "(III)I" } : Jvm.MethodName)) ∈ lw_tbl := lw_at lw_m8 197 rfl
theorem q1977 : (Jvm.Cond.instanceMethod ({ cls := "BarredBooksModel", name := "struckPasses", desc := "(III)I" } : Jvm.MethodName)) ∈ lw_all := lw_g (lw_at lw_m8 198 rfl) rfl
theorem q1978 : (Jvm.Cond.code ({ cls := "BarredBooksModel", name := "struckPasses", desc := "(III)I" } : Jvm.MethodName) prog_30_method_28_code (5 : Nat) (Option.some Jvm.ClassFile.FieldType.int)) ∈ lw_all := lw_g (lw_at lw_m8 199 rfl) rfl
theorem q1979 : (Jvm.Cond.methodLink "BarredBooksModel" (297 : Nat) ({ cls := "BarredBooksModel", name := "plainPasses", desc := "(III)I" } : Jvm.MethodName)) ∈ lw_all := lw_g (lw_at lw_m8 200 rfl) rfl
theorem q1980 : (Jvm.Cond.privateMethod ({ cls := "BarredBooksModel", name := "plainPasses", desc := "(III)I" } : Jvm.MethodName)) ∈ lw_tbl := lw_at lw_m8 201 rfl
theorem q1981 : (Jvm.Cond.instanceMethod ({ cls := "BarredBooksModel", name := "plainPasses", desc := "(III)I" } : Jvm.MethodName)) ∈ lw_all := lw_g (lw_at lw_m8 202 rfl) rfl
theorem q1982 : (Jvm.Cond.code ({ cls := "BarredBooksModel", name := "plainPasses", desc := "(III)I" } : Jvm.MethodName) prog_30_method_27_code (4 : Nat) (Option.some Jvm.ClassFile.FieldType.int)) ∈ lw_all := lw_g (lw_at lw_m8 203 rfl) rfl
theorem q1984 : (Jvm.Cond.instanceMethod ({ cls := "BarredBooksModel", name := "trace", desc := "(I)I" } : Jvm.MethodName)) ∈ lw_all := lw_g (lw_at lw_m8 205 rfl) rfl
theorem q1985 : (Jvm.Cond.selects "BarredBooksModel" ({ cls := "BarredBooksModel", name := "trace", desc := "(I)I" } : Jvm.MethodName) ({ cls := "BarredBooksModel", name := "trace", desc := "(I)I" } : Jvm.MethodName)) ∈ lw_all := lw_g (lw_at lw_m8 206 rfl) rfl
theorem q1986 : (Jvm.Cond.code ({ cls := "BarredBooksModel", name := "trace", desc := "(I)I" } : Jvm.MethodName) prog_30_method_31_code (2 : Nat) (Option.some Jvm.ClassFile.FieldType.int)) ∈ lw_all := lw_g (lw_at lw_m8 207 rfl) rfl
theorem q1988 : (Jvm.Cond.instanceMethod ({ cls := "BarredBooksModel", name := "taken", desc := "(II)I" } : Jvm.MethodName)) ∈ lw_all := lw_g (lw_at lw_m8 209 rfl) rfl
theorem q1989 : (Jvm.Cond.selects "BarredBooksModel" ({ cls := "BarredBooksModel", name := "taken", desc := "(II)I" } : Jvm.MethodName) ({ cls := "BarredBooksModel", name := "taken", desc := "(II)I" } : Jvm.MethodName)) ∈ lw_all := lw_g (lw_at lw_m8 210 rfl) rfl
theorem q1990 : (Jvm.Cond.code ({ cls := "BarredBooksModel", name := "taken", desc := "(II)I" } : Jvm.MethodName) prog_30_method_32_code (4 : Nat) (Option.some Jvm.ClassFile.FieldType.int)) ∈ lw_all := lw_g (lw_at lw_m8 211 rfl) rfl
theorem q1992 : (Jvm.Cond.instanceMethod ({ cls := "BarredBooksModel", name := "feed", desc := "(II)I" } : Jvm.MethodName)) ∈ lw_all := lw_g (lw_at lw_m8 213 rfl) rfl
theorem q1993 : (Jvm.Cond.selects "BarredBooksModel" ({ cls := "BarredBooksModel", name := "feed", desc := "(II)I" } : Jvm.MethodName) ({ cls := "BarredBooksModel", name := "feed", desc := "(II)I" } : Jvm.MethodName)) ∈ lw_all := lw_g (lw_at lw_m8 214 rfl) rfl
theorem q1994 : (Jvm.Cond.code ({ cls := "BarredBooksModel", name := "feed", desc := "(II)I" } : Jvm.MethodName) prog_30_method_33_code (4 : Nat) (Option.some Jvm.ClassFile.FieldType.int)) ∈ lw_all := lw_g (lw_at lw_m8 215 rfl) rfl
theorem q1996 : (Jvm.Cond.instanceMethod ({ cls := "BarredBooksModel", name := "decree", desc := "()I" } : Jvm.MethodName)) ∈ lw_all := lw_g (lw_at lw_m8 217 rfl) rfl
theorem q1997 : (Jvm.Cond.selects "BarredBooksModel" ({ cls := "BarredBooksModel", name := "decree", desc := "()I" } : Jvm.MethodName) ({ cls := "BarredBooksModel", name := "decree", desc := "()I" } : Jvm.MethodName)) ∈ lw_all := lw_g (lw_at lw_m8 218 rfl) rfl
theorem q1998 : (Jvm.Cond.code ({ cls := "BarredBooksModel", name := "decree", desc := "()I" } : Jvm.MethodName) prog_30_method_53_code (1 : Nat) (Option.some Jvm.ClassFile.FieldType.int)) ∈ lw_all := lw_g (lw_at lw_m8 219 rfl) rfl
theorem q1999 : (Jvm.Cond.methodLink "BarredBooksModel" (379 : Nat) ({ cls := "BarredBooksModel", name := "isText", desc := "()Z" } : Jvm.MethodName)) ∈ lw_all := lw_g (lw_at lw_m8 220 rfl) rfl
theorem q2000 : (Jvm.Cond.privateMethod ({ cls := "BarredBooksModel", name := "isText", desc := "()Z" } : Jvm.MethodName)) ∈ lw_tbl := lw_at lw_m8 221 rfl
theorem q2001 : (Jvm.Cond.instanceMethod ({ cls := "BarredBooksModel", name := "isText", desc := "()Z" } : Jvm.MethodName)) ∈ lw_all := lw_g (lw_at lw_m8 222 rfl) rfl
theorem q2002 : (Jvm.Cond.code ({ cls := "BarredBooksModel", name := "isText", desc := "()Z" } : Jvm.MethodName) prog_30_method_51_code (1 : Nat) (Option.some Jvm.ClassFile.FieldType.boolean)) ∈ lw_all := lw_g (lw_at lw_m8 223 rfl) rfl
theorem q2003 : (Jvm.Cond.methodLink "BarredBooksModel" (372 : Nat) ({ cls := "BarredBooksModel", name := "asks", desc := "(III)V" } : Jvm.MethodName)) ∈ lw_all := lw_g (lw_at lw_m8 224 rfl) rfl
theorem q2004 : (Jvm.Cond.privateMethod ({ cls := "BarredBooksModel", name := "asks", desc := "(III)V" } : Jvm.MethodName)) ∈ lw_tbl := lw_at lw_m8 225 rfl
theorem q2005 : (Jvm.Cond.instanceMethod ({ cls := "BarredBooksModel", name := "asks", desc := "(III)V" } : Jvm.MethodName)) ∈ lw_all := lw_g (lw_at lw_m8 226 rfl) rfl
theorem q2006 : (Jvm.Cond.code ({ cls := "BarredBooksModel", name := "asks", desc := "(III)V" } : Jvm.MethodName) prog_30_method_50_code (4 : Nat) (Option.none : Option Jvm.ClassFile.FieldType)) ∈ lw_all := lw_g (lw_at lw_m8 227 rfl) rfl
theorem q2007 : (Jvm.Cond.methodLink "BarredBooksModel" (376 : Nat) ({ cls := "BarredBooksModel", name := "goes", desc := "(I)Z" } : Jvm.MethodName)) ∈ lw_all := lw_g (lw_at lw_m8 228 rfl) rfl
theorem q2008 : (Jvm.Cond.privateMethod ({ cls := "BarredBooksModel", name := "goes", desc := "(I)Z" } : Jvm.MethodName)) ∈ lw_tbl := lw_at lw_m8 229 rfl
theorem q2009 : (Jvm.Cond.instanceMethod ({ cls := "BarredBooksModel", name := "goes", desc := "(I)Z" } : Jvm.MethodName)) ∈ lw_all := lw_g (lw_at lw_m8 230 rfl) rfl
theorem q2010 : (Jvm.Cond.code ({ cls := "BarredBooksModel", name := "goes", desc := "(I)Z" } : Jvm.MethodName) prog_30_method_49_code (2 : Nat) (Option.some Jvm.ClassFile.FieldType.boolean)) ∈ lw_all := lw_g (lw_at lw_m8 231 rfl) rfl
theorem q2011 : (Jvm.Cond.methodLink "BarredBooksModel" (369 : Nat) ({ cls := "BarredBooksModel", name := "takesClause", desc := "()Z" } : Jvm.MethodName)) ∈ lw_all := lw_g (lw_at lw_m8 232 rfl) rfl
theorem q2012 : (Jvm.Cond.privateMethod ({ cls := "BarredBooksModel", name := "takesClause", desc := "()Z" } : Jvm.MethodName)) ∈ lw_tbl := lw_at lw_m8 233 rfl
theorem q2013 : (Jvm.Cond.instanceMethod ({ cls := "BarredBooksModel", name := "takesClause", desc := "()Z" } : Jvm.MethodName)) ∈ lw_all := lw_g (lw_at lw_m8 234 rfl) rfl
theorem q2014 : (Jvm.Cond.code ({ cls := "BarredBooksModel", name := "takesClause", desc := "()Z" } : Jvm.MethodName) prog_30_method_48_code (2 : Nat) (Option.some Jvm.ClassFile.FieldType.boolean)) ∈ lw_all := lw_g (lw_at lw_m8 235 rfl) rfl
theorem q2015 : (Jvm.Cond.methodLink "BarredBooksModel" (306 : Nat) ({ cls := "BarredBooksModel", name := "next", desc := "()I" } : Jvm.MethodName)) ∈ lw_all := lw_g (lw_at lw_m8 236 rfl) rfl
theorem q2016 : (Jvm.Cond.privateMethod ({ cls := "BarredBooksModel", name := "next", desc := "()I" } : Jvm.MethodName)) ∈ lw_tbl := lw_at lw_m8 237 rfl
theorem q2017 : (Jvm.Cond.instanceMethod ({ cls := "BarredBooksModel", name := "next", desc := "()I" } : Jvm.MethodName)) ∈ lw_all := lw_g (lw_at lw_m8 238 rfl) rfl
theorem q2018 : (Jvm.Cond.code ({ cls := "BarredBooksModel", name := "next", desc := "()I" } : Jvm.MethodName) prog_30_method_34_code (1 : Nat) (Option.some Jvm.ClassFile.FieldType.int)) ∈ lw_all := lw_g (lw_at lw_m8 239 rfl) rfl
theorem q2019 : (Jvm.Cond.constantLong "BarredBooksModel" (351 : Nat) (56238578 : Int64)) ∈ lw_all := lw_g (lw_at lw_m9 0 rfl) rfl
theorem q2020 : (Jvm.Cond.methodLink "BarredBooksModel" (347 : Nat) ({ cls := "BarredBooksModel", name := "takesWord", desc := "(JI)Z" } : Jvm.MethodName)) ∈ lw_all := lw_g (lw_at lw_m9 1 rfl) rfl
theorem q2021 : (Jvm.Cond.privateMethod ({ cls := "BarredBooksModel", name := "takesWord", desc := "(JI)Z" } : Jvm.MethodName)) ∈ lw_tbl := lw_at lw_m9 2 rfl
theorem q2022 : (Jvm.Cond.instanceMethod ({ cls := "BarredBooksModel", name := "takesWord", desc := "(JI)Z" } : Jvm.MethodName)) ∈ lw_all := lw_g (lw_at lw_m9 3 rfl) rfl
theorem q2023 : (Jvm.Cond.code ({ cls := "BarredBooksModel", name := "takesWord", desc := "(JI)Z" } : Jvm.MethodName) prog_30_method_37_code (5 : Nat) (Option.some Jvm.ClassFile.FieldType.boolean)) ∈ lw_all := lw_g (lw_at lw_m9 4 rfl) rfl
theorem q2024 : (Jvm.Cond.constantLong "BarredBooksModel" (310 : Nat) (31 : Int64)) ∈ lw_all := lw_g (lw_at lw_m9 5 rfl) rfl
theorem q2025 : (Jvm.Cond.methodLink "BarredBooksModel" (312 : Nat) ({ cls := "BarredBooksModel", name := "takes", desc := "(I)Z" } : Jvm.MethodName)) ∈ lw_all := lw_g (lw_at lw_m9 6 rfl) rfl
theorem q2026 : (Jvm.Cond.privateMethod ({ cls := "BarredBooksModel", name := "takes", desc := "(I)Z" } : Jvm.MethodName)) ∈ lw_tbl := lw_at lw_m9 7 rfl
theorem q2027 : (Jvm.Cond.instanceMethod ({ cls := "BarredBooksModel", name := "takes", desc := "(I)Z" } : Jvm.MethodName)) ∈ lw_all := lw_g (lw_at lw_m9 8 rfl) rfl
theorem q2028 : (Jvm.Cond.code ({ cls := "BarredBooksModel", name := "takes", desc := "(I)Z" } : Jvm.MethodName) prog_30_method_36_code (2 : Nat) (Option.some Jvm.ClassFile.FieldType.boolean)) ∈ lw_all := lw_g (lw_at lw_m9 9 rfl) rfl
theorem q2029 : (Jvm.Cond.methodLink "BarredBooksModel" (353 : Nat) ({ cls := "BarredBooksModel", name := "takesOf", desc := "(ZI)Z" } : Jvm.MethodName)) ∈ lw_all := lw_g (lw_at lw_m9 10 rfl) rfl
theorem q2030 : (Jvm.Cond.privateMethod ({ cls := "BarredBooksModel", name := "takesOf", desc := "(ZI)Z" } : Jvm.MethodName)) ∈ lw_tbl := lw_at lw_m9 11 rfl
theorem q2031 : (Jvm.Cond.instanceMethod ({ cls := "BarredBooksModel", name := "takesOf", desc := "(ZI)Z" } : Jvm.MethodName)) ∈ lw_all := lw_g (lw_at lw_m9 12 rfl) rfl
theorem q2032 : (Jvm.Cond.code ({ cls := "BarredBooksModel", name := "takesOf", desc := "(ZI)Z" } : Jvm.MethodName) prog_30_method_46_code (3 : Nat) (Option.some Jvm.ClassFile.FieldType.boolean)) ∈ lw_all := lw_g (lw_at lw_m9 13 rfl) rfl
theorem q2033 : (Jvm.Cond.methodLink "BarredBooksModel" (328 : Nat) ({ cls := "BarredBooksModel", name := "takesNumber", desc := "()Z" } : Jvm.MethodName)) ∈ lw_all := lw_g (lw_at lw_m9 14 rfl) rfl
theorem q2034 : (Jvm.Cond.privateMethod ({ cls := "BarredBooksModel", name := "takesNumber", desc := "()Z" } : Jvm.MethodName)) ∈ lw_tbl := lw_at lw_m9 15 rfl
theorem q2035 : (Jvm.Cond.instanceMethod ({ cls := "BarredBooksModel", name := "takesNumber", desc := "()Z" } : Jvm.MethodName)) ∈ lw_all := lw_g (lw_at lw_m9 16 rfl) rfl
theorem q2036 : (Jvm.Cond.code ({ cls := "BarredBooksModel", name := "takesNumber", desc := "()Z" } : Jvm.MethodName) prog_30_method_38_code (2 : Nat) (Option.some Jvm.ClassFile.FieldType.boolean)) ∈ lw_all := lw_g (lw_at lw_m9 17 rfl) rfl
theorem q2037 : (Jvm.Cond.methodLink "BarredBooksModel" (315 : Nat) ({ cls := "BarredBooksModel", name := "isDigit", desc := "()Z" } : Jvm.MethodName)) ∈ lw_all := lw_g (lw_at lw_m9 18 rfl) rfl
theorem q2038 : (Jvm.Cond.privateMethod ({ cls := "BarredBooksModel", name := "isDigit", desc := "()Z" } : Jvm.MethodName)) ∈ lw_tbl := lw_at lw_m9 19 rfl
theorem q2039 : (Jvm.Cond.instanceMethod ({ cls := "BarredBooksModel", name := "isDigit", desc := "()Z" } : Jvm.MethodName)) ∈ lw_all := lw_g (lw_at lw_m9 20 rfl) rfl
theorem q2040 : (Jvm.Cond.code ({ cls := "BarredBooksModel", name := "isDigit", desc := "()Z" } : Jvm.MethodName) prog_30_method_35_code (1 : Nat) (Option.some Jvm.ClassFile.FieldType.boolean)) ∈ lw_all := lw_g (lw_at lw_m9 21 rfl) rfl
theorem q2041 : (Jvm.Cond.constantLong "BarredBooksModel" (357 : Nat) (21287301 : Int64)) ∈ lw_all := lw_g (lw_at lw_m9 22 rfl) rfl
theorem q2042 : (Jvm.Cond.constantLong "BarredBooksModel" (359 : Nat) (215205 : Int64)) ∈ lw_all := lw_g (lw_at lw_m9 23 rfl) rfl
theorem q2043 : (Jvm.Cond.methodLink "BarredBooksModel" (361 : Nat) ({ cls := "BarredBooksModel", name := "takesLeave", desc := "()Z" } : Jvm.MethodName)) ∈ lw_all := lw_g (lw_at lw_m9 24 rfl) rfl
theorem q2044 : (Jvm.Cond.privateMethod ({ cls := "BarredBooksModel", name := "takesLeave", desc := "()Z" } : Jvm.MethodName)) ∈ lw_tbl := lw_at lw_m9 25 rfl
theorem q2045 : (Jvm.Cond.instanceMethod ({ cls := "BarredBooksModel", name := "takesLeave", desc := "()Z" } : Jvm.MethodName)) ∈ lw_all := lw_g (lw_at lw_m9 26 rfl) rfl
theorem q2046 : (Jvm.Cond.code ({ cls := "BarredBooksModel", name := "takesLeave", desc := "()Z" } : Jvm.MethodName) prog_30_method_47_code (2 : Nat) (Option.some Jvm.ClassFile.FieldType.boolean)) ∈ lw_all := lw_g (lw_at lw_m9 27 rfl) rfl
theorem q2047 : (Jvm.Cond.constantLong "BarredBooksModel" (345 : Nat) (12748485 : Int64)) ∈ lw_all := lw_g (lw_at lw_m9 28 rfl) rfl
theorem q2048 : (Jvm.Cond.constantLong "BarredBooksModel" (364 : Nat) (402885 : Int64)) ∈ lw_all := lw_g (lw_at lw_m9 29 rfl) rfl
theorem q2049 : (Jvm.Cond.methodLink "BarredBooksModel" (366 : Nat) ({ cls := "BarredBooksModel", name := "takesE", desc := "()Z" } : Jvm.MethodName)) ∈ lw_all := lw_g (lw_at lw_m9 30 rfl) rfl
theorem q2050 : (Jvm.Cond.privateMethod ({ cls := "BarredBooksModel", name := "takesE", desc := "()Z" } : Jvm.MethodName)) ∈ lw_tbl := lw_at lw_m9 31 rfl
theorem q2051 : (Jvm.Cond.instanceMethod ({ cls := "BarredBooksModel", name := "takesE", desc := "()Z" } : Jvm.MethodName)) ∈ lw_all := lw_g (lw_at lw_m9 32 rfl) rfl
theorem q2052 : (Jvm.Cond.code ({ cls := "BarredBooksModel", name := "takesE", desc := "()Z" } : Jvm.MethodName) prog_30_method_45_code (3 : Nat) (Option.some Jvm.ClassFile.FieldType.boolean)) ∈ lw_all := lw_g (lw_at lw_m9 33 rfl) rfl
theorem q2053 : (Jvm.Cond.methodLink "BarredBooksModel" (339 : Nat) ({ cls := "BarredBooksModel", name := "takesTest", desc := "()Z" } : Jvm.MethodName)) ∈ lw_all := lw_g (lw_at lw_m9 34 rfl) rfl
theorem q2054 : (Jvm.Cond.privateMethod ({ cls := "BarredBooksModel", name := "takesTest", desc := "()Z" } : Jvm.MethodName)) ∈ lw_tbl := lw_at lw_m9 35 rfl
theorem q2055 : (Jvm.Cond.instanceMethod ({ cls := "BarredBooksModel", name := "takesTest", desc := "()Z" } : Jvm.MethodName)) ∈ lw_all := lw_g (lw_at lw_m9 36 rfl) rfl
theorem q2056 : (Jvm.Cond.code ({ cls := "BarredBooksModel", name := "takesTest", desc := "()Z" } : Jvm.MethodName) prog_30_method_44_code (2 : Nat) (Option.some Jvm.ClassFile.FieldType.boolean)) ∈ lw_all := lw_g (lw_at lw_m9 37 rfl) rfl
theorem q2057 : (Jvm.Cond.methodLink "BarredBooksModel" (331 : Nat) ({ cls := "BarredBooksModel", name := "holdsOne", desc := "(II)Z" } : Jvm.MethodName)) ∈ lw_all := lw_g (lw_at lw_m9 38 rfl) rfl
theorem q2058 : (Jvm.Cond.privateMethod ({ cls := "BarredBooksModel", name := "holdsOne", desc := "(II)Z" } : Jvm.MethodName)) ∈ lw_tbl := lw_at lw_m9 39 rfl
theorem q2059 : (Jvm.Cond.instanceMethod ({ cls := "BarredBooksModel", name := "holdsOne", desc := "(II)Z" } : Jvm.MethodName)) ∈ lw_all := lw_g (lw_at lw_m9 40 rfl) rfl
theorem q2060 : (Jvm.Cond.code ({ cls := "BarredBooksModel", name := "holdsOne", desc := "(II)Z" } : Jvm.MethodName) prog_30_method_43_code (3 : Nat) (Option.some Jvm.ClassFile.FieldType.boolean)) ∈ lw_all := lw_g (lw_at lw_m9 41 rfl) rfl
theorem q2061 : (Jvm.Cond.methodLink "BarredBooksModel" (319 : Nat) ({ cls := "BarredBooksModel", name := "wordsOf", desc := "(I)I" } : Jvm.MethodName)) ∈ lw_all := lw_g (lw_at lw_m9 42 rfl) rfl
theorem q2062 : (Jvm.Cond.privateMethod ({ cls := "BarredBooksModel", name := "wordsOf", desc := "(I)I" } : Jvm.MethodName)) ∈ lw_tbl := lw_at lw_m9 43 rfl
theorem q2063 : (Jvm.Cond.instanceMethod ({ cls := "BarredBooksModel", name := "wordsOf", desc := "(I)I" } : Jvm.MethodName)) ∈ lw_all := lw_g (lw_at lw_m9 44 rfl) rfl
theorem q2064 : (Jvm.Cond.code ({ cls := "BarredBooksModel", name := "wordsOf", desc := "(I)I" } : Jvm.MethodName) prog_30_method_41_code (2 : Nat) (Option.some Jvm.ClassFile.FieldType.int)) ∈ lw_all := lw_g (lw_at lw_m9 45 rfl) rfl
theorem q2065 : (Jvm.Cond.methodLink "BarredBooksModel" (322 : Nat) ({ cls := "BarredBooksModel", name := "nearLine", desc := "(I)I" } : Jvm.MethodName)) ∈ lw_all := lw_g (lw_at lw_m9 46 rfl) rfl
theorem q2066 : (Jvm.Cond.privateMethod ({ cls := "BarredBooksModel", name := "nearLine", desc := "(I)I" } : Jvm.MethodName)) ∈ lw_tbl := lw_at lw_m9 47 rfl
theorem q2067 : (Jvm.Cond.instanceMethod ({ cls := "BarredBooksModel", name := "nearLine", desc := "(I)I" } : Jvm.MethodName)) ∈ lw_all := lw_g (lw_at lw_m9 48 rfl) rfl
theorem q2068 : (Jvm.Cond.code ({ cls := "BarredBooksModel", name := "nearLine", desc := "(I)I" } : Jvm.MethodName) prog_30_method_42_code (3 : Nat) (Option.some Jvm.ClassFile.FieldType.int)) ∈ lw_all := lw_g (lw_at lw_m9 49 rfl) rfl
theorem q2069 : (Jvm.Cond.methodLink "BarredBooksModel" (325 : Nat) ({ cls := "BarredBooksModel", name := "ones", desc := "(I)I" } : Jvm.MethodName)) ∈ lw_all := lw_g (lw_at lw_m9 50 rfl) rfl
theorem q2070 : (Jvm.Cond.privateMethod ({ cls := "BarredBooksModel", name := "ones", desc := "(I)I" } : Jvm.MethodName)) ∈ lw_tbl := lw_at lw_m9 51 rfl
theorem q2071 : (Jvm.Cond.instanceMethod ({ cls := "BarredBooksModel", name := "ones", desc := "(I)I" } : Jvm.MethodName)) ∈ lw_all := lw_g (lw_at lw_m9 52 rfl) rfl
theorem q2072 : (Jvm.Cond.code ({ cls := "BarredBooksModel", name := "ones", desc := "(I)I" } : Jvm.MethodName) prog_30_method_3_code (4 : Nat) (Option.some Jvm.ClassFile.FieldType.int)) ∈ lw_all := lw_g (lw_at lw_m9 53 rfl) rfl
theorem q2073 : (Jvm.Cond.methodLink "BarredBooksModel" (335 : Nat) ({ cls := "BarredBooksModel", name := "push", desc := "(Z)V" } : Jvm.MethodName)) ∈ lw_all := lw_g (lw_at lw_m9 54 rfl) rfl
theorem q2074 : (Jvm.Cond.privateMethod ({ cls := "BarredBooksModel", name := "push", desc := "(Z)V" } : Jvm.MethodName)) ∈ lw_tbl := lw_at lw_m9 55 rfl
theorem q2075 : (Jvm.Cond.instanceMethod ({ cls := "BarredBooksModel", name := "push", desc := "(Z)V" } : Jvm.MethodName)) ∈ lw_all := lw_g (lw_at lw_m9 56 rfl) rfl
theorem q2076 : (Jvm.Cond.code ({ cls := "BarredBooksModel", name := "push", desc := "(Z)V" } : Jvm.MethodName) prog_30_method_39_code (3 : Nat) (Option.none : Option Jvm.ClassFile.FieldType)) ∈ lw_all := lw_g (lw_at lw_m9 57 rfl) rfl
theorem q2077 : (Jvm.Cond.methodLink "BarredBooksModel" (342 : Nat) ({ cls := "BarredBooksModel", name := "settle", desc := "(I)V" } : Jvm.MethodName)) ∈ lw_all := lw_g (lw_at lw_m9 58 rfl) rfl
theorem q2078 : (Jvm.Cond.privateMethod ({ cls := "BarredBooksModel", name := "settle", desc := "(I)V" } : Jvm.MethodName)) ∈ lw_tbl := lw_at lw_m9 59 rfl
theorem q2079 : (Jvm.Cond.instanceMethod ({ cls := "BarredBooksModel", name := "settle", desc := "(I)V" } : Jvm.MethodName)) ∈ lw_all := lw_g (lw_at lw_m9 60 rfl) rfl
theorem q2080 : (Jvm.Cond.code ({ cls := "BarredBooksModel", name := "settle", desc := "(I)V" } : Jvm.MethodName) prog_30_method_40_code (2 : Nat) (Option.none : Option Jvm.ClassFile.FieldType)) ∈ lw_all := lw_g (lw_at lw_m9 61 rfl) rfl
theorem q2081 : (Jvm.Cond.methodLink "BarredBooksModel" (382 : Nat) ({ cls := "BarredBooksModel", name := "keeps", desc := "(I)V" } : Jvm.MethodName)) ∈ lw_all := lw_g (lw_at lw_m9 62 rfl) rfl
theorem q2082 : (Jvm.Cond.privateMethod ({ cls := "BarredBooksModel", name := "keeps", desc := "(I)V" } : Jvm.MethodName)) ∈ lw_tbl := lw_at lw_m9 63 rfl
theorem q2083 : (Jvm.Cond.instanceMethod ({ cls := "BarredBooksModel", name := "keeps", desc := "(I)V" } : Jvm.MethodName)) ∈ lw_all := lw_g (lw_at lw_m9 64 rfl) rfl
theorem q2084 : (Jvm.Cond.code ({ cls := "BarredBooksModel", name := "keeps", desc := "(I)V" } : Jvm.MethodName) prog_30_method_52_code (3 : Nat) (Option.none : Option Jvm.ClassFile.FieldType)) ∈ lw_all := lw_g (lw_at lw_m9 65 rfl) rfl
theorem q2086 : (Jvm.Cond.instanceMethod ({ cls := "BarredBooksModel", name := "revoke", desc := "(I)I" } : Jvm.MethodName)) ∈ lw_all := lw_g (lw_at lw_m9 67 rfl) rfl
theorem q2087 : (Jvm.Cond.selects "BarredBooksModel" ({ cls := "BarredBooksModel", name := "revoke", desc := "(I)I" } : Jvm.MethodName) ({ cls := "BarredBooksModel", name := "revoke", desc := "(I)I" } : Jvm.MethodName)) ∈ lw_all := lw_g (lw_at lw_m9 68 rfl) rfl
theorem q2088 : (Jvm.Cond.code ({ cls := "BarredBooksModel", name := "revoke", desc := "(I)I" } : Jvm.MethodName) prog_30_method_54_code (2 : Nat) (Option.some Jvm.ClassFile.FieldType.int)) ∈ lw_all := lw_g (lw_at lw_m9 69 rfl) rfl
theorem q2090 : (Jvm.Cond.instanceMethod ({ cls := "BarredBooksModel", name := "known", desc := "(III)I" } : Jvm.MethodName)) ∈ lw_all := lw_g (lw_at lw_m9 71 rfl) rfl
theorem q2091 : (Jvm.Cond.selects "BarredBooksModel" ({ cls := "BarredBooksModel", name := "known", desc := "(III)I" } : Jvm.MethodName) ({ cls := "BarredBooksModel", name := "known", desc := "(III)I" } : Jvm.MethodName)) ∈ lw_all := lw_g (lw_at lw_m9 72 rfl) rfl
theorem q2092 : (Jvm.Cond.code ({ cls := "BarredBooksModel", name := "known", desc := "(III)I" } : Jvm.MethodName) prog_30_method_56_code (4 : Nat) (Option.some Jvm.ClassFile.FieldType.int)) ∈ lw_all := lw_g (lw_at lw_m9 73 rfl) rfl
theorem q2093 : (Jvm.Cond.methodLink "BarredBooksModel" (385 : Nat) ({ cls := "BarredBooksModel", name := "isDay", desc := "(I)Z" } : Jvm.MethodName)) ∈ lw_all := lw_g (lw_at lw_m9 74 rfl) rfl
theorem q2094 : (Jvm.Cond.privateMethod ({ cls := "BarredBooksModel", name := "isDay", desc := "(I)Z" } : Jvm.MethodName)) ∈ lw_tbl := lw_at lw_m9 75 rfl
theorem q2095 : (Jvm.Cond.instanceMethod ({ cls := "BarredBooksModel", name := "isDay", desc := "(I)Z" } : Jvm.MethodName)) ∈ lw_all := lw_g (lw_at lw_m9 76 rfl) rfl
theorem q2096 : (Jvm.Cond.code ({ cls := "BarredBooksModel", name := "isDay", desc := "(I)Z" } : Jvm.MethodName) prog_30_method_2_code (2 : Nat) (Option.some Jvm.ClassFile.FieldType.boolean)) ∈ lw_all := lw_g (lw_at lw_m9 77 rfl) rfl
theorem q2097 : (Jvm.Cond.methodLink "BarredBooksModel" (388 : Nat) ({ cls := "BarredBooksModel", name := "isKnown", desc := "(III)Z" } : Jvm.MethodName)) ∈ lw_all := lw_g (lw_at lw_m9 78 rfl) rfl
theorem q2098 : (Jvm.Cond.privateMethod ({ cls := "BarredBooksModel", name := "isKnown", desc := "(III)Z" } : Jvm.MethodName)) ∈ lw_tbl := lw_at lw_m9 79 rfl
theorem q2099 : (Jvm.Cond.instanceMethod ({ cls := "BarredBooksModel", name := "isKnown", desc := "(III)Z" } : Jvm.MethodName)) ∈ lw_all := lw_g (lw_at lw_m9 80 rfl) rfl
theorem q2100 : (Jvm.Cond.code ({ cls := "BarredBooksModel", name := "isKnown", desc := "(III)Z" } : Jvm.MethodName) prog_30_method_55_code (5 : Nat) (Option.some Jvm.ClassFile.FieldType.boolean)) ∈ lw_all := lw_g (lw_at lw_m9 81 rfl) rfl
theorem q2102 : (Jvm.Cond.instanceMethod ({ cls := "BarredBooksModel", name := "holds", desc := "(IIII)I" } : Jvm.MethodName)) ∈ lw_all := lw_g (lw_at lw_m9 83 rfl) rfl
theorem q2103 : (Jvm.Cond.selects "BarredBooksModel" ({ cls := "BarredBooksModel", name := "holds", desc := "(IIII)I" } : Jvm.MethodName) ({ cls := "BarredBooksModel", name := "holds", desc := "(IIII)I" } : Jvm.MethodName)) ∈ lw_all := lw_g (lw_at lw_m9 84 rfl) rfl
theorem q2104 : (Jvm.Cond.code ({ cls := "BarredBooksModel", name := "holds", desc := "(IIII)I" } : Jvm.MethodName) prog_30_method_61_code (6 : Nat) (Option.some Jvm.ClassFile.FieldType.int)) ∈ lw_all := lw_g (lw_at lw_m9 85 rfl) rfl
theorem q2105 : (Jvm.Cond.methodLink "BarredBooksModel" (391 : Nat) ({ cls := "BarredBooksModel", name := "barrer", desc := "(III)I" } : Jvm.MethodName)) ∈ lw_all := lw_g (lw_at lw_m9 86 rfl) rfl
theorem q2106 : (Jvm.Cond.privateMethod ({ cls := "BarredBooksModel", name := "barrer", desc := "(III)I" } : Jvm.MethodName)) ∈ lw_tbl := lw_at lw_m9 87 rfl
theorem q2107 : (Jvm.Cond.instanceMethod ({ cls := "BarredBooksModel", name := "barrer", desc := "(III)I" } : Jvm.MethodName)) ∈ lw_all := lw_g (lw_at lw_m9 88 rfl) rfl
theorem q2108 : (Jvm.Cond.code ({ cls := "BarredBooksModel", name := "barrer", desc := "(III)I" } : Jvm.MethodName) prog_30_method_57_code (6 : Nat) (Option.some Jvm.ClassFile.FieldType.int)) ∈ lw_all := lw_g (lw_at lw_m9 89 rfl) rfl
theorem q2109 : (Jvm.Cond.methodLink "BarredBooksModel" (398 : Nat) ({ cls := "BarredBooksModel", name := "struckOf", desc := "(III)I" } : Jvm.MethodName)) ∈ lw_all := lw_g (lw_at lw_m9 90 rfl) rfl
theorem q2110 : (Jvm.Cond.privateMethod ({ cls := "BarredBooksModel", name := "struckOf", desc := "(III)I" } : Jvm.MethodName)) ∈ lw_tbl := lw_at lw_m9 91 rfl
theorem q2111 : (Jvm.Cond.instanceMethod ({ cls := "BarredBooksModel", name := "struckOf", desc := "(III)I" } : Jvm.MethodName)) ∈ lw_all := lw_g (lw_at lw_m9 92 rfl) rfl
theorem q2112 : (Jvm.Cond.code ({ cls := "BarredBooksModel", name := "struckOf", desc := "(III)I" } : Jvm.MethodName) prog_30_method_60_code (6 : Nat) (Option.some Jvm.ClassFile.FieldType.int)) ∈ lw_all := lw_g (lw_at lw_m9 93 rfl) rfl
theorem q2113 : (Jvm.Cond.methodLink "BarredBooksModel" (394 : Nat) ({ cls := "BarredBooksModel", name := "striker", desc := "(IIII)I" } : Jvm.MethodName)) ∈ lw_all := lw_g (lw_at lw_m9 94 rfl) rfl
theorem q2114 : (Jvm.Cond.privateMethod ({ cls := "BarredBooksModel", name := "striker", desc := "(IIII)I" } : Jvm.MethodName)) ∈ lw_tbl := lw_at lw_m9 95 rfl
theorem q2115 : (Jvm.Cond.instanceMethod ({ cls := "BarredBooksModel", name := "striker", desc := "(IIII)I" } : Jvm.MethodName)) ∈ lw_all := lw_g (lw_at lw_m9 96 rfl) rfl
theorem q2116 : (Jvm.Cond.code ({ cls := "BarredBooksModel", name := "striker", desc := "(IIII)I" } : Jvm.MethodName) prog_30_method_59_code (6 : Nat) (Option.some Jvm.ClassFile.FieldType.int)) ∈ lw_all := lw_g (lw_at lw_m9 97 rfl) rfl
theorem q2117 : (Jvm.Cond.methodLink "BarredBooksModel" (401 : Nat) ({ cls := "BarredBooksModel", name := "isBarred", desc := "(III)Z" } : Jvm.MethodName)) ∈ lw_all := lw_g (lw_at lw_m9 98 rfl) rfl
theorem q2118 : (Jvm.Cond.privateMethod ({ cls := "BarredBooksModel", name := "isBarred", desc := "(III)Z" } : Jvm.MethodName)) ∈ lw_tbl := lw_at lw_m9 99 rfl
theorem q2119 : (Jvm.Cond.instanceMethod ({ cls := "BarredBooksModel", name := "isBarred", desc := "(III)Z" } : Jvm.MethodName)) ∈ lw_all := lw_g (lw_at lw_m9 100 rfl) rfl
theorem q2120 : (Jvm.Cond.code ({ cls := "BarredBooksModel", name := "isBarred", desc := "(III)Z" } : Jvm.MethodName) prog_30_method_58_code (4 : Nat) (Option.some Jvm.ClassFile.FieldType.boolean)) ∈ lw_all := lw_g (lw_at lw_m9 101 rfl) rfl
theorem q2122 : (Jvm.Cond.instanceMethod ({ cls := "BarredBooksModel", name := "why", desc := "(IIII)I" } : Jvm.MethodName)) ∈ lw_all := lw_g (lw_at lw_m9 103 rfl) rfl
theorem q2123 : (Jvm.Cond.selects "BarredBooksModel" ({ cls := "BarredBooksModel", name := "why", desc := "(IIII)I" } : Jvm.MethodName) ({ cls := "BarredBooksModel", name := "why", desc := "(IIII)I" } : Jvm.MethodName)) ∈ lw_all := lw_g (lw_at lw_m9 104 rfl) rfl
theorem q2124 : (Jvm.Cond.code ({ cls := "BarredBooksModel", name := "why", desc := "(IIII)I" } : Jvm.MethodName) prog_30_method_63_code (5 : Nat) (Option.some Jvm.ClassFile.FieldType.int)) ∈ lw_all := lw_g (lw_at lw_m9 105 rfl) rfl
theorem q2125 : (Jvm.Cond.methodLink "BarredBooksModel" (404 : Nat) ({ cls := "BarredBooksModel", name := "hasLine", desc := "(II)Z" } : Jvm.MethodName)) ∈ lw_all := lw_g (lw_at lw_m9 106 rfl) rfl
theorem q2126 : (Jvm.Cond.privateMethod ({ cls := "BarredBooksModel", name := "hasLine", desc := "(II)Z" } : Jvm.MethodName)) ∈ lw_tbl := lw_at lw_m9 107 rfl
theorem q2127 : (Jvm.Cond.instanceMethod ({ cls := "BarredBooksModel", name := "hasLine", desc := "(II)Z" } : Jvm.MethodName)) ∈ lw_all := lw_g (lw_at lw_m9 108 rfl) rfl
theorem q2128 : (Jvm.Cond.code ({ cls := "BarredBooksModel", name := "hasLine", desc := "(II)Z" } : Jvm.MethodName) prog_30_method_62_code (3 : Nat) (Option.some Jvm.ClassFile.FieldType.boolean)) ∈ lw_all := lw_g (lw_at lw_m9 109 rfl) rfl
theorem q2130 : (Jvm.Cond.instanceMethod ({ cls := "BarredBooksModel", name := "leave", desc := "(IIII)I" } : Jvm.MethodName)) ∈ lw_all := lw_g (lw_at lw_m9 111 rfl) rfl
theorem q2131 : (Jvm.Cond.selects "BarredBooksModel" ({ cls := "BarredBooksModel", name := "leave", desc := "(IIII)I" } : Jvm.MethodName) ({ cls := "BarredBooksModel", name := "leave", desc := "(IIII)I" } : Jvm.MethodName)) ∈ lw_all := lw_g (lw_at lw_m9 112 rfl) rfl
theorem q2132 : (Jvm.Cond.code ({ cls := "BarredBooksModel", name := "leave", desc := "(IIII)I" } : Jvm.MethodName) prog_30_method_65_code (5 : Nat) (Option.some Jvm.ClassFile.FieldType.int)) ∈ lw_all := lw_g (lw_at lw_m9 113 rfl) rfl
theorem q2133 : (Jvm.Cond.methodLink "BarredBooksModel" (407 : Nat) ({ cls := "BarredBooksModel", name := "isPerson", desc := "(I)Z" } : Jvm.MethodName)) ∈ lw_all := lw_g (lw_at lw_m9 114 rfl) rfl
theorem q2134 : (Jvm.Cond.privateMethod ({ cls := "BarredBooksModel", name := "isPerson", desc := "(I)Z" } : Jvm.MethodName)) ∈ lw_tbl := lw_at lw_m9 115 rfl
theorem q2135 : (Jvm.Cond.instanceMethod ({ cls := "BarredBooksModel", name := "isPerson", desc := "(I)Z" } : Jvm.MethodName)) ∈ lw_all := lw_g (lw_at lw_m9 116 rfl) rfl
theorem q2136 : (Jvm.Cond.code ({ cls := "BarredBooksModel", name := "isPerson", desc := "(I)Z" } : Jvm.MethodName) prog_30_method_64_code (2 : Nat) (Option.some Jvm.ClassFile.FieldType.boolean)) ∈ lw_all := lw_g (lw_at lw_m9 117 rfl) rfl
theorem q2138 : (Jvm.Cond.instanceMethod ({ cls := "BarredBooksModel", name := "reads", desc := "(III)I" } : Jvm.MethodName)) ∈ lw_all := lw_g (lw_at lw_m9 119 rfl) rfl
theorem q2139 : (Jvm.Cond.selects "BarredBooksModel" ({ cls := "BarredBooksModel", name := "reads", desc := "(III)I" } : Jvm.MethodName) ({ cls := "BarredBooksModel", name := "reads", desc := "(III)I" } : Jvm.MethodName)) ∈ lw_all := lw_g (lw_at lw_m9 120 rfl) rfl
theorem q2140 : (Jvm.Cond.code ({ cls := "BarredBooksModel", name := "reads", desc := "(III)I" } : Jvm.MethodName) prog_30_method_66_code (6 : Nat) (Option.some Jvm.ClassFile.FieldType.int)) ∈ lw_all := lw_g (lw_at lw_m9 121 rfl) rfl
theorem q2142 : (Jvm.Cond.instanceMethod ({ cls := "BarredBooksModel", name := "slip", desc := "(IIII)I" } : Jvm.MethodName)) ∈ lw_all := lw_g (lw_at lw_m9 123 rfl) rfl
theorem q2143 : (Jvm.Cond.selects "BarredBooksModel" ({ cls := "BarredBooksModel", name := "slip", desc := "(IIII)I" } : Jvm.MethodName) ({ cls := "BarredBooksModel", name := "slip", desc := "(IIII)I" } : Jvm.MethodName)) ∈ lw_all := lw_g (lw_at lw_m9 124 rfl) rfl
theorem q2144 : (Jvm.Cond.code ({ cls := "BarredBooksModel", name := "slip", desc := "(IIII)I" } : Jvm.MethodName) prog_30_method_68_code (5 : Nat) (Option.some Jvm.ClassFile.FieldType.int)) ∈ lw_all := lw_g (lw_at lw_m9 125 rfl) rfl
theorem q2145 : (Jvm.Cond.methodLink "BarredBooksModel" (410 : Nat) ({ cls := "BarredBooksModel", name := "isSlip", desc := "(I)Z" } : Jvm.MethodName)) ∈ lw_all := lw_g (lw_at lw_m9 126 rfl) rfl
theorem q2146 : (Jvm.Cond.privateMethod ({ cls := "BarredBooksModel", name := "isSlip", desc := "(I)Z" } : Jvm.MethodName)) ∈ lw_tbl := lw_at lw_m9 127 rfl
theorem q2147 : (Jvm.Cond.instanceMethod ({ cls := "BarredBooksModel", name := "isSlip", desc := "(I)Z" } : Jvm.MethodName)) ∈ lw_all := lw_g (lw_at lw_m9 128 rfl) rfl
theorem q2148 : (Jvm.Cond.code ({ cls := "BarredBooksModel", name := "isSlip", desc := "(I)Z" } : Jvm.MethodName) prog_30_method_67_code (2 : Nat) (Option.some Jvm.ClassFile.FieldType.boolean)) ∈ lw_all := lw_g (lw_at lw_m9 129 rfl) rfl
theorem q2150 : (Jvm.Cond.instanceMethod ({ cls := "BarredBooksModel", name := "means", desc := "(II)I" } : Jvm.MethodName)) ∈ lw_all := lw_g (lw_at lw_m9 131 rfl) rfl
theorem q2151 : (Jvm.Cond.selects "BarredBooksModel" ({ cls := "BarredBooksModel", name := "means", desc := "(II)I" } : Jvm.MethodName) ({ cls := "BarredBooksModel", name := "means", desc := "(II)I" } : Jvm.MethodName)) ∈ lw_all := lw_g (lw_at lw_m9 132 rfl) rfl
theorem q2152 : (Jvm.Cond.code ({ cls := "BarredBooksModel", name := "means", desc := "(II)I" } : Jvm.MethodName) prog_30_method_71_code (6 : Nat) (Option.some Jvm.ClassFile.FieldType.int)) ∈ lw_all := lw_g (lw_at lw_m9 133 rfl) rfl
theorem q2153 : (Jvm.Cond.methodLink "BarredBooksModel" (413 : Nat) ({ cls := "BarredBooksModel", name := "isTrue", desc := "(I)Z" } : Jvm.MethodName)) ∈ lw_all := lw_g (lw_at lw_m9 134 rfl) rfl
theorem q2154 : (Jvm.Cond.privateMethod ({ cls := "BarredBooksModel", name := "isTrue", desc := "(I)Z" } : Jvm.MethodName)) ∈ lw_tbl := lw_at lw_m9 135 rfl
theorem q2155 : (Jvm.Cond.instanceMethod ({ cls := "BarredBooksModel", name := "isTrue", desc := "(I)Z" } : Jvm.MethodName)) ∈ lw_all := lw_g (lw_at lw_m9 136 rfl) rfl
theorem q2156 : (Jvm.Cond.code ({ cls := "BarredBooksModel", name := "isTrue", desc := "(I)Z" } : Jvm.MethodName) prog_30_method_69_code (3 : Nat) (Option.some Jvm.ClassFile.FieldType.boolean)) ∈ lw_all := lw_g (lw_at lw_m9 137 rfl) rfl
theorem q2157 : (Jvm.Cond.methodLink "BarredBooksModel" (416 : Nat) ({ cls := "BarredBooksModel", name := "hangsOn", desc := "(II)Z" } : Jvm.MethodName)) ∈ lw_all := lw_g (lw_at lw_m9 138 rfl) rfl
theorem q2158 : (Jvm.Cond.privateMethod ({ cls := "BarredBooksModel", name := "hangsOn", desc := "(II)Z" } : Jvm.MethodName)) ∈ lw_tbl := lw_at lw_m9 139 rfl
theorem q2159 : (Jvm.Cond.instanceMethod ({ cls := "BarredBooksModel", name := "hangsOn", desc := "(II)Z" } : Jvm.MethodName)) ∈ lw_all := lw_g (lw_at lw_m9 140 rfl) rfl
theorem q2160 : (Jvm.Cond.code ({ cls := "BarredBooksModel", name := "hangsOn", desc := "(II)Z" } : Jvm.MethodName) prog_30_method_70_code (4 : Nat) (Option.some Jvm.ClassFile.FieldType.boolean)) ∈ lw_all := lw_g (lw_at lw_m9 141 rfl) rfl
theorem q2162 : (Jvm.Cond.instanceMethod ({ cls := "BarredBooksModel", name := "unlike", desc := "(II)I" } : Jvm.MethodName)) ∈ lw_all := lw_g (lw_at lw_m9 143 rfl) rfl
theorem q2163 : (Jvm.Cond.selects "BarredBooksModel" ({ cls := "BarredBooksModel", name := "unlike", desc := "(II)I" } : Jvm.MethodName) ({ cls := "BarredBooksModel", name := "unlike", desc := "(II)I" } : Jvm.MethodName)) ∈ lw_all := lw_g (lw_at lw_m9 144 rfl) rfl
theorem q2164 : (Jvm.Cond.code ({ cls := "BarredBooksModel", name := "unlike", desc := "(II)I" } : Jvm.MethodName) prog_30_method_72_code (3 : Nat) (Option.some Jvm.ClassFile.FieldType.int)) ∈ lw_all := lw_g (lw_at lw_m9 145 rfl) rfl
theorem q2166 : (Jvm.Cond.instanceMethod ({ cls := "BarredBooksModel", name := "passes", desc := "(IIII)I" } : Jvm.MethodName)) ∈ lw_all := lw_g (lw_at lw_m9 147 rfl) rfl
theorem q2167 : (Jvm.Cond.selects "BarredBooksModel" ({ cls := "BarredBooksModel", name := "passes", desc := "(IIII)I" } : Jvm.MethodName) ({ cls := "BarredBooksModel", name := "passes", desc := "(IIII)I" } : Jvm.MethodName)) ∈ lw_all := lw_g (lw_at lw_m9 148 rfl) rfl
theorem q2168 : (Jvm.Cond.code ({ cls := "BarredBooksModel", name := "passes", desc := "(IIII)I" } : Jvm.MethodName) prog_30_method_73_code (6 : Nat) (Option.some Jvm.ClassFile.FieldType.int)) ∈ lw_all := lw_g (lw_at lw_m9 149 rfl) rfl
theorem q2170 : (Jvm.Cond.instanceMethod ({ cls := "BarredBooksModel", name := "part", desc := "(III)I" } : Jvm.MethodName)) ∈ lw_all := lw_g (lw_at lw_m9 151 rfl) rfl
theorem q2171 : (Jvm.Cond.selects "BarredBooksModel" ({ cls := "BarredBooksModel", name := "part", desc := "(III)I" } : Jvm.MethodName) ({ cls := "BarredBooksModel", name := "part", desc := "(III)I" } : Jvm.MethodName)) ∈ lw_all := lw_g (lw_at lw_m9 152 rfl) rfl
theorem q2172 : (Jvm.Cond.code ({ cls := "BarredBooksModel", name := "part", desc := "(III)I" } : Jvm.MethodName) prog_30_method_74_code (4 : Nat) (Option.some Jvm.ClassFile.FieldType.int)) ∈ lw_all := lw_g (lw_at lw_m9 153 rfl) rfl
theorem q2174 : (Jvm.Cond.instanceMethod ({ cls := "BarredBooksModel", name := "blind", desc := "(II)I" } : Jvm.MethodName)) ∈ lw_all := lw_g (lw_at lw_m9 155 rfl) rfl
theorem q2175 : (Jvm.Cond.selects "BarredBooksModel" ({ cls := "BarredBooksModel", name := "blind", desc := "(II)I" } : Jvm.MethodName) ({ cls := "BarredBooksModel", name := "blind", desc := "(II)I" } : Jvm.MethodName)) ∈ lw_all := lw_g (lw_at lw_m9 156 rfl) rfl
theorem q2176 : (Jvm.Cond.code ({ cls := "BarredBooksModel", name := "blind", desc := "(II)I" } : Jvm.MethodName) prog_30_method_76_code (5 : Nat) (Option.some Jvm.ClassFile.FieldType.int)) ∈ lw_all := lw_g (lw_at lw_m9 157 rfl) rfl
theorem q2177 : (Jvm.Cond.methodLink "BarredBooksModel" (419 : Nat) ({ cls := "BarredBooksModel", name := "canPart", desc := "(II)Z" } : Jvm.MethodName)) ∈ lw_all := lw_g (lw_at lw_m9 158 rfl) rfl
theorem q2178 : (Jvm.Cond.privateMethod ({ cls := "BarredBooksModel", name := "canPart", desc := "(II)Z" } : Jvm.MethodName)) ∈ lw_tbl := lw_at lw_m9 159 rfl
theorem q2179 : (Jvm.Cond.instanceMethod ({ cls := "BarredBooksModel", name := "canPart", desc := "(II)Z" } : Jvm.MethodName)) ∈ lw_all := lw_g (lw_at lw_m9 160 rfl) rfl
theorem q2180 : (Jvm.Cond.code ({ cls := "BarredBooksModel", name := "canPart", desc := "(II)Z" } : Jvm.MethodName) prog_30_method_75_code (6 : Nat) (Option.some Jvm.ClassFile.FieldType.boolean)) ∈ lw_all := lw_g (lw_at lw_m9 161 rfl) rfl
theorem q2182 : (Jvm.Cond.instanceMethod ({ cls := "BarredBooksModel", name := "port", desc := "(III)I" } : Jvm.MethodName)) ∈ lw_all := lw_g (lw_at lw_m9 163 rfl) rfl
theorem q2183 : (Jvm.Cond.selects "BarredBooksModel" ({ cls := "BarredBooksModel", name := "port", desc := "(III)I" } : Jvm.MethodName) ({ cls := "BarredBooksModel", name := "port", desc := "(III)I" } : Jvm.MethodName)) ∈ lw_all := lw_g (lw_at lw_m9 164 rfl) rfl
theorem q2184 : (Jvm.Cond.code ({ cls := "BarredBooksModel", name := "port", desc := "(III)I" } : Jvm.MethodName) prog_30_method_77_code (5 : Nat) (Option.some Jvm.ClassFile.FieldType.int)) ∈ lw_all := lw_g (lw_at lw_m9 165 rfl) rfl
theorem q2186 : (Jvm.Cond.instanceMethod ({ cls := "BarredBooksModel", name := "search", desc := "(II)I" } : Jvm.MethodName)) ∈ lw_all := lw_g (lw_at lw_m9 167 rfl) rfl
theorem q2187 : (Jvm.Cond.selects "BarredBooksModel" ({ cls := "BarredBooksModel", name := "search", desc := "(II)I" } : Jvm.MethodName) ({ cls := "BarredBooksModel", name := "search", desc := "(II)I" } : Jvm.MethodName)) ∈ lw_all := lw_g (lw_at lw_m9 168 rfl) rfl
theorem q2188 : (Jvm.Cond.code ({ cls := "BarredBooksModel", name := "search", desc := "(II)I" } : Jvm.MethodName) prog_30_method_78_code (7 : Nat) (Option.some Jvm.ClassFile.FieldType.int)) ∈ lw_all := lw_g (lw_at lw_m9 169 rfl) rfl
theorem q2190 : (Jvm.Cond.instanceMethod ({ cls := "BarredBooksModel", name := "choice", desc := "()I" } : Jvm.MethodName)) ∈ lw_all := lw_g (lw_at lw_m9 171 rfl) rfl
theorem q2191 : (Jvm.Cond.selects "BarredBooksModel" ({ cls := "BarredBooksModel", name := "choice", desc := "()I" } : Jvm.MethodName) ({ cls := "BarredBooksModel", name := "choice", desc := "()I" } : Jvm.MethodName)) ∈ lw_all := lw_g (lw_at lw_m9 172 rfl) rfl
theorem q2192 : (Jvm.Cond.code ({ cls := "BarredBooksModel", name := "choice", desc := "()I" } : Jvm.MethodName) prog_30_method_79_code (1 : Nat) (Option.some Jvm.ClassFile.FieldType.int)) ∈ lw_all := lw_g (lw_at lw_m9 173 rfl) rfl
theorem q2194 : (Jvm.Cond.instanceMethod ({ cls := "BarredBooksModel", name := "aim", desc := "(II)I" } : Jvm.MethodName)) ∈ lw_all := lw_g (lw_at lw_m9 175 rfl) rfl
theorem q2195 : (Jvm.Cond.selects "BarredBooksModel" ({ cls := "BarredBooksModel", name := "aim", desc := "(II)I" } : Jvm.MethodName) ({ cls := "BarredBooksModel", name := "aim", desc := "(II)I" } : Jvm.MethodName)) ∈ lw_all := lw_g (lw_at lw_m9 176 rfl) rfl
theorem q2196 : (Jvm.Cond.code ({ cls := "BarredBooksModel", name := "aim", desc := "(II)I" } : Jvm.MethodName) prog_30_method_80_code (3 : Nat) (Option.some Jvm.ClassFile.FieldType.int)) ∈ lw_all := lw_g (lw_at lw_m9 177 rfl) rfl
theorem q2198 : (Jvm.Cond.instanceMethod ({ cls := "BarredBooksModel", name := "weigh", desc := "(II)I" } : Jvm.MethodName)) ∈ lw_all := lw_g (lw_at lw_m9 179 rfl) rfl
theorem q2199 : (Jvm.Cond.selects "BarredBooksModel" ({ cls := "BarredBooksModel", name := "weigh", desc := "(II)I" } : Jvm.MethodName) ({ cls := "BarredBooksModel", name := "weigh", desc := "(II)I" } : Jvm.MethodName)) ∈ lw_all := lw_g (lw_at lw_m9 180 rfl) rfl
theorem q2200 : (Jvm.Cond.code ({ cls := "BarredBooksModel", name := "weigh", desc := "(II)I" } : Jvm.MethodName) prog_30_method_86_code (3 : Nat) (Option.some Jvm.ClassFile.FieldType.int)) ∈ lw_all := lw_g (lw_at lw_m9 181 rfl) rfl
theorem q2201 : (Jvm.Cond.methodLink "BarredBooksModel" (428 : Nat) ({ cls := "BarredBooksModel", name := "findHits", desc := "()V" } : Jvm.MethodName)) ∈ lw_all := lw_g (lw_at lw_m9 182 rfl) rfl
theorem q2202 : (Jvm.Cond.privateMethod ({ cls := "BarredBooksModel", name := "findHits", desc := "()V" } : Jvm.MethodName)) ∈ lw_tbl := lw_at lw_m9 183 rfl
theorem q2203 : (Jvm.Cond.instanceMethod ({ cls := "BarredBooksModel", name := "findHits", desc := "()V" } : Jvm.MethodName)) ∈ lw_all := lw_g (lw_at lw_m9 184 rfl) rfl
theorem q2204 : (Jvm.Cond.code ({ cls := "BarredBooksModel", name := "findHits", desc := "()V" } : Jvm.MethodName) prog_30_method_82_code (3 : Nat) (Option.none : Option Jvm.ClassFile.FieldType)) ∈ lw_all := lw_g (lw_at lw_m9 185 rfl) rfl
theorem q2205 : (Jvm.Cond.methodLink "BarredBooksModel" (422 : Nat) ({ cls := "BarredBooksModel", name := "hit", desc := "(II)I" } : Jvm.MethodName)) ∈ lw_all := lw_g (lw_at lw_m9 186 rfl) rfl
theorem q2206 : (Jvm.Cond.privateMethod ({ cls := "BarredBooksModel", name := "hit", desc := "(II)I" } : Jvm.MethodName)) ∈ lw_tbl := lw_at lw_m9 187 rfl
theorem q2207 : (Jvm.Cond.instanceMethod ({ cls := "BarredBooksModel", name := "hit", desc := "(II)I" } : Jvm.MethodName)) ∈ lw_all := lw_g (lw_at lw_m9 188 rfl) rfl
theorem q2208 : (Jvm.Cond.code ({ cls := "BarredBooksModel", name := "hit", desc := "(II)I" } : Jvm.MethodName) prog_30_method_81_code (5 : Nat) (Option.some Jvm.ClassFile.FieldType.int)) ∈ lw_all := lw_g (lw_at lw_m9 189 rfl) rfl
theorem q2209 : (Jvm.Cond.methodLink "BarredBooksModel" (431 : Nat) ({ cls := "BarredBooksModel", name := "metBy", desc := "(I)I" } : Jvm.MethodName)) ∈ lw_all := lw_g (lw_at lw_m9 190 rfl) rfl
theorem q2210 : (Jvm.Cond.privateMethod ({ cls := "BarredBooksModel", name := "metBy", desc := "(I)I" } : Jvm.MethodName)) ∈ lw_tbl := lw_at lw_m9 191 rfl
theorem q2211 : (Jvm.Cond.instanceMethod ({ cls := "BarredBooksModel", name := "metBy", desc := "(I)I" } : Jvm.MethodName)) ∈ lw_all := lw_g (lw_at lw_m9 192 rfl) rfl
theorem q2212 : (Jvm.Cond.code ({ cls := "BarredBooksModel", name := "metBy", desc := "(I)I" } : Jvm.MethodName) prog_30_method_84_code (4 : Nat) (Option.some Jvm.ClassFile.FieldType.int)) ∈ lw_all := lw_g (lw_at lw_m9 193 rfl) rfl
theorem q2213 : (Jvm.Cond.methodLink "BarredBooksModel" (425 : Nat) ({ cls := "BarredBooksModel", name := "hitBy", desc := "(II)I" } : Jvm.MethodName)) ∈ lw_all := lw_g (lw_at lw_m9 194 rfl) rfl
theorem q2214 : (Jvm.Cond.privateMethod ({ cls := "BarredBooksModel", name := "hitBy", desc := "(II)I" } : Jvm.MethodName)) ∈ lw_tbl := lw_at lw_m9 195 rfl
theorem q2215 : (Jvm.Cond.instanceMethod ({ cls := "BarredBooksModel", name := "hitBy", desc := "(II)I" } : Jvm.MethodName)) ∈ lw_all := lw_g (lw_at lw_m9 196 rfl) rfl
theorem q2216 : (Jvm.Cond.code ({ cls := "BarredBooksModel", name := "hitBy", desc := "(II)I" } : Jvm.MethodName) prog_30_method_83_code (5 : Nat) (Option.some Jvm.ClassFile.FieldType.int)) ∈ lw_all := lw_g (lw_at lw_m9 197 rfl) rfl
theorem q2217 : (Jvm.Cond.methodLink "BarredBooksModel" (434 : Nat) ({ cls := "BarredBooksModel", name := "lossBy", desc := "(I)I" } : Jvm.MethodName)) ∈ lw_all := lw_g (lw_at lw_m9 198 rfl) rfl
theorem q2218 : (Jvm.Cond.privateMethod ({ cls := "BarredBooksModel", name := "lossBy", desc := "(I)I" } : Jvm.MethodName)) ∈ lw_tbl := lw_at lw_m9 199 rfl
theorem q2219 : (Jvm.Cond.instanceMethod ({ cls := "BarredBooksModel", name := "lossBy", desc := "(I)I" } : Jvm.MethodName)) ∈ lw_all := lw_g (lw_at lw_m9 200 rfl) rfl
theorem q2220 : (Jvm.Cond.code ({ cls := "BarredBooksModel", name := "lossBy", desc := "(I)I" } : Jvm.MethodName) prog_30_method_85_code (4 : Nat) (Option.some Jvm.ClassFile.FieldType.int)) ∈ lw_all := lw_g (lw_at lw_m9 201 rfl) rfl
theorem q2222 : (Jvm.Cond.instanceMethod ({ cls := "BarredBooksModel", name := "best", desc := "()I" } : Jvm.MethodName)) ∈ lw_all := lw_g (lw_at lw_m9 203 rfl) rfl
theorem q2223 : (Jvm.Cond.selects "BarredBooksModel" ({ cls := "BarredBooksModel", name := "best", desc := "()I" } : Jvm.MethodName) ({ cls := "BarredBooksModel", name := "best", desc := "()I" } : Jvm.MethodName)) ∈ lw_all := lw_g (lw_at lw_m9 204 rfl) rfl
theorem q2224 : (Jvm.Cond.code ({ cls := "BarredBooksModel", name := "best", desc := "()I" } : Jvm.MethodName) prog_30_method_87_code (3 : Nat) (Option.some Jvm.ClassFile.FieldType.int)) ∈ lw_all := lw_g (lw_at lw_m9 205 rfl) rfl
theorem q2226 : (Jvm.Cond.instanceMethod ({ cls := "BarredBooksModel", name := "copy", desc := "(I)I" } : Jvm.MethodName)) ∈ lw_all := lw_g (lw_at lw_m9 207 rfl) rfl
theorem q2227 : (Jvm.Cond.selects "BarredBooksModel" ({ cls := "BarredBooksModel", name := "copy", desc := "(I)I" } : Jvm.MethodName) ({ cls := "BarredBooksModel", name := "copy", desc := "(I)I" } : Jvm.MethodName)) ∈ lw_all := lw_g (lw_at lw_m9 208 rfl) rfl
theorem q2228 : (Jvm.Cond.code ({ cls := "BarredBooksModel", name := "copy", desc := "(I)I" } : Jvm.MethodName) prog_30_method_89_code (2 : Nat) (Option.some Jvm.ClassFile.FieldType.int)) ∈ lw_all := lw_g (lw_at lw_m9 209 rfl) rfl
theorem q2229 : (Jvm.Cond.methodLink "BarredBooksModel" (437 : Nat) ({ cls := "BarredBooksModel", name := "enter", desc := "(III)I" } : Jvm.MethodName)) ∈ lw_all := lw_g (lw_at lw_m9 210 rfl) rfl
theorem q2230 : (Jvm.Cond.privateMethod ({ cls := "BarredBooksModel", name := "enter", desc := "(III)I" } : Jvm.MethodName)) ∈ lw_tbl := lw_at lw_m9 211 rfl
theorem q2231 : (Jvm.Cond.instanceMethod ({ cls := "BarredBooksModel", name := "enter", desc := "(III)I" } : Jvm.MethodName)) ∈ lw_all := lw_g (lw_at lw_m9 212 rfl) rfl
theorem q2232 : (Jvm.Cond.code ({ cls := "BarredBooksModel", name := "enter", desc := "(III)I" } : Jvm.MethodName) prog_30_method_88_code (4 : Nat) (Option.some Jvm.ClassFile.FieldType.int)) ∈ lw_all := lw_g (lw_at lw_m9 213 rfl) rfl
theorem q2234 : (Jvm.Cond.instanceMethod ({ cls := "BarredBooksModel", name := "moved", desc := "(III)I" } : Jvm.MethodName)) ∈ lw_all := lw_g (lw_at lw_m9 215 rfl) rfl
theorem q2235 : (Jvm.Cond.selects "BarredBooksModel" ({ cls := "BarredBooksModel", name := "moved", desc := "(III)I" } : Jvm.MethodName) ({ cls := "BarredBooksModel", name := "moved", desc := "(III)I" } : Jvm.MethodName)) ∈ lw_all := lw_g (lw_at lw_m9 216 rfl) rfl
theorem q2236 : (Jvm.Cond.code ({ cls := "BarredBooksModel", name := "moved", desc := "(III)I" } : Jvm.MethodName) prog_30_method_91_code (6 : Nat) (Option.some Jvm.ClassFile.FieldType.int)) ∈ lw_all := lw_g (lw_at lw_m9 217 rfl) rfl
theorem q2237 : (Jvm.Cond.methodLink "BarredBooksModel" (440 : Nat) ({ cls := "BarredBooksModel", name := "spotOf", desc := "(III)I" } : Jvm.MethodName)) ∈ lw_all := lw_g (lw_at lw_m9 218 rfl) rfl
theorem q2238 : (Jvm.Cond.privateMethod ({ cls := "BarredBooksModel", name := "spotOf", desc := "(III)I" } : Jvm.MethodName)) ∈ lw_tbl := lw_at lw_m9 219 rfl
theorem q2239 : (Jvm.Cond.instanceMethod ({ cls := "BarredBooksModel", name := "spotOf", desc := "(III)I" } : Jvm.MethodName)) ∈ lw_all := lw_g (lw_at lw_m9 220 rfl) rfl
theorem q2240 : (Jvm.Cond.code ({ cls := "BarredBooksModel", name := "spotOf", desc := "(III)I" } : Jvm.MethodName) prog_30_method_90_code (6 : Nat) (Option.some Jvm.ClassFile.FieldType.int)) ∈ lw_all := lw_g (lw_at lw_m9 221 rfl) rfl
theorem q2242 : (Jvm.Cond.instanceMethod ({ cls := "BarredBooksModel", name := "spot", desc := "(III)I" } : Jvm.MethodName)) ∈ lw_all := lw_g (lw_at lw_m9 223 rfl) rfl
theorem q2243 : (Jvm.Cond.selects "BarredBooksModel" ({ cls := "BarredBooksModel", name := "spot", desc := "(III)I" } : Jvm.MethodName) ({ cls := "BarredBooksModel", name := "spot", desc := "(III)I" } : Jvm.MethodName)) ∈ lw_all := lw_g (lw_at lw_m9 224 rfl) rfl
theorem q2244 : (Jvm.Cond.code ({ cls := "BarredBooksModel", name := "spot", desc := "(III)I" } : Jvm.MethodName) prog_30_method_94_code (4 : Nat) (Option.some Jvm.ClassFile.FieldType.int)) ∈ lw_all := lw_g (lw_at lw_m9 225 rfl) rfl
theorem q2245 : (Jvm.Cond.methodLink "BarredBooksModel" (443 : Nat) ({ cls := "BarredBooksModel", name := "isTime", desc := "(I)Z" } : Jvm.MethodName)) ∈ lw_all := lw_g (lw_at lw_m9 226 rfl) rfl
theorem q2246 : (Jvm.Cond.privateMethod ({ cls := "BarredBooksModel", name := "isTime", desc := "(I)Z" } : Jvm.MethodName)) ∈ lw_tbl := lw_at lw_m9 227 rfl
theorem q2247 : (Jvm.Cond.instanceMethod ({ cls := "BarredBooksModel", name := "isTime", desc := "(I)Z" } : Jvm.MethodName)) ∈ lw_all := lw_g (lw_at lw_m9 228 rfl) rfl
theorem q2248 : (Jvm.Cond.code ({ cls := "BarredBooksModel", name := "isTime", desc := "(I)Z" } : Jvm.MethodName) prog_30_method_92_code (2 : Nat) (Option.some Jvm.ClassFile.FieldType.boolean)) ∈ lw_all := lw_g (lw_at lw_m9 229 rfl) rfl
theorem q2249 : (Jvm.Cond.methodLink "BarredBooksModel" (446 : Nat) ({ cls := "BarredBooksModel", name := "by", desc := "(I)I" } : Jvm.MethodName)) ∈ lw_all := lw_g (lw_at lw_m9 230 rfl) rfl
theorem q2250 : (Jvm.Cond.privateMethod ({ cls := "BarredBooksModel", name := "by", desc := "(I)I" } : Jvm.MethodName)) ∈ lw_tbl := lw_at lw_m9 231 rfl
theorem q2251 : (Jvm.Cond.instanceMethod ({ cls := "BarredBooksModel", name := "by", desc := "(I)I" } : Jvm.MethodName)) ∈ lw_all := lw_g (lw_at lw_m9 232 rfl) rfl
theorem q2252 : (Jvm.Cond.code ({ cls := "BarredBooksModel", name := "by", desc := "(I)I" } : Jvm.MethodName) prog_30_method_93_code (2 : Nat) (Option.some Jvm.ClassFile.FieldType.int)) ∈ lw_all := lw_g (lw_at lw_m9 233 rfl) rfl
theorem q2254 : (Jvm.Cond.instanceMethod ({ cls := "BarredBooksModel", name := "lost", desc := "(III)I" } : Jvm.MethodName)) ∈ lw_all := lw_g (lw_at lw_m9 235 rfl) rfl
theorem q2255 : (Jvm.Cond.selects "BarredBooksModel" ({ cls := "BarredBooksModel", name := "lost", desc := "(III)I" } : Jvm.MethodName) ({ cls := "BarredBooksModel", name := "lost", desc := "(III)I" } : Jvm.MethodName)) ∈ lw_all := lw_g (lw_at lw_m9 236 rfl) rfl
theorem q2256 : (Jvm.Cond.code ({ cls := "BarredBooksModel", name := "lost", desc := "(III)I" } : Jvm.MethodName) prog_30_method_95_code (8 : Nat) (Option.some Jvm.ClassFile.FieldType.int)) ∈ lw_all := lw_g (lw_at lw_m9 237 rfl) rfl
theorem q2258 : (Jvm.Cond.instanceMethod ({ cls := "BarredBooksModel", name := "met", desc := "(III)I" } : Jvm.MethodName)) ∈ lw_all := lw_g (lw_at lw_m9 239 rfl) rfl
theorem q2259 : (Jvm.Cond.selects "BarredBooksModel" ({ cls := "BarredBooksModel", name := "met", desc := "(III)I" } : Jvm.MethodName) ({ cls := "BarredBooksModel", name := "met", desc := "(III)I" } : Jvm.MethodName)) ∈ lw_all := lw_g (lw_at lw_m10 0 rfl) rfl
theorem q2260 : (Jvm.Cond.code ({ cls := "BarredBooksModel", name := "met", desc := "(III)I" } : Jvm.MethodName) prog_30_method_96_code (6 : Nat) (Option.some Jvm.ClassFile.FieldType.int)) ∈ lw_all := lw_g (lw_at lw_m10 1 rfl) rfl
theorem q2262 : (Jvm.Cond.instanceMethod ({ cls := "BarredBooksModel", name := "catalogue", desc := "(IIII)J" } : Jvm.MethodName)) ∈ lw_all := lw_g (lw_at lw_m10 3 rfl) rfl
theorem q2263 : (Jvm.Cond.selects "BarredBooksModel" ({ cls := "BarredBooksModel", name := "catalogue", desc := "(IIII)J" } : Jvm.MethodName) ({ cls := "BarredBooksModel", name := "catalogue", desc := "(IIII)J" } : Jvm.MethodName)) ∈ lw_all := lw_g (lw_at lw_m10 4 rfl) rfl
theorem q2264 : (Jvm.Cond.code ({ cls := "BarredBooksModel", name := "catalogue", desc := "(IIII)J" } : Jvm.MethodName) prog_30_method_98_code (9 : Nat) (Option.some Jvm.ClassFile.FieldType.long)) ∈ lw_all := lw_g (lw_at lw_m10 5 rfl) rfl
theorem q2265 : (Jvm.Cond.methodLink "BarredBooksModel" (449 : Nat) ({ cls := "BarredBooksModel", name := "isTape", desc := "(I)Z" } : Jvm.MethodName)) ∈ lw_all := lw_g (lw_at lw_m10 6 rfl) rfl
theorem q2266 : (Jvm.Cond.privateMethod ({ cls := "BarredBooksModel", name := "isTape", desc := "(I)Z" } : Jvm.MethodName)) ∈ lw_tbl := lw_at lw_m10 7 rfl
theorem q2267 : (Jvm.Cond.instanceMethod ({ cls := "BarredBooksModel", name := "isTape", desc := "(I)Z" } : Jvm.MethodName)) ∈ lw_all := lw_g (lw_at lw_m10 8 rfl) rfl
theorem q2268 : (Jvm.Cond.code ({ cls := "BarredBooksModel", name := "isTape", desc := "(I)Z" } : Jvm.MethodName) prog_30_method_97_code (2 : Nat) (Option.some Jvm.ClassFile.FieldType.boolean)) ∈ lw_all := lw_g (lw_at lw_m10 9 rfl) rfl
theorem q2269 : (Jvm.Cond.constantLong "BarredBooksModel" (452 : Nat) (-9223372036854775808 : Int64)) ∈ lw_all := lw_g (lw_at lw_m10 10 rfl) rfl
theorem q2270 : (Jvm.Cond.constantLong "BarredBooksModel" (454 : Nat) (-9223372036854775807 : Int64)) ∈ lw_all := lw_g (lw_at lw_m10 11 rfl) rfl
theorem q2271 : (Jvm.Cond.constantLong "BarredBooksModel" (456 : Nat) (1000000 : Int64)) ∈ lw_all := lw_g (lw_at lw_m10 12 rfl) rfl
theorem q2272 : (Jvm.Cond.constantLong "BarredBooksModel" (458 : Nat) (1000 : Int64)) ∈ lw_all := lw_g (lw_at lw_m10 13 rfl) rfl
theorem q2274 : (Jvm.Cond.instanceMethod ({ cls := "BarredBooksModel", name := "count", desc := "(I)I" } : Jvm.MethodName)) ∈ lw_all := lw_g (lw_at lw_m10 15 rfl) rfl
theorem q2275 : (Jvm.Cond.selects "BarredBooksModel" ({ cls := "BarredBooksModel", name := "count", desc := "(I)I" } : Jvm.MethodName) ({ cls := "BarredBooksModel", name := "count", desc := "(I)I" } : Jvm.MethodName)) ∈ lw_all := lw_g (lw_at lw_m10 16 rfl) rfl
theorem q2276 : (Jvm.Cond.code ({ cls := "BarredBooksModel", name := "count", desc := "(I)I" } : Jvm.MethodName) prog_30_method_99_code (2 : Nat) (Option.some Jvm.ClassFile.FieldType.int)) ∈ lw_all := lw_g (lw_at lw_m10 17 rfl) rfl
theorem q2278 : (Jvm.Cond.instanceMethod ({ cls := "BarredBooksModel", name := "tape", desc := "(III)I" } : Jvm.MethodName)) ∈ lw_all := lw_g (lw_at lw_m10 19 rfl) rfl
theorem q2279 : (Jvm.Cond.selects "BarredBooksModel" ({ cls := "BarredBooksModel", name := "tape", desc := "(III)I" } : Jvm.MethodName) ({ cls := "BarredBooksModel", name := "tape", desc := "(III)I" } : Jvm.MethodName)) ∈ lw_all := lw_g (lw_at lw_m10 20 rfl) rfl
theorem q2280 : (Jvm.Cond.code ({ cls := "BarredBooksModel", name := "tape", desc := "(III)I" } : Jvm.MethodName) prog_30_method_100_code (5 : Nat) (Option.some Jvm.ClassFile.FieldType.int)) ∈ lw_all := lw_g (lw_at lw_m10 21 rfl) rfl
theorem q2282 : (Jvm.Cond.instanceMethod ({ cls := "BarredBooksModel", name := "item", desc := "(IIJ)I" } : Jvm.MethodName)) ∈ lw_all := lw_g (lw_at lw_m10 23 rfl) rfl
theorem q2283 : (Jvm.Cond.selects "BarredBooksModel" ({ cls := "BarredBooksModel", name := "item", desc := "(IIJ)I" } : Jvm.MethodName) ({ cls := "BarredBooksModel", name := "item", desc := "(IIJ)I" } : Jvm.MethodName)) ∈ lw_all := lw_g (lw_at lw_m10 24 rfl) rfl
theorem q2284 : (Jvm.Cond.code ({ cls := "BarredBooksModel", name := "item", desc := "(IIJ)I" } : Jvm.MethodName) prog_30_method_102_code (5 : Nat) (Option.some Jvm.ClassFile.FieldType.int)) ∈ lw_all := lw_g (lw_at lw_m10 25 rfl) rfl
theorem q2285 : (Jvm.Cond.methodLink "BarredBooksModel" (460 : Nat) ({ cls := "BarredBooksModel", name := "narrow", desc := "(IJ)J" } : Jvm.MethodName)) ∈ lw_all := lw_g (lw_at lw_m10 26 rfl) rfl
theorem q2286 : (Jvm.Cond.privateMethod ({ cls := "BarredBooksModel", name := "narrow", desc := "(IJ)J" } : Jvm.MethodName)) ∈ lw_tbl := lw_at lw_m10 27 rfl
theorem q2287 : (Jvm.Cond.instanceMethod ({ cls := "BarredBooksModel", name := "narrow", desc := "(IJ)J" } : Jvm.MethodName)) ∈ lw_all := lw_g (lw_at lw_m10 28 rfl) rfl
theorem q2288 : (Jvm.Cond.code ({ cls := "BarredBooksModel", name := "narrow", desc := "(IJ)J" } : Jvm.MethodName) prog_30_method_101_code (4 : Nat) (Option.some Jvm.ClassFile.FieldType.long)) ∈ lw_all := lw_g (lw_at lw_m10 29 rfl) rfl
theorem q2290 : (Jvm.Cond.instanceMethod ({ cls := "BarredBooksModel", name := "read", desc := "(II)J" } : Jvm.MethodName)) ∈ lw_all := lw_g (lw_at lw_m10 31 rfl) rfl
theorem q2291 : (Jvm.Cond.selects "BarredBooksModel" ({ cls := "BarredBooksModel", name := "read", desc := "(II)J" } : Jvm.MethodName) ({ cls := "BarredBooksModel", name := "read", desc := "(II)J" } : Jvm.MethodName)) ∈ lw_all := lw_g (lw_at lw_m10 32 rfl) rfl
theorem q2292 : (Jvm.Cond.code ({ cls := "BarredBooksModel", name := "read", desc := "(II)J" } : Jvm.MethodName) prog_30_method_103_code (3 : Nat) (Option.some Jvm.ClassFile.FieldType.long)) ∈ lw_all := lw_g (lw_at lw_m10 33 rfl) rfl
theorem q2294 : (Jvm.Cond.instanceMethod ({ cls := "BarredBooksModel", name := "shift", desc := "(IIIII)I" } : Jvm.MethodName)) ∈ lw_all := lw_g (lw_at lw_m10 35 rfl) rfl
theorem q2295 : (Jvm.Cond.selects "BarredBooksModel" ({ cls := "BarredBooksModel", name := "shift", desc := "(IIIII)I" } : Jvm.MethodName) ({ cls := "BarredBooksModel", name := "shift", desc := "(IIIII)I" } : Jvm.MethodName)) ∈ lw_all := lw_g (lw_at lw_m10 36 rfl) rfl
theorem q2296 : (Jvm.Cond.code ({ cls := "BarredBooksModel", name := "shift", desc := "(IIIII)I" } : Jvm.MethodName) prog_30_method_104_code (7 : Nat) (Option.some Jvm.ClassFile.FieldType.int)) ∈ lw_all := lw_g (lw_at lw_m10 37 rfl) rfl
theorem q2333 : (Jvm.Cond.castable "BarredBooksModel" "java/lang/Object") ∈ lw_tbl := lw_at lw_m10 74 rfl
theorem in_X4 : ∀ w ∈ wsX40, w ∈ lw_all := lw_in wsX40 [1713, 1715, 1717, 1719, 1721, 1723, 1725, 1727, 1729, 1731, 1733, 1735, 1737, 1739, 1741, 1743, 1745, 1747, 1749, 1751, 1753, 1755, 1757, 1759, 1761, 1763, 1765, 1767, 1769, 1771, 1773, 1775, 1777, 1779, 1781, 1783, 1785, 1787, 1789, 1791, 1793, 1795, 1797, 1799, 1801, 1803, 1805, 1807, 1809, 1811, 1813, 1815, 1817, 1819, 1821, 1823, 1825, 1827, 1829, 1831, 1833, 1835, 1837, 1839, 1841, 1843, 1845, 1847, 1849, 1851, 1853, 1855, 1857, 1859, 1861, 1863, 1865, 1867, 1869, 1871] (by decide +kernel) (by decide +kernel)
