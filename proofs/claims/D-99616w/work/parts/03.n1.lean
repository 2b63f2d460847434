/-! DowryBoxesModel -/
set_option maxRecDepth 100000
def RX5 : String := "DowryBoxesModel"
def TX5 : u_T := fun k => match k with
  | 0 => ("DowryBoxesModel", "thrown", "I", false)
  | 1 => ("DowryBoxesModel", "status", "I", false)
  | 2 => ("DowryBoxesModel", "refusals", "[I", true)
  | 3 => ("DowryBoxesModel", "row", "[I", true)
  | 4 => ("DowryBoxesModel", "images", "[I", true)
  | 5 => ("DowryBoxesModel", "isKept", "[Z", true)
  | 6 => ("DowryBoxesModel", "undos", "[I", true)
  | 7 => ("DowryBoxesModel", "sorts", "[I", true)
  | 8 => ("DowryBoxesModel", "nUndo", "I", false)
  | 9 => ("DowryBoxesModel", "undosBefore", "[I", true)
  | 10 => ("DowryBoxesModel", "sortsBefore", "[I", true)
  | 11 => ("DowryBoxesModel", "rust", "I", false)
  | 12 => ("DowryBoxesModel", "tape", "[I", true)
  | 13 => ("DowryBoxesModel", "taped", "I", false)
  | 14 => ("DowryBoxesModel", "from", "I", false)
  | 15 => ("DowryBoxesModel", "to", "I", false)
  | 16 => ("DowryBoxesModel", "sort", "I", false)
  | 17 => ("DowryBoxesModel", "worth", "J", false)
  | 18 => ("DowryBoxesModel", "fault", "I", false)
  | 19 => ("DowryBoxesModel", "bad", "Z", false)
  | 20 => ("DowryBoxesModel", "ordered", "Z", false)
  | 21 => ("DowryBoxesModel", "nClauses", "I", false)
  | 22 => ("DowryBoxesModel", "nClause", "[I", true)
  | 23 => ("DowryBoxesModel", "nCode", "I", false)
  | 24 => ("DowryBoxesModel", "nOp", "[I", true)
  | 25 => ("DowryBoxesModel", "nArg", "[I", true)
  | 26 => ("DowryBoxesModel", "nLeaves", "I", false)
  | 27 => ("DowryBoxesModel", "pile", "[I", true)
  | 28 => ("DowryBoxesModel", "pileAt", "[I", true)
  | 29 => ("DowryBoxesModel", "piled", "I", false)
  | 30 => ("DowryBoxesModel", "opened", "I", false)
  | 31 => ("DowryBoxesModel", "words", "[J", true)
  | 32 => ("DowryBoxesModel", "orderWords", "[J", true)
  | 33 => ("DowryBoxesModel", "heads", "[J", true)
  | 34 => ("DowryBoxesModel", "law", "I", false)
  | 35 => ("DowryBoxesModel", "set", "[J", true)
  | 36 => ("DowryBoxesModel", "now", "[J", true)
  | 37 => ("DowryBoxesModel", "rest", "[J", true)
  | 38 => ("DowryBoxesModel", "broken", "Z", false)
  | 39 => ("DowryBoxesModel", "value", "J", false)
  | 40 => ("DowryBoxesModel", "sum", "J", false)
  | 41 => ("DowryBoxesModel", "lost", "[I", true)
  | 42 => ("DowryBoxesModel", "off1", "[I", true)
  | 43 => ("DowryBoxesModel", "liked", "[I", true)
  | 44 => ("DowryBoxesModel", "steadyOf", "[I", true)
  | 45 => ("DowryBoxesModel", "refusedBy", "[Z", true)
  | 46 => ("DowryBoxesModel", "best1", "[I", true)
  | 47 => ("DowryBoxesModel", "more1", "[I", true)
  | 48 => ("DowryBoxesModel", "clashWith", "[I", true)
  | 49 => ("DowryBoxesModel", "has", "[I", true)
  | 50 => ("DowryBoxesModel", "worths", "[I", true)
  | 51 => ("DowryBoxesModel", "parts", "[J", true)
  | 52 => ("DowryBoxesModel", "acts", "[J", true)
  | 53 => ("DowryBoxesModel", "joins", "[J", true)
  | 54 => ("DowryBoxesModel", "nOrder", "[I", true)
  | 55 => ("DowryBoxesModel", "done", "I", false)
  | 56 => ("DowryBoxesModel", "latest", "I", false)
  | 57 => ("DowryBoxesModel", "stopped", "I", false)
  | 58 => ("DowryBoxesModel", "off", "Z", false)
  | 59 => ("DowryBoxesModel", "state", "J", false)
  | 60 => ("DowryBoxesModel", "drawn", "[I", true)
  | _ => ("DowryBoxesModel", "drawnBoxes", "I", false)
def tyX5 : Nat → FieldType := fun k => match k with
  | 0 => .int
  | 1 => .int
  | 2 => .array .int
  | 3 => .array .int
  | 4 => .array .int
  | 5 => .array .boolean
  | 6 => .array .int
  | 7 => .array .int
  | 8 => .int
  | 9 => .array .int
  | 10 => .array .int
  | 11 => .int
  | 12 => .array .int
  | 13 => .int
  | 14 => .int
  | 15 => .int
  | 16 => .int
  | 17 => .long
  | 18 => .int
  | 19 => .boolean
  | 20 => .boolean
  | 21 => .int
  | 22 => .array .int
  | 23 => .int
  | 24 => .array .int
  | 25 => .array .int
  | 26 => .int
  | 27 => .array .int
  | 28 => .array .int
  | 29 => .int
  | 30 => .int
  | 31 => .array .long
  | 32 => .array .long
  | 33 => .array .long
  | 34 => .int
  | 35 => .array .long
  | 36 => .array .long
  | 37 => .array .long
  | 38 => .boolean
  | 39 => .long
  | 40 => .long
  | 41 => .array .int
  | 42 => .array .int
  | 43 => .array .int
  | 44 => .array .int
  | 45 => .array .boolean
  | 46 => .array .int
  | 47 => .array .int
  | 48 => .array .int
  | 49 => .array .int
  | 50 => .array .int
  | 51 => .array .long
  | 52 => .array .long
  | 53 => .array .long
  | 54 => .array .int
  | 55 => .int
  | 56 => .int
  | 57 => .int
  | 58 => .boolean
  | 59 => .long
  | 60 => .array .int
  | _ => .int
abbrev wsX50 : List Cond := u_ws RX5 TX5 62
set_option maxRecDepth 100000 in
theorem nmX5 : ∀ a, a < 62 → ∀ b, b < 62 → a ≠ b → (TX5 a).2.1 ≠ (TX5 b).2.1 := by decide +kernel
set_option maxRecDepth 100000 in
theorem tyX5_ok : ∀ k, k < 62 → parseFieldDescriptor (TX5 k).2.2.1 = some (tyX5 k) := by decide +kernel
abbrev cX5_init : ByteArray := prog_22_method_1_code
def yX5_init : MethodName := ⟨RX5, "<init>", "()V"⟩
def dkwX5_init_20 : List UInt8 := [180, 0, 13, 7, 2, 79, 42, 180, 0, 13, 16, 6, 5, 79, 177]
abbrev dktX5_init_20 : List UInt8 := dkwX5_init_20 ++ []
def dkwX5_init_19 : List UInt8 := [188, 10, 181, 0, 163, 42, 2, 181, 0, 166, 42, 16, 18, 188, 10, 181, 0, 169, 42, 2, 181, 0, 172, 42]
abbrev dktX5_init_19 : List UInt8 := dkwX5_init_19 ++ dktX5_init_20
def dkwX5_init_18 : List UInt8 := [3, 20, 0, 154, 80, 89, 4, 20, 0, 156, 80, 89, 5, 20, 0, 158, 80, 181, 0, 160, 42, 16, 120]
abbrev dktX5_init_18 : List UInt8 := dkwX5_init_18 ++ dktX5_init_19
def dkwX5_init_17 : List UInt8 := [20, 0, 145, 80, 89, 5, 20, 0, 147, 80, 89, 6, 20, 0, 149, 80, 181, 0, 151, 42, 6, 188, 11, 89]
abbrev dktX5_init_17 : List UInt8 := dkwX5_init_17 ++ dktX5_init_18
def dkwX5_init_16 : List UInt8 := [181, 0, 137, 42, 16, 21, 188, 11, 181, 0, 140, 42, 7, 188, 11, 89, 3, 20, 0, 143, 80, 89, 4]
abbrev dktX5_init_16 : List UInt8 := dkwX5_init_16 ++ dktX5_init_17
def dkwX5_init_15 : List UInt8 := [181, 0, 128, 42, 16, 8, 188, 10, 181, 0, 131, 42, 6, 188, 10, 181, 0, 134, 42, 16, 6, 188, 10]
abbrev dktX5_init_15 : List UInt8 := dkwX5_init_15 ++ dktX5_init_16
def dkwX5_init_14 : List UInt8 := [42, 16, 36, 188, 4, 181, 0, 122, 42, 17, 1, 192, 188, 10, 181, 0, 125, 42, 17, 8, 0, 188, 10]
abbrev dktX5_init_14 : List UInt8 := dkwX5_init_14 ++ dktX5_init_15
def dkwX5_init_13 : List UInt8 := [42, 16, 36, 188, 10, 181, 0, 113, 42, 16, 36, 188, 10, 181, 0, 116, 42, 16, 6, 188, 10, 181, 0, 119]
abbrev dktX5_init_13 : List UInt8 := dkwX5_init_13 ++ dktX5_init_14
def dkwX5_init_12 : List UInt8 := [16, 13, 188, 11, 181, 0, 104, 42, 17, 1, 144, 188, 11, 181, 0, 107, 42, 16, 6, 188, 10, 181, 0, 110]
abbrev dktX5_init_12 : List UInt8 := dkwX5_init_12 ++ dktX5_init_13
def dkwX5_init_11 : List UInt8 := [5, 20, 0, 94, 80, 89, 6, 20, 0, 96, 80, 181, 0, 98, 42, 16, 13, 188, 11, 181, 0, 101, 42]
abbrev dktX5_init_11 : List UInt8 := dkwX5_init_11 ++ dktX5_init_12
def dkwX5_init_10 : List UInt8 := [20, 0, 61, 80, 181, 0, 87, 42, 7, 188, 11, 89, 3, 20, 0, 90, 80, 89, 4, 20, 0, 92, 80, 89]
abbrev dktX5_init_10 : List UInt8 := dkwX5_init_10 ++ dktX5_init_11
def dkwX5_init_9 : List UInt8 := [20, 0, 79, 80, 89, 5, 20, 0, 81, 80, 89, 6, 20, 0, 83, 80, 89, 7, 20, 0, 85, 80, 89, 8]
abbrev dktX5_init_9 : List UInt8 := dkwX5_init_9 ++ dktX5_init_10
def dkwX5_init_8 : List UInt8 := [89, 16, 8, 20, 0, 73, 80, 181, 0, 75, 42, 16, 6, 188, 11, 89, 3, 20, 0, 71, 80, 89, 4]
abbrev dktX5_init_8 : List UInt8 := dkwX5_init_8 ++ dktX5_init_9
def dkwX5_init_7 : List UInt8 := [20, 0, 65, 80, 89, 8, 20, 0, 67, 80, 89, 16, 6, 20, 0, 69, 80, 89, 16, 7, 20, 0, 71, 80]
abbrev dktX5_init_7 : List UInt8 := dkwX5_init_7 ++ dktX5_init_8
def dkwX5_init_6 : List UInt8 := [20, 0, 57, 80, 89, 4, 20, 0, 59, 80, 89, 5, 20, 0, 61, 80, 89, 6, 20, 0, 63, 80, 89, 7]
abbrev dktX5_init_6 : List UInt8 := dkwX5_init_6 ++ dktX5_init_7
def dkwX5_init_5 : List UInt8 := [17, 1, 144, 188, 10, 181, 0, 51, 42, 17, 1, 144, 188, 10, 181, 0, 54, 42, 16, 9, 188, 11, 89, 3]
abbrev dktX5_init_5 : List UInt8 := dkwX5_init_5 ++ dktX5_init_6
def dkwX5_init_4 : List UInt8 := [181, 0, 42, 42, 17, 1, 144, 188, 10, 181, 0, 45, 42, 17, 1, 144, 188, 10, 181, 0, 48, 42]
abbrev dktX5_init_4 : List UInt8 := dkwX5_init_4 ++ dktX5_init_5
def dkwX5_init_3 : List UInt8 := [181, 0, 32, 42, 17, 1, 144, 188, 10, 181, 0, 35, 42, 2, 181, 0, 38, 42, 16, 96, 188, 10]
abbrev dktX5_init_3 : List UInt8 := dkwX5_init_3 ++ dktX5_init_4
def dkwX5_init_2 : List UInt8 := [42, 16, 16, 188, 10, 181, 0, 26, 42, 17, 4, 176, 188, 10, 181, 0, 29, 42, 16, 16, 188, 10]
abbrev dktX5_init_2 : List UInt8 := dkwX5_init_2 ++ dktX5_init_3
def dkwX5_init_1 : List UInt8 := [17, 43, 24, 188, 10, 181, 0, 16, 42, 5, 188, 4, 181, 0, 19, 42, 17, 5, 70, 188, 10, 181, 0, 23]
abbrev dktX5_init_1 : List UInt8 := dkwX5_init_1 ++ dktX5_init_2
def dkwX5_init_0 : List UInt8 := [42, 183, 0, 1, 42, 16, 7, 188, 10, 181, 0, 7, 42, 17, 21, 140, 188, 10, 181, 0, 13, 42]
abbrev dktX5_init_0 : List UInt8 := dkwX5_init_0 ++ dktX5_init_1
theorem dksX5_init_0 : cX5_init.data.toList.drop 0 = dktX5_init_0 := by decide +kernel
theorem dksX5_init_1 : cX5_init.data.toList.drop 22 = dktX5_init_1 := dk_seg dksX5_init_0 22 rfl rfl
theorem dksX5_init_2 : cX5_init.data.toList.drop 46 = dktX5_init_2 := dk_seg dksX5_init_1 24 rfl rfl
theorem dksX5_init_3 : cX5_init.data.toList.drop 68 = dktX5_init_3 := dk_seg dksX5_init_2 22 rfl rfl
theorem dksX5_init_4 : cX5_init.data.toList.drop 90 = dktX5_init_4 := dk_seg dksX5_init_3 22 rfl rfl
theorem dksX5_init_5 : cX5_init.data.toList.drop 112 = dktX5_init_5 := dk_seg dksX5_init_4 22 rfl rfl
theorem dksX5_init_6 : cX5_init.data.toList.drop 136 = dktX5_init_6 := dk_seg dksX5_init_5 24 rfl rfl
theorem dksX5_init_7 : cX5_init.data.toList.drop 160 = dktX5_init_7 := dk_seg dksX5_init_6 24 rfl rfl
theorem dksX5_init_8 : cX5_init.data.toList.drop 184 = dktX5_init_8 := dk_seg dksX5_init_7 24 rfl rfl
theorem dksX5_init_9 : cX5_init.data.toList.drop 207 = dktX5_init_9 := dk_seg dksX5_init_8 23 rfl rfl
theorem dksX5_init_10 : cX5_init.data.toList.drop 231 = dktX5_init_10 := dk_seg dksX5_init_9 24 rfl rfl
theorem dksX5_init_11 : cX5_init.data.toList.drop 255 = dktX5_init_11 := dk_seg dksX5_init_10 24 rfl rfl
theorem dksX5_init_12 : cX5_init.data.toList.drop 278 = dktX5_init_12 := dk_seg dksX5_init_11 23 rfl rfl
theorem dksX5_init_13 : cX5_init.data.toList.drop 302 = dktX5_init_13 := dk_seg dksX5_init_12 24 rfl rfl
theorem dksX5_init_14 : cX5_init.data.toList.drop 326 = dktX5_init_14 := dk_seg dksX5_init_13 24 rfl rfl
theorem dksX5_init_15 : cX5_init.data.toList.drop 349 = dktX5_init_15 := dk_seg dksX5_init_14 23 rfl rfl
theorem dksX5_init_16 : cX5_init.data.toList.drop 372 = dktX5_init_16 := dk_seg dksX5_init_15 23 rfl rfl
theorem dksX5_init_17 : cX5_init.data.toList.drop 395 = dktX5_init_17 := dk_seg dksX5_init_16 23 rfl rfl
theorem dksX5_init_18 : cX5_init.data.toList.drop 419 = dktX5_init_18 := dk_seg dksX5_init_17 24 rfl rfl
theorem dksX5_init_19 : cX5_init.data.toList.drop 442 = dktX5_init_19 := dk_seg dksX5_init_18 23 rfl rfl
theorem dksX5_init_20 : cX5_init.data.toList.drop 466 = dktX5_init_20 := dk_seg dksX5_init_19 24 rfl rfl
theorem dX5_init_0 : decode cX5_init 0 = .ok (.aload_n 0, 1) := dk_42 (dk_at dksX5_init_0 0 rfl rfl)
theorem dX5_init_1 : decode cX5_init 1 = .ok (.invokespecial 1, 3) := dk_183 0 1 (dk_at dksX5_init_0 1 rfl rfl)
theorem dX5_init_4 : decode cX5_init 4 = .ok (.aload_n 0, 1) := dk_42 (dk_at dksX5_init_0 4 rfl rfl)
theorem dX5_init_5 : decode cX5_init 5 = .ok (.bipush 7, 2) := dk_16 7 (dk_at dksX5_init_0 5 rfl rfl)
theorem dX5_init_7 : decode cX5_init 7 = .ok (.newarray .int, 2) := dk_188_10 (dk_at dksX5_init_0 7 rfl rfl)
theorem dX5_init_9 : decode cX5_init 9 = .ok (.putfield 7, 3) := dk_181 0 7 (dk_at dksX5_init_0 9 rfl rfl)
theorem dX5_init_12 : decode cX5_init 12 = .ok (.aload_n 0, 1) := dk_42 (dk_at dksX5_init_0 12 rfl rfl)
theorem dX5_init_13 : decode cX5_init 13 = .ok (.sipush 5516, 3) := dk_17 21 140 (dk_at dksX5_init_0 13 rfl rfl)
theorem dX5_init_16 : decode cX5_init 16 = .ok (.newarray .int, 2) := dk_188_10 (dk_at dksX5_init_0 16 rfl rfl)
theorem dX5_init_18 : decode cX5_init 18 = .ok (.putfield 13, 3) := dk_181 0 13 (dk_at dksX5_init_0 18 rfl rfl)
theorem dX5_init_21 : decode cX5_init 21 = .ok (.aload_n 0, 1) := dk_42 (dk_at dksX5_init_0 21 rfl rfl)
theorem dX5_init_22 : decode cX5_init 22 = .ok (.sipush 11032, 3) := dk_17 43 24 (dk_at dksX5_init_1 0 rfl rfl)
theorem dX5_init_25 : decode cX5_init 25 = .ok (.newarray .int, 2) := dk_188_10 (dk_at dksX5_init_1 3 rfl rfl)
theorem dX5_init_27 : decode cX5_init 27 = .ok (.putfield 16, 3) := dk_181 0 16 (dk_at dksX5_init_1 5 rfl rfl)
theorem dX5_init_30 : decode cX5_init 30 = .ok (.aload_n 0, 1) := dk_42 (dk_at dksX5_init_1 8 rfl rfl)
theorem dX5_init_31 : decode cX5_init 31 = .ok (.iconst 2, 1) := dk_5 (dk_at dksX5_init_1 9 rfl rfl)
theorem dX5_init_32 : decode cX5_init 32 = .ok (.newarray .boolean, 2) := dk_188_4 (dk_at dksX5_init_1 10 rfl rfl)
theorem dX5_init_34 : decode cX5_init 34 = .ok (.putfield 19, 3) := dk_181 0 19 (dk_at dksX5_init_1 12 rfl rfl)
theorem dX5_init_37 : decode cX5_init 37 = .ok (.aload_n 0, 1) := dk_42 (dk_at dksX5_init_1 15 rfl rfl)
theorem dX5_init_38 : decode cX5_init 38 = .ok (.sipush 1350, 3) := dk_17 5 70 (dk_at dksX5_init_1 16 rfl rfl)
theorem dX5_init_41 : decode cX5_init 41 = .ok (.newarray .int, 2) := dk_188_10 (dk_at dksX5_init_1 19 rfl rfl)
theorem dX5_init_43 : decode cX5_init 43 = .ok (.putfield 23, 3) := dk_181 0 23 (dk_at dksX5_init_1 21 rfl rfl)
theorem dX5_init_46 : decode cX5_init 46 = .ok (.aload_n 0, 1) := dk_42 (dk_at dksX5_init_2 0 rfl rfl)
theorem dX5_init_47 : decode cX5_init 47 = .ok (.bipush 16, 2) := dk_16 16 (dk_at dksX5_init_2 1 rfl rfl)
theorem dX5_init_49 : decode cX5_init 49 = .ok (.newarray .int, 2) := dk_188_10 (dk_at dksX5_init_2 3 rfl rfl)
theorem dX5_init_51 : decode cX5_init 51 = .ok (.putfield 26, 3) := dk_181 0 26 (dk_at dksX5_init_2 5 rfl rfl)
theorem dX5_init_54 : decode cX5_init 54 = .ok (.aload_n 0, 1) := dk_42 (dk_at dksX5_init_2 8 rfl rfl)
theorem dX5_init_55 : decode cX5_init 55 = .ok (.sipush 1200, 3) := dk_17 4 176 (dk_at dksX5_init_2 9 rfl rfl)
theorem dX5_init_58 : decode cX5_init 58 = .ok (.newarray .int, 2) := dk_188_10 (dk_at dksX5_init_2 12 rfl rfl)
theorem dX5_init_60 : decode cX5_init 60 = .ok (.putfield 29, 3) := dk_181 0 29 (dk_at dksX5_init_2 14 rfl rfl)
theorem dX5_init_63 : decode cX5_init 63 = .ok (.aload_n 0, 1) := dk_42 (dk_at dksX5_init_2 17 rfl rfl)
theorem dX5_init_64 : decode cX5_init 64 = .ok (.bipush 16, 2) := dk_16 16 (dk_at dksX5_init_2 18 rfl rfl)
theorem dX5_init_66 : decode cX5_init 66 = .ok (.newarray .int, 2) := dk_188_10 (dk_at dksX5_init_2 20 rfl rfl)
theorem dX5_init_68 : decode cX5_init 68 = .ok (.putfield 32, 3) := dk_181 0 32 (dk_at dksX5_init_3 0 rfl rfl)
theorem dX5_init_71 : decode cX5_init 71 = .ok (.aload_n 0, 1) := dk_42 (dk_at dksX5_init_3 3 rfl rfl)
theorem dX5_init_72 : decode cX5_init 72 = .ok (.sipush 400, 3) := dk_17 1 144 (dk_at dksX5_init_3 4 rfl rfl)
theorem dX5_init_75 : decode cX5_init 75 = .ok (.newarray .int, 2) := dk_188_10 (dk_at dksX5_init_3 7 rfl rfl)
theorem dX5_init_77 : decode cX5_init 77 = .ok (.putfield 35, 3) := dk_181 0 35 (dk_at dksX5_init_3 9 rfl rfl)
theorem dX5_init_80 : decode cX5_init 80 = .ok (.aload_n 0, 1) := dk_42 (dk_at dksX5_init_3 12 rfl rfl)
theorem dX5_init_81 : decode cX5_init 81 = .ok (.iconst (-1), 1) := dk_2 (dk_at dksX5_init_3 13 rfl rfl)
theorem dX5_init_82 : decode cX5_init 82 = .ok (.putfield 38, 3) := dk_181 0 38 (dk_at dksX5_init_3 14 rfl rfl)
theorem dX5_init_85 : decode cX5_init 85 = .ok (.aload_n 0, 1) := dk_42 (dk_at dksX5_init_3 17 rfl rfl)
theorem dX5_init_86 : decode cX5_init 86 = .ok (.bipush 96, 2) := dk_16 96 (dk_at dksX5_init_3 18 rfl rfl)
theorem dX5_init_88 : decode cX5_init 88 = .ok (.newarray .int, 2) := dk_188_10 (dk_at dksX5_init_3 20 rfl rfl)
theorem dX5_init_90 : decode cX5_init 90 = .ok (.putfield 42, 3) := dk_181 0 42 (dk_at dksX5_init_4 0 rfl rfl)
theorem dX5_init_93 : decode cX5_init 93 = .ok (.aload_n 0, 1) := dk_42 (dk_at dksX5_init_4 3 rfl rfl)
theorem dX5_init_94 : decode cX5_init 94 = .ok (.sipush 400, 3) := dk_17 1 144 (dk_at dksX5_init_4 4 rfl rfl)
theorem dX5_init_97 : decode cX5_init 97 = .ok (.newarray .int, 2) := dk_188_10 (dk_at dksX5_init_4 7 rfl rfl)
theorem dX5_init_99 : decode cX5_init 99 = .ok (.putfield 45, 3) := dk_181 0 45 (dk_at dksX5_init_4 9 rfl rfl)
theorem dX5_init_102 : decode cX5_init 102 = .ok (.aload_n 0, 1) := dk_42 (dk_at dksX5_init_4 12 rfl rfl)
theorem dX5_init_103 : decode cX5_init 103 = .ok (.sipush 400, 3) := dk_17 1 144 (dk_at dksX5_init_4 13 rfl rfl)
theorem dX5_init_106 : decode cX5_init 106 = .ok (.newarray .int, 2) := dk_188_10 (dk_at dksX5_init_4 16 rfl rfl)
theorem dX5_init_108 : decode cX5_init 108 = .ok (.putfield 48, 3) := dk_181 0 48 (dk_at dksX5_init_4 18 rfl rfl)
theorem dX5_init_111 : decode cX5_init 111 = .ok (.aload_n 0, 1) := dk_42 (dk_at dksX5_init_4 21 rfl rfl)
theorem dX5_init_112 : decode cX5_init 112 = .ok (.sipush 400, 3) := dk_17 1 144 (dk_at dksX5_init_5 0 rfl rfl)
theorem dX5_init_115 : decode cX5_init 115 = .ok (.newarray .int, 2) := dk_188_10 (dk_at dksX5_init_5 3 rfl rfl)
theorem dX5_init_117 : decode cX5_init 117 = .ok (.putfield 51, 3) := dk_181 0 51 (dk_at dksX5_init_5 5 rfl rfl)
theorem dX5_init_120 : decode cX5_init 120 = .ok (.aload_n 0, 1) := dk_42 (dk_at dksX5_init_5 8 rfl rfl)
theorem dX5_init_121 : decode cX5_init 121 = .ok (.sipush 400, 3) := dk_17 1 144 (dk_at dksX5_init_5 9 rfl rfl)
theorem dX5_init_124 : decode cX5_init 124 = .ok (.newarray .int, 2) := dk_188_10 (dk_at dksX5_init_5 12 rfl rfl)
theorem dX5_init_126 : decode cX5_init 126 = .ok (.putfield 54, 3) := dk_181 0 54 (dk_at dksX5_init_5 14 rfl rfl)
theorem dX5_init_129 : decode cX5_init 129 = .ok (.aload_n 0, 1) := dk_42 (dk_at dksX5_init_5 17 rfl rfl)
theorem dX5_init_130 : decode cX5_init 130 = .ok (.bipush 9, 2) := dk_16 9 (dk_at dksX5_init_5 18 rfl rfl)
theorem dX5_init_132 : decode cX5_init 132 = .ok (.newarray .long, 2) := dk_188_11 (dk_at dksX5_init_5 20 rfl rfl)
theorem dX5_init_134 : decode cX5_init 134 = .ok (.dup, 1) := dk_89 (dk_at dksX5_init_5 22 rfl rfl)
theorem dX5_init_135 : decode cX5_init 135 = .ok (.iconst 0, 1) := dk_3 (dk_at dksX5_init_5 23 rfl rfl)
theorem dX5_init_136 : decode cX5_init 136 = .ok (.ldc2_w 57, 3) := dk_20 0 57 (dk_at dksX5_init_6 0 rfl rfl)
theorem dX5_init_139 : decode cX5_init 139 = .ok (.lastore, 1) := dk_80 (dk_at dksX5_init_6 3 rfl rfl)
theorem dX5_init_140 : decode cX5_init 140 = .ok (.dup, 1) := dk_89 (dk_at dksX5_init_6 4 rfl rfl)
theorem dX5_init_141 : decode cX5_init 141 = .ok (.iconst 1, 1) := dk_4 (dk_at dksX5_init_6 5 rfl rfl)
theorem dX5_init_142 : decode cX5_init 142 = .ok (.ldc2_w 59, 3) := dk_20 0 59 (dk_at dksX5_init_6 6 rfl rfl)
theorem dX5_init_145 : decode cX5_init 145 = .ok (.lastore, 1) := dk_80 (dk_at dksX5_init_6 9 rfl rfl)
theorem dX5_init_146 : decode cX5_init 146 = .ok (.dup, 1) := dk_89 (dk_at dksX5_init_6 10 rfl rfl)
theorem dX5_init_147 : decode cX5_init 147 = .ok (.iconst 2, 1) := dk_5 (dk_at dksX5_init_6 11 rfl rfl)
theorem dX5_init_148 : decode cX5_init 148 = .ok (.ldc2_w 61, 3) := dk_20 0 61 (dk_at dksX5_init_6 12 rfl rfl)
theorem dX5_init_151 : decode cX5_init 151 = .ok (.lastore, 1) := dk_80 (dk_at dksX5_init_6 15 rfl rfl)
theorem dX5_init_152 : decode cX5_init 152 = .ok (.dup, 1) := dk_89 (dk_at dksX5_init_6 16 rfl rfl)
theorem dX5_init_153 : decode cX5_init 153 = .ok (.iconst 3, 1) := dk_6 (dk_at dksX5_init_6 17 rfl rfl)
theorem dX5_init_154 : decode cX5_init 154 = .ok (.ldc2_w 63, 3) := dk_20 0 63 (dk_at dksX5_init_6 18 rfl rfl)
theorem dX5_init_157 : decode cX5_init 157 = .ok (.lastore, 1) := dk_80 (dk_at dksX5_init_6 21 rfl rfl)
theorem dX5_init_158 : decode cX5_init 158 = .ok (.dup, 1) := dk_89 (dk_at dksX5_init_6 22 rfl rfl)
theorem dX5_init_159 : decode cX5_init 159 = .ok (.iconst 4, 1) := dk_7 (dk_at dksX5_init_6 23 rfl rfl)
theorem dX5_init_160 : decode cX5_init 160 = .ok (.ldc2_w 65, 3) := dk_20 0 65 (dk_at dksX5_init_7 0 rfl rfl)
theorem dX5_init_163 : decode cX5_init 163 = .ok (.lastore, 1) := dk_80 (dk_at dksX5_init_7 3 rfl rfl)
theorem dX5_init_164 : decode cX5_init 164 = .ok (.dup, 1) := dk_89 (dk_at dksX5_init_7 4 rfl rfl)
theorem dX5_init_165 : decode cX5_init 165 = .ok (.iconst 5, 1) := dk_8 (dk_at dksX5_init_7 5 rfl rfl)
theorem dX5_init_166 : decode cX5_init 166 = .ok (.ldc2_w 67, 3) := dk_20 0 67 (dk_at dksX5_init_7 6 rfl rfl)
theorem dX5_init_169 : decode cX5_init 169 = .ok (.lastore, 1) := dk_80 (dk_at dksX5_init_7 9 rfl rfl)
theorem dX5_init_170 : decode cX5_init 170 = .ok (.dup, 1) := dk_89 (dk_at dksX5_init_7 10 rfl rfl)
theorem dX5_init_171 : decode cX5_init 171 = .ok (.bipush 6, 2) := dk_16 6 (dk_at dksX5_init_7 11 rfl rfl)
theorem dX5_init_173 : decode cX5_init 173 = .ok (.ldc2_w 69, 3) := dk_20 0 69 (dk_at dksX5_init_7 13 rfl rfl)
theorem dX5_init_176 : decode cX5_init 176 = .ok (.lastore, 1) := dk_80 (dk_at dksX5_init_7 16 rfl rfl)
theorem dX5_init_177 : decode cX5_init 177 = .ok (.dup, 1) := dk_89 (dk_at dksX5_init_7 17 rfl rfl)
theorem dX5_init_178 : decode cX5_init 178 = .ok (.bipush 7, 2) := dk_16 7 (dk_at dksX5_init_7 18 rfl rfl)
theorem dX5_init_180 : decode cX5_init 180 = .ok (.ldc2_w 71, 3) := dk_20 0 71 (dk_at dksX5_init_7 20 rfl rfl)
theorem dX5_init_183 : decode cX5_init 183 = .ok (.lastore, 1) := dk_80 (dk_at dksX5_init_7 23 rfl rfl)
theorem dX5_init_184 : decode cX5_init 184 = .ok (.dup, 1) := dk_89 (dk_at dksX5_init_8 0 rfl rfl)
theorem dX5_init_185 : decode cX5_init 185 = .ok (.bipush 8, 2) := dk_16 8 (dk_at dksX5_init_8 1 rfl rfl)
theorem dX5_init_187 : decode cX5_init 187 = .ok (.ldc2_w 73, 3) := dk_20 0 73 (dk_at dksX5_init_8 3 rfl rfl)
theorem dX5_init_190 : decode cX5_init 190 = .ok (.lastore, 1) := dk_80 (dk_at dksX5_init_8 6 rfl rfl)
theorem dX5_init_191 : decode cX5_init 191 = .ok (.putfield 75, 3) := dk_181 0 75 (dk_at dksX5_init_8 7 rfl rfl)
theorem dX5_init_194 : decode cX5_init 194 = .ok (.aload_n 0, 1) := dk_42 (dk_at dksX5_init_8 10 rfl rfl)
theorem dX5_init_195 : decode cX5_init 195 = .ok (.bipush 6, 2) := dk_16 6 (dk_at dksX5_init_8 11 rfl rfl)
theorem dX5_init_197 : decode cX5_init 197 = .ok (.newarray .long, 2) := dk_188_11 (dk_at dksX5_init_8 13 rfl rfl)
theorem dX5_init_199 : decode cX5_init 199 = .ok (.dup, 1) := dk_89 (dk_at dksX5_init_8 15 rfl rfl)
theorem dX5_init_200 : decode cX5_init 200 = .ok (.iconst 0, 1) := dk_3 (dk_at dksX5_init_8 16 rfl rfl)
theorem dX5_init_201 : decode cX5_init 201 = .ok (.ldc2_w 71, 3) := dk_20 0 71 (dk_at dksX5_init_8 17 rfl rfl)
theorem dX5_init_204 : decode cX5_init 204 = .ok (.lastore, 1) := dk_80 (dk_at dksX5_init_8 20 rfl rfl)
theorem dX5_init_205 : decode cX5_init 205 = .ok (.dup, 1) := dk_89 (dk_at dksX5_init_8 21 rfl rfl)
theorem dX5_init_206 : decode cX5_init 206 = .ok (.iconst 1, 1) := dk_4 (dk_at dksX5_init_8 22 rfl rfl)
theorem dX5_init_207 : decode cX5_init 207 = .ok (.ldc2_w 79, 3) := dk_20 0 79 (dk_at dksX5_init_9 0 rfl rfl)
theorem dX5_init_210 : decode cX5_init 210 = .ok (.lastore, 1) := dk_80 (dk_at dksX5_init_9 3 rfl rfl)
theorem dX5_init_211 : decode cX5_init 211 = .ok (.dup, 1) := dk_89 (dk_at dksX5_init_9 4 rfl rfl)
theorem dX5_init_212 : decode cX5_init 212 = .ok (.iconst 2, 1) := dk_5 (dk_at dksX5_init_9 5 rfl rfl)
theorem dX5_init_213 : decode cX5_init 213 = .ok (.ldc2_w 81, 3) := dk_20 0 81 (dk_at dksX5_init_9 6 rfl rfl)
theorem dX5_init_216 : decode cX5_init 216 = .ok (.lastore, 1) := dk_80 (dk_at dksX5_init_9 9 rfl rfl)
theorem dX5_init_217 : decode cX5_init 217 = .ok (.dup, 1) := dk_89 (dk_at dksX5_init_9 10 rfl rfl)
theorem dX5_init_218 : decode cX5_init 218 = .ok (.iconst 3, 1) := dk_6 (dk_at dksX5_init_9 11 rfl rfl)
theorem dX5_init_219 : decode cX5_init 219 = .ok (.ldc2_w 83, 3) := dk_20 0 83 (dk_at dksX5_init_9 12 rfl rfl)
theorem dX5_init_222 : decode cX5_init 222 = .ok (.lastore, 1) := dk_80 (dk_at dksX5_init_9 15 rfl rfl)
theorem dX5_init_223 : decode cX5_init 223 = .ok (.dup, 1) := dk_89 (dk_at dksX5_init_9 16 rfl rfl)
theorem dX5_init_224 : decode cX5_init 224 = .ok (.iconst 4, 1) := dk_7 (dk_at dksX5_init_9 17 rfl rfl)
theorem dX5_init_225 : decode cX5_init 225 = .ok (.ldc2_w 85, 3) := dk_20 0 85 (dk_at dksX5_init_9 18 rfl rfl)
theorem dX5_init_228 : decode cX5_init 228 = .ok (.lastore, 1) := dk_80 (dk_at dksX5_init_9 21 rfl rfl)
theorem dX5_init_229 : decode cX5_init 229 = .ok (.dup, 1) := dk_89 (dk_at dksX5_init_9 22 rfl rfl)
theorem dX5_init_230 : decode cX5_init 230 = .ok (.iconst 5, 1) := dk_8 (dk_at dksX5_init_9 23 rfl rfl)
theorem dX5_init_231 : decode cX5_init 231 = .ok (.ldc2_w 61, 3) := dk_20 0 61 (dk_at dksX5_init_10 0 rfl rfl)
theorem dX5_init_234 : decode cX5_init 234 = .ok (.lastore, 1) := dk_80 (dk_at dksX5_init_10 3 rfl rfl)
theorem dX5_init_235 : decode cX5_init 235 = .ok (.putfield 87, 3) := dk_181 0 87 (dk_at dksX5_init_10 4 rfl rfl)
theorem dX5_init_238 : decode cX5_init 238 = .ok (.aload_n 0, 1) := dk_42 (dk_at dksX5_init_10 7 rfl rfl)
theorem dX5_init_239 : decode cX5_init 239 = .ok (.iconst 4, 1) := dk_7 (dk_at dksX5_init_10 8 rfl rfl)
theorem dX5_init_240 : decode cX5_init 240 = .ok (.newarray .long, 2) := dk_188_11 (dk_at dksX5_init_10 9 rfl rfl)
theorem dX5_init_242 : decode cX5_init 242 = .ok (.dup, 1) := dk_89 (dk_at dksX5_init_10 11 rfl rfl)
theorem dX5_init_243 : decode cX5_init 243 = .ok (.iconst 0, 1) := dk_3 (dk_at dksX5_init_10 12 rfl rfl)
theorem dX5_init_244 : decode cX5_init 244 = .ok (.ldc2_w 90, 3) := dk_20 0 90 (dk_at dksX5_init_10 13 rfl rfl)
theorem dX5_init_247 : decode cX5_init 247 = .ok (.lastore, 1) := dk_80 (dk_at dksX5_init_10 16 rfl rfl)
theorem dX5_init_248 : decode cX5_init 248 = .ok (.dup, 1) := dk_89 (dk_at dksX5_init_10 17 rfl rfl)
theorem dX5_init_249 : decode cX5_init 249 = .ok (.iconst 1, 1) := dk_4 (dk_at dksX5_init_10 18 rfl rfl)
theorem dX5_init_250 : decode cX5_init 250 = .ok (.ldc2_w 92, 3) := dk_20 0 92 (dk_at dksX5_init_10 19 rfl rfl)
theorem dX5_init_253 : decode cX5_init 253 = .ok (.lastore, 1) := dk_80 (dk_at dksX5_init_10 22 rfl rfl)
theorem dX5_init_254 : decode cX5_init 254 = .ok (.dup, 1) := dk_89 (dk_at dksX5_init_10 23 rfl rfl)
theorem dX5_init_255 : decode cX5_init 255 = .ok (.iconst 2, 1) := dk_5 (dk_at dksX5_init_11 0 rfl rfl)
theorem dX5_init_256 : decode cX5_init 256 = .ok (.ldc2_w 94, 3) := dk_20 0 94 (dk_at dksX5_init_11 1 rfl rfl)
theorem dX5_init_259 : decode cX5_init 259 = .ok (.lastore, 1) := dk_80 (dk_at dksX5_init_11 4 rfl rfl)
theorem dX5_init_260 : decode cX5_init 260 = .ok (.dup, 1) := dk_89 (dk_at dksX5_init_11 5 rfl rfl)
theorem dX5_init_261 : decode cX5_init 261 = .ok (.iconst 3, 1) := dk_6 (dk_at dksX5_init_11 6 rfl rfl)
theorem dX5_init_262 : decode cX5_init 262 = .ok (.ldc2_w 96, 3) := dk_20 0 96 (dk_at dksX5_init_11 7 rfl rfl)
theorem dX5_init_265 : decode cX5_init 265 = .ok (.lastore, 1) := dk_80 (dk_at dksX5_init_11 10 rfl rfl)
theorem dX5_init_266 : decode cX5_init 266 = .ok (.putfield 98, 3) := dk_181 0 98 (dk_at dksX5_init_11 11 rfl rfl)
theorem dX5_init_269 : decode cX5_init 269 = .ok (.aload_n 0, 1) := dk_42 (dk_at dksX5_init_11 14 rfl rfl)
theorem dX5_init_270 : decode cX5_init 270 = .ok (.bipush 13, 2) := dk_16 13 (dk_at dksX5_init_11 15 rfl rfl)
theorem dX5_init_272 : decode cX5_init 272 = .ok (.newarray .long, 2) := dk_188_11 (dk_at dksX5_init_11 17 rfl rfl)
theorem dX5_init_274 : decode cX5_init 274 = .ok (.putfield 101, 3) := dk_181 0 101 (dk_at dksX5_init_11 19 rfl rfl)
theorem dX5_init_277 : decode cX5_init 277 = .ok (.aload_n 0, 1) := dk_42 (dk_at dksX5_init_11 22 rfl rfl)
theorem dX5_init_278 : decode cX5_init 278 = .ok (.bipush 13, 2) := dk_16 13 (dk_at dksX5_init_12 0 rfl rfl)
theorem dX5_init_280 : decode cX5_init 280 = .ok (.newarray .long, 2) := dk_188_11 (dk_at dksX5_init_12 2 rfl rfl)
theorem dX5_init_282 : decode cX5_init 282 = .ok (.putfield 104, 3) := dk_181 0 104 (dk_at dksX5_init_12 4 rfl rfl)
theorem dX5_init_285 : decode cX5_init 285 = .ok (.aload_n 0, 1) := dk_42 (dk_at dksX5_init_12 7 rfl rfl)
theorem dX5_init_286 : decode cX5_init 286 = .ok (.sipush 400, 3) := dk_17 1 144 (dk_at dksX5_init_12 8 rfl rfl)
theorem dX5_init_289 : decode cX5_init 289 = .ok (.newarray .long, 2) := dk_188_11 (dk_at dksX5_init_12 11 rfl rfl)
theorem dX5_init_291 : decode cX5_init 291 = .ok (.putfield 107, 3) := dk_181 0 107 (dk_at dksX5_init_12 13 rfl rfl)
theorem dX5_init_294 : decode cX5_init 294 = .ok (.aload_n 0, 1) := dk_42 (dk_at dksX5_init_12 16 rfl rfl)
theorem dX5_init_295 : decode cX5_init 295 = .ok (.bipush 6, 2) := dk_16 6 (dk_at dksX5_init_12 17 rfl rfl)
theorem dX5_init_297 : decode cX5_init 297 = .ok (.newarray .int, 2) := dk_188_10 (dk_at dksX5_init_12 19 rfl rfl)
theorem dX5_init_299 : decode cX5_init 299 = .ok (.putfield 110, 3) := dk_181 0 110 (dk_at dksX5_init_12 21 rfl rfl)
theorem dX5_init_302 : decode cX5_init 302 = .ok (.aload_n 0, 1) := dk_42 (dk_at dksX5_init_13 0 rfl rfl)
theorem dX5_init_303 : decode cX5_init 303 = .ok (.bipush 36, 2) := dk_16 36 (dk_at dksX5_init_13 1 rfl rfl)
theorem dX5_init_305 : decode cX5_init 305 = .ok (.newarray .int, 2) := dk_188_10 (dk_at dksX5_init_13 3 rfl rfl)
theorem dX5_init_307 : decode cX5_init 307 = .ok (.putfield 113, 3) := dk_181 0 113 (dk_at dksX5_init_13 5 rfl rfl)
theorem dX5_init_310 : decode cX5_init 310 = .ok (.aload_n 0, 1) := dk_42 (dk_at dksX5_init_13 8 rfl rfl)
theorem dX5_init_311 : decode cX5_init 311 = .ok (.bipush 36, 2) := dk_16 36 (dk_at dksX5_init_13 9 rfl rfl)
theorem dX5_init_313 : decode cX5_init 313 = .ok (.newarray .int, 2) := dk_188_10 (dk_at dksX5_init_13 11 rfl rfl)
theorem dX5_init_315 : decode cX5_init 315 = .ok (.putfield 116, 3) := dk_181 0 116 (dk_at dksX5_init_13 13 rfl rfl)
theorem dX5_init_318 : decode cX5_init 318 = .ok (.aload_n 0, 1) := dk_42 (dk_at dksX5_init_13 16 rfl rfl)
theorem dX5_init_319 : decode cX5_init 319 = .ok (.bipush 6, 2) := dk_16 6 (dk_at dksX5_init_13 17 rfl rfl)
theorem dX5_init_321 : decode cX5_init 321 = .ok (.newarray .int, 2) := dk_188_10 (dk_at dksX5_init_13 19 rfl rfl)
theorem dX5_init_323 : decode cX5_init 323 = .ok (.putfield 119, 3) := dk_181 0 119 (dk_at dksX5_init_13 21 rfl rfl)
theorem dX5_init_326 : decode cX5_init 326 = .ok (.aload_n 0, 1) := dk_42 (dk_at dksX5_init_14 0 rfl rfl)
theorem dX5_init_327 : decode cX5_init 327 = .ok (.bipush 36, 2) := dk_16 36 (dk_at dksX5_init_14 1 rfl rfl)
theorem dX5_init_329 : decode cX5_init 329 = .ok (.newarray .boolean, 2) := dk_188_4 (dk_at dksX5_init_14 3 rfl rfl)
theorem dX5_init_331 : decode cX5_init 331 = .ok (.putfield 122, 3) := dk_181 0 122 (dk_at dksX5_init_14 5 rfl rfl)
theorem dX5_init_334 : decode cX5_init 334 = .ok (.aload_n 0, 1) := dk_42 (dk_at dksX5_init_14 8 rfl rfl)
theorem dX5_init_335 : decode cX5_init 335 = .ok (.sipush 448, 3) := dk_17 1 192 (dk_at dksX5_init_14 9 rfl rfl)
theorem dX5_init_338 : decode cX5_init 338 = .ok (.newarray .int, 2) := dk_188_10 (dk_at dksX5_init_14 12 rfl rfl)
theorem dX5_init_340 : decode cX5_init 340 = .ok (.putfield 125, 3) := dk_181 0 125 (dk_at dksX5_init_14 14 rfl rfl)
theorem dX5_init_343 : decode cX5_init 343 = .ok (.aload_n 0, 1) := dk_42 (dk_at dksX5_init_14 17 rfl rfl)
theorem dX5_init_344 : decode cX5_init 344 = .ok (.sipush 2048, 3) := dk_17 8 0 (dk_at dksX5_init_14 18 rfl rfl)
theorem dX5_init_347 : decode cX5_init 347 = .ok (.newarray .int, 2) := dk_188_10 (dk_at dksX5_init_14 21 rfl rfl)
theorem dX5_init_349 : decode cX5_init 349 = .ok (.putfield 128, 3) := dk_181 0 128 (dk_at dksX5_init_15 0 rfl rfl)
theorem dX5_init_352 : decode cX5_init 352 = .ok (.aload_n 0, 1) := dk_42 (dk_at dksX5_init_15 3 rfl rfl)
theorem dX5_init_353 : decode cX5_init 353 = .ok (.bipush 8, 2) := dk_16 8 (dk_at dksX5_init_15 4 rfl rfl)
theorem dX5_init_355 : decode cX5_init 355 = .ok (.newarray .int, 2) := dk_188_10 (dk_at dksX5_init_15 6 rfl rfl)
theorem dX5_init_357 : decode cX5_init 357 = .ok (.putfield 131, 3) := dk_181 0 131 (dk_at dksX5_init_15 8 rfl rfl)
theorem dX5_init_360 : decode cX5_init 360 = .ok (.aload_n 0, 1) := dk_42 (dk_at dksX5_init_15 11 rfl rfl)
theorem dX5_init_361 : decode cX5_init 361 = .ok (.iconst 3, 1) := dk_6 (dk_at dksX5_init_15 12 rfl rfl)
theorem dX5_init_362 : decode cX5_init 362 = .ok (.newarray .int, 2) := dk_188_10 (dk_at dksX5_init_15 13 rfl rfl)
theorem dX5_init_364 : decode cX5_init 364 = .ok (.putfield 134, 3) := dk_181 0 134 (dk_at dksX5_init_15 15 rfl rfl)
theorem dX5_init_367 : decode cX5_init 367 = .ok (.aload_n 0, 1) := dk_42 (dk_at dksX5_init_15 18 rfl rfl)
theorem dX5_init_368 : decode cX5_init 368 = .ok (.bipush 6, 2) := dk_16 6 (dk_at dksX5_init_15 19 rfl rfl)
theorem dX5_init_370 : decode cX5_init 370 = .ok (.newarray .int, 2) := dk_188_10 (dk_at dksX5_init_15 21 rfl rfl)
theorem dX5_init_372 : decode cX5_init 372 = .ok (.putfield 137, 3) := dk_181 0 137 (dk_at dksX5_init_16 0 rfl rfl)
theorem dX5_init_375 : decode cX5_init 375 = .ok (.aload_n 0, 1) := dk_42 (dk_at dksX5_init_16 3 rfl rfl)
theorem dX5_init_376 : decode cX5_init 376 = .ok (.bipush 21, 2) := dk_16 21 (dk_at dksX5_init_16 4 rfl rfl)
theorem dX5_init_378 : decode cX5_init 378 = .ok (.newarray .long, 2) := dk_188_11 (dk_at dksX5_init_16 6 rfl rfl)
theorem dX5_init_380 : decode cX5_init 380 = .ok (.putfield 140, 3) := dk_181 0 140 (dk_at dksX5_init_16 8 rfl rfl)
theorem dX5_init_383 : decode cX5_init 383 = .ok (.aload_n 0, 1) := dk_42 (dk_at dksX5_init_16 11 rfl rfl)
theorem dX5_init_384 : decode cX5_init 384 = .ok (.iconst 4, 1) := dk_7 (dk_at dksX5_init_16 12 rfl rfl)
theorem dX5_init_385 : decode cX5_init 385 = .ok (.newarray .long, 2) := dk_188_11 (dk_at dksX5_init_16 13 rfl rfl)
theorem dX5_init_387 : decode cX5_init 387 = .ok (.dup, 1) := dk_89 (dk_at dksX5_init_16 15 rfl rfl)
theorem dX5_init_388 : decode cX5_init 388 = .ok (.iconst 0, 1) := dk_3 (dk_at dksX5_init_16 16 rfl rfl)
theorem dX5_init_389 : decode cX5_init 389 = .ok (.ldc2_w 143, 3) := dk_20 0 143 (dk_at dksX5_init_16 17 rfl rfl)
theorem dX5_init_392 : decode cX5_init 392 = .ok (.lastore, 1) := dk_80 (dk_at dksX5_init_16 20 rfl rfl)
theorem dX5_init_393 : decode cX5_init 393 = .ok (.dup, 1) := dk_89 (dk_at dksX5_init_16 21 rfl rfl)
theorem dX5_init_394 : decode cX5_init 394 = .ok (.iconst 1, 1) := dk_4 (dk_at dksX5_init_16 22 rfl rfl)
theorem dX5_init_395 : decode cX5_init 395 = .ok (.ldc2_w 145, 3) := dk_20 0 145 (dk_at dksX5_init_17 0 rfl rfl)
theorem dX5_init_398 : decode cX5_init 398 = .ok (.lastore, 1) := dk_80 (dk_at dksX5_init_17 3 rfl rfl)
theorem dX5_init_399 : decode cX5_init 399 = .ok (.dup, 1) := dk_89 (dk_at dksX5_init_17 4 rfl rfl)
theorem dX5_init_400 : decode cX5_init 400 = .ok (.iconst 2, 1) := dk_5 (dk_at dksX5_init_17 5 rfl rfl)
theorem dX5_init_401 : decode cX5_init 401 = .ok (.ldc2_w 147, 3) := dk_20 0 147 (dk_at dksX5_init_17 6 rfl rfl)
theorem dX5_init_404 : decode cX5_init 404 = .ok (.lastore, 1) := dk_80 (dk_at dksX5_init_17 9 rfl rfl)
theorem dX5_init_405 : decode cX5_init 405 = .ok (.dup, 1) := dk_89 (dk_at dksX5_init_17 10 rfl rfl)
theorem dX5_init_406 : decode cX5_init 406 = .ok (.iconst 3, 1) := dk_6 (dk_at dksX5_init_17 11 rfl rfl)
theorem dX5_init_407 : decode cX5_init 407 = .ok (.ldc2_w 149, 3) := dk_20 0 149 (dk_at dksX5_init_17 12 rfl rfl)
theorem dX5_init_410 : decode cX5_init 410 = .ok (.lastore, 1) := dk_80 (dk_at dksX5_init_17 15 rfl rfl)
theorem dX5_init_411 : decode cX5_init 411 = .ok (.putfield 151, 3) := dk_181 0 151 (dk_at dksX5_init_17 16 rfl rfl)
theorem dX5_init_414 : decode cX5_init 414 = .ok (.aload_n 0, 1) := dk_42 (dk_at dksX5_init_17 19 rfl rfl)
theorem dX5_init_415 : decode cX5_init 415 = .ok (.iconst 3, 1) := dk_6 (dk_at dksX5_init_17 20 rfl rfl)
theorem dX5_init_416 : decode cX5_init 416 = .ok (.newarray .long, 2) := dk_188_11 (dk_at dksX5_init_17 21 rfl rfl)
theorem dX5_init_418 : decode cX5_init 418 = .ok (.dup, 1) := dk_89 (dk_at dksX5_init_17 23 rfl rfl)
theorem dX5_init_419 : decode cX5_init 419 = .ok (.iconst 0, 1) := dk_3 (dk_at dksX5_init_18 0 rfl rfl)
theorem dX5_init_420 : decode cX5_init 420 = .ok (.ldc2_w 154, 3) := dk_20 0 154 (dk_at dksX5_init_18 1 rfl rfl)
theorem dX5_init_423 : decode cX5_init 423 = .ok (.lastore, 1) := dk_80 (dk_at dksX5_init_18 4 rfl rfl)
theorem dX5_init_424 : decode cX5_init 424 = .ok (.dup, 1) := dk_89 (dk_at dksX5_init_18 5 rfl rfl)
theorem dX5_init_425 : decode cX5_init 425 = .ok (.iconst 1, 1) := dk_4 (dk_at dksX5_init_18 6 rfl rfl)
theorem dX5_init_426 : decode cX5_init 426 = .ok (.ldc2_w 156, 3) := dk_20 0 156 (dk_at dksX5_init_18 7 rfl rfl)
theorem dX5_init_429 : decode cX5_init 429 = .ok (.lastore, 1) := dk_80 (dk_at dksX5_init_18 10 rfl rfl)
theorem dX5_init_430 : decode cX5_init 430 = .ok (.dup, 1) := dk_89 (dk_at dksX5_init_18 11 rfl rfl)
theorem dX5_init_431 : decode cX5_init 431 = .ok (.iconst 2, 1) := dk_5 (dk_at dksX5_init_18 12 rfl rfl)
theorem dX5_init_432 : decode cX5_init 432 = .ok (.ldc2_w 158, 3) := dk_20 0 158 (dk_at dksX5_init_18 13 rfl rfl)
theorem dX5_init_435 : decode cX5_init 435 = .ok (.lastore, 1) := dk_80 (dk_at dksX5_init_18 16 rfl rfl)
theorem dX5_init_436 : decode cX5_init 436 = .ok (.putfield 160, 3) := dk_181 0 160 (dk_at dksX5_init_18 17 rfl rfl)
theorem dX5_init_439 : decode cX5_init 439 = .ok (.aload_n 0, 1) := dk_42 (dk_at dksX5_init_18 20 rfl rfl)
theorem dX5_init_440 : decode cX5_init 440 = .ok (.bipush 120, 2) := dk_16 120 (dk_at dksX5_init_18 21 rfl rfl)
theorem dX5_init_442 : decode cX5_init 442 = .ok (.newarray .int, 2) := dk_188_10 (dk_at dksX5_init_19 0 rfl rfl)
theorem dX5_init_444 : decode cX5_init 444 = .ok (.putfield 163, 3) := dk_181 0 163 (dk_at dksX5_init_19 2 rfl rfl)
theorem dX5_init_447 : decode cX5_init 447 = .ok (.aload_n 0, 1) := dk_42 (dk_at dksX5_init_19 5 rfl rfl)
theorem dX5_init_448 : decode cX5_init 448 = .ok (.iconst (-1), 1) := dk_2 (dk_at dksX5_init_19 6 rfl rfl)
theorem dX5_init_449 : decode cX5_init 449 = .ok (.putfield 166, 3) := dk_181 0 166 (dk_at dksX5_init_19 7 rfl rfl)
theorem dX5_init_452 : decode cX5_init 452 = .ok (.aload_n 0, 1) := dk_42 (dk_at dksX5_init_19 10 rfl rfl)
theorem dX5_init_453 : decode cX5_init 453 = .ok (.bipush 18, 2) := dk_16 18 (dk_at dksX5_init_19 11 rfl rfl)
theorem dX5_init_455 : decode cX5_init 455 = .ok (.newarray .int, 2) := dk_188_10 (dk_at dksX5_init_19 13 rfl rfl)
theorem dX5_init_457 : decode cX5_init 457 = .ok (.putfield 169, 3) := dk_181 0 169 (dk_at dksX5_init_19 15 rfl rfl)
theorem dX5_init_460 : decode cX5_init 460 = .ok (.aload_n 0, 1) := dk_42 (dk_at dksX5_init_19 18 rfl rfl)
theorem dX5_init_461 : decode cX5_init 461 = .ok (.iconst (-1), 1) := dk_2 (dk_at dksX5_init_19 19 rfl rfl)
theorem dX5_init_462 : decode cX5_init 462 = .ok (.putfield 172, 3) := dk_181 0 172 (dk_at dksX5_init_19 20 rfl rfl)
theorem dX5_init_465 : decode cX5_init 465 = .ok (.aload_n 0, 1) := dk_42 (dk_at dksX5_init_19 23 rfl rfl)
theorem dX5_init_466 : decode cX5_init 466 = .ok (.getfield 13, 3) := dk_180 0 13 (dk_at dksX5_init_20 0 rfl rfl)
theorem dX5_init_469 : decode cX5_init 469 = .ok (.iconst 4, 1) := dk_7 (dk_at dksX5_init_20 3 rfl rfl)
theorem dX5_init_470 : decode cX5_init 470 = .ok (.iconst (-1), 1) := dk_2 (dk_at dksX5_init_20 4 rfl rfl)
theorem dX5_init_471 : decode cX5_init 471 = .ok (.iastore, 1) := dk_79 (dk_at dksX5_init_20 5 rfl rfl)
theorem dX5_init_472 : decode cX5_init 472 = .ok (.aload_n 0, 1) := dk_42 (dk_at dksX5_init_20 6 rfl rfl)
theorem dX5_init_473 : decode cX5_init 473 = .ok (.getfield 13, 3) := dk_180 0 13 (dk_at dksX5_init_20 7 rfl rfl)
theorem dX5_init_476 : decode cX5_init 476 = .ok (.bipush 6, 2) := dk_16 6 (dk_at dksX5_init_20 10 rfl rfl)
theorem dX5_init_478 : decode cX5_init 478 = .ok (.iconst 2, 1) := dk_5 (dk_at dksX5_init_20 12 rfl rfl)
theorem dX5_init_479 : decode cX5_init 479 = .ok (.iastore, 1) := dk_79 (dk_at dksX5_init_20 13 rfl rfl)
theorem dX5_init_480 : decode cX5_init 480 = .ok (.return_, 1) := dk_177 (dk_at dksX5_init_20 14 rfl rfl)
abbrev cX5_undo : ByteArray := prog_22_method_13_code
def yX5_undo : MethodName := ⟨RX5, "undo", "()I"⟩
def dkwX5_undo_2 : List UInt8 := [182, 0, 184, 172]
abbrev dktX5_undo_2 : List UInt8 := dkwX5_undo_2 ++ []
def dkwX5_undo_1 : List UInt8 := [4, 100, 181, 0, 181, 42, 42, 180, 0, 181, 182, 0, 192, 42, 42, 180, 0, 26, 42, 180, 0, 181, 46]
abbrev dktX5_undo_1 : List UInt8 := dkwX5_undo_1 ++ dktX5_undo_2
def dkwX5_undo_0 : List UInt8 := [42, 3, 181, 0, 175, 42, 180, 0, 181, 154, 0, 10, 42, 16, 253, 182, 0, 184, 172, 42, 89, 180, 0, 181]
abbrev dktX5_undo_0 : List UInt8 := dkwX5_undo_0 ++ dktX5_undo_1
theorem dksX5_undo_0 : cX5_undo.data.toList.drop 0 = dktX5_undo_0 := by decide +kernel
theorem dksX5_undo_1 : cX5_undo.data.toList.drop 24 = dktX5_undo_1 := dk_seg dksX5_undo_0 24 rfl rfl
theorem dksX5_undo_2 : cX5_undo.data.toList.drop 47 = dktX5_undo_2 := dk_seg dksX5_undo_1 23 rfl rfl
theorem dX5_undo_0 : decode cX5_undo 0 = .ok (.aload_n 0, 1) := dk_42 (dk_at dksX5_undo_0 0 rfl rfl)
theorem dX5_undo_1 : decode cX5_undo 1 = .ok (.iconst 0, 1) := dk_3 (dk_at dksX5_undo_0 1 rfl rfl)
theorem dX5_undo_2 : decode cX5_undo 2 = .ok (.putfield 175, 3) := dk_181 0 175 (dk_at dksX5_undo_0 2 rfl rfl)
theorem dX5_undo_5 : decode cX5_undo 5 = .ok (.aload_n 0, 1) := dk_42 (dk_at dksX5_undo_0 5 rfl rfl)
theorem dX5_undo_6 : decode cX5_undo 6 = .ok (.getfield 181, 3) := dk_180 0 181 (dk_at dksX5_undo_0 6 rfl rfl)
theorem dX5_undo_9 : decode cX5_undo 9 = .ok (.ifCond .ne 10, 3) := dk_154 0 10 (dk_at dksX5_undo_0 9 rfl rfl)
theorem dX5_undo_12 : decode cX5_undo 12 = .ok (.aload_n 0, 1) := dk_42 (dk_at dksX5_undo_0 12 rfl rfl)
theorem dX5_undo_13 : decode cX5_undo 13 = .ok (.bipush (-3), 2) := dk_16 253 (dk_at dksX5_undo_0 13 rfl rfl)
theorem dX5_undo_15 : decode cX5_undo 15 = .ok (.invokevirtual 184, 3) := dk_182 0 184 (dk_at dksX5_undo_0 15 rfl rfl)
theorem dX5_undo_18 : decode cX5_undo 18 = .ok (.ireturn, 1) := dk_172 (dk_at dksX5_undo_0 18 rfl rfl)
theorem dX5_undo_19 : decode cX5_undo 19 = .ok (.aload_n 0, 1) := dk_42 (dk_at dksX5_undo_0 19 rfl rfl)
theorem dX5_undo_20 : decode cX5_undo 20 = .ok (.dup, 1) := dk_89 (dk_at dksX5_undo_0 20 rfl rfl)
theorem dX5_undo_21 : decode cX5_undo 21 = .ok (.getfield 181, 3) := dk_180 0 181 (dk_at dksX5_undo_0 21 rfl rfl)
theorem dX5_undo_24 : decode cX5_undo 24 = .ok (.iconst 1, 1) := dk_4 (dk_at dksX5_undo_1 0 rfl rfl)
theorem dX5_undo_25 : decode cX5_undo 25 = .ok (.isub, 1) := dk_100 (dk_at dksX5_undo_1 1 rfl rfl)
theorem dX5_undo_26 : decode cX5_undo 26 = .ok (.putfield 181, 3) := dk_181 0 181 (dk_at dksX5_undo_1 2 rfl rfl)
theorem dX5_undo_29 : decode cX5_undo 29 = .ok (.aload_n 0, 1) := dk_42 (dk_at dksX5_undo_1 5 rfl rfl)
theorem dX5_undo_30 : decode cX5_undo 30 = .ok (.aload_n 0, 1) := dk_42 (dk_at dksX5_undo_1 6 rfl rfl)
theorem dX5_undo_31 : decode cX5_undo 31 = .ok (.getfield 181, 3) := dk_180 0 181 (dk_at dksX5_undo_1 7 rfl rfl)
theorem dX5_undo_34 : decode cX5_undo 34 = .ok (.invokevirtual 192, 3) := dk_182 0 192 (dk_at dksX5_undo_1 10 rfl rfl)
theorem dX5_undo_37 : decode cX5_undo 37 = .ok (.aload_n 0, 1) := dk_42 (dk_at dksX5_undo_1 13 rfl rfl)
theorem dX5_undo_38 : decode cX5_undo 38 = .ok (.aload_n 0, 1) := dk_42 (dk_at dksX5_undo_1 14 rfl rfl)
theorem dX5_undo_39 : decode cX5_undo 39 = .ok (.getfield 26, 3) := dk_180 0 26 (dk_at dksX5_undo_1 15 rfl rfl)
theorem dX5_undo_42 : decode cX5_undo 42 = .ok (.aload_n 0, 1) := dk_42 (dk_at dksX5_undo_1 18 rfl rfl)
theorem dX5_undo_43 : decode cX5_undo 43 = .ok (.getfield 181, 3) := dk_180 0 181 (dk_at dksX5_undo_1 19 rfl rfl)
theorem dX5_undo_46 : decode cX5_undo 46 = .ok (.iaload, 1) := dk_46 (dk_at dksX5_undo_1 22 rfl rfl)
theorem dX5_undo_47 : decode cX5_undo 47 = .ok (.invokevirtual 184, 3) := dk_182 0 184 (dk_at dksX5_undo_2 0 rfl rfl)
theorem dX5_undo_50 : decode cX5_undo 50 = .ok (.ireturn, 1) := dk_172 (dk_at dksX5_undo_2 3 rfl rfl)
abbrev cX5_tell : ByteArray := prog_22_method_7_code
def yX5_tell : MethodName := ⟨RX5, "tell", "(I)I"⟩
def dkwX5_tell_1 : List UInt8 := [46, 4, 96, 79, 27, 172]
abbrev dktX5_tell_1 : List UInt8 := dkwX5_tell_1 ++ []
def dkwX5_tell_0 : List UInt8 := [42, 27, 156, 0, 7, 27, 167, 0, 4, 3, 181, 0, 178, 27, 156, 0, 14, 42, 180, 0, 7, 27, 116, 92]
abbrev dktX5_tell_0 : List UInt8 := dkwX5_tell_0 ++ dktX5_tell_1
theorem dksX5_tell_0 : cX5_tell.data.toList.drop 0 = dktX5_tell_0 := by decide +kernel
theorem dksX5_tell_1 : cX5_tell.data.toList.drop 24 = dktX5_tell_1 := dk_seg dksX5_tell_0 24 rfl rfl
theorem dX5_tell_0 : decode cX5_tell 0 = .ok (.aload_n 0, 1) := dk_42 (dk_at dksX5_tell_0 0 rfl rfl)
theorem dX5_tell_1 : decode cX5_tell 1 = .ok (.iload_n 1, 1) := dk_27 (dk_at dksX5_tell_0 1 rfl rfl)
theorem dX5_tell_2 : decode cX5_tell 2 = .ok (.ifCond .ge 7, 3) := dk_156 0 7 (dk_at dksX5_tell_0 2 rfl rfl)
theorem dX5_tell_5 : decode cX5_tell 5 = .ok (.iload_n 1, 1) := dk_27 (dk_at dksX5_tell_0 5 rfl rfl)
theorem dX5_tell_6 : decode cX5_tell 6 = .ok (.goto 4, 3) := dk_167 0 4 (dk_at dksX5_tell_0 6 rfl rfl)
theorem dX5_tell_9 : decode cX5_tell 9 = .ok (.iconst 0, 1) := dk_3 (dk_at dksX5_tell_0 9 rfl rfl)
theorem dX5_tell_10 : decode cX5_tell 10 = .ok (.putfield 178, 3) := dk_181 0 178 (dk_at dksX5_tell_0 10 rfl rfl)
theorem dX5_tell_13 : decode cX5_tell 13 = .ok (.iload_n 1, 1) := dk_27 (dk_at dksX5_tell_0 13 rfl rfl)
theorem dX5_tell_14 : decode cX5_tell 14 = .ok (.ifCond .ge 14, 3) := dk_156 0 14 (dk_at dksX5_tell_0 14 rfl rfl)
theorem dX5_tell_17 : decode cX5_tell 17 = .ok (.aload_n 0, 1) := dk_42 (dk_at dksX5_tell_0 17 rfl rfl)
theorem dX5_tell_18 : decode cX5_tell 18 = .ok (.getfield 7, 3) := dk_180 0 7 (dk_at dksX5_tell_0 18 rfl rfl)
theorem dX5_tell_21 : decode cX5_tell 21 = .ok (.iload_n 1, 1) := dk_27 (dk_at dksX5_tell_0 21 rfl rfl)
theorem dX5_tell_22 : decode cX5_tell 22 = .ok (.ineg, 1) := dk_116 (dk_at dksX5_tell_0 22 rfl rfl)
theorem dX5_tell_23 : decode cX5_tell 23 = .ok (.dup2, 1) := dk_92 (dk_at dksX5_tell_0 23 rfl rfl)
theorem dX5_tell_24 : decode cX5_tell 24 = .ok (.iaload, 1) := dk_46 (dk_at dksX5_tell_1 0 rfl rfl)
theorem dX5_tell_25 : decode cX5_tell 25 = .ok (.iconst 1, 1) := dk_4 (dk_at dksX5_tell_1 1 rfl rfl)
theorem dX5_tell_26 : decode cX5_tell 26 = .ok (.iadd, 1) := dk_96 (dk_at dksX5_tell_1 2 rfl rfl)
theorem dX5_tell_27 : decode cX5_tell 27 = .ok (.iastore, 1) := dk_79 (dk_at dksX5_tell_1 3 rfl rfl)
theorem dX5_tell_28 : decode cX5_tell 28 = .ok (.iload_n 1, 1) := dk_27 (dk_at dksX5_tell_1 4 rfl rfl)
theorem dX5_tell_29 : decode cX5_tell 29 = .ok (.ireturn, 1) := dk_172 (dk_at dksX5_tell_1 5 rfl rfl)
abbrev cX5_putBack : ByteArray := prog_22_method_11_code
def yX5_putBack : MethodName := ⟨RX5, "putBack", "(I)V"⟩
def dkwX5_putBack_1 : List UInt8 := [96, 46, 79, 132, 2, 1, 167, 255, 228, 177]
abbrev dktX5_putBack_1 : List UInt8 := dkwX5_putBack_1 ++ []
def dkwX5_putBack_0 : List UInt8 := [3, 61, 28, 16, 75, 162, 0, 28, 42, 180, 0, 13, 8, 28, 96, 42, 180, 0, 23, 16, 75, 27, 104, 28]
abbrev dktX5_putBack_0 : List UInt8 := dkwX5_putBack_0 ++ dktX5_putBack_1
theorem dksX5_putBack_0 : cX5_putBack.data.toList.drop 0 = dktX5_putBack_0 := by decide +kernel
theorem dksX5_putBack_1 : cX5_putBack.data.toList.drop 24 = dktX5_putBack_1 := dk_seg dksX5_putBack_0 24 rfl rfl
theorem dX5_putBack_0 : decode cX5_putBack 0 = .ok (.iconst 0, 1) := dk_3 (dk_at dksX5_putBack_0 0 rfl rfl)
theorem dX5_putBack_1 : decode cX5_putBack 1 = .ok (.istore_n 2, 1) := dk_61 (dk_at dksX5_putBack_0 1 rfl rfl)
theorem dX5_putBack_2 : decode cX5_putBack 2 = .ok (.iload_n 2, 1) := dk_28 (dk_at dksX5_putBack_0 2 rfl rfl)
theorem dX5_putBack_3 : decode cX5_putBack 3 = .ok (.bipush 75, 2) := dk_16 75 (dk_at dksX5_putBack_0 3 rfl rfl)
theorem dX5_putBack_5 : decode cX5_putBack 5 = .ok (.if_icmp .ge 28, 3) := dk_162 0 28 (dk_at dksX5_putBack_0 5 rfl rfl)
theorem dX5_putBack_8 : decode cX5_putBack 8 = .ok (.aload_n 0, 1) := dk_42 (dk_at dksX5_putBack_0 8 rfl rfl)
theorem dX5_putBack_9 : decode cX5_putBack 9 = .ok (.getfield 13, 3) := dk_180 0 13 (dk_at dksX5_putBack_0 9 rfl rfl)
theorem dX5_putBack_12 : decode cX5_putBack 12 = .ok (.iconst 5, 1) := dk_8 (dk_at dksX5_putBack_0 12 rfl rfl)
theorem dX5_putBack_13 : decode cX5_putBack 13 = .ok (.iload_n 2, 1) := dk_28 (dk_at dksX5_putBack_0 13 rfl rfl)
theorem dX5_putBack_14 : decode cX5_putBack 14 = .ok (.iadd, 1) := dk_96 (dk_at dksX5_putBack_0 14 rfl rfl)
theorem dX5_putBack_15 : decode cX5_putBack 15 = .ok (.aload_n 0, 1) := dk_42 (dk_at dksX5_putBack_0 15 rfl rfl)
theorem dX5_putBack_16 : decode cX5_putBack 16 = .ok (.getfield 23, 3) := dk_180 0 23 (dk_at dksX5_putBack_0 16 rfl rfl)
theorem dX5_putBack_19 : decode cX5_putBack 19 = .ok (.bipush 75, 2) := dk_16 75 (dk_at dksX5_putBack_0 19 rfl rfl)
theorem dX5_putBack_21 : decode cX5_putBack 21 = .ok (.iload_n 1, 1) := dk_27 (dk_at dksX5_putBack_0 21 rfl rfl)
theorem dX5_putBack_22 : decode cX5_putBack 22 = .ok (.imul, 1) := dk_104 (dk_at dksX5_putBack_0 22 rfl rfl)
theorem dX5_putBack_23 : decode cX5_putBack 23 = .ok (.iload_n 2, 1) := dk_28 (dk_at dksX5_putBack_0 23 rfl rfl)
theorem dX5_putBack_24 : decode cX5_putBack 24 = .ok (.iadd, 1) := dk_96 (dk_at dksX5_putBack_1 0 rfl rfl)
theorem dX5_putBack_25 : decode cX5_putBack 25 = .ok (.iaload, 1) := dk_46 (dk_at dksX5_putBack_1 1 rfl rfl)
theorem dX5_putBack_26 : decode cX5_putBack 26 = .ok (.iastore, 1) := dk_79 (dk_at dksX5_putBack_1 2 rfl rfl)
theorem dX5_putBack_27 : decode cX5_putBack 27 = .ok (.iinc 2 1, 3) := dk_132 2 1 (dk_at dksX5_putBack_1 3 rfl rfl)
theorem dX5_putBack_30 : decode cX5_putBack 30 = .ok (.goto (-28), 3) := dk_167 255 228 (dk_at dksX5_putBack_1 6 rfl rfl)
theorem dX5_putBack_33 : decode cX5_putBack 33 = .ok (.return_, 1) := dk_177 (dk_at dksX5_putBack_1 9 rfl rfl)
abbrev cX5_image : ByteArray := prog_22_method_14_code
def yX5_image : MethodName := ⟨RX5, "image", "(I)I"⟩
def dkwX5_image_2 : List UInt8 := [132, 2, 1, 167, 255, 228, 42, 180, 0, 19, 27, 4, 84, 42, 3, 182, 0, 184, 172]
abbrev dktX5_image_2 : List UInt8 := dkwX5_image_2 ++ []
def dkwX5_image_1 : List UInt8 := [17, 21, 140, 162, 0, 27, 42, 180, 0, 16, 17, 21, 140, 27, 104, 28, 96, 42, 180, 0, 13, 28, 46, 79]
abbrev dktX5_image_1 : List UInt8 := dkwX5_image_1 ++ dktX5_image_2
def dkwX5_image_0 : List UInt8 := [42, 3, 181, 0, 175, 27, 133, 9, 10, 184, 0, 195, 154, 0, 9, 42, 2, 182, 0, 184, 172, 3, 61, 28]
abbrev dktX5_image_0 : List UInt8 := dkwX5_image_0 ++ dktX5_image_1
theorem dksX5_image_0 : cX5_image.data.toList.drop 0 = dktX5_image_0 := by decide +kernel
theorem dksX5_image_1 : cX5_image.data.toList.drop 24 = dktX5_image_1 := dk_seg dksX5_image_0 24 rfl rfl
theorem dksX5_image_2 : cX5_image.data.toList.drop 48 = dktX5_image_2 := dk_seg dksX5_image_1 24 rfl rfl
theorem dX5_image_0 : decode cX5_image 0 = .ok (.aload_n 0, 1) := dk_42 (dk_at dksX5_image_0 0 rfl rfl)
theorem dX5_image_1 : decode cX5_image 1 = .ok (.iconst 0, 1) := dk_3 (dk_at dksX5_image_0 1 rfl rfl)
theorem dX5_image_2 : decode cX5_image 2 = .ok (.putfield 175, 3) := dk_181 0 175 (dk_at dksX5_image_0 2 rfl rfl)
theorem dX5_image_5 : decode cX5_image 5 = .ok (.iload_n 1, 1) := dk_27 (dk_at dksX5_image_0 5 rfl rfl)
theorem dX5_image_6 : decode cX5_image 6 = .ok (.i2l, 1) := dk_133 (dk_at dksX5_image_0 6 rfl rfl)
theorem dX5_image_7 : decode cX5_image 7 = .ok (.lconst 0, 1) := dk_9 (dk_at dksX5_image_0 7 rfl rfl)
theorem dX5_image_8 : decode cX5_image 8 = .ok (.lconst 1, 1) := dk_10 (dk_at dksX5_image_0 8 rfl rfl)
theorem dX5_image_9 : decode cX5_image 9 = .ok (.invokestatic 195, 3) := dk_184 0 195 (dk_at dksX5_image_0 9 rfl rfl)
theorem dX5_image_12 : decode cX5_image 12 = .ok (.ifCond .ne 9, 3) := dk_154 0 9 (dk_at dksX5_image_0 12 rfl rfl)
theorem dX5_image_15 : decode cX5_image 15 = .ok (.aload_n 0, 1) := dk_42 (dk_at dksX5_image_0 15 rfl rfl)
theorem dX5_image_16 : decode cX5_image 16 = .ok (.iconst (-1), 1) := dk_2 (dk_at dksX5_image_0 16 rfl rfl)
theorem dX5_image_17 : decode cX5_image 17 = .ok (.invokevirtual 184, 3) := dk_182 0 184 (dk_at dksX5_image_0 17 rfl rfl)
theorem dX5_image_20 : decode cX5_image 20 = .ok (.ireturn, 1) := dk_172 (dk_at dksX5_image_0 20 rfl rfl)
theorem dX5_image_21 : decode cX5_image 21 = .ok (.iconst 0, 1) := dk_3 (dk_at dksX5_image_0 21 rfl rfl)
theorem dX5_image_22 : decode cX5_image 22 = .ok (.istore_n 2, 1) := dk_61 (dk_at dksX5_image_0 22 rfl rfl)
theorem dX5_image_23 : decode cX5_image 23 = .ok (.iload_n 2, 1) := dk_28 (dk_at dksX5_image_0 23 rfl rfl)
theorem dX5_image_24 : decode cX5_image 24 = .ok (.sipush 5516, 3) := dk_17 21 140 (dk_at dksX5_image_1 0 rfl rfl)
theorem dX5_image_27 : decode cX5_image 27 = .ok (.if_icmp .ge 27, 3) := dk_162 0 27 (dk_at dksX5_image_1 3 rfl rfl)
theorem dX5_image_30 : decode cX5_image 30 = .ok (.aload_n 0, 1) := dk_42 (dk_at dksX5_image_1 6 rfl rfl)
theorem dX5_image_31 : decode cX5_image 31 = .ok (.getfield 16, 3) := dk_180 0 16 (dk_at dksX5_image_1 7 rfl rfl)
theorem dX5_image_34 : decode cX5_image 34 = .ok (.sipush 5516, 3) := dk_17 21 140 (dk_at dksX5_image_1 10 rfl rfl)
theorem dX5_image_37 : decode cX5_image 37 = .ok (.iload_n 1, 1) := dk_27 (dk_at dksX5_image_1 13 rfl rfl)
theorem dX5_image_38 : decode cX5_image 38 = .ok (.imul, 1) := dk_104 (dk_at dksX5_image_1 14 rfl rfl)
theorem dX5_image_39 : decode cX5_image 39 = .ok (.iload_n 2, 1) := dk_28 (dk_at dksX5_image_1 15 rfl rfl)
theorem dX5_image_40 : decode cX5_image 40 = .ok (.iadd, 1) := dk_96 (dk_at dksX5_image_1 16 rfl rfl)
theorem dX5_image_41 : decode cX5_image 41 = .ok (.aload_n 0, 1) := dk_42 (dk_at dksX5_image_1 17 rfl rfl)
theorem dX5_image_42 : decode cX5_image 42 = .ok (.getfield 13, 3) := dk_180 0 13 (dk_at dksX5_image_1 18 rfl rfl)
theorem dX5_image_45 : decode cX5_image 45 = .ok (.iload_n 2, 1) := dk_28 (dk_at dksX5_image_1 21 rfl rfl)
theorem dX5_image_46 : decode cX5_image 46 = .ok (.iaload, 1) := dk_46 (dk_at dksX5_image_1 22 rfl rfl)
theorem dX5_image_47 : decode cX5_image 47 = .ok (.iastore, 1) := dk_79 (dk_at dksX5_image_1 23 rfl rfl)
theorem dX5_image_48 : decode cX5_image 48 = .ok (.iinc 2 1, 3) := dk_132 2 1 (dk_at dksX5_image_2 0 rfl rfl)
theorem dX5_image_51 : decode cX5_image 51 = .ok (.goto (-28), 3) := dk_167 255 228 (dk_at dksX5_image_2 3 rfl rfl)
theorem dX5_image_54 : decode cX5_image 54 = .ok (.aload_n 0, 1) := dk_42 (dk_at dksX5_image_2 6 rfl rfl)
theorem dX5_image_55 : decode cX5_image 55 = .ok (.getfield 19, 3) := dk_180 0 19 (dk_at dksX5_image_2 7 rfl rfl)
theorem dX5_image_58 : decode cX5_image 58 = .ok (.iload_n 1, 1) := dk_27 (dk_at dksX5_image_2 10 rfl rfl)
theorem dX5_image_59 : decode cX5_image 59 = .ok (.iconst 1, 1) := dk_4 (dk_at dksX5_image_2 11 rfl rfl)
theorem dX5_image_60 : decode cX5_image 60 = .ok (.bastore, 1) := dk_84 (dk_at dksX5_image_2 12 rfl rfl)
theorem dX5_image_61 : decode cX5_image 61 = .ok (.aload_n 0, 1) := dk_42 (dk_at dksX5_image_2 13 rfl rfl)
theorem dX5_image_62 : decode cX5_image 62 = .ok (.iconst 0, 1) := dk_3 (dk_at dksX5_image_2 14 rfl rfl)
theorem dX5_image_63 : decode cX5_image 63 = .ok (.invokevirtual 184, 3) := dk_182 0 184 (dk_at dksX5_image_2 15 rfl rfl)
theorem dX5_image_66 : decode cX5_image 66 = .ok (.ireturn, 1) := dk_172 (dk_at dksX5_image_2 18 rfl rfl)
abbrev cX5_in : ByteArray := prog_22_method_3_code
def yX5_in : MethodName := ⟨RX5, "in", "(JJJ)Z"⟩
def dkwX5_in_0 : List UInt8 := [30, 32, 148, 155, 0, 14, 30, 22, 4, 148, 157, 0, 7, 4, 167, 0, 4, 3, 172]
abbrev dktX5_in_0 : List UInt8 := dkwX5_in_0 ++ []
theorem dksX5_in_0 : cX5_in.data.toList.drop 0 = dktX5_in_0 := by decide +kernel
theorem dX5_in_0 : decode cX5_in 0 = .ok (.lload_n 0, 1) := dk_30 (dk_at dksX5_in_0 0 rfl rfl)
theorem dX5_in_1 : decode cX5_in 1 = .ok (.lload_n 2, 1) := dk_32 (dk_at dksX5_in_0 1 rfl rfl)
theorem dX5_in_2 : decode cX5_in 2 = .ok (.lcmp, 1) := dk_148 (dk_at dksX5_in_0 2 rfl rfl)
theorem dX5_in_3 : decode cX5_in 3 = .ok (.ifCond .lt 14, 3) := dk_155 0 14 (dk_at dksX5_in_0 3 rfl rfl)
theorem dX5_in_6 : decode cX5_in 6 = .ok (.lload_n 0, 1) := dk_30 (dk_at dksX5_in_0 6 rfl rfl)
theorem dX5_in_7 : decode cX5_in 7 = .ok (.lload 4, 2) := dk_22 4 (dk_at dksX5_in_0 7 rfl rfl)
theorem dX5_in_9 : decode cX5_in 9 = .ok (.lcmp, 1) := dk_148 (dk_at dksX5_in_0 9 rfl rfl)
theorem dX5_in_10 : decode cX5_in 10 = .ok (.ifCond .gt 7, 3) := dk_157 0 7 (dk_at dksX5_in_0 10 rfl rfl)
theorem dX5_in_13 : decode cX5_in 13 = .ok (.iconst 1, 1) := dk_4 (dk_at dksX5_in_0 13 rfl rfl)
theorem dX5_in_14 : decode cX5_in 14 = .ok (.goto 4, 3) := dk_167 0 4 (dk_at dksX5_in_0 14 rfl rfl)
theorem dX5_in_17 : decode cX5_in 17 = .ok (.iconst 0, 1) := dk_3 (dk_at dksX5_in_0 17 rfl rfl)
theorem dX5_in_18 : decode cX5_in 18 = .ok (.ireturn, 1) := dk_172 (dk_at dksX5_in_0 18 rfl rfl)
abbrev cX5_back : ByteArray := prog_22_method_15_code
def yX5_back : MethodName := ⟨RX5, "back", "(I)I"⟩
def dkwX5_back_3 : List UInt8 := [42, 3, 182, 0, 199, 172]
abbrev dktX5_back_3 : List UInt8 := dkwX5_back_3 ++ []
def dkwX5_back_2 : List UInt8 := [42, 180, 0, 13, 28, 42, 180, 0, 16, 17, 21, 140, 27, 104, 28, 96, 46, 79, 132, 2, 1, 167, 255, 228]
abbrev dktX5_back_2 : List UInt8 := dkwX5_back_2 ++ dktX5_back_3
def dkwX5_back_1 : List UInt8 := [180, 0, 19, 27, 51, 154, 0, 10, 42, 16, 254, 182, 0, 184, 172, 3, 61, 28, 17, 21, 140, 162, 0, 27]
abbrev dktX5_back_1 : List UInt8 := dkwX5_back_1 ++ dktX5_back_2
def dkwX5_back_0 : List UInt8 := [42, 3, 181, 0, 175, 27, 133, 9, 10, 184, 0, 195, 154, 0, 9, 42, 2, 182, 0, 184, 172, 42]
abbrev dktX5_back_0 : List UInt8 := dkwX5_back_0 ++ dktX5_back_1
theorem dksX5_back_0 : cX5_back.data.toList.drop 0 = dktX5_back_0 := by decide +kernel
theorem dksX5_back_1 : cX5_back.data.toList.drop 22 = dktX5_back_1 := dk_seg dksX5_back_0 22 rfl rfl
theorem dksX5_back_2 : cX5_back.data.toList.drop 46 = dktX5_back_2 := dk_seg dksX5_back_1 24 rfl rfl
theorem dksX5_back_3 : cX5_back.data.toList.drop 70 = dktX5_back_3 := dk_seg dksX5_back_2 24 rfl rfl
theorem dX5_back_0 : decode cX5_back 0 = .ok (.aload_n 0, 1) := dk_42 (dk_at dksX5_back_0 0 rfl rfl)
theorem dX5_back_1 : decode cX5_back 1 = .ok (.iconst 0, 1) := dk_3 (dk_at dksX5_back_0 1 rfl rfl)
theorem dX5_back_2 : decode cX5_back 2 = .ok (.putfield 175, 3) := dk_181 0 175 (dk_at dksX5_back_0 2 rfl rfl)
theorem dX5_back_5 : decode cX5_back 5 = .ok (.iload_n 1, 1) := dk_27 (dk_at dksX5_back_0 5 rfl rfl)
theorem dX5_back_6 : decode cX5_back 6 = .ok (.i2l, 1) := dk_133 (dk_at dksX5_back_0 6 rfl rfl)
theorem dX5_back_7 : decode cX5_back 7 = .ok (.lconst 0, 1) := dk_9 (dk_at dksX5_back_0 7 rfl rfl)
theorem dX5_back_8 : decode cX5_back 8 = .ok (.lconst 1, 1) := dk_10 (dk_at dksX5_back_0 8 rfl rfl)
theorem dX5_back_9 : decode cX5_back 9 = .ok (.invokestatic 195, 3) := dk_184 0 195 (dk_at dksX5_back_0 9 rfl rfl)
theorem dX5_back_12 : decode cX5_back 12 = .ok (.ifCond .ne 9, 3) := dk_154 0 9 (dk_at dksX5_back_0 12 rfl rfl)
theorem dX5_back_15 : decode cX5_back 15 = .ok (.aload_n 0, 1) := dk_42 (dk_at dksX5_back_0 15 rfl rfl)
theorem dX5_back_16 : decode cX5_back 16 = .ok (.iconst (-1), 1) := dk_2 (dk_at dksX5_back_0 16 rfl rfl)
theorem dX5_back_17 : decode cX5_back 17 = .ok (.invokevirtual 184, 3) := dk_182 0 184 (dk_at dksX5_back_0 17 rfl rfl)
theorem dX5_back_20 : decode cX5_back 20 = .ok (.ireturn, 1) := dk_172 (dk_at dksX5_back_0 20 rfl rfl)
theorem dX5_back_21 : decode cX5_back 21 = .ok (.aload_n 0, 1) := dk_42 (dk_at dksX5_back_0 21 rfl rfl)
theorem dX5_back_22 : decode cX5_back 22 = .ok (.getfield 19, 3) := dk_180 0 19 (dk_at dksX5_back_1 0 rfl rfl)
theorem dX5_back_25 : decode cX5_back 25 = .ok (.iload_n 1, 1) := dk_27 (dk_at dksX5_back_1 3 rfl rfl)
theorem dX5_back_26 : decode cX5_back 26 = .ok (.baload, 1) := dk_51 (dk_at dksX5_back_1 4 rfl rfl)
theorem dX5_back_27 : decode cX5_back 27 = .ok (.ifCond .ne 10, 3) := dk_154 0 10 (dk_at dksX5_back_1 5 rfl rfl)
theorem dX5_back_30 : decode cX5_back 30 = .ok (.aload_n 0, 1) := dk_42 (dk_at dksX5_back_1 8 rfl rfl)
theorem dX5_back_31 : decode cX5_back 31 = .ok (.bipush (-2), 2) := dk_16 254 (dk_at dksX5_back_1 9 rfl rfl)
theorem dX5_back_33 : decode cX5_back 33 = .ok (.invokevirtual 184, 3) := dk_182 0 184 (dk_at dksX5_back_1 11 rfl rfl)
theorem dX5_back_36 : decode cX5_back 36 = .ok (.ireturn, 1) := dk_172 (dk_at dksX5_back_1 14 rfl rfl)
theorem dX5_back_37 : decode cX5_back 37 = .ok (.iconst 0, 1) := dk_3 (dk_at dksX5_back_1 15 rfl rfl)
theorem dX5_back_38 : decode cX5_back 38 = .ok (.istore_n 2, 1) := dk_61 (dk_at dksX5_back_1 16 rfl rfl)
theorem dX5_back_39 : decode cX5_back 39 = .ok (.iload_n 2, 1) := dk_28 (dk_at dksX5_back_1 17 rfl rfl)
theorem dX5_back_40 : decode cX5_back 40 = .ok (.sipush 5516, 3) := dk_17 21 140 (dk_at dksX5_back_1 18 rfl rfl)
theorem dX5_back_43 : decode cX5_back 43 = .ok (.if_icmp .ge 27, 3) := dk_162 0 27 (dk_at dksX5_back_1 21 rfl rfl)
theorem dX5_back_46 : decode cX5_back 46 = .ok (.aload_n 0, 1) := dk_42 (dk_at dksX5_back_2 0 rfl rfl)
theorem dX5_back_47 : decode cX5_back 47 = .ok (.getfield 13, 3) := dk_180 0 13 (dk_at dksX5_back_2 1 rfl rfl)
theorem dX5_back_50 : decode cX5_back 50 = .ok (.iload_n 2, 1) := dk_28 (dk_at dksX5_back_2 4 rfl rfl)
theorem dX5_back_51 : decode cX5_back 51 = .ok (.aload_n 0, 1) := dk_42 (dk_at dksX5_back_2 5 rfl rfl)
theorem dX5_back_52 : decode cX5_back 52 = .ok (.getfield 16, 3) := dk_180 0 16 (dk_at dksX5_back_2 6 rfl rfl)
theorem dX5_back_55 : decode cX5_back 55 = .ok (.sipush 5516, 3) := dk_17 21 140 (dk_at dksX5_back_2 9 rfl rfl)
theorem dX5_back_58 : decode cX5_back 58 = .ok (.iload_n 1, 1) := dk_27 (dk_at dksX5_back_2 12 rfl rfl)
theorem dX5_back_59 : decode cX5_back 59 = .ok (.imul, 1) := dk_104 (dk_at dksX5_back_2 13 rfl rfl)
theorem dX5_back_60 : decode cX5_back 60 = .ok (.iload_n 2, 1) := dk_28 (dk_at dksX5_back_2 14 rfl rfl)
theorem dX5_back_61 : decode cX5_back 61 = .ok (.iadd, 1) := dk_96 (dk_at dksX5_back_2 15 rfl rfl)
theorem dX5_back_62 : decode cX5_back 62 = .ok (.iaload, 1) := dk_46 (dk_at dksX5_back_2 16 rfl rfl)
theorem dX5_back_63 : decode cX5_back 63 = .ok (.iastore, 1) := dk_79 (dk_at dksX5_back_2 17 rfl rfl)
theorem dX5_back_64 : decode cX5_back 64 = .ok (.iinc 2 1, 3) := dk_132 2 1 (dk_at dksX5_back_2 18 rfl rfl)
theorem dX5_back_67 : decode cX5_back 67 = .ok (.goto (-28), 3) := dk_167 255 228 (dk_at dksX5_back_2 21 rfl rfl)
theorem dX5_back_70 : decode cX5_back 70 = .ok (.aload_n 0, 1) := dk_42 (dk_at dksX5_back_3 0 rfl rfl)
theorem dX5_back_71 : decode cX5_back 71 = .ok (.iconst 0, 1) := dk_3 (dk_at dksX5_back_3 1 rfl rfl)
theorem dX5_back_72 : decode cX5_back 72 = .ok (.invokevirtual 199, 3) := dk_182 0 199 (dk_at dksX5_back_3 2 rfl rfl)
theorem dX5_back_75 : decode cX5_back 75 = .ok (.ireturn, 1) := dk_172 (dk_at dksX5_back_3 5 rfl rfl)
abbrev cX5_settled : ByteArray := prog_22_method_9_code
def yX5_settled : MethodName := ⟨RX5, "settled", "(I)I"⟩
def dkwX5_settled_0 : List UInt8 := [42, 27, 156, 0, 10, 42, 180, 0, 181, 167, 0, 4, 3, 181, 0, 181, 42, 27, 182, 0, 184, 172]
abbrev dktX5_settled_0 : List UInt8 := dkwX5_settled_0 ++ []
theorem dksX5_settled_0 : cX5_settled.data.toList.drop 0 = dktX5_settled_0 := by decide +kernel
theorem dX5_settled_0 : decode cX5_settled 0 = .ok (.aload_n 0, 1) := dk_42 (dk_at dksX5_settled_0 0 rfl rfl)
theorem dX5_settled_1 : decode cX5_settled 1 = .ok (.iload_n 1, 1) := dk_27 (dk_at dksX5_settled_0 1 rfl rfl)
theorem dX5_settled_2 : decode cX5_settled 2 = .ok (.ifCond .ge 10, 3) := dk_156 0 10 (dk_at dksX5_settled_0 2 rfl rfl)
theorem dX5_settled_5 : decode cX5_settled 5 = .ok (.aload_n 0, 1) := dk_42 (dk_at dksX5_settled_0 5 rfl rfl)
theorem dX5_settled_6 : decode cX5_settled 6 = .ok (.getfield 181, 3) := dk_180 0 181 (dk_at dksX5_settled_0 6 rfl rfl)
theorem dX5_settled_9 : decode cX5_settled 9 = .ok (.goto 4, 3) := dk_167 0 4 (dk_at dksX5_settled_0 9 rfl rfl)
theorem dX5_settled_12 : decode cX5_settled 12 = .ok (.iconst 0, 1) := dk_3 (dk_at dksX5_settled_0 12 rfl rfl)
theorem dX5_settled_13 : decode cX5_settled 13 = .ok (.putfield 181, 3) := dk_181 0 181 (dk_at dksX5_settled_0 13 rfl rfl)
theorem dX5_settled_16 : decode cX5_settled 16 = .ok (.aload_n 0, 1) := dk_42 (dk_at dksX5_settled_0 16 rfl rfl)
theorem dX5_settled_17 : decode cX5_settled 17 = .ok (.iload_n 1, 1) := dk_27 (dk_at dksX5_settled_0 17 rfl rfl)
theorem dX5_settled_18 : decode cX5_settled 18 = .ok (.invokevirtual 184, 3) := dk_182 0 184 (dk_at dksX5_settled_0 18 rfl rfl)
theorem dX5_settled_21 : decode cX5_settled 21 = .ok (.ireturn, 1) := dk_172 (dk_at dksX5_settled_0 21 rfl rfl)
abbrev cX5_box : ByteArray := prog_22_method_25_code
def yX5_box : MethodName := ⟨RX5, "box", "(I)I"⟩
def dkwX5_box_5 : List UInt8 := [96, 79, 42, 28, 182, 0, 199, 172]
abbrev dktX5_box_5 : List UInt8 := dkwX5_box_5 ++ []
def dkwX5_box_4 : List UInt8 := [16, 68, 28, 96, 2, 79, 42, 180, 0, 13, 16, 74, 28, 96, 3, 79, 42, 180, 0, 13, 3, 92, 46, 4]
abbrev dktX5_box_4 : List UInt8 := dkwX5_box_4 ++ dktX5_box_5
def dkwX5_box_3 : List UInt8 := [42, 180, 0, 13, 16, 56, 28, 96, 3, 79, 42, 180, 0, 13, 16, 62, 28, 96, 27, 79, 42, 180, 0, 13]
abbrev dktX5_box_3 : List UInt8 := dkwX5_box_3 ++ dktX5_box_4
def dkwX5_box_2 : List UInt8 := [162, 0, 24, 42, 180, 0, 13, 16, 8, 16, 8, 28, 104, 96, 29, 96, 3, 79, 132, 3, 1, 167, 255, 232]
abbrev dktX5_box_2 : List UInt8 := dkwX5_box_2 ++ dktX5_box_3
def dkwX5_box_1 : List UInt8 := [180, 0, 13, 3, 46, 61, 28, 16, 6, 160, 0, 10, 42, 16, 251, 182, 0, 184, 172, 3, 62, 29, 16, 8]
abbrev dktX5_box_1 : List UInt8 := dkwX5_box_1 ++ dktX5_box_2
def dkwX5_box_0 : List UInt8 := [42, 3, 181, 0, 175, 27, 133, 9, 20, 0, 211, 184, 0, 195, 154, 0, 9, 42, 2, 182, 0, 184, 172, 42]
abbrev dktX5_box_0 : List UInt8 := dkwX5_box_0 ++ dktX5_box_1
theorem dksX5_box_0 : cX5_box.data.toList.drop 0 = dktX5_box_0 := by decide +kernel
theorem dksX5_box_1 : cX5_box.data.toList.drop 24 = dktX5_box_1 := dk_seg dksX5_box_0 24 rfl rfl
theorem dksX5_box_2 : cX5_box.data.toList.drop 48 = dktX5_box_2 := dk_seg dksX5_box_1 24 rfl rfl
theorem dksX5_box_3 : cX5_box.data.toList.drop 72 = dktX5_box_3 := dk_seg dksX5_box_2 24 rfl rfl
theorem dksX5_box_4 : cX5_box.data.toList.drop 96 = dktX5_box_4 := dk_seg dksX5_box_3 24 rfl rfl
theorem dksX5_box_5 : cX5_box.data.toList.drop 120 = dktX5_box_5 := dk_seg dksX5_box_4 24 rfl rfl
theorem dX5_box_0 : decode cX5_box 0 = .ok (.aload_n 0, 1) := dk_42 (dk_at dksX5_box_0 0 rfl rfl)
theorem dX5_box_1 : decode cX5_box 1 = .ok (.iconst 0, 1) := dk_3 (dk_at dksX5_box_0 1 rfl rfl)
theorem dX5_box_2 : decode cX5_box 2 = .ok (.putfield 175, 3) := dk_181 0 175 (dk_at dksX5_box_0 2 rfl rfl)
theorem dX5_box_5 : decode cX5_box 5 = .ok (.iload_n 1, 1) := dk_27 (dk_at dksX5_box_0 5 rfl rfl)
theorem dX5_box_6 : decode cX5_box 6 = .ok (.i2l, 1) := dk_133 (dk_at dksX5_box_0 6 rfl rfl)
theorem dX5_box_7 : decode cX5_box 7 = .ok (.lconst 0, 1) := dk_9 (dk_at dksX5_box_0 7 rfl rfl)
theorem dX5_box_8 : decode cX5_box 8 = .ok (.ldc2_w 211, 3) := dk_20 0 211 (dk_at dksX5_box_0 8 rfl rfl)
theorem dX5_box_11 : decode cX5_box 11 = .ok (.invokestatic 195, 3) := dk_184 0 195 (dk_at dksX5_box_0 11 rfl rfl)
theorem dX5_box_14 : decode cX5_box 14 = .ok (.ifCond .ne 9, 3) := dk_154 0 9 (dk_at dksX5_box_0 14 rfl rfl)
theorem dX5_box_17 : decode cX5_box 17 = .ok (.aload_n 0, 1) := dk_42 (dk_at dksX5_box_0 17 rfl rfl)
theorem dX5_box_18 : decode cX5_box 18 = .ok (.iconst (-1), 1) := dk_2 (dk_at dksX5_box_0 18 rfl rfl)
theorem dX5_box_19 : decode cX5_box 19 = .ok (.invokevirtual 184, 3) := dk_182 0 184 (dk_at dksX5_box_0 19 rfl rfl)
theorem dX5_box_22 : decode cX5_box 22 = .ok (.ireturn, 1) := dk_172 (dk_at dksX5_box_0 22 rfl rfl)
theorem dX5_box_23 : decode cX5_box 23 = .ok (.aload_n 0, 1) := dk_42 (dk_at dksX5_box_0 23 rfl rfl)
theorem dX5_box_24 : decode cX5_box 24 = .ok (.getfield 13, 3) := dk_180 0 13 (dk_at dksX5_box_1 0 rfl rfl)
theorem dX5_box_27 : decode cX5_box 27 = .ok (.iconst 0, 1) := dk_3 (dk_at dksX5_box_1 3 rfl rfl)
theorem dX5_box_28 : decode cX5_box 28 = .ok (.iaload, 1) := dk_46 (dk_at dksX5_box_1 4 rfl rfl)
theorem dX5_box_29 : decode cX5_box 29 = .ok (.istore_n 2, 1) := dk_61 (dk_at dksX5_box_1 5 rfl rfl)
theorem dX5_box_30 : decode cX5_box 30 = .ok (.iload_n 2, 1) := dk_28 (dk_at dksX5_box_1 6 rfl rfl)
theorem dX5_box_31 : decode cX5_box 31 = .ok (.bipush 6, 2) := dk_16 6 (dk_at dksX5_box_1 7 rfl rfl)
theorem dX5_box_33 : decode cX5_box 33 = .ok (.if_icmp .ne 10, 3) := dk_160 0 10 (dk_at dksX5_box_1 9 rfl rfl)
theorem dX5_box_36 : decode cX5_box 36 = .ok (.aload_n 0, 1) := dk_42 (dk_at dksX5_box_1 12 rfl rfl)
theorem dX5_box_37 : decode cX5_box 37 = .ok (.bipush (-5), 2) := dk_16 251 (dk_at dksX5_box_1 13 rfl rfl)
theorem dX5_box_39 : decode cX5_box 39 = .ok (.invokevirtual 184, 3) := dk_182 0 184 (dk_at dksX5_box_1 15 rfl rfl)
theorem dX5_box_42 : decode cX5_box 42 = .ok (.ireturn, 1) := dk_172 (dk_at dksX5_box_1 18 rfl rfl)
theorem dX5_box_43 : decode cX5_box 43 = .ok (.iconst 0, 1) := dk_3 (dk_at dksX5_box_1 19 rfl rfl)
theorem dX5_box_44 : decode cX5_box 44 = .ok (.istore_n 3, 1) := dk_62 (dk_at dksX5_box_1 20 rfl rfl)
theorem dX5_box_45 : decode cX5_box 45 = .ok (.iload_n 3, 1) := dk_29 (dk_at dksX5_box_1 21 rfl rfl)
theorem dX5_box_46 : decode cX5_box 46 = .ok (.bipush 8, 2) := dk_16 8 (dk_at dksX5_box_1 22 rfl rfl)
theorem dX5_box_48 : decode cX5_box 48 = .ok (.if_icmp .ge 24, 3) := dk_162 0 24 (dk_at dksX5_box_2 0 rfl rfl)
theorem dX5_box_51 : decode cX5_box 51 = .ok (.aload_n 0, 1) := dk_42 (dk_at dksX5_box_2 3 rfl rfl)
theorem dX5_box_52 : decode cX5_box 52 = .ok (.getfield 13, 3) := dk_180 0 13 (dk_at dksX5_box_2 4 rfl rfl)
theorem dX5_box_55 : decode cX5_box 55 = .ok (.bipush 8, 2) := dk_16 8 (dk_at dksX5_box_2 7 rfl rfl)
theorem dX5_box_57 : decode cX5_box 57 = .ok (.bipush 8, 2) := dk_16 8 (dk_at dksX5_box_2 9 rfl rfl)
theorem dX5_box_59 : decode cX5_box 59 = .ok (.iload_n 2, 1) := dk_28 (dk_at dksX5_box_2 11 rfl rfl)
theorem dX5_box_60 : decode cX5_box 60 = .ok (.imul, 1) := dk_104 (dk_at dksX5_box_2 12 rfl rfl)
theorem dX5_box_61 : decode cX5_box 61 = .ok (.iadd, 1) := dk_96 (dk_at dksX5_box_2 13 rfl rfl)
theorem dX5_box_62 : decode cX5_box 62 = .ok (.iload_n 3, 1) := dk_29 (dk_at dksX5_box_2 14 rfl rfl)
theorem dX5_box_63 : decode cX5_box 63 = .ok (.iadd, 1) := dk_96 (dk_at dksX5_box_2 15 rfl rfl)
theorem dX5_box_64 : decode cX5_box 64 = .ok (.iconst 0, 1) := dk_3 (dk_at dksX5_box_2 16 rfl rfl)
theorem dX5_box_65 : decode cX5_box 65 = .ok (.iastore, 1) := dk_79 (dk_at dksX5_box_2 17 rfl rfl)
theorem dX5_box_66 : decode cX5_box 66 = .ok (.iinc 3 1, 3) := dk_132 3 1 (dk_at dksX5_box_2 18 rfl rfl)
theorem dX5_box_69 : decode cX5_box 69 = .ok (.goto (-24), 3) := dk_167 255 232 (dk_at dksX5_box_2 21 rfl rfl)
theorem dX5_box_72 : decode cX5_box 72 = .ok (.aload_n 0, 1) := dk_42 (dk_at dksX5_box_3 0 rfl rfl)
theorem dX5_box_73 : decode cX5_box 73 = .ok (.getfield 13, 3) := dk_180 0 13 (dk_at dksX5_box_3 1 rfl rfl)
theorem dX5_box_76 : decode cX5_box 76 = .ok (.bipush 56, 2) := dk_16 56 (dk_at dksX5_box_3 4 rfl rfl)
theorem dX5_box_78 : decode cX5_box 78 = .ok (.iload_n 2, 1) := dk_28 (dk_at dksX5_box_3 6 rfl rfl)
theorem dX5_box_79 : decode cX5_box 79 = .ok (.iadd, 1) := dk_96 (dk_at dksX5_box_3 7 rfl rfl)
theorem dX5_box_80 : decode cX5_box 80 = .ok (.iconst 0, 1) := dk_3 (dk_at dksX5_box_3 8 rfl rfl)
theorem dX5_box_81 : decode cX5_box 81 = .ok (.iastore, 1) := dk_79 (dk_at dksX5_box_3 9 rfl rfl)
theorem dX5_box_82 : decode cX5_box 82 = .ok (.aload_n 0, 1) := dk_42 (dk_at dksX5_box_3 10 rfl rfl)
theorem dX5_box_83 : decode cX5_box 83 = .ok (.getfield 13, 3) := dk_180 0 13 (dk_at dksX5_box_3 11 rfl rfl)
theorem dX5_box_86 : decode cX5_box 86 = .ok (.bipush 62, 2) := dk_16 62 (dk_at dksX5_box_3 14 rfl rfl)
theorem dX5_box_88 : decode cX5_box 88 = .ok (.iload_n 2, 1) := dk_28 (dk_at dksX5_box_3 16 rfl rfl)
theorem dX5_box_89 : decode cX5_box 89 = .ok (.iadd, 1) := dk_96 (dk_at dksX5_box_3 17 rfl rfl)
theorem dX5_box_90 : decode cX5_box 90 = .ok (.iload_n 1, 1) := dk_27 (dk_at dksX5_box_3 18 rfl rfl)
theorem dX5_box_91 : decode cX5_box 91 = .ok (.iastore, 1) := dk_79 (dk_at dksX5_box_3 19 rfl rfl)
theorem dX5_box_92 : decode cX5_box 92 = .ok (.aload_n 0, 1) := dk_42 (dk_at dksX5_box_3 20 rfl rfl)
theorem dX5_box_93 : decode cX5_box 93 = .ok (.getfield 13, 3) := dk_180 0 13 (dk_at dksX5_box_3 21 rfl rfl)
theorem dX5_box_96 : decode cX5_box 96 = .ok (.bipush 68, 2) := dk_16 68 (dk_at dksX5_box_4 0 rfl rfl)
theorem dX5_box_98 : decode cX5_box 98 = .ok (.iload_n 2, 1) := dk_28 (dk_at dksX5_box_4 2 rfl rfl)
theorem dX5_box_99 : decode cX5_box 99 = .ok (.iadd, 1) := dk_96 (dk_at dksX5_box_4 3 rfl rfl)
theorem dX5_box_100 : decode cX5_box 100 = .ok (.iconst (-1), 1) := dk_2 (dk_at dksX5_box_4 4 rfl rfl)
theorem dX5_box_101 : decode cX5_box 101 = .ok (.iastore, 1) := dk_79 (dk_at dksX5_box_4 5 rfl rfl)
theorem dX5_box_102 : decode cX5_box 102 = .ok (.aload_n 0, 1) := dk_42 (dk_at dksX5_box_4 6 rfl rfl)
theorem dX5_box_103 : decode cX5_box 103 = .ok (.getfield 13, 3) := dk_180 0 13 (dk_at dksX5_box_4 7 rfl rfl)
theorem dX5_box_106 : decode cX5_box 106 = .ok (.bipush 74, 2) := dk_16 74 (dk_at dksX5_box_4 10 rfl rfl)
theorem dX5_box_108 : decode cX5_box 108 = .ok (.iload_n 2, 1) := dk_28 (dk_at dksX5_box_4 12 rfl rfl)
theorem dX5_box_109 : decode cX5_box 109 = .ok (.iadd, 1) := dk_96 (dk_at dksX5_box_4 13 rfl rfl)
theorem dX5_box_110 : decode cX5_box 110 = .ok (.iconst 0, 1) := dk_3 (dk_at dksX5_box_4 14 rfl rfl)
theorem dX5_box_111 : decode cX5_box 111 = .ok (.iastore, 1) := dk_79 (dk_at dksX5_box_4 15 rfl rfl)
theorem dX5_box_112 : decode cX5_box 112 = .ok (.aload_n 0, 1) := dk_42 (dk_at dksX5_box_4 16 rfl rfl)
theorem dX5_box_113 : decode cX5_box 113 = .ok (.getfield 13, 3) := dk_180 0 13 (dk_at dksX5_box_4 17 rfl rfl)
theorem dX5_box_116 : decode cX5_box 116 = .ok (.iconst 0, 1) := dk_3 (dk_at dksX5_box_4 20 rfl rfl)
theorem dX5_box_117 : decode cX5_box 117 = .ok (.dup2, 1) := dk_92 (dk_at dksX5_box_4 21 rfl rfl)
theorem dX5_box_118 : decode cX5_box 118 = .ok (.iaload, 1) := dk_46 (dk_at dksX5_box_4 22 rfl rfl)
theorem dX5_box_119 : decode cX5_box 119 = .ok (.iconst 1, 1) := dk_4 (dk_at dksX5_box_4 23 rfl rfl)
theorem dX5_box_120 : decode cX5_box 120 = .ok (.iadd, 1) := dk_96 (dk_at dksX5_box_5 0 rfl rfl)
theorem dX5_box_121 : decode cX5_box 121 = .ok (.iastore, 1) := dk_79 (dk_at dksX5_box_5 1 rfl rfl)
theorem dX5_box_122 : decode cX5_box 122 = .ok (.aload_n 0, 1) := dk_42 (dk_at dksX5_box_5 2 rfl rfl)
theorem dX5_box_123 : decode cX5_box 123 = .ok (.iload_n 2, 1) := dk_28 (dk_at dksX5_box_5 3 rfl rfl)
theorem dX5_box_124 : decode cX5_box 124 = .ok (.invokevirtual 199, 3) := dk_182 0 199 (dk_at dksX5_box_5 4 rfl rfl)
theorem dX5_box_127 : decode cX5_box 127 = .ok (.ireturn, 1) := dk_172 (dk_at dksX5_box_5 7 rfl rfl)
abbrev cX5_of : ByteArray := prog_22_method_26_code
def yX5_of : MethodName := ⟨RX5, "of", "(II)I"⟩
def dkwX5_of_6 : List UInt8 := [16, 7, 100, 46, 172]
abbrev dktX5_of_6 : List UInt8 := dkwX5_of_6 ++ []
def dkwX5_of_5 : List UInt8 := [182, 0, 222, 172, 42, 27, 182, 0, 225, 172, 42, 180, 0, 13, 16, 8, 16, 8, 27, 104, 96, 28, 96]
abbrev dktX5_of_5 : List UInt8 := dkwX5_of_5 ++ dktX5_of_6
def dkwX5_of_4 : List UInt8 := [46, 172, 42, 180, 0, 13, 16, 68, 27, 96, 46, 172, 42, 180, 0, 13, 16, 74, 27, 96, 46, 172, 42, 27]
abbrev dktX5_of_4 : List UInt8 := dkwX5_of_4 ++ dktX5_of_5
def dkwX5_of_3 : List UInt8 := [42, 180, 0, 13, 16, 62, 27, 96, 46, 172, 42, 27, 182, 0, 219, 172, 42, 180, 0, 13, 16, 56, 27, 96]
abbrev dktX5_of_3 : List UInt8 := dkwX5_of_3 ++ dktX5_of_4
def dkwX5_of_2 : List UInt8 := [170, 0, 0, 0, 0, 0, 0, 102, 0, 0, 0, 0, 0, 0, 0, 6, 0, 0, 0, 44, 0, 0, 0, 54, 0, 0, 0, 60, 0, 0, 0, 70, 0, 0, 0, 80, 0, 0, 0, 90, 0, 0, 0, 96]
abbrev dktX5_of_2 : List UInt8 := dkwX5_of_2 ++ dktX5_of_3
def dkwX5_of_1 : List UInt8 := [154, 0, 5, 2, 172, 28]
abbrev dktX5_of_1 : List UInt8 := dkwX5_of_1 ++ dktX5_of_2
def dkwX5_of_0 : List UInt8 := [42, 3, 181, 0, 175, 42, 27, 182, 0, 213, 153, 0, 15, 28, 133, 9, 20, 0, 217, 184, 0, 195]
abbrev dktX5_of_0 : List UInt8 := dkwX5_of_0 ++ dktX5_of_1
theorem dksX5_of_0 : cX5_of.data.toList.drop 0 = dktX5_of_0 := by decide +kernel
theorem dksX5_of_1 : cX5_of.data.toList.drop 22 = dktX5_of_1 := dk_seg dksX5_of_0 22 rfl rfl
theorem dksX5_of_2 : cX5_of.data.toList.drop 28 = dktX5_of_2 := dk_seg dksX5_of_1 6 rfl rfl
theorem dksX5_of_3 : cX5_of.data.toList.drop 72 = dktX5_of_3 := dk_seg dksX5_of_2 44 rfl rfl
theorem dksX5_of_4 : cX5_of.data.toList.drop 96 = dktX5_of_4 := dk_seg dksX5_of_3 24 rfl rfl
theorem dksX5_of_5 : cX5_of.data.toList.drop 120 = dktX5_of_5 := dk_seg dksX5_of_4 24 rfl rfl
theorem dksX5_of_6 : cX5_of.data.toList.drop 143 = dktX5_of_6 := dk_seg dksX5_of_5 23 rfl rfl
theorem dX5_of_0 : decode cX5_of 0 = .ok (.aload_n 0, 1) := dk_42 (dk_at dksX5_of_0 0 rfl rfl)
theorem dX5_of_1 : decode cX5_of 1 = .ok (.iconst 0, 1) := dk_3 (dk_at dksX5_of_0 1 rfl rfl)
theorem dX5_of_2 : decode cX5_of 2 = .ok (.putfield 175, 3) := dk_181 0 175 (dk_at dksX5_of_0 2 rfl rfl)
theorem dX5_of_5 : decode cX5_of 5 = .ok (.aload_n 0, 1) := dk_42 (dk_at dksX5_of_0 5 rfl rfl)
theorem dX5_of_6 : decode cX5_of 6 = .ok (.iload_n 1, 1) := dk_27 (dk_at dksX5_of_0 6 rfl rfl)
theorem dX5_of_7 : decode cX5_of 7 = .ok (.invokevirtual 213, 3) := dk_182 0 213 (dk_at dksX5_of_0 7 rfl rfl)
theorem dX5_of_10 : decode cX5_of 10 = .ok (.ifCond .eq 15, 3) := dk_153 0 15 (dk_at dksX5_of_0 10 rfl rfl)
theorem dX5_of_13 : decode cX5_of 13 = .ok (.iload_n 2, 1) := dk_28 (dk_at dksX5_of_0 13 rfl rfl)
theorem dX5_of_14 : decode cX5_of 14 = .ok (.i2l, 1) := dk_133 (dk_at dksX5_of_0 14 rfl rfl)
theorem dX5_of_15 : decode cX5_of 15 = .ok (.lconst 0, 1) := dk_9 (dk_at dksX5_of_0 15 rfl rfl)
theorem dX5_of_16 : decode cX5_of 16 = .ok (.ldc2_w 217, 3) := dk_20 0 217 (dk_at dksX5_of_0 16 rfl rfl)
theorem dX5_of_19 : decode cX5_of 19 = .ok (.invokestatic 195, 3) := dk_184 0 195 (dk_at dksX5_of_0 19 rfl rfl)
theorem dX5_of_22 : decode cX5_of 22 = .ok (.ifCond .ne 5, 3) := dk_154 0 5 (dk_at dksX5_of_1 0 rfl rfl)
theorem dX5_of_25 : decode cX5_of 25 = .ok (.iconst (-1), 1) := dk_2 (dk_at dksX5_of_1 3 rfl rfl)
theorem dX5_of_26 : decode cX5_of 26 = .ok (.ireturn, 1) := dk_172 (dk_at dksX5_of_1 4 rfl rfl)
theorem dX5_of_27 : decode cX5_of 27 = .ok (.iload_n 2, 1) := dk_28 (dk_at dksX5_of_1 5 rfl rfl)
theorem dX5_of_28 : decode cX5_of 28 = .ok (.tableswitch 102 0 6 #[44, 54, 60, 70, 80, 90, 96], 44) := by decide +kernel
theorem dX5_of_72 : decode cX5_of 72 = .ok (.aload_n 0, 1) := dk_42 (dk_at dksX5_of_3 0 rfl rfl)
theorem dX5_of_73 : decode cX5_of 73 = .ok (.getfield 13, 3) := dk_180 0 13 (dk_at dksX5_of_3 1 rfl rfl)
theorem dX5_of_76 : decode cX5_of 76 = .ok (.bipush 62, 2) := dk_16 62 (dk_at dksX5_of_3 4 rfl rfl)
theorem dX5_of_78 : decode cX5_of 78 = .ok (.iload_n 1, 1) := dk_27 (dk_at dksX5_of_3 6 rfl rfl)
theorem dX5_of_79 : decode cX5_of 79 = .ok (.iadd, 1) := dk_96 (dk_at dksX5_of_3 7 rfl rfl)
theorem dX5_of_80 : decode cX5_of 80 = .ok (.iaload, 1) := dk_46 (dk_at dksX5_of_3 8 rfl rfl)
theorem dX5_of_81 : decode cX5_of 81 = .ok (.ireturn, 1) := dk_172 (dk_at dksX5_of_3 9 rfl rfl)
theorem dX5_of_82 : decode cX5_of 82 = .ok (.aload_n 0, 1) := dk_42 (dk_at dksX5_of_3 10 rfl rfl)
theorem dX5_of_83 : decode cX5_of 83 = .ok (.iload_n 1, 1) := dk_27 (dk_at dksX5_of_3 11 rfl rfl)
theorem dX5_of_84 : decode cX5_of 84 = .ok (.invokevirtual 219, 3) := dk_182 0 219 (dk_at dksX5_of_3 12 rfl rfl)
theorem dX5_of_87 : decode cX5_of 87 = .ok (.ireturn, 1) := dk_172 (dk_at dksX5_of_3 15 rfl rfl)
theorem dX5_of_88 : decode cX5_of 88 = .ok (.aload_n 0, 1) := dk_42 (dk_at dksX5_of_3 16 rfl rfl)
theorem dX5_of_89 : decode cX5_of 89 = .ok (.getfield 13, 3) := dk_180 0 13 (dk_at dksX5_of_3 17 rfl rfl)
theorem dX5_of_92 : decode cX5_of 92 = .ok (.bipush 56, 2) := dk_16 56 (dk_at dksX5_of_3 20 rfl rfl)
theorem dX5_of_94 : decode cX5_of 94 = .ok (.iload_n 1, 1) := dk_27 (dk_at dksX5_of_3 22 rfl rfl)
theorem dX5_of_95 : decode cX5_of 95 = .ok (.iadd, 1) := dk_96 (dk_at dksX5_of_3 23 rfl rfl)
theorem dX5_of_96 : decode cX5_of 96 = .ok (.iaload, 1) := dk_46 (dk_at dksX5_of_4 0 rfl rfl)
theorem dX5_of_97 : decode cX5_of 97 = .ok (.ireturn, 1) := dk_172 (dk_at dksX5_of_4 1 rfl rfl)
theorem dX5_of_98 : decode cX5_of 98 = .ok (.aload_n 0, 1) := dk_42 (dk_at dksX5_of_4 2 rfl rfl)
theorem dX5_of_99 : decode cX5_of 99 = .ok (.getfield 13, 3) := dk_180 0 13 (dk_at dksX5_of_4 3 rfl rfl)
theorem dX5_of_102 : decode cX5_of 102 = .ok (.bipush 68, 2) := dk_16 68 (dk_at dksX5_of_4 6 rfl rfl)
theorem dX5_of_104 : decode cX5_of 104 = .ok (.iload_n 1, 1) := dk_27 (dk_at dksX5_of_4 8 rfl rfl)
theorem dX5_of_105 : decode cX5_of 105 = .ok (.iadd, 1) := dk_96 (dk_at dksX5_of_4 9 rfl rfl)
theorem dX5_of_106 : decode cX5_of 106 = .ok (.iaload, 1) := dk_46 (dk_at dksX5_of_4 10 rfl rfl)
theorem dX5_of_107 : decode cX5_of 107 = .ok (.ireturn, 1) := dk_172 (dk_at dksX5_of_4 11 rfl rfl)
theorem dX5_of_108 : decode cX5_of 108 = .ok (.aload_n 0, 1) := dk_42 (dk_at dksX5_of_4 12 rfl rfl)
theorem dX5_of_109 : decode cX5_of 109 = .ok (.getfield 13, 3) := dk_180 0 13 (dk_at dksX5_of_4 13 rfl rfl)
theorem dX5_of_112 : decode cX5_of 112 = .ok (.bipush 74, 2) := dk_16 74 (dk_at dksX5_of_4 16 rfl rfl)
theorem dX5_of_114 : decode cX5_of 114 = .ok (.iload_n 1, 1) := dk_27 (dk_at dksX5_of_4 18 rfl rfl)
theorem dX5_of_115 : decode cX5_of 115 = .ok (.iadd, 1) := dk_96 (dk_at dksX5_of_4 19 rfl rfl)
theorem dX5_of_116 : decode cX5_of 116 = .ok (.iaload, 1) := dk_46 (dk_at dksX5_of_4 20 rfl rfl)
theorem dX5_of_117 : decode cX5_of 117 = .ok (.ireturn, 1) := dk_172 (dk_at dksX5_of_4 21 rfl rfl)
theorem dX5_of_118 : decode cX5_of 118 = .ok (.aload_n 0, 1) := dk_42 (dk_at dksX5_of_4 22 rfl rfl)
theorem dX5_of_119 : decode cX5_of 119 = .ok (.iload_n 1, 1) := dk_27 (dk_at dksX5_of_4 23 rfl rfl)
theorem dX5_of_120 : decode cX5_of 120 = .ok (.invokevirtual 222, 3) := dk_182 0 222 (dk_at dksX5_of_5 0 rfl rfl)
theorem dX5_of_123 : decode cX5_of 123 = .ok (.ireturn, 1) := dk_172 (dk_at dksX5_of_5 3 rfl rfl)
theorem dX5_of_124 : decode cX5_of 124 = .ok (.aload_n 0, 1) := dk_42 (dk_at dksX5_of_5 4 rfl rfl)
theorem dX5_of_125 : decode cX5_of 125 = .ok (.iload_n 1, 1) := dk_27 (dk_at dksX5_of_5 5 rfl rfl)
theorem dX5_of_126 : decode cX5_of 126 = .ok (.invokevirtual 225, 3) := dk_182 0 225 (dk_at dksX5_of_5 6 rfl rfl)
theorem dX5_of_129 : decode cX5_of 129 = .ok (.ireturn, 1) := dk_172 (dk_at dksX5_of_5 9 rfl rfl)
theorem dX5_of_130 : decode cX5_of 130 = .ok (.aload_n 0, 1) := dk_42 (dk_at dksX5_of_5 10 rfl rfl)
theorem dX5_of_131 : decode cX5_of 131 = .ok (.getfield 13, 3) := dk_180 0 13 (dk_at dksX5_of_5 11 rfl rfl)
theorem dX5_of_134 : decode cX5_of 134 = .ok (.bipush 8, 2) := dk_16 8 (dk_at dksX5_of_5 14 rfl rfl)
theorem dX5_of_136 : decode cX5_of 136 = .ok (.bipush 8, 2) := dk_16 8 (dk_at dksX5_of_5 16 rfl rfl)
theorem dX5_of_138 : decode cX5_of 138 = .ok (.iload_n 1, 1) := dk_27 (dk_at dksX5_of_5 18 rfl rfl)
theorem dX5_of_139 : decode cX5_of 139 = .ok (.imul, 1) := dk_104 (dk_at dksX5_of_5 19 rfl rfl)
theorem dX5_of_140 : decode cX5_of 140 = .ok (.iadd, 1) := dk_96 (dk_at dksX5_of_5 20 rfl rfl)
theorem dX5_of_141 : decode cX5_of 141 = .ok (.iload_n 2, 1) := dk_28 (dk_at dksX5_of_5 21 rfl rfl)
theorem dX5_of_142 : decode cX5_of 142 = .ok (.iadd, 1) := dk_96 (dk_at dksX5_of_5 22 rfl rfl)
theorem dX5_of_143 : decode cX5_of 143 = .ok (.bipush 7, 2) := dk_16 7 (dk_at dksX5_of_6 0 rfl rfl)
theorem dX5_of_145 : decode cX5_of 145 = .ok (.isub, 1) := dk_100 (dk_at dksX5_of_6 2 rfl rfl)
theorem dX5_of_146 : decode cX5_of 146 = .ok (.iaload, 1) := dk_46 (dk_at dksX5_of_6 3 rfl rfl)
theorem dX5_of_147 : decode cX5_of 147 = .ok (.ireturn, 1) := dk_172 (dk_at dksX5_of_6 4 rfl rfl)
abbrev cX5_isBox : ByteArray := prog_22_method_16_code
def yX5_isBox : MethodName := ⟨RX5, "isBox", "(I)Z"⟩
def dkwX5_isBox_0 : List UInt8 := [27, 133, 9, 42, 180, 0, 13, 3, 46, 133, 10, 101, 184, 0, 195, 172]
abbrev dktX5_isBox_0 : List UInt8 := dkwX5_isBox_0 ++ []
theorem dksX5_isBox_0 : cX5_isBox.data.toList.drop 0 = dktX5_isBox_0 := by decide +kernel
theorem dX5_isBox_0 : decode cX5_isBox 0 = .ok (.iload_n 1, 1) := dk_27 (dk_at dksX5_isBox_0 0 rfl rfl)
theorem dX5_isBox_1 : decode cX5_isBox 1 = .ok (.i2l, 1) := dk_133 (dk_at dksX5_isBox_0 1 rfl rfl)
theorem dX5_isBox_2 : decode cX5_isBox 2 = .ok (.lconst 0, 1) := dk_9 (dk_at dksX5_isBox_0 2 rfl rfl)
theorem dX5_isBox_3 : decode cX5_isBox 3 = .ok (.aload_n 0, 1) := dk_42 (dk_at dksX5_isBox_0 3 rfl rfl)
theorem dX5_isBox_4 : decode cX5_isBox 4 = .ok (.getfield 13, 3) := dk_180 0 13 (dk_at dksX5_isBox_0 4 rfl rfl)
theorem dX5_isBox_7 : decode cX5_isBox 7 = .ok (.iconst 0, 1) := dk_3 (dk_at dksX5_isBox_0 7 rfl rfl)
theorem dX5_isBox_8 : decode cX5_isBox 8 = .ok (.iaload, 1) := dk_46 (dk_at dksX5_isBox_0 8 rfl rfl)
theorem dX5_isBox_9 : decode cX5_isBox 9 = .ok (.i2l, 1) := dk_133 (dk_at dksX5_isBox_0 9 rfl rfl)
theorem dX5_isBox_10 : decode cX5_isBox 10 = .ok (.lconst 1, 1) := dk_10 (dk_at dksX5_isBox_0 10 rfl rfl)
theorem dX5_isBox_11 : decode cX5_isBox 11 = .ok (.lsub, 1) := dk_101 (dk_at dksX5_isBox_0 11 rfl rfl)
theorem dX5_isBox_12 : decode cX5_isBox 12 = .ok (.invokestatic 195, 3) := dk_184 0 195 (dk_at dksX5_isBox_0 12 rfl rfl)
theorem dX5_isBox_15 : decode cX5_isBox 15 = .ok (.ireturn, 1) := dk_172 (dk_at dksX5_isBox_0 15 rfl rfl)
abbrev cX5_notesOf : ByteArray := prog_22_method_21_code
def yX5_notesOf : MethodName := ⟨RX5, "notesOf", "(I)I"⟩
def dkwX5_notesOf_1 : List UInt8 := [132, 3, 1, 167, 255, 235, 28, 172]
abbrev dktX5_notesOf_1 : List UInt8 := dkwX5_notesOf_1 ++ []
def dkwX5_notesOf_0 : List UInt8 := [3, 61, 3, 62, 29, 16, 8, 162, 0, 21, 28, 42, 27, 29, 182, 0, 204, 184, 0, 208, 96, 61]
abbrev dktX5_notesOf_0 : List UInt8 := dkwX5_notesOf_0 ++ dktX5_notesOf_1
theorem dksX5_notesOf_0 : cX5_notesOf.data.toList.drop 0 = dktX5_notesOf_0 := by decide +kernel
theorem dksX5_notesOf_1 : cX5_notesOf.data.toList.drop 22 = dktX5_notesOf_1 := dk_seg dksX5_notesOf_0 22 rfl rfl
theorem dX5_notesOf_0 : decode cX5_notesOf 0 = .ok (.iconst 0, 1) := dk_3 (dk_at dksX5_notesOf_0 0 rfl rfl)
theorem dX5_notesOf_1 : decode cX5_notesOf 1 = .ok (.istore_n 2, 1) := dk_61 (dk_at dksX5_notesOf_0 1 rfl rfl)
theorem dX5_notesOf_2 : decode cX5_notesOf 2 = .ok (.iconst 0, 1) := dk_3 (dk_at dksX5_notesOf_0 2 rfl rfl)
theorem dX5_notesOf_3 : decode cX5_notesOf 3 = .ok (.istore_n 3, 1) := dk_62 (dk_at dksX5_notesOf_0 3 rfl rfl)
theorem dX5_notesOf_4 : decode cX5_notesOf 4 = .ok (.iload_n 3, 1) := dk_29 (dk_at dksX5_notesOf_0 4 rfl rfl)
theorem dX5_notesOf_5 : decode cX5_notesOf 5 = .ok (.bipush 8, 2) := dk_16 8 (dk_at dksX5_notesOf_0 5 rfl rfl)
theorem dX5_notesOf_7 : decode cX5_notesOf 7 = .ok (.if_icmp .ge 21, 3) := dk_162 0 21 (dk_at dksX5_notesOf_0 7 rfl rfl)
theorem dX5_notesOf_10 : decode cX5_notesOf 10 = .ok (.iload_n 2, 1) := dk_28 (dk_at dksX5_notesOf_0 10 rfl rfl)
theorem dX5_notesOf_11 : decode cX5_notesOf 11 = .ok (.aload_n 0, 1) := dk_42 (dk_at dksX5_notesOf_0 11 rfl rfl)
theorem dX5_notesOf_12 : decode cX5_notesOf 12 = .ok (.iload_n 1, 1) := dk_27 (dk_at dksX5_notesOf_0 12 rfl rfl)
theorem dX5_notesOf_13 : decode cX5_notesOf 13 = .ok (.iload_n 3, 1) := dk_29 (dk_at dksX5_notesOf_0 13 rfl rfl)
theorem dX5_notesOf_14 : decode cX5_notesOf 14 = .ok (.invokevirtual 204, 3) := dk_182 0 204 (dk_at dksX5_notesOf_0 14 rfl rfl)
theorem dX5_notesOf_17 : decode cX5_notesOf 17 = .ok (.invokestatic 208, 3) := dk_184 0 208 (dk_at dksX5_notesOf_0 17 rfl rfl)
theorem dX5_notesOf_20 : decode cX5_notesOf 20 = .ok (.iadd, 1) := dk_96 (dk_at dksX5_notesOf_0 20 rfl rfl)
theorem dX5_notesOf_21 : decode cX5_notesOf 21 = .ok (.istore_n 2, 1) := dk_61 (dk_at dksX5_notesOf_0 21 rfl rfl)
theorem dX5_notesOf_22 : decode cX5_notesOf 22 = .ok (.iinc 3 1, 3) := dk_132 3 1 (dk_at dksX5_notesOf_1 0 rfl rfl)
theorem dX5_notesOf_25 : decode cX5_notesOf 25 = .ok (.goto (-21), 3) := dk_167 255 235 (dk_at dksX5_notesOf_1 3 rfl rfl)
theorem dX5_notesOf_28 : decode cX5_notesOf 28 = .ok (.iload_n 2, 1) := dk_28 (dk_at dksX5_notesOf_1 6 rfl rfl)
theorem dX5_notesOf_29 : decode cX5_notesOf 29 = .ok (.ireturn, 1) := dk_172 (dk_at dksX5_notesOf_1 7 rfl rfl)
abbrev cX5_notesAt : ByteArray := prog_22_method_20_code
def yX5_notesAt : MethodName := ⟨RX5, "notesAt", "(II)I"⟩
def dkwX5_notesAt_1 : List UInt8 := [130, 126, 172]
abbrev dktX5_notesAt_1 : List UInt8 := dkwX5_notesAt_1 ++ []
def dkwX5_notesAt_0 : List UInt8 := [42, 180, 0, 13, 16, 8, 16, 8, 27, 104, 96, 28, 96, 46, 42, 180, 0, 13, 16, 56, 27, 96, 46, 2]
abbrev dktX5_notesAt_0 : List UInt8 := dkwX5_notesAt_0 ++ dktX5_notesAt_1
theorem dksX5_notesAt_0 : cX5_notesAt.data.toList.drop 0 = dktX5_notesAt_0 := by decide +kernel
theorem dksX5_notesAt_1 : cX5_notesAt.data.toList.drop 24 = dktX5_notesAt_1 := dk_seg dksX5_notesAt_0 24 rfl rfl
theorem dX5_notesAt_0 : decode cX5_notesAt 0 = .ok (.aload_n 0, 1) := dk_42 (dk_at dksX5_notesAt_0 0 rfl rfl)
theorem dX5_notesAt_1 : decode cX5_notesAt 1 = .ok (.getfield 13, 3) := dk_180 0 13 (dk_at dksX5_notesAt_0 1 rfl rfl)
theorem dX5_notesAt_4 : decode cX5_notesAt 4 = .ok (.bipush 8, 2) := dk_16 8 (dk_at dksX5_notesAt_0 4 rfl rfl)
theorem dX5_notesAt_6 : decode cX5_notesAt 6 = .ok (.bipush 8, 2) := dk_16 8 (dk_at dksX5_notesAt_0 6 rfl rfl)
theorem dX5_notesAt_8 : decode cX5_notesAt 8 = .ok (.iload_n 1, 1) := dk_27 (dk_at dksX5_notesAt_0 8 rfl rfl)
theorem dX5_notesAt_9 : decode cX5_notesAt 9 = .ok (.imul, 1) := dk_104 (dk_at dksX5_notesAt_0 9 rfl rfl)
theorem dX5_notesAt_10 : decode cX5_notesAt 10 = .ok (.iadd, 1) := dk_96 (dk_at dksX5_notesAt_0 10 rfl rfl)
theorem dX5_notesAt_11 : decode cX5_notesAt 11 = .ok (.iload_n 2, 1) := dk_28 (dk_at dksX5_notesAt_0 11 rfl rfl)
theorem dX5_notesAt_12 : decode cX5_notesAt 12 = .ok (.iadd, 1) := dk_96 (dk_at dksX5_notesAt_0 12 rfl rfl)
theorem dX5_notesAt_13 : decode cX5_notesAt 13 = .ok (.iaload, 1) := dk_46 (dk_at dksX5_notesAt_0 13 rfl rfl)
theorem dX5_notesAt_14 : decode cX5_notesAt 14 = .ok (.aload_n 0, 1) := dk_42 (dk_at dksX5_notesAt_0 14 rfl rfl)
theorem dX5_notesAt_15 : decode cX5_notesAt 15 = .ok (.getfield 13, 3) := dk_180 0 13 (dk_at dksX5_notesAt_0 15 rfl rfl)
theorem dX5_notesAt_18 : decode cX5_notesAt 18 = .ok (.bipush 56, 2) := dk_16 56 (dk_at dksX5_notesAt_0 18 rfl rfl)
theorem dX5_notesAt_20 : decode cX5_notesAt 20 = .ok (.iload_n 1, 1) := dk_27 (dk_at dksX5_notesAt_0 20 rfl rfl)
theorem dX5_notesAt_21 : decode cX5_notesAt 21 = .ok (.iadd, 1) := dk_96 (dk_at dksX5_notesAt_0 21 rfl rfl)
theorem dX5_notesAt_22 : decode cX5_notesAt 22 = .ok (.iaload, 1) := dk_46 (dk_at dksX5_notesAt_0 22 rfl rfl)
theorem dX5_notesAt_23 : decode cX5_notesAt 23 = .ok (.iconst (-1), 1) := dk_2 (dk_at dksX5_notesAt_0 23 rfl rfl)
theorem dX5_notesAt_24 : decode cX5_notesAt 24 = .ok (.ixor, 1) := dk_130 (dk_at dksX5_notesAt_1 0 rfl rfl)
theorem dX5_notesAt_25 : decode cX5_notesAt 25 = .ok (.iand, 1) := dk_126 (dk_at dksX5_notesAt_1 1 rfl rfl)
theorem dX5_notesAt_26 : decode cX5_notesAt 26 = .ok (.ireturn, 1) := dk_172 (dk_at dksX5_notesAt_1 2 rfl rfl)
abbrev cX5_ones : ByteArray := prog_22_method_5_code
def yX5_ones : MethodName := ⟨RX5, "ones", "(I)I"⟩
def dkwX5_ones_1 : List UInt8 := [27, 172]
abbrev dktX5_ones_1 : List UInt8 := dkwX5_ones_1 ++ []
def dkwX5_ones_0 : List UInt8 := [3, 60, 3, 61, 28, 16, 8, 162, 0, 17, 27, 26, 28, 122, 4, 126, 96, 60, 132, 2, 1, 167, 255, 239]
abbrev dktX5_ones_0 : List UInt8 := dkwX5_ones_0 ++ dktX5_ones_1
theorem dksX5_ones_0 : cX5_ones.data.toList.drop 0 = dktX5_ones_0 := by decide +kernel
theorem dksX5_ones_1 : cX5_ones.data.toList.drop 24 = dktX5_ones_1 := dk_seg dksX5_ones_0 24 rfl rfl
theorem dX5_ones_0 : decode cX5_ones 0 = .ok (.iconst 0, 1) := dk_3 (dk_at dksX5_ones_0 0 rfl rfl)
theorem dX5_ones_1 : decode cX5_ones 1 = .ok (.istore_n 1, 1) := dk_60 (dk_at dksX5_ones_0 1 rfl rfl)
theorem dX5_ones_2 : decode cX5_ones 2 = .ok (.iconst 0, 1) := dk_3 (dk_at dksX5_ones_0 2 rfl rfl)
theorem dX5_ones_3 : decode cX5_ones 3 = .ok (.istore_n 2, 1) := dk_61 (dk_at dksX5_ones_0 3 rfl rfl)
theorem dX5_ones_4 : decode cX5_ones 4 = .ok (.iload_n 2, 1) := dk_28 (dk_at dksX5_ones_0 4 rfl rfl)
theorem dX5_ones_5 : decode cX5_ones 5 = .ok (.bipush 8, 2) := dk_16 8 (dk_at dksX5_ones_0 5 rfl rfl)
theorem dX5_ones_7 : decode cX5_ones 7 = .ok (.if_icmp .ge 17, 3) := dk_162 0 17 (dk_at dksX5_ones_0 7 rfl rfl)
theorem dX5_ones_10 : decode cX5_ones 10 = .ok (.iload_n 1, 1) := dk_27 (dk_at dksX5_ones_0 10 rfl rfl)
theorem dX5_ones_11 : decode cX5_ones 11 = .ok (.iload_n 0, 1) := dk_26 (dk_at dksX5_ones_0 11 rfl rfl)
theorem dX5_ones_12 : decode cX5_ones 12 = .ok (.iload_n 2, 1) := dk_28 (dk_at dksX5_ones_0 12 rfl rfl)
theorem dX5_ones_13 : decode cX5_ones 13 = .ok (.ishr, 1) := dk_122 (dk_at dksX5_ones_0 13 rfl rfl)
theorem dX5_ones_14 : decode cX5_ones 14 = .ok (.iconst 1, 1) := dk_4 (dk_at dksX5_ones_0 14 rfl rfl)
theorem dX5_ones_15 : decode cX5_ones 15 = .ok (.iand, 1) := dk_126 (dk_at dksX5_ones_0 15 rfl rfl)
theorem dX5_ones_16 : decode cX5_ones 16 = .ok (.iadd, 1) := dk_96 (dk_at dksX5_ones_0 16 rfl rfl)
theorem dX5_ones_17 : decode cX5_ones 17 = .ok (.istore_n 1, 1) := dk_60 (dk_at dksX5_ones_0 17 rfl rfl)
theorem dX5_ones_18 : decode cX5_ones 18 = .ok (.iinc 2 1, 3) := dk_132 2 1 (dk_at dksX5_ones_0 18 rfl rfl)
theorem dX5_ones_21 : decode cX5_ones 21 = .ok (.goto (-17), 3) := dk_167 255 239 (dk_at dksX5_ones_0 21 rfl rfl)
theorem dX5_ones_24 : decode cX5_ones 24 = .ok (.iload_n 1, 1) := dk_27 (dk_at dksX5_ones_1 0 rfl rfl)
theorem dX5_ones_25 : decode cX5_ones 25 = .ok (.ireturn, 1) := dk_172 (dk_at dksX5_ones_1 1 rfl rfl)
abbrev cX5_lastsOf : ByteArray := prog_22_method_71_code
def yX5_lastsOf : MethodName := ⟨RX5, "lastsOf", "(I)I"⟩
def dkwX5_lastsOf_1 : List UInt8 := [182, 1, 194, 3, 16, 60, 184, 1, 198, 172]
abbrev dktX5_lastsOf_1 : List UInt8 := dkwX5_lastsOf_1 ++ []
def dkwX5_lastsOf_0 : List UInt8 := [42, 3, 27, 2, 42, 180, 0, 13, 16, 62, 27, 96, 46, 42, 27, 182, 0, 219, 7, 108, 96, 133]
abbrev dktX5_lastsOf_0 : List UInt8 := dkwX5_lastsOf_0 ++ dktX5_lastsOf_1
theorem dksX5_lastsOf_0 : cX5_lastsOf.data.toList.drop 0 = dktX5_lastsOf_0 := by decide +kernel
theorem dksX5_lastsOf_1 : cX5_lastsOf.data.toList.drop 22 = dktX5_lastsOf_1 := dk_seg dksX5_lastsOf_0 22 rfl rfl
theorem dX5_lastsOf_0 : decode cX5_lastsOf 0 = .ok (.aload_n 0, 1) := dk_42 (dk_at dksX5_lastsOf_0 0 rfl rfl)
theorem dX5_lastsOf_1 : decode cX5_lastsOf 1 = .ok (.iconst 0, 1) := dk_3 (dk_at dksX5_lastsOf_0 1 rfl rfl)
theorem dX5_lastsOf_2 : decode cX5_lastsOf 2 = .ok (.iload_n 1, 1) := dk_27 (dk_at dksX5_lastsOf_0 2 rfl rfl)
theorem dX5_lastsOf_3 : decode cX5_lastsOf 3 = .ok (.iconst (-1), 1) := dk_2 (dk_at dksX5_lastsOf_0 3 rfl rfl)
theorem dX5_lastsOf_4 : decode cX5_lastsOf 4 = .ok (.aload_n 0, 1) := dk_42 (dk_at dksX5_lastsOf_0 4 rfl rfl)
theorem dX5_lastsOf_5 : decode cX5_lastsOf 5 = .ok (.getfield 13, 3) := dk_180 0 13 (dk_at dksX5_lastsOf_0 5 rfl rfl)
theorem dX5_lastsOf_8 : decode cX5_lastsOf 8 = .ok (.bipush 62, 2) := dk_16 62 (dk_at dksX5_lastsOf_0 8 rfl rfl)
theorem dX5_lastsOf_10 : decode cX5_lastsOf 10 = .ok (.iload_n 1, 1) := dk_27 (dk_at dksX5_lastsOf_0 10 rfl rfl)
theorem dX5_lastsOf_11 : decode cX5_lastsOf 11 = .ok (.iadd, 1) := dk_96 (dk_at dksX5_lastsOf_0 11 rfl rfl)
theorem dX5_lastsOf_12 : decode cX5_lastsOf 12 = .ok (.iaload, 1) := dk_46 (dk_at dksX5_lastsOf_0 12 rfl rfl)
theorem dX5_lastsOf_13 : decode cX5_lastsOf 13 = .ok (.aload_n 0, 1) := dk_42 (dk_at dksX5_lastsOf_0 13 rfl rfl)
theorem dX5_lastsOf_14 : decode cX5_lastsOf 14 = .ok (.iload_n 1, 1) := dk_27 (dk_at dksX5_lastsOf_0 14 rfl rfl)
theorem dX5_lastsOf_15 : decode cX5_lastsOf 15 = .ok (.invokevirtual 219, 3) := dk_182 0 219 (dk_at dksX5_lastsOf_0 15 rfl rfl)
theorem dX5_lastsOf_18 : decode cX5_lastsOf 18 = .ok (.iconst 4, 1) := dk_7 (dk_at dksX5_lastsOf_0 18 rfl rfl)
theorem dX5_lastsOf_19 : decode cX5_lastsOf 19 = .ok (.idiv, 1) := dk_108 (dk_at dksX5_lastsOf_0 19 rfl rfl)
theorem dX5_lastsOf_20 : decode cX5_lastsOf 20 = .ok (.iadd, 1) := dk_96 (dk_at dksX5_lastsOf_0 20 rfl rfl)
theorem dX5_lastsOf_21 : decode cX5_lastsOf 21 = .ok (.i2l, 1) := dk_133 (dk_at dksX5_lastsOf_0 21 rfl rfl)
theorem dX5_lastsOf_22 : decode cX5_lastsOf 22 = .ok (.invokevirtual 450, 3) := dk_182 1 194 (dk_at dksX5_lastsOf_1 0 rfl rfl)
theorem dX5_lastsOf_25 : decode cX5_lastsOf 25 = .ok (.iconst 0, 1) := dk_3 (dk_at dksX5_lastsOf_1 3 rfl rfl)
theorem dX5_lastsOf_26 : decode cX5_lastsOf 26 = .ok (.bipush 60, 2) := dk_16 60 (dk_at dksX5_lastsOf_1 4 rfl rfl)
theorem dX5_lastsOf_28 : decode cX5_lastsOf 28 = .ok (.invokestatic 454, 3) := dk_184 1 198 (dk_at dksX5_lastsOf_1 6 rfl rfl)
theorem dX5_lastsOf_31 : decode cX5_lastsOf 31 = .ok (.ireturn, 1) := dk_172 (dk_at dksX5_lastsOf_1 9 rfl rfl)
abbrev cX5_tells : ByteArray := prog_22_method_70_code
def yX5_tells : MethodName := ⟨RX5, "tells", "(IIIJ)J"⟩
def dkwX5_tells_10 : List UInt8 := [10, 167, 0, 7, 42, 180, 1, 188, 55, 6, 132, 8, 1, 167, 255, 188, 22, 6, 173]
abbrev dktX5_tells_10 : List UInt8 := dkwX5_tells_10 ++ []
def dkwX5_tells_9 : List UInt8 := [180, 0, 13, 21, 9, 46, 27, 160, 0, 27, 42, 21, 9, 182, 1, 191, 153, 0, 18, 27, 6, 160, 0, 7]
abbrev dktX5_tells_9 : List UInt8 := dkwX5_tells_9 ++ dktX5_tells_10
def dkwX5_tells_8 : List UInt8 := [180, 1, 171, 4, 96, 46, 162, 0, 58, 42, 180, 1, 171, 5, 96, 16, 8, 21, 8, 104, 96, 54, 9, 42]
abbrev dktX5_tells_8 : List UInt8 := dkwX5_tells_8 ++ dktX5_tells_9
def dkwX5_tells_7 : List UInt8 := [42, 180, 0, 13, 16, 7, 46, 133, 80, 22, 4, 55, 6, 3, 54, 8, 21, 8, 42, 180, 0, 13, 42]
abbrev dktX5_tells_7 : List UInt8 := dkwX5_tells_7 ++ dktX5_tells_8
def dkwX5_tells_6 : List UInt8 := [96, 46, 133, 80, 42, 180, 0, 101, 16, 8, 42, 180, 0, 13, 8, 46, 133, 80, 42, 180, 0, 101, 16, 9]
abbrev dktX5_tells_6 : List UInt8 := dkwX5_tells_6 ++ dktX5_tells_7
def dkwX5_tells_5 : List UInt8 := [42, 180, 0, 101, 16, 7, 29, 2, 160, 0, 9, 20, 1, 46, 167, 0, 13, 42, 180, 0, 13, 16, 86, 29]
abbrev dktX5_tells_5 : List UInt8 := dkwX5_tells_5 ++ dktX5_tells_6
def dkwX5_tells_4 : List UInt8 := [180, 0, 101, 16, 6, 29, 2, 160, 0, 9, 20, 1, 46, 167, 0, 10, 42, 28, 29, 182, 0, 247, 133, 80]
abbrev dktX5_tells_4 : List UInt8 := dkwX5_tells_4 ++ dktX5_tells_5
def dkwX5_tells_3 : List UInt8 := [42, 180, 0, 13, 16, 56, 28, 96, 46, 184, 0, 208, 133, 80, 42, 180, 0, 101, 8, 29, 133, 80, 42]
abbrev dktX5_tells_3 : List UInt8 := dkwX5_tells_3 ++ dktX5_tells_4
def dkwX5_tells_2 : List UInt8 := [16, 62, 28, 96, 46, 133, 80, 42, 180, 0, 101, 6, 42, 28, 182, 0, 219, 133, 80, 42, 180, 0, 101, 7]
abbrev dktX5_tells_2 : List UInt8 := dkwX5_tells_2 ++ dktX5_tells_3
def dkwX5_tells_1 : List UInt8 := [46, 104, 96, 181, 1, 171, 42, 180, 0, 101, 4, 28, 133, 80, 42, 180, 0, 101, 5, 42, 180, 0, 13]
abbrev dktX5_tells_1 : List UInt8 := dkwX5_tells_1 ++ dktX5_tells_2
def dkwX5_tells_0 : List UInt8 := [42, 180, 0, 13, 7, 46, 2, 160, 0, 6, 22, 4, 173, 42, 16, 116, 17, 3, 132, 42, 180, 0, 13, 7]
abbrev dktX5_tells_0 : List UInt8 := dkwX5_tells_0 ++ dktX5_tells_1
theorem dksX5_tells_0 : cX5_tells.data.toList.drop 0 = dktX5_tells_0 := by decide +kernel
theorem dksX5_tells_1 : cX5_tells.data.toList.drop 24 = dktX5_tells_1 := dk_seg dksX5_tells_0 24 rfl rfl
theorem dksX5_tells_2 : cX5_tells.data.toList.drop 47 = dktX5_tells_2 := dk_seg dksX5_tells_1 23 rfl rfl
theorem dksX5_tells_3 : cX5_tells.data.toList.drop 71 = dktX5_tells_3 := dk_seg dksX5_tells_2 24 rfl rfl
theorem dksX5_tells_4 : cX5_tells.data.toList.drop 94 = dktX5_tells_4 := dk_seg dksX5_tells_3 23 rfl rfl
theorem dksX5_tells_5 : cX5_tells.data.toList.drop 118 = dktX5_tells_5 := dk_seg dksX5_tells_4 24 rfl rfl
theorem dksX5_tells_6 : cX5_tells.data.toList.drop 142 = dktX5_tells_6 := dk_seg dksX5_tells_5 24 rfl rfl
theorem dksX5_tells_7 : cX5_tells.data.toList.drop 166 = dktX5_tells_7 := dk_seg dksX5_tells_6 24 rfl rfl
theorem dksX5_tells_8 : cX5_tells.data.toList.drop 189 = dktX5_tells_8 := dk_seg dksX5_tells_7 23 rfl rfl
theorem dksX5_tells_9 : cX5_tells.data.toList.drop 213 = dktX5_tells_9 := dk_seg dksX5_tells_8 24 rfl rfl
theorem dksX5_tells_10 : cX5_tells.data.toList.drop 237 = dktX5_tells_10 := dk_seg dksX5_tells_9 24 rfl rfl
theorem dX5_tells_0 : decode cX5_tells 0 = .ok (.aload_n 0, 1) := dk_42 (dk_at dksX5_tells_0 0 rfl rfl)
theorem dX5_tells_1 : decode cX5_tells 1 = .ok (.getfield 13, 3) := dk_180 0 13 (dk_at dksX5_tells_0 1 rfl rfl)
theorem dX5_tells_4 : decode cX5_tells 4 = .ok (.iconst 4, 1) := dk_7 (dk_at dksX5_tells_0 4 rfl rfl)
theorem dX5_tells_5 : decode cX5_tells 5 = .ok (.iaload, 1) := dk_46 (dk_at dksX5_tells_0 5 rfl rfl)
theorem dX5_tells_6 : decode cX5_tells 6 = .ok (.iconst (-1), 1) := dk_2 (dk_at dksX5_tells_0 6 rfl rfl)
theorem dX5_tells_7 : decode cX5_tells 7 = .ok (.if_icmp .ne 6, 3) := dk_160 0 6 (dk_at dksX5_tells_0 7 rfl rfl)
theorem dX5_tells_10 : decode cX5_tells 10 = .ok (.lload 4, 2) := dk_22 4 (dk_at dksX5_tells_0 10 rfl rfl)
theorem dX5_tells_12 : decode cX5_tells 12 = .ok (.lreturn, 1) := dk_173 (dk_at dksX5_tells_0 12 rfl rfl)
theorem dX5_tells_13 : decode cX5_tells 13 = .ok (.aload_n 0, 1) := dk_42 (dk_at dksX5_tells_0 13 rfl rfl)
theorem dX5_tells_14 : decode cX5_tells 14 = .ok (.bipush 116, 2) := dk_16 116 (dk_at dksX5_tells_0 14 rfl rfl)
theorem dX5_tells_16 : decode cX5_tells 16 = .ok (.sipush 900, 3) := dk_17 3 132 (dk_at dksX5_tells_0 16 rfl rfl)
theorem dX5_tells_19 : decode cX5_tells 19 = .ok (.aload_n 0, 1) := dk_42 (dk_at dksX5_tells_0 19 rfl rfl)
theorem dX5_tells_20 : decode cX5_tells 20 = .ok (.getfield 13, 3) := dk_180 0 13 (dk_at dksX5_tells_0 20 rfl rfl)
theorem dX5_tells_23 : decode cX5_tells 23 = .ok (.iconst 4, 1) := dk_7 (dk_at dksX5_tells_0 23 rfl rfl)
theorem dX5_tells_24 : decode cX5_tells 24 = .ok (.iaload, 1) := dk_46 (dk_at dksX5_tells_1 0 rfl rfl)
theorem dX5_tells_25 : decode cX5_tells 25 = .ok (.imul, 1) := dk_104 (dk_at dksX5_tells_1 1 rfl rfl)
theorem dX5_tells_26 : decode cX5_tells 26 = .ok (.iadd, 1) := dk_96 (dk_at dksX5_tells_1 2 rfl rfl)
theorem dX5_tells_27 : decode cX5_tells 27 = .ok (.putfield 427, 3) := dk_181 1 171 (dk_at dksX5_tells_1 3 rfl rfl)
theorem dX5_tells_30 : decode cX5_tells 30 = .ok (.aload_n 0, 1) := dk_42 (dk_at dksX5_tells_1 6 rfl rfl)
theorem dX5_tells_31 : decode cX5_tells 31 = .ok (.getfield 101, 3) := dk_180 0 101 (dk_at dksX5_tells_1 7 rfl rfl)
theorem dX5_tells_34 : decode cX5_tells 34 = .ok (.iconst 1, 1) := dk_4 (dk_at dksX5_tells_1 10 rfl rfl)
theorem dX5_tells_35 : decode cX5_tells 35 = .ok (.iload_n 2, 1) := dk_28 (dk_at dksX5_tells_1 11 rfl rfl)
theorem dX5_tells_36 : decode cX5_tells 36 = .ok (.i2l, 1) := dk_133 (dk_at dksX5_tells_1 12 rfl rfl)
theorem dX5_tells_37 : decode cX5_tells 37 = .ok (.lastore, 1) := dk_80 (dk_at dksX5_tells_1 13 rfl rfl)
theorem dX5_tells_38 : decode cX5_tells 38 = .ok (.aload_n 0, 1) := dk_42 (dk_at dksX5_tells_1 14 rfl rfl)
theorem dX5_tells_39 : decode cX5_tells 39 = .ok (.getfield 101, 3) := dk_180 0 101 (dk_at dksX5_tells_1 15 rfl rfl)
theorem dX5_tells_42 : decode cX5_tells 42 = .ok (.iconst 2, 1) := dk_5 (dk_at dksX5_tells_1 18 rfl rfl)
theorem dX5_tells_43 : decode cX5_tells 43 = .ok (.aload_n 0, 1) := dk_42 (dk_at dksX5_tells_1 19 rfl rfl)
theorem dX5_tells_44 : decode cX5_tells 44 = .ok (.getfield 13, 3) := dk_180 0 13 (dk_at dksX5_tells_1 20 rfl rfl)
theorem dX5_tells_47 : decode cX5_tells 47 = .ok (.bipush 62, 2) := dk_16 62 (dk_at dksX5_tells_2 0 rfl rfl)
theorem dX5_tells_49 : decode cX5_tells 49 = .ok (.iload_n 2, 1) := dk_28 (dk_at dksX5_tells_2 2 rfl rfl)
theorem dX5_tells_50 : decode cX5_tells 50 = .ok (.iadd, 1) := dk_96 (dk_at dksX5_tells_2 3 rfl rfl)
theorem dX5_tells_51 : decode cX5_tells 51 = .ok (.iaload, 1) := dk_46 (dk_at dksX5_tells_2 4 rfl rfl)
theorem dX5_tells_52 : decode cX5_tells 52 = .ok (.i2l, 1) := dk_133 (dk_at dksX5_tells_2 5 rfl rfl)
theorem dX5_tells_53 : decode cX5_tells 53 = .ok (.lastore, 1) := dk_80 (dk_at dksX5_tells_2 6 rfl rfl)
theorem dX5_tells_54 : decode cX5_tells 54 = .ok (.aload_n 0, 1) := dk_42 (dk_at dksX5_tells_2 7 rfl rfl)
theorem dX5_tells_55 : decode cX5_tells 55 = .ok (.getfield 101, 3) := dk_180 0 101 (dk_at dksX5_tells_2 8 rfl rfl)
theorem dX5_tells_58 : decode cX5_tells 58 = .ok (.iconst 3, 1) := dk_6 (dk_at dksX5_tells_2 11 rfl rfl)
theorem dX5_tells_59 : decode cX5_tells 59 = .ok (.aload_n 0, 1) := dk_42 (dk_at dksX5_tells_2 12 rfl rfl)
theorem dX5_tells_60 : decode cX5_tells 60 = .ok (.iload_n 2, 1) := dk_28 (dk_at dksX5_tells_2 13 rfl rfl)
theorem dX5_tells_61 : decode cX5_tells 61 = .ok (.invokevirtual 219, 3) := dk_182 0 219 (dk_at dksX5_tells_2 14 rfl rfl)
theorem dX5_tells_64 : decode cX5_tells 64 = .ok (.i2l, 1) := dk_133 (dk_at dksX5_tells_2 17 rfl rfl)
theorem dX5_tells_65 : decode cX5_tells 65 = .ok (.lastore, 1) := dk_80 (dk_at dksX5_tells_2 18 rfl rfl)
theorem dX5_tells_66 : decode cX5_tells 66 = .ok (.aload_n 0, 1) := dk_42 (dk_at dksX5_tells_2 19 rfl rfl)
theorem dX5_tells_67 : decode cX5_tells 67 = .ok (.getfield 101, 3) := dk_180 0 101 (dk_at dksX5_tells_2 20 rfl rfl)
theorem dX5_tells_70 : decode cX5_tells 70 = .ok (.iconst 4, 1) := dk_7 (dk_at dksX5_tells_2 23 rfl rfl)
theorem dX5_tells_71 : decode cX5_tells 71 = .ok (.aload_n 0, 1) := dk_42 (dk_at dksX5_tells_3 0 rfl rfl)
theorem dX5_tells_72 : decode cX5_tells 72 = .ok (.getfield 13, 3) := dk_180 0 13 (dk_at dksX5_tells_3 1 rfl rfl)
theorem dX5_tells_75 : decode cX5_tells 75 = .ok (.bipush 56, 2) := dk_16 56 (dk_at dksX5_tells_3 4 rfl rfl)
theorem dX5_tells_77 : decode cX5_tells 77 = .ok (.iload_n 2, 1) := dk_28 (dk_at dksX5_tells_3 6 rfl rfl)
theorem dX5_tells_78 : decode cX5_tells 78 = .ok (.iadd, 1) := dk_96 (dk_at dksX5_tells_3 7 rfl rfl)
theorem dX5_tells_79 : decode cX5_tells 79 = .ok (.iaload, 1) := dk_46 (dk_at dksX5_tells_3 8 rfl rfl)
theorem dX5_tells_80 : decode cX5_tells 80 = .ok (.invokestatic 208, 3) := dk_184 0 208 (dk_at dksX5_tells_3 9 rfl rfl)
theorem dX5_tells_83 : decode cX5_tells 83 = .ok (.i2l, 1) := dk_133 (dk_at dksX5_tells_3 12 rfl rfl)
theorem dX5_tells_84 : decode cX5_tells 84 = .ok (.lastore, 1) := dk_80 (dk_at dksX5_tells_3 13 rfl rfl)
theorem dX5_tells_85 : decode cX5_tells 85 = .ok (.aload_n 0, 1) := dk_42 (dk_at dksX5_tells_3 14 rfl rfl)
theorem dX5_tells_86 : decode cX5_tells 86 = .ok (.getfield 101, 3) := dk_180 0 101 (dk_at dksX5_tells_3 15 rfl rfl)
theorem dX5_tells_89 : decode cX5_tells 89 = .ok (.iconst 5, 1) := dk_8 (dk_at dksX5_tells_3 18 rfl rfl)
theorem dX5_tells_90 : decode cX5_tells 90 = .ok (.iload_n 3, 1) := dk_29 (dk_at dksX5_tells_3 19 rfl rfl)
theorem dX5_tells_91 : decode cX5_tells 91 = .ok (.i2l, 1) := dk_133 (dk_at dksX5_tells_3 20 rfl rfl)
theorem dX5_tells_92 : decode cX5_tells 92 = .ok (.lastore, 1) := dk_80 (dk_at dksX5_tells_3 21 rfl rfl)
theorem dX5_tells_93 : decode cX5_tells 93 = .ok (.aload_n 0, 1) := dk_42 (dk_at dksX5_tells_3 22 rfl rfl)
theorem dX5_tells_94 : decode cX5_tells 94 = .ok (.getfield 101, 3) := dk_180 0 101 (dk_at dksX5_tells_4 0 rfl rfl)
theorem dX5_tells_97 : decode cX5_tells 97 = .ok (.bipush 6, 2) := dk_16 6 (dk_at dksX5_tells_4 3 rfl rfl)
theorem dX5_tells_99 : decode cX5_tells 99 = .ok (.iload_n 3, 1) := dk_29 (dk_at dksX5_tells_4 5 rfl rfl)
theorem dX5_tells_100 : decode cX5_tells 100 = .ok (.iconst (-1), 1) := dk_2 (dk_at dksX5_tells_4 6 rfl rfl)
theorem dX5_tells_101 : decode cX5_tells 101 = .ok (.if_icmp .ne 9, 3) := dk_160 0 9 (dk_at dksX5_tells_4 7 rfl rfl)
theorem dX5_tells_104 : decode cX5_tells 104 = .ok (.ldc2_w 302, 3) := dk_20 1 46 (dk_at dksX5_tells_4 10 rfl rfl)
theorem dX5_tells_107 : decode cX5_tells 107 = .ok (.goto 10, 3) := dk_167 0 10 (dk_at dksX5_tells_4 13 rfl rfl)
theorem dX5_tells_110 : decode cX5_tells 110 = .ok (.aload_n 0, 1) := dk_42 (dk_at dksX5_tells_4 16 rfl rfl)
theorem dX5_tells_111 : decode cX5_tells 111 = .ok (.iload_n 2, 1) := dk_28 (dk_at dksX5_tells_4 17 rfl rfl)
theorem dX5_tells_112 : decode cX5_tells 112 = .ok (.iload_n 3, 1) := dk_29 (dk_at dksX5_tells_4 18 rfl rfl)
theorem dX5_tells_113 : decode cX5_tells 113 = .ok (.invokevirtual 247, 3) := dk_182 0 247 (dk_at dksX5_tells_4 19 rfl rfl)
theorem dX5_tells_116 : decode cX5_tells 116 = .ok (.i2l, 1) := dk_133 (dk_at dksX5_tells_4 22 rfl rfl)
theorem dX5_tells_117 : decode cX5_tells 117 = .ok (.lastore, 1) := dk_80 (dk_at dksX5_tells_4 23 rfl rfl)
theorem dX5_tells_118 : decode cX5_tells 118 = .ok (.aload_n 0, 1) := dk_42 (dk_at dksX5_tells_5 0 rfl rfl)
theorem dX5_tells_119 : decode cX5_tells 119 = .ok (.getfield 101, 3) := dk_180 0 101 (dk_at dksX5_tells_5 1 rfl rfl)
theorem dX5_tells_122 : decode cX5_tells 122 = .ok (.bipush 7, 2) := dk_16 7 (dk_at dksX5_tells_5 4 rfl rfl)
theorem dX5_tells_124 : decode cX5_tells 124 = .ok (.iload_n 3, 1) := dk_29 (dk_at dksX5_tells_5 6 rfl rfl)
theorem dX5_tells_125 : decode cX5_tells 125 = .ok (.iconst (-1), 1) := dk_2 (dk_at dksX5_tells_5 7 rfl rfl)
theorem dX5_tells_126 : decode cX5_tells 126 = .ok (.if_icmp .ne 9, 3) := dk_160 0 9 (dk_at dksX5_tells_5 8 rfl rfl)
theorem dX5_tells_129 : decode cX5_tells 129 = .ok (.ldc2_w 302, 3) := dk_20 1 46 (dk_at dksX5_tells_5 11 rfl rfl)
theorem dX5_tells_132 : decode cX5_tells 132 = .ok (.goto 13, 3) := dk_167 0 13 (dk_at dksX5_tells_5 14 rfl rfl)
theorem dX5_tells_135 : decode cX5_tells 135 = .ok (.aload_n 0, 1) := dk_42 (dk_at dksX5_tells_5 17 rfl rfl)
theorem dX5_tells_136 : decode cX5_tells 136 = .ok (.getfield 13, 3) := dk_180 0 13 (dk_at dksX5_tells_5 18 rfl rfl)
theorem dX5_tells_139 : decode cX5_tells 139 = .ok (.bipush 86, 2) := dk_16 86 (dk_at dksX5_tells_5 21 rfl rfl)
theorem dX5_tells_141 : decode cX5_tells 141 = .ok (.iload_n 3, 1) := dk_29 (dk_at dksX5_tells_5 23 rfl rfl)
theorem dX5_tells_142 : decode cX5_tells 142 = .ok (.iadd, 1) := dk_96 (dk_at dksX5_tells_6 0 rfl rfl)
theorem dX5_tells_143 : decode cX5_tells 143 = .ok (.iaload, 1) := dk_46 (dk_at dksX5_tells_6 1 rfl rfl)
theorem dX5_tells_144 : decode cX5_tells 144 = .ok (.i2l, 1) := dk_133 (dk_at dksX5_tells_6 2 rfl rfl)
theorem dX5_tells_145 : decode cX5_tells 145 = .ok (.lastore, 1) := dk_80 (dk_at dksX5_tells_6 3 rfl rfl)
theorem dX5_tells_146 : decode cX5_tells 146 = .ok (.aload_n 0, 1) := dk_42 (dk_at dksX5_tells_6 4 rfl rfl)
theorem dX5_tells_147 : decode cX5_tells 147 = .ok (.getfield 101, 3) := dk_180 0 101 (dk_at dksX5_tells_6 5 rfl rfl)
theorem dX5_tells_150 : decode cX5_tells 150 = .ok (.bipush 8, 2) := dk_16 8 (dk_at dksX5_tells_6 8 rfl rfl)
theorem dX5_tells_152 : decode cX5_tells 152 = .ok (.aload_n 0, 1) := dk_42 (dk_at dksX5_tells_6 10 rfl rfl)
theorem dX5_tells_153 : decode cX5_tells 153 = .ok (.getfield 13, 3) := dk_180 0 13 (dk_at dksX5_tells_6 11 rfl rfl)
theorem dX5_tells_156 : decode cX5_tells 156 = .ok (.iconst 5, 1) := dk_8 (dk_at dksX5_tells_6 14 rfl rfl)
theorem dX5_tells_157 : decode cX5_tells 157 = .ok (.iaload, 1) := dk_46 (dk_at dksX5_tells_6 15 rfl rfl)
theorem dX5_tells_158 : decode cX5_tells 158 = .ok (.i2l, 1) := dk_133 (dk_at dksX5_tells_6 16 rfl rfl)
theorem dX5_tells_159 : decode cX5_tells 159 = .ok (.lastore, 1) := dk_80 (dk_at dksX5_tells_6 17 rfl rfl)
theorem dX5_tells_160 : decode cX5_tells 160 = .ok (.aload_n 0, 1) := dk_42 (dk_at dksX5_tells_6 18 rfl rfl)
theorem dX5_tells_161 : decode cX5_tells 161 = .ok (.getfield 101, 3) := dk_180 0 101 (dk_at dksX5_tells_6 19 rfl rfl)
theorem dX5_tells_164 : decode cX5_tells 164 = .ok (.bipush 9, 2) := dk_16 9 (dk_at dksX5_tells_6 22 rfl rfl)
theorem dX5_tells_166 : decode cX5_tells 166 = .ok (.aload_n 0, 1) := dk_42 (dk_at dksX5_tells_7 0 rfl rfl)
theorem dX5_tells_167 : decode cX5_tells 167 = .ok (.getfield 13, 3) := dk_180 0 13 (dk_at dksX5_tells_7 1 rfl rfl)
theorem dX5_tells_170 : decode cX5_tells 170 = .ok (.bipush 7, 2) := dk_16 7 (dk_at dksX5_tells_7 4 rfl rfl)
theorem dX5_tells_172 : decode cX5_tells 172 = .ok (.iaload, 1) := dk_46 (dk_at dksX5_tells_7 6 rfl rfl)
theorem dX5_tells_173 : decode cX5_tells 173 = .ok (.i2l, 1) := dk_133 (dk_at dksX5_tells_7 7 rfl rfl)
theorem dX5_tells_174 : decode cX5_tells 174 = .ok (.lastore, 1) := dk_80 (dk_at dksX5_tells_7 8 rfl rfl)
theorem dX5_tells_175 : decode cX5_tells 175 = .ok (.lload 4, 2) := dk_22 4 (dk_at dksX5_tells_7 9 rfl rfl)
theorem dX5_tells_177 : decode cX5_tells 177 = .ok (.lstore 6, 2) := dk_55 6 (dk_at dksX5_tells_7 11 rfl rfl)
theorem dX5_tells_179 : decode cX5_tells 179 = .ok (.iconst 0, 1) := dk_3 (dk_at dksX5_tells_7 13 rfl rfl)
theorem dX5_tells_180 : decode cX5_tells 180 = .ok (.istore 8, 2) := dk_54 8 (dk_at dksX5_tells_7 14 rfl rfl)
theorem dX5_tells_182 : decode cX5_tells 182 = .ok (.iload 8, 2) := dk_21 8 (dk_at dksX5_tells_7 16 rfl rfl)
theorem dX5_tells_184 : decode cX5_tells 184 = .ok (.aload_n 0, 1) := dk_42 (dk_at dksX5_tells_7 18 rfl rfl)
theorem dX5_tells_185 : decode cX5_tells 185 = .ok (.getfield 13, 3) := dk_180 0 13 (dk_at dksX5_tells_7 19 rfl rfl)
theorem dX5_tells_188 : decode cX5_tells 188 = .ok (.aload_n 0, 1) := dk_42 (dk_at dksX5_tells_7 22 rfl rfl)
theorem dX5_tells_189 : decode cX5_tells 189 = .ok (.getfield 427, 3) := dk_180 1 171 (dk_at dksX5_tells_8 0 rfl rfl)
theorem dX5_tells_192 : decode cX5_tells 192 = .ok (.iconst 1, 1) := dk_4 (dk_at dksX5_tells_8 3 rfl rfl)
theorem dX5_tells_193 : decode cX5_tells 193 = .ok (.iadd, 1) := dk_96 (dk_at dksX5_tells_8 4 rfl rfl)
theorem dX5_tells_194 : decode cX5_tells 194 = .ok (.iaload, 1) := dk_46 (dk_at dksX5_tells_8 5 rfl rfl)
theorem dX5_tells_195 : decode cX5_tells 195 = .ok (.if_icmp .ge 58, 3) := dk_162 0 58 (dk_at dksX5_tells_8 6 rfl rfl)
theorem dX5_tells_198 : decode cX5_tells 198 = .ok (.aload_n 0, 1) := dk_42 (dk_at dksX5_tells_8 9 rfl rfl)
theorem dX5_tells_199 : decode cX5_tells 199 = .ok (.getfield 427, 3) := dk_180 1 171 (dk_at dksX5_tells_8 10 rfl rfl)
theorem dX5_tells_202 : decode cX5_tells 202 = .ok (.iconst 2, 1) := dk_5 (dk_at dksX5_tells_8 13 rfl rfl)
theorem dX5_tells_203 : decode cX5_tells 203 = .ok (.iadd, 1) := dk_96 (dk_at dksX5_tells_8 14 rfl rfl)
theorem dX5_tells_204 : decode cX5_tells 204 = .ok (.bipush 8, 2) := dk_16 8 (dk_at dksX5_tells_8 15 rfl rfl)
theorem dX5_tells_206 : decode cX5_tells 206 = .ok (.iload 8, 2) := dk_21 8 (dk_at dksX5_tells_8 17 rfl rfl)
theorem dX5_tells_208 : decode cX5_tells 208 = .ok (.imul, 1) := dk_104 (dk_at dksX5_tells_8 19 rfl rfl)
theorem dX5_tells_209 : decode cX5_tells 209 = .ok (.iadd, 1) := dk_96 (dk_at dksX5_tells_8 20 rfl rfl)
theorem dX5_tells_210 : decode cX5_tells 210 = .ok (.istore 9, 2) := dk_54 9 (dk_at dksX5_tells_8 21 rfl rfl)
theorem dX5_tells_212 : decode cX5_tells 212 = .ok (.aload_n 0, 1) := dk_42 (dk_at dksX5_tells_8 23 rfl rfl)
theorem dX5_tells_213 : decode cX5_tells 213 = .ok (.getfield 13, 3) := dk_180 0 13 (dk_at dksX5_tells_9 0 rfl rfl)
theorem dX5_tells_216 : decode cX5_tells 216 = .ok (.iload 9, 2) := dk_21 9 (dk_at dksX5_tells_9 3 rfl rfl)
theorem dX5_tells_218 : decode cX5_tells 218 = .ok (.iaload, 1) := dk_46 (dk_at dksX5_tells_9 5 rfl rfl)
theorem dX5_tells_219 : decode cX5_tells 219 = .ok (.iload_n 1, 1) := dk_27 (dk_at dksX5_tells_9 6 rfl rfl)
theorem dX5_tells_220 : decode cX5_tells 220 = .ok (.if_icmp .ne 27, 3) := dk_160 0 27 (dk_at dksX5_tells_9 7 rfl rfl)
theorem dX5_tells_223 : decode cX5_tells 223 = .ok (.aload_n 0, 1) := dk_42 (dk_at dksX5_tells_9 10 rfl rfl)
theorem dX5_tells_224 : decode cX5_tells 224 = .ok (.iload 9, 2) := dk_21 9 (dk_at dksX5_tells_9 11 rfl rfl)
theorem dX5_tells_226 : decode cX5_tells 226 = .ok (.invokevirtual 447, 3) := dk_182 1 191 (dk_at dksX5_tells_9 13 rfl rfl)
theorem dX5_tells_229 : decode cX5_tells 229 = .ok (.ifCond .eq 18, 3) := dk_153 0 18 (dk_at dksX5_tells_9 16 rfl rfl)
theorem dX5_tells_232 : decode cX5_tells 232 = .ok (.iload_n 1, 1) := dk_27 (dk_at dksX5_tells_9 19 rfl rfl)
theorem dX5_tells_233 : decode cX5_tells 233 = .ok (.iconst 3, 1) := dk_6 (dk_at dksX5_tells_9 20 rfl rfl)
theorem dX5_tells_234 : decode cX5_tells 234 = .ok (.if_icmp .ne 7, 3) := dk_160 0 7 (dk_at dksX5_tells_9 21 rfl rfl)
theorem dX5_tells_237 : decode cX5_tells 237 = .ok (.lconst 1, 1) := dk_10 (dk_at dksX5_tells_10 0 rfl rfl)
theorem dX5_tells_238 : decode cX5_tells 238 = .ok (.goto 7, 3) := dk_167 0 7 (dk_at dksX5_tells_10 1 rfl rfl)
theorem dX5_tells_241 : decode cX5_tells 241 = .ok (.aload_n 0, 1) := dk_42 (dk_at dksX5_tells_10 4 rfl rfl)
theorem dX5_tells_242 : decode cX5_tells 242 = .ok (.getfield 444, 3) := dk_180 1 188 (dk_at dksX5_tells_10 5 rfl rfl)
theorem dX5_tells_245 : decode cX5_tells 245 = .ok (.lstore 6, 2) := dk_55 6 (dk_at dksX5_tells_10 8 rfl rfl)
theorem dX5_tells_247 : decode cX5_tells 247 = .ok (.iinc 8 1, 3) := dk_132 8 1 (dk_at dksX5_tells_10 10 rfl rfl)
theorem dX5_tells_250 : decode cX5_tells 250 = .ok (.goto (-68), 3) := dk_167 255 188 (dk_at dksX5_tells_10 13 rfl rfl)
theorem dX5_tells_253 : decode cX5_tells 253 = .ok (.lload 6, 2) := dk_22 6 (dk_at dksX5_tells_10 16 rfl rfl)
theorem dX5_tells_255 : decode cX5_tells 255 = .ok (.lreturn, 1) := dk_173 (dk_at dksX5_tells_10 18 rfl rfl)
abbrev cX5_earOf : ByteArray := prog_22_method_22_code
def yX5_earOf : MethodName := ⟨RX5, "earOf", "(II)I"⟩
def dkwX5_earOf_1 : List UInt8 := [16, 80, 28, 96, 46, 122, 4, 126, 96, 62, 132, 4, 1, 167, 255, 224, 29, 172]
abbrev dktX5_earOf_1 : List UInt8 := dkwX5_earOf_1 ++ []
def dkwX5_earOf_0 : List UInt8 := [3, 62, 3, 54, 4, 21, 4, 16, 8, 162, 0, 31, 29, 42, 27, 21, 4, 182, 0, 204, 42, 180, 0, 13]
abbrev dktX5_earOf_0 : List UInt8 := dkwX5_earOf_0 ++ dktX5_earOf_1
theorem dksX5_earOf_0 : cX5_earOf.data.toList.drop 0 = dktX5_earOf_0 := by decide +kernel
theorem dksX5_earOf_1 : cX5_earOf.data.toList.drop 24 = dktX5_earOf_1 := dk_seg dksX5_earOf_0 24 rfl rfl
theorem dX5_earOf_0 : decode cX5_earOf 0 = .ok (.iconst 0, 1) := dk_3 (dk_at dksX5_earOf_0 0 rfl rfl)
theorem dX5_earOf_1 : decode cX5_earOf 1 = .ok (.istore_n 3, 1) := dk_62 (dk_at dksX5_earOf_0 1 rfl rfl)
theorem dX5_earOf_2 : decode cX5_earOf 2 = .ok (.iconst 0, 1) := dk_3 (dk_at dksX5_earOf_0 2 rfl rfl)
theorem dX5_earOf_3 : decode cX5_earOf 3 = .ok (.istore 4, 2) := dk_54 4 (dk_at dksX5_earOf_0 3 rfl rfl)
theorem dX5_earOf_5 : decode cX5_earOf 5 = .ok (.iload 4, 2) := dk_21 4 (dk_at dksX5_earOf_0 5 rfl rfl)
theorem dX5_earOf_7 : decode cX5_earOf 7 = .ok (.bipush 8, 2) := dk_16 8 (dk_at dksX5_earOf_0 7 rfl rfl)
theorem dX5_earOf_9 : decode cX5_earOf 9 = .ok (.if_icmp .ge 31, 3) := dk_162 0 31 (dk_at dksX5_earOf_0 9 rfl rfl)
theorem dX5_earOf_12 : decode cX5_earOf 12 = .ok (.iload_n 3, 1) := dk_29 (dk_at dksX5_earOf_0 12 rfl rfl)
theorem dX5_earOf_13 : decode cX5_earOf 13 = .ok (.aload_n 0, 1) := dk_42 (dk_at dksX5_earOf_0 13 rfl rfl)
theorem dX5_earOf_14 : decode cX5_earOf 14 = .ok (.iload_n 1, 1) := dk_27 (dk_at dksX5_earOf_0 14 rfl rfl)
theorem dX5_earOf_15 : decode cX5_earOf 15 = .ok (.iload 4, 2) := dk_21 4 (dk_at dksX5_earOf_0 15 rfl rfl)
theorem dX5_earOf_17 : decode cX5_earOf 17 = .ok (.invokevirtual 204, 3) := dk_182 0 204 (dk_at dksX5_earOf_0 17 rfl rfl)
theorem dX5_earOf_20 : decode cX5_earOf 20 = .ok (.aload_n 0, 1) := dk_42 (dk_at dksX5_earOf_0 20 rfl rfl)
theorem dX5_earOf_21 : decode cX5_earOf 21 = .ok (.getfield 13, 3) := dk_180 0 13 (dk_at dksX5_earOf_0 21 rfl rfl)
theorem dX5_earOf_24 : decode cX5_earOf 24 = .ok (.bipush 80, 2) := dk_16 80 (dk_at dksX5_earOf_1 0 rfl rfl)
theorem dX5_earOf_26 : decode cX5_earOf 26 = .ok (.iload_n 2, 1) := dk_28 (dk_at dksX5_earOf_1 2 rfl rfl)
theorem dX5_earOf_27 : decode cX5_earOf 27 = .ok (.iadd, 1) := dk_96 (dk_at dksX5_earOf_1 3 rfl rfl)
theorem dX5_earOf_28 : decode cX5_earOf 28 = .ok (.iaload, 1) := dk_46 (dk_at dksX5_earOf_1 4 rfl rfl)
theorem dX5_earOf_29 : decode cX5_earOf 29 = .ok (.ishr, 1) := dk_122 (dk_at dksX5_earOf_1 5 rfl rfl)
theorem dX5_earOf_30 : decode cX5_earOf 30 = .ok (.iconst 1, 1) := dk_4 (dk_at dksX5_earOf_1 6 rfl rfl)
theorem dX5_earOf_31 : decode cX5_earOf 31 = .ok (.iand, 1) := dk_126 (dk_at dksX5_earOf_1 7 rfl rfl)
theorem dX5_earOf_32 : decode cX5_earOf 32 = .ok (.iadd, 1) := dk_96 (dk_at dksX5_earOf_1 8 rfl rfl)
theorem dX5_earOf_33 : decode cX5_earOf 33 = .ok (.istore_n 3, 1) := dk_62 (dk_at dksX5_earOf_1 9 rfl rfl)
theorem dX5_earOf_34 : decode cX5_earOf 34 = .ok (.iinc 4 1, 3) := dk_132 4 1 (dk_at dksX5_earOf_1 10 rfl rfl)
theorem dX5_earOf_37 : decode cX5_earOf 37 = .ok (.goto (-32), 3) := dk_167 255 224 (dk_at dksX5_earOf_1 13 rfl rfl)
theorem dX5_earOf_40 : decode cX5_earOf 40 = .ok (.iload_n 3, 1) := dk_29 (dk_at dksX5_earOf_1 16 rfl rfl)
theorem dX5_earOf_41 : decode cX5_earOf 41 = .ok (.ireturn, 1) := dk_172 (dk_at dksX5_earOf_1 17 rfl rfl)
abbrev cX5_isSo : ByteArray := prog_22_method_69_code
def yX5_isSo : MethodName := ⟨RX5, "isSo", "(I)Z"⟩
def dkwX5_isSo_4 : List UInt8 := [180, 1, 182, 181, 1, 188, 42, 180, 1, 168, 154, 0, 7, 4, 167, 0, 4, 3, 172, 4, 172]
abbrev dktX5_isSo_4 : List UInt8 := dkwX5_isSo_4 ++ []
def dkwX5_isSo_3 : List UInt8 := [42, 42, 180, 0, 13, 27, 6, 96, 46, 42, 180, 0, 13, 27, 7, 96, 46, 182, 1, 185, 42, 42]
abbrev dktX5_isSo_3 : List UInt8 := dkwX5_isSo_3 ++ dktX5_isSo_4
def dkwX5_isSo_2 : List UInt8 := [154, 0, 12, 42, 180, 1, 182, 9, 148, 154, 0, 5, 3, 172, 42, 180, 0, 13, 27, 46, 6, 159, 0, 44]
abbrev dktX5_isSo_2 : List UInt8 := dkwX5_isSo_2 ++ dktX5_isSo_3
def dkwX5_isSo_1 : List UInt8 := [180, 0, 13, 27, 8, 96, 46, 42, 180, 0, 13, 27, 16, 6, 96, 46, 182, 1, 185, 42, 180, 1, 168]
abbrev dktX5_isSo_1 : List UInt8 := dkwX5_isSo_1 ++ dktX5_isSo_2
def dkwX5_isSo_0 : List UInt8 := [42, 180, 0, 13, 27, 8, 96, 46, 42, 180, 0, 13, 27, 16, 6, 96, 46, 162, 0, 42, 42, 42]
abbrev dktX5_isSo_0 : List UInt8 := dkwX5_isSo_0 ++ dktX5_isSo_1
theorem dksX5_isSo_0 : cX5_isSo.data.toList.drop 0 = dktX5_isSo_0 := by decide +kernel
theorem dksX5_isSo_1 : cX5_isSo.data.toList.drop 22 = dktX5_isSo_1 := dk_seg dksX5_isSo_0 22 rfl rfl
theorem dksX5_isSo_2 : cX5_isSo.data.toList.drop 45 = dktX5_isSo_2 := dk_seg dksX5_isSo_1 23 rfl rfl
theorem dksX5_isSo_3 : cX5_isSo.data.toList.drop 69 = dktX5_isSo_3 := dk_seg dksX5_isSo_2 24 rfl rfl
theorem dksX5_isSo_4 : cX5_isSo.data.toList.drop 91 = dktX5_isSo_4 := dk_seg dksX5_isSo_3 22 rfl rfl
theorem dX5_isSo_0 : decode cX5_isSo 0 = .ok (.aload_n 0, 1) := dk_42 (dk_at dksX5_isSo_0 0 rfl rfl)
theorem dX5_isSo_1 : decode cX5_isSo 1 = .ok (.getfield 13, 3) := dk_180 0 13 (dk_at dksX5_isSo_0 1 rfl rfl)
theorem dX5_isSo_4 : decode cX5_isSo 4 = .ok (.iload_n 1, 1) := dk_27 (dk_at dksX5_isSo_0 4 rfl rfl)
theorem dX5_isSo_5 : decode cX5_isSo 5 = .ok (.iconst 5, 1) := dk_8 (dk_at dksX5_isSo_0 5 rfl rfl)
theorem dX5_isSo_6 : decode cX5_isSo 6 = .ok (.iadd, 1) := dk_96 (dk_at dksX5_isSo_0 6 rfl rfl)
theorem dX5_isSo_7 : decode cX5_isSo 7 = .ok (.iaload, 1) := dk_46 (dk_at dksX5_isSo_0 7 rfl rfl)
theorem dX5_isSo_8 : decode cX5_isSo 8 = .ok (.aload_n 0, 1) := dk_42 (dk_at dksX5_isSo_0 8 rfl rfl)
theorem dX5_isSo_9 : decode cX5_isSo 9 = .ok (.getfield 13, 3) := dk_180 0 13 (dk_at dksX5_isSo_0 9 rfl rfl)
theorem dX5_isSo_12 : decode cX5_isSo 12 = .ok (.iload_n 1, 1) := dk_27 (dk_at dksX5_isSo_0 12 rfl rfl)
theorem dX5_isSo_13 : decode cX5_isSo 13 = .ok (.bipush 6, 2) := dk_16 6 (dk_at dksX5_isSo_0 13 rfl rfl)
theorem dX5_isSo_15 : decode cX5_isSo 15 = .ok (.iadd, 1) := dk_96 (dk_at dksX5_isSo_0 15 rfl rfl)
theorem dX5_isSo_16 : decode cX5_isSo 16 = .ok (.iaload, 1) := dk_46 (dk_at dksX5_isSo_0 16 rfl rfl)
theorem dX5_isSo_17 : decode cX5_isSo 17 = .ok (.if_icmp .ge 42, 3) := dk_162 0 42 (dk_at dksX5_isSo_0 17 rfl rfl)
theorem dX5_isSo_20 : decode cX5_isSo 20 = .ok (.aload_n 0, 1) := dk_42 (dk_at dksX5_isSo_0 20 rfl rfl)
theorem dX5_isSo_21 : decode cX5_isSo 21 = .ok (.aload_n 0, 1) := dk_42 (dk_at dksX5_isSo_0 21 rfl rfl)
theorem dX5_isSo_22 : decode cX5_isSo 22 = .ok (.getfield 13, 3) := dk_180 0 13 (dk_at dksX5_isSo_1 0 rfl rfl)
theorem dX5_isSo_25 : decode cX5_isSo 25 = .ok (.iload_n 1, 1) := dk_27 (dk_at dksX5_isSo_1 3 rfl rfl)
theorem dX5_isSo_26 : decode cX5_isSo 26 = .ok (.iconst 5, 1) := dk_8 (dk_at dksX5_isSo_1 4 rfl rfl)
theorem dX5_isSo_27 : decode cX5_isSo 27 = .ok (.iadd, 1) := dk_96 (dk_at dksX5_isSo_1 5 rfl rfl)
theorem dX5_isSo_28 : decode cX5_isSo 28 = .ok (.iaload, 1) := dk_46 (dk_at dksX5_isSo_1 6 rfl rfl)
theorem dX5_isSo_29 : decode cX5_isSo 29 = .ok (.aload_n 0, 1) := dk_42 (dk_at dksX5_isSo_1 7 rfl rfl)
theorem dX5_isSo_30 : decode cX5_isSo 30 = .ok (.getfield 13, 3) := dk_180 0 13 (dk_at dksX5_isSo_1 8 rfl rfl)
theorem dX5_isSo_33 : decode cX5_isSo 33 = .ok (.iload_n 1, 1) := dk_27 (dk_at dksX5_isSo_1 11 rfl rfl)
theorem dX5_isSo_34 : decode cX5_isSo 34 = .ok (.bipush 6, 2) := dk_16 6 (dk_at dksX5_isSo_1 12 rfl rfl)
theorem dX5_isSo_36 : decode cX5_isSo 36 = .ok (.iadd, 1) := dk_96 (dk_at dksX5_isSo_1 14 rfl rfl)
theorem dX5_isSo_37 : decode cX5_isSo 37 = .ok (.iaload, 1) := dk_46 (dk_at dksX5_isSo_1 15 rfl rfl)
theorem dX5_isSo_38 : decode cX5_isSo 38 = .ok (.invokevirtual 441, 3) := dk_182 1 185 (dk_at dksX5_isSo_1 16 rfl rfl)
theorem dX5_isSo_41 : decode cX5_isSo 41 = .ok (.aload_n 0, 1) := dk_42 (dk_at dksX5_isSo_1 19 rfl rfl)
theorem dX5_isSo_42 : decode cX5_isSo 42 = .ok (.getfield 424, 3) := dk_180 1 168 (dk_at dksX5_isSo_1 20 rfl rfl)
theorem dX5_isSo_45 : decode cX5_isSo 45 = .ok (.ifCond .ne 12, 3) := dk_154 0 12 (dk_at dksX5_isSo_2 0 rfl rfl)
theorem dX5_isSo_48 : decode cX5_isSo 48 = .ok (.aload_n 0, 1) := dk_42 (dk_at dksX5_isSo_2 3 rfl rfl)
theorem dX5_isSo_49 : decode cX5_isSo 49 = .ok (.getfield 438, 3) := dk_180 1 182 (dk_at dksX5_isSo_2 4 rfl rfl)
theorem dX5_isSo_52 : decode cX5_isSo 52 = .ok (.lconst 0, 1) := dk_9 (dk_at dksX5_isSo_2 7 rfl rfl)
theorem dX5_isSo_53 : decode cX5_isSo 53 = .ok (.lcmp, 1) := dk_148 (dk_at dksX5_isSo_2 8 rfl rfl)
theorem dX5_isSo_54 : decode cX5_isSo 54 = .ok (.ifCond .ne 5, 3) := dk_154 0 5 (dk_at dksX5_isSo_2 9 rfl rfl)
theorem dX5_isSo_57 : decode cX5_isSo 57 = .ok (.iconst 0, 1) := dk_3 (dk_at dksX5_isSo_2 12 rfl rfl)
theorem dX5_isSo_58 : decode cX5_isSo 58 = .ok (.ireturn, 1) := dk_172 (dk_at dksX5_isSo_2 13 rfl rfl)
theorem dX5_isSo_59 : decode cX5_isSo 59 = .ok (.aload_n 0, 1) := dk_42 (dk_at dksX5_isSo_2 14 rfl rfl)
theorem dX5_isSo_60 : decode cX5_isSo 60 = .ok (.getfield 13, 3) := dk_180 0 13 (dk_at dksX5_isSo_2 15 rfl rfl)
theorem dX5_isSo_63 : decode cX5_isSo 63 = .ok (.iload_n 1, 1) := dk_27 (dk_at dksX5_isSo_2 18 rfl rfl)
theorem dX5_isSo_64 : decode cX5_isSo 64 = .ok (.iaload, 1) := dk_46 (dk_at dksX5_isSo_2 19 rfl rfl)
theorem dX5_isSo_65 : decode cX5_isSo 65 = .ok (.iconst 3, 1) := dk_6 (dk_at dksX5_isSo_2 20 rfl rfl)
theorem dX5_isSo_66 : decode cX5_isSo 66 = .ok (.if_icmp .eq 44, 3) := dk_159 0 44 (dk_at dksX5_isSo_2 21 rfl rfl)
theorem dX5_isSo_69 : decode cX5_isSo 69 = .ok (.aload_n 0, 1) := dk_42 (dk_at dksX5_isSo_3 0 rfl rfl)
theorem dX5_isSo_70 : decode cX5_isSo 70 = .ok (.aload_n 0, 1) := dk_42 (dk_at dksX5_isSo_3 1 rfl rfl)
theorem dX5_isSo_71 : decode cX5_isSo 71 = .ok (.getfield 13, 3) := dk_180 0 13 (dk_at dksX5_isSo_3 2 rfl rfl)
theorem dX5_isSo_74 : decode cX5_isSo 74 = .ok (.iload_n 1, 1) := dk_27 (dk_at dksX5_isSo_3 5 rfl rfl)
theorem dX5_isSo_75 : decode cX5_isSo 75 = .ok (.iconst 3, 1) := dk_6 (dk_at dksX5_isSo_3 6 rfl rfl)
theorem dX5_isSo_76 : decode cX5_isSo 76 = .ok (.iadd, 1) := dk_96 (dk_at dksX5_isSo_3 7 rfl rfl)
theorem dX5_isSo_77 : decode cX5_isSo 77 = .ok (.iaload, 1) := dk_46 (dk_at dksX5_isSo_3 8 rfl rfl)
theorem dX5_isSo_78 : decode cX5_isSo 78 = .ok (.aload_n 0, 1) := dk_42 (dk_at dksX5_isSo_3 9 rfl rfl)
theorem dX5_isSo_79 : decode cX5_isSo 79 = .ok (.getfield 13, 3) := dk_180 0 13 (dk_at dksX5_isSo_3 10 rfl rfl)
theorem dX5_isSo_82 : decode cX5_isSo 82 = .ok (.iload_n 1, 1) := dk_27 (dk_at dksX5_isSo_3 13 rfl rfl)
theorem dX5_isSo_83 : decode cX5_isSo 83 = .ok (.iconst 4, 1) := dk_7 (dk_at dksX5_isSo_3 14 rfl rfl)
theorem dX5_isSo_84 : decode cX5_isSo 84 = .ok (.iadd, 1) := dk_96 (dk_at dksX5_isSo_3 15 rfl rfl)
theorem dX5_isSo_85 : decode cX5_isSo 85 = .ok (.iaload, 1) := dk_46 (dk_at dksX5_isSo_3 16 rfl rfl)
theorem dX5_isSo_86 : decode cX5_isSo 86 = .ok (.invokevirtual 441, 3) := dk_182 1 185 (dk_at dksX5_isSo_3 17 rfl rfl)
theorem dX5_isSo_89 : decode cX5_isSo 89 = .ok (.aload_n 0, 1) := dk_42 (dk_at dksX5_isSo_3 20 rfl rfl)
theorem dX5_isSo_90 : decode cX5_isSo 90 = .ok (.aload_n 0, 1) := dk_42 (dk_at dksX5_isSo_3 21 rfl rfl)
theorem dX5_isSo_91 : decode cX5_isSo 91 = .ok (.getfield 438, 3) := dk_180 1 182 (dk_at dksX5_isSo_4 0 rfl rfl)
theorem dX5_isSo_94 : decode cX5_isSo 94 = .ok (.putfield 444, 3) := dk_181 1 188 (dk_at dksX5_isSo_4 3 rfl rfl)
theorem dX5_isSo_97 : decode cX5_isSo 97 = .ok (.aload_n 0, 1) := dk_42 (dk_at dksX5_isSo_4 6 rfl rfl)
theorem dX5_isSo_98 : decode cX5_isSo 98 = .ok (.getfield 424, 3) := dk_180 1 168 (dk_at dksX5_isSo_4 7 rfl rfl)
theorem dX5_isSo_101 : decode cX5_isSo 101 = .ok (.ifCond .ne 7, 3) := dk_154 0 7 (dk_at dksX5_isSo_4 10 rfl rfl)
theorem dX5_isSo_104 : decode cX5_isSo 104 = .ok (.iconst 1, 1) := dk_4 (dk_at dksX5_isSo_4 13 rfl rfl)
theorem dX5_isSo_105 : decode cX5_isSo 105 = .ok (.goto 4, 3) := dk_167 0 4 (dk_at dksX5_isSo_4 14 rfl rfl)
theorem dX5_isSo_108 : decode cX5_isSo 108 = .ok (.iconst 0, 1) := dk_3 (dk_at dksX5_isSo_4 17 rfl rfl)
theorem dX5_isSo_109 : decode cX5_isSo 109 = .ok (.ireturn, 1) := dk_172 (dk_at dksX5_isSo_4 18 rfl rfl)
theorem dX5_isSo_110 : decode cX5_isSo 110 = .ok (.iconst 1, 1) := dk_4 (dk_at dksX5_isSo_4 19 rfl rfl)
theorem dX5_isSo_111 : decode cX5_isSo 111 = .ok (.ireturn, 1) := dk_172 (dk_at dksX5_isSo_4 20 rfl rfl)
abbrev cX5_reckonAll : ByteArray := prog_22_method_68_code
def yX5_reckonAll : MethodName := ⟨RX5, "reckonAll", "(II)V"⟩
def dkwX5_reckonAll_15 : List UInt8 := [180, 0, 107, 3, 47, 167, 0, 4, 9, 181, 1, 182, 177]
abbrev dktX5_reckonAll_15 : List UInt8 := dkwX5_reckonAll_15 ++ []
def dkwX5_reckonAll_14 : List UInt8 := [148, 154, 0, 10, 21, 6, 54, 4, 167, 0, 6, 132, 3, 255, 167, 254, 178, 42, 29, 158, 0, 12, 42]
abbrev dktX5_reckonAll_14 : List UInt8 := dkwX5_reckonAll_14 ++ dktX5_reckonAll_15
def dkwX5_reckonAll_13 : List UInt8 := [80, 167, 0, 37, 42, 180, 0, 107, 29, 4, 100, 47, 21, 5, 16, 29, 160, 0, 7, 9, 167, 0, 4, 10]
abbrev dktX5_reckonAll_13 : List UInt8 := dkwX5_reckonAll_13 ++ dktX5_reckonAll_14
def dkwX5_reckonAll_12 : List UInt8 := [21, 5, 16, 28, 160, 0, 24, 42, 180, 0, 107, 29, 4, 100, 10, 42, 180, 0, 107, 29, 4, 100, 47, 101]
abbrev dktX5_reckonAll_12 : List UInt8 := dkwX5_reckonAll_12 ++ dktX5_reckonAll_13
def dkwX5_reckonAll_11 : List UInt8 := [47, 20, 1, 178, 20, 1, 180, 184, 0, 195, 154, 0, 7, 4, 167, 0, 4, 3, 181, 1, 168, 167, 0, 65]
abbrev dktX5_reckonAll_11 : List UInt8 := dkwX5_reckonAll_11 ++ dktX5_reckonAll_12
def dkwX5_reckonAll_10 : List UInt8 := [180, 0, 107, 29, 47, 182, 1, 174, 80, 42, 42, 180, 1, 168, 154, 0, 23, 42, 180, 0, 107, 29, 4, 100]
abbrev dktX5_reckonAll_10 : List UInt8 := dkwX5_reckonAll_10 ++ dktX5_reckonAll_11
def dkwX5_reckonAll_9 : List UInt8 := [132, 3, 255, 42, 180, 0, 107, 29, 4, 100, 42, 21, 5, 42, 180, 0, 107, 29, 4, 100, 47, 42]
abbrev dktX5_reckonAll_9 : List UInt8 := dkwX5_reckonAll_9 ++ dktX5_reckonAll_10
def dkwX5_reckonAll_8 : List UInt8 := [167, 0, 10, 42, 21, 6, 182, 0, 219, 133, 80, 132, 3, 1, 167, 0, 142, 21, 5, 16, 28, 162, 0, 73]
abbrev dktX5_reckonAll_8 : List UInt8 := dkwX5_reckonAll_8 ++ dktX5_reckonAll_9
def dkwX5_reckonAll_7 : List UInt8 := [20, 1, 46, 167, 0, 30, 21, 5, 8, 160, 0, 17, 42, 180, 0, 13, 16, 74, 21, 6, 96, 46, 133]
abbrev dktX5_reckonAll_7 : List UInt8 := dkwX5_reckonAll_7 ++ dktX5_reckonAll_8
def dkwX5_reckonAll_6 : List UInt8 := [162, 0, 13, 42, 180, 0, 104, 21, 5, 47, 167, 0, 45, 42, 21, 6, 182, 0, 213, 154, 0, 9]
abbrev dktX5_reckonAll_6 : List UInt8 := dkwX5_reckonAll_6 ++ dktX5_reckonAll_7
def dkwX5_reckonAll_5 : List UInt8 := [133, 167, 0, 78, 42, 180, 1, 94, 154, 0, 13, 42, 180, 0, 101, 21, 5, 47, 167, 0, 61, 21, 5, 8]
abbrev dktX5_reckonAll_5 : List UInt8 := dkwX5_reckonAll_5 ++ dktX5_reckonAll_6
def dkwX5_reckonAll_4 : List UInt8 := [54, 6, 132, 4, 1, 21, 5, 16, 20, 162, 0, 101, 42, 180, 0, 107, 29, 21, 5, 154, 0, 9, 21, 6]
abbrev dktX5_reckonAll_4 : List UInt8 := dkwX5_reckonAll_4 ++ dktX5_reckonAll_5
def dkwX5_reckonAll_3 : List UInt8 := [46, 167, 0, 22, 42, 180, 0, 13, 42, 180, 1, 171, 16, 98, 96, 5, 21, 4, 104, 96, 4, 96, 46]
abbrev dktX5_reckonAll_3 : List UInt8 := dkwX5_reckonAll_3 ++ dktX5_reckonAll_4
def dkwX5_reckonAll_2 : List UInt8 := [16, 98, 96, 5, 21, 4, 104, 96, 46, 54, 5, 42, 180, 1, 94, 153, 0, 13, 42, 180, 0, 48, 21, 4]
abbrev dktX5_reckonAll_2 : List UInt8 := dkwX5_reckonAll_2 ++ dktX5_reckonAll_3
def dkwX5_reckonAll_1 : List UInt8 := [180, 1, 94, 153, 0, 13, 42, 180, 0, 45, 21, 4, 46, 167, 0, 20, 42, 180, 0, 13, 42, 180, 1, 171]
abbrev dktX5_reckonAll_1 : List UInt8 := dkwX5_reckonAll_1 ++ dktX5_reckonAll_2
def dkwX5_reckonAll_0 : List UInt8 := [42, 3, 181, 1, 168, 3, 62, 27, 54, 4, 21, 4, 28, 162, 1, 78, 42, 180, 1, 168, 154, 1, 71, 42]
abbrev dktX5_reckonAll_0 : List UInt8 := dkwX5_reckonAll_0 ++ dktX5_reckonAll_1
theorem dksX5_reckonAll_0 : cX5_reckonAll.data.toList.drop 0 = dktX5_reckonAll_0 := by decide +kernel
theorem dksX5_reckonAll_1 : cX5_reckonAll.data.toList.drop 24 = dktX5_reckonAll_1 := dk_seg dksX5_reckonAll_0 24 rfl rfl
theorem dksX5_reckonAll_2 : cX5_reckonAll.data.toList.drop 48 = dktX5_reckonAll_2 := dk_seg dksX5_reckonAll_1 24 rfl rfl
theorem dksX5_reckonAll_3 : cX5_reckonAll.data.toList.drop 72 = dktX5_reckonAll_3 := dk_seg dksX5_reckonAll_2 24 rfl rfl
theorem dksX5_reckonAll_4 : cX5_reckonAll.data.toList.drop 95 = dktX5_reckonAll_4 := dk_seg dksX5_reckonAll_3 23 rfl rfl
theorem dksX5_reckonAll_5 : cX5_reckonAll.data.toList.drop 119 = dktX5_reckonAll_5 := dk_seg dksX5_reckonAll_4 24 rfl rfl
theorem dksX5_reckonAll_6 : cX5_reckonAll.data.toList.drop 143 = dktX5_reckonAll_6 := dk_seg dksX5_reckonAll_5 24 rfl rfl
theorem dksX5_reckonAll_7 : cX5_reckonAll.data.toList.drop 165 = dktX5_reckonAll_7 := dk_seg dksX5_reckonAll_6 22 rfl rfl
theorem dksX5_reckonAll_8 : cX5_reckonAll.data.toList.drop 188 = dktX5_reckonAll_8 := dk_seg dksX5_reckonAll_7 23 rfl rfl
theorem dksX5_reckonAll_9 : cX5_reckonAll.data.toList.drop 212 = dktX5_reckonAll_9 := dk_seg dksX5_reckonAll_8 24 rfl rfl
theorem dksX5_reckonAll_10 : cX5_reckonAll.data.toList.drop 234 = dktX5_reckonAll_10 := dk_seg dksX5_reckonAll_9 22 rfl rfl
theorem dksX5_reckonAll_11 : cX5_reckonAll.data.toList.drop 258 = dktX5_reckonAll_11 := dk_seg dksX5_reckonAll_10 24 rfl rfl
theorem dksX5_reckonAll_12 : cX5_reckonAll.data.toList.drop 282 = dktX5_reckonAll_12 := dk_seg dksX5_reckonAll_11 24 rfl rfl
theorem dksX5_reckonAll_13 : cX5_reckonAll.data.toList.drop 306 = dktX5_reckonAll_13 := dk_seg dksX5_reckonAll_12 24 rfl rfl
theorem dksX5_reckonAll_14 : cX5_reckonAll.data.toList.drop 330 = dktX5_reckonAll_14 := dk_seg dksX5_reckonAll_13 24 rfl rfl
theorem dksX5_reckonAll_15 : cX5_reckonAll.data.toList.drop 353 = dktX5_reckonAll_15 := dk_seg dksX5_reckonAll_14 23 rfl rfl
theorem dX5_reckonAll_0 : decode cX5_reckonAll 0 = .ok (.aload_n 0, 1) := dk_42 (dk_at dksX5_reckonAll_0 0 rfl rfl)
theorem dX5_reckonAll_1 : decode cX5_reckonAll 1 = .ok (.iconst 0, 1) := dk_3 (dk_at dksX5_reckonAll_0 1 rfl rfl)
theorem dX5_reckonAll_2 : decode cX5_reckonAll 2 = .ok (.putfield 424, 3) := dk_181 1 168 (dk_at dksX5_reckonAll_0 2 rfl rfl)
theorem dX5_reckonAll_5 : decode cX5_reckonAll 5 = .ok (.iconst 0, 1) := dk_3 (dk_at dksX5_reckonAll_0 5 rfl rfl)
theorem dX5_reckonAll_6 : decode cX5_reckonAll 6 = .ok (.istore_n 3, 1) := dk_62 (dk_at dksX5_reckonAll_0 6 rfl rfl)
theorem dX5_reckonAll_7 : decode cX5_reckonAll 7 = .ok (.iload_n 1, 1) := dk_27 (dk_at dksX5_reckonAll_0 7 rfl rfl)
theorem dX5_reckonAll_8 : decode cX5_reckonAll 8 = .ok (.istore 4, 2) := dk_54 4 (dk_at dksX5_reckonAll_0 8 rfl rfl)
theorem dX5_reckonAll_10 : decode cX5_reckonAll 10 = .ok (.iload 4, 2) := dk_21 4 (dk_at dksX5_reckonAll_0 10 rfl rfl)
theorem dX5_reckonAll_12 : decode cX5_reckonAll 12 = .ok (.iload_n 2, 1) := dk_28 (dk_at dksX5_reckonAll_0 12 rfl rfl)
theorem dX5_reckonAll_13 : decode cX5_reckonAll 13 = .ok (.if_icmp .ge 334, 3) := dk_162 1 78 (dk_at dksX5_reckonAll_0 13 rfl rfl)
theorem dX5_reckonAll_16 : decode cX5_reckonAll 16 = .ok (.aload_n 0, 1) := dk_42 (dk_at dksX5_reckonAll_0 16 rfl rfl)
theorem dX5_reckonAll_17 : decode cX5_reckonAll 17 = .ok (.getfield 424, 3) := dk_180 1 168 (dk_at dksX5_reckonAll_0 17 rfl rfl)
theorem dX5_reckonAll_20 : decode cX5_reckonAll 20 = .ok (.ifCond .ne 327, 3) := dk_154 1 71 (dk_at dksX5_reckonAll_0 20 rfl rfl)
theorem dX5_reckonAll_23 : decode cX5_reckonAll 23 = .ok (.aload_n 0, 1) := dk_42 (dk_at dksX5_reckonAll_0 23 rfl rfl)
theorem dX5_reckonAll_24 : decode cX5_reckonAll 24 = .ok (.getfield 350, 3) := dk_180 1 94 (dk_at dksX5_reckonAll_1 0 rfl rfl)
theorem dX5_reckonAll_27 : decode cX5_reckonAll 27 = .ok (.ifCond .eq 13, 3) := dk_153 0 13 (dk_at dksX5_reckonAll_1 3 rfl rfl)
theorem dX5_reckonAll_30 : decode cX5_reckonAll 30 = .ok (.aload_n 0, 1) := dk_42 (dk_at dksX5_reckonAll_1 6 rfl rfl)
theorem dX5_reckonAll_31 : decode cX5_reckonAll 31 = .ok (.getfield 45, 3) := dk_180 0 45 (dk_at dksX5_reckonAll_1 7 rfl rfl)
theorem dX5_reckonAll_34 : decode cX5_reckonAll 34 = .ok (.iload 4, 2) := dk_21 4 (dk_at dksX5_reckonAll_1 10 rfl rfl)
theorem dX5_reckonAll_36 : decode cX5_reckonAll 36 = .ok (.iaload, 1) := dk_46 (dk_at dksX5_reckonAll_1 12 rfl rfl)
theorem dX5_reckonAll_37 : decode cX5_reckonAll 37 = .ok (.goto 20, 3) := dk_167 0 20 (dk_at dksX5_reckonAll_1 13 rfl rfl)
theorem dX5_reckonAll_40 : decode cX5_reckonAll 40 = .ok (.aload_n 0, 1) := dk_42 (dk_at dksX5_reckonAll_1 16 rfl rfl)
theorem dX5_reckonAll_41 : decode cX5_reckonAll 41 = .ok (.getfield 13, 3) := dk_180 0 13 (dk_at dksX5_reckonAll_1 17 rfl rfl)
theorem dX5_reckonAll_44 : decode cX5_reckonAll 44 = .ok (.aload_n 0, 1) := dk_42 (dk_at dksX5_reckonAll_1 20 rfl rfl)
theorem dX5_reckonAll_45 : decode cX5_reckonAll 45 = .ok (.getfield 427, 3) := dk_180 1 171 (dk_at dksX5_reckonAll_1 21 rfl rfl)
theorem dX5_reckonAll_48 : decode cX5_reckonAll 48 = .ok (.bipush 98, 2) := dk_16 98 (dk_at dksX5_reckonAll_2 0 rfl rfl)
theorem dX5_reckonAll_50 : decode cX5_reckonAll 50 = .ok (.iadd, 1) := dk_96 (dk_at dksX5_reckonAll_2 2 rfl rfl)
theorem dX5_reckonAll_51 : decode cX5_reckonAll 51 = .ok (.iconst 2, 1) := dk_5 (dk_at dksX5_reckonAll_2 3 rfl rfl)
theorem dX5_reckonAll_52 : decode cX5_reckonAll 52 = .ok (.iload 4, 2) := dk_21 4 (dk_at dksX5_reckonAll_2 4 rfl rfl)
theorem dX5_reckonAll_54 : decode cX5_reckonAll 54 = .ok (.imul, 1) := dk_104 (dk_at dksX5_reckonAll_2 6 rfl rfl)
theorem dX5_reckonAll_55 : decode cX5_reckonAll 55 = .ok (.iadd, 1) := dk_96 (dk_at dksX5_reckonAll_2 7 rfl rfl)
theorem dX5_reckonAll_56 : decode cX5_reckonAll 56 = .ok (.iaload, 1) := dk_46 (dk_at dksX5_reckonAll_2 8 rfl rfl)
theorem dX5_reckonAll_57 : decode cX5_reckonAll 57 = .ok (.istore 5, 2) := dk_54 5 (dk_at dksX5_reckonAll_2 9 rfl rfl)
theorem dX5_reckonAll_59 : decode cX5_reckonAll 59 = .ok (.aload_n 0, 1) := dk_42 (dk_at dksX5_reckonAll_2 11 rfl rfl)
theorem dX5_reckonAll_60 : decode cX5_reckonAll 60 = .ok (.getfield 350, 3) := dk_180 1 94 (dk_at dksX5_reckonAll_2 12 rfl rfl)
theorem dX5_reckonAll_63 : decode cX5_reckonAll 63 = .ok (.ifCond .eq 13, 3) := dk_153 0 13 (dk_at dksX5_reckonAll_2 15 rfl rfl)
theorem dX5_reckonAll_66 : decode cX5_reckonAll 66 = .ok (.aload_n 0, 1) := dk_42 (dk_at dksX5_reckonAll_2 18 rfl rfl)
theorem dX5_reckonAll_67 : decode cX5_reckonAll 67 = .ok (.getfield 48, 3) := dk_180 0 48 (dk_at dksX5_reckonAll_2 19 rfl rfl)
theorem dX5_reckonAll_70 : decode cX5_reckonAll 70 = .ok (.iload 4, 2) := dk_21 4 (dk_at dksX5_reckonAll_2 22 rfl rfl)
theorem dX5_reckonAll_72 : decode cX5_reckonAll 72 = .ok (.iaload, 1) := dk_46 (dk_at dksX5_reckonAll_3 0 rfl rfl)
theorem dX5_reckonAll_73 : decode cX5_reckonAll 73 = .ok (.goto 22, 3) := dk_167 0 22 (dk_at dksX5_reckonAll_3 1 rfl rfl)
theorem dX5_reckonAll_76 : decode cX5_reckonAll 76 = .ok (.aload_n 0, 1) := dk_42 (dk_at dksX5_reckonAll_3 4 rfl rfl)
theorem dX5_reckonAll_77 : decode cX5_reckonAll 77 = .ok (.getfield 13, 3) := dk_180 0 13 (dk_at dksX5_reckonAll_3 5 rfl rfl)
theorem dX5_reckonAll_80 : decode cX5_reckonAll 80 = .ok (.aload_n 0, 1) := dk_42 (dk_at dksX5_reckonAll_3 8 rfl rfl)
theorem dX5_reckonAll_81 : decode cX5_reckonAll 81 = .ok (.getfield 427, 3) := dk_180 1 171 (dk_at dksX5_reckonAll_3 9 rfl rfl)
theorem dX5_reckonAll_84 : decode cX5_reckonAll 84 = .ok (.bipush 98, 2) := dk_16 98 (dk_at dksX5_reckonAll_3 12 rfl rfl)
theorem dX5_reckonAll_86 : decode cX5_reckonAll 86 = .ok (.iadd, 1) := dk_96 (dk_at dksX5_reckonAll_3 14 rfl rfl)
theorem dX5_reckonAll_87 : decode cX5_reckonAll 87 = .ok (.iconst 2, 1) := dk_5 (dk_at dksX5_reckonAll_3 15 rfl rfl)
theorem dX5_reckonAll_88 : decode cX5_reckonAll 88 = .ok (.iload 4, 2) := dk_21 4 (dk_at dksX5_reckonAll_3 16 rfl rfl)
theorem dX5_reckonAll_90 : decode cX5_reckonAll 90 = .ok (.imul, 1) := dk_104 (dk_at dksX5_reckonAll_3 18 rfl rfl)
theorem dX5_reckonAll_91 : decode cX5_reckonAll 91 = .ok (.iadd, 1) := dk_96 (dk_at dksX5_reckonAll_3 19 rfl rfl)
theorem dX5_reckonAll_92 : decode cX5_reckonAll 92 = .ok (.iconst 1, 1) := dk_4 (dk_at dksX5_reckonAll_3 20 rfl rfl)
theorem dX5_reckonAll_93 : decode cX5_reckonAll 93 = .ok (.iadd, 1) := dk_96 (dk_at dksX5_reckonAll_3 21 rfl rfl)
theorem dX5_reckonAll_94 : decode cX5_reckonAll 94 = .ok (.iaload, 1) := dk_46 (dk_at dksX5_reckonAll_3 22 rfl rfl)
theorem dX5_reckonAll_95 : decode cX5_reckonAll 95 = .ok (.istore 6, 2) := dk_54 6 (dk_at dksX5_reckonAll_4 0 rfl rfl)
theorem dX5_reckonAll_97 : decode cX5_reckonAll 97 = .ok (.iinc 4 1, 3) := dk_132 4 1 (dk_at dksX5_reckonAll_4 2 rfl rfl)
theorem dX5_reckonAll_100 : decode cX5_reckonAll 100 = .ok (.iload 5, 2) := dk_21 5 (dk_at dksX5_reckonAll_4 5 rfl rfl)
theorem dX5_reckonAll_102 : decode cX5_reckonAll 102 = .ok (.bipush 20, 2) := dk_16 20 (dk_at dksX5_reckonAll_4 7 rfl rfl)
theorem dX5_reckonAll_104 : decode cX5_reckonAll 104 = .ok (.if_icmp .ge 101, 3) := dk_162 0 101 (dk_at dksX5_reckonAll_4 9 rfl rfl)
theorem dX5_reckonAll_107 : decode cX5_reckonAll 107 = .ok (.aload_n 0, 1) := dk_42 (dk_at dksX5_reckonAll_4 12 rfl rfl)
theorem dX5_reckonAll_108 : decode cX5_reckonAll 108 = .ok (.getfield 107, 3) := dk_180 0 107 (dk_at dksX5_reckonAll_4 13 rfl rfl)
theorem dX5_reckonAll_111 : decode cX5_reckonAll 111 = .ok (.iload_n 3, 1) := dk_29 (dk_at dksX5_reckonAll_4 16 rfl rfl)
theorem dX5_reckonAll_112 : decode cX5_reckonAll 112 = .ok (.iload 5, 2) := dk_21 5 (dk_at dksX5_reckonAll_4 17 rfl rfl)
theorem dX5_reckonAll_114 : decode cX5_reckonAll 114 = .ok (.ifCond .ne 9, 3) := dk_154 0 9 (dk_at dksX5_reckonAll_4 19 rfl rfl)
theorem dX5_reckonAll_117 : decode cX5_reckonAll 117 = .ok (.iload 6, 2) := dk_21 6 (dk_at dksX5_reckonAll_4 22 rfl rfl)
theorem dX5_reckonAll_119 : decode cX5_reckonAll 119 = .ok (.i2l, 1) := dk_133 (dk_at dksX5_reckonAll_5 0 rfl rfl)
theorem dX5_reckonAll_120 : decode cX5_reckonAll 120 = .ok (.goto 78, 3) := dk_167 0 78 (dk_at dksX5_reckonAll_5 1 rfl rfl)
theorem dX5_reckonAll_123 : decode cX5_reckonAll 123 = .ok (.aload_n 0, 1) := dk_42 (dk_at dksX5_reckonAll_5 4 rfl rfl)
theorem dX5_reckonAll_124 : decode cX5_reckonAll 124 = .ok (.getfield 350, 3) := dk_180 1 94 (dk_at dksX5_reckonAll_5 5 rfl rfl)
theorem dX5_reckonAll_127 : decode cX5_reckonAll 127 = .ok (.ifCond .ne 13, 3) := dk_154 0 13 (dk_at dksX5_reckonAll_5 8 rfl rfl)
theorem dX5_reckonAll_130 : decode cX5_reckonAll 130 = .ok (.aload_n 0, 1) := dk_42 (dk_at dksX5_reckonAll_5 11 rfl rfl)
theorem dX5_reckonAll_131 : decode cX5_reckonAll 131 = .ok (.getfield 101, 3) := dk_180 0 101 (dk_at dksX5_reckonAll_5 12 rfl rfl)
theorem dX5_reckonAll_134 : decode cX5_reckonAll 134 = .ok (.iload 5, 2) := dk_21 5 (dk_at dksX5_reckonAll_5 15 rfl rfl)
theorem dX5_reckonAll_136 : decode cX5_reckonAll 136 = .ok (.laload, 1) := dk_47 (dk_at dksX5_reckonAll_5 17 rfl rfl)
theorem dX5_reckonAll_137 : decode cX5_reckonAll 137 = .ok (.goto 61, 3) := dk_167 0 61 (dk_at dksX5_reckonAll_5 18 rfl rfl)
theorem dX5_reckonAll_140 : decode cX5_reckonAll 140 = .ok (.iload 5, 2) := dk_21 5 (dk_at dksX5_reckonAll_5 21 rfl rfl)
theorem dX5_reckonAll_142 : decode cX5_reckonAll 142 = .ok (.iconst 5, 1) := dk_8 (dk_at dksX5_reckonAll_5 23 rfl rfl)
theorem dX5_reckonAll_143 : decode cX5_reckonAll 143 = .ok (.if_icmp .ge 13, 3) := dk_162 0 13 (dk_at dksX5_reckonAll_6 0 rfl rfl)
theorem dX5_reckonAll_146 : decode cX5_reckonAll 146 = .ok (.aload_n 0, 1) := dk_42 (dk_at dksX5_reckonAll_6 3 rfl rfl)
theorem dX5_reckonAll_147 : decode cX5_reckonAll 147 = .ok (.getfield 104, 3) := dk_180 0 104 (dk_at dksX5_reckonAll_6 4 rfl rfl)
theorem dX5_reckonAll_150 : decode cX5_reckonAll 150 = .ok (.iload 5, 2) := dk_21 5 (dk_at dksX5_reckonAll_6 7 rfl rfl)
theorem dX5_reckonAll_152 : decode cX5_reckonAll 152 = .ok (.laload, 1) := dk_47 (dk_at dksX5_reckonAll_6 9 rfl rfl)
theorem dX5_reckonAll_153 : decode cX5_reckonAll 153 = .ok (.goto 45, 3) := dk_167 0 45 (dk_at dksX5_reckonAll_6 10 rfl rfl)
theorem dX5_reckonAll_156 : decode cX5_reckonAll 156 = .ok (.aload_n 0, 1) := dk_42 (dk_at dksX5_reckonAll_6 13 rfl rfl)
theorem dX5_reckonAll_157 : decode cX5_reckonAll 157 = .ok (.iload 6, 2) := dk_21 6 (dk_at dksX5_reckonAll_6 14 rfl rfl)
theorem dX5_reckonAll_159 : decode cX5_reckonAll 159 = .ok (.invokevirtual 213, 3) := dk_182 0 213 (dk_at dksX5_reckonAll_6 16 rfl rfl)
theorem dX5_reckonAll_162 : decode cX5_reckonAll 162 = .ok (.ifCond .ne 9, 3) := dk_154 0 9 (dk_at dksX5_reckonAll_6 19 rfl rfl)
theorem dX5_reckonAll_165 : decode cX5_reckonAll 165 = .ok (.ldc2_w 302, 3) := dk_20 1 46 (dk_at dksX5_reckonAll_7 0 rfl rfl)
theorem dX5_reckonAll_168 : decode cX5_reckonAll 168 = .ok (.goto 30, 3) := dk_167 0 30 (dk_at dksX5_reckonAll_7 3 rfl rfl)
theorem dX5_reckonAll_171 : decode cX5_reckonAll 171 = .ok (.iload 5, 2) := dk_21 5 (dk_at dksX5_reckonAll_7 6 rfl rfl)
theorem dX5_reckonAll_173 : decode cX5_reckonAll 173 = .ok (.iconst 5, 1) := dk_8 (dk_at dksX5_reckonAll_7 8 rfl rfl)
theorem dX5_reckonAll_174 : decode cX5_reckonAll 174 = .ok (.if_icmp .ne 17, 3) := dk_160 0 17 (dk_at dksX5_reckonAll_7 9 rfl rfl)
theorem dX5_reckonAll_177 : decode cX5_reckonAll 177 = .ok (.aload_n 0, 1) := dk_42 (dk_at dksX5_reckonAll_7 12 rfl rfl)
theorem dX5_reckonAll_178 : decode cX5_reckonAll 178 = .ok (.getfield 13, 3) := dk_180 0 13 (dk_at dksX5_reckonAll_7 13 rfl rfl)
theorem dX5_reckonAll_181 : decode cX5_reckonAll 181 = .ok (.bipush 74, 2) := dk_16 74 (dk_at dksX5_reckonAll_7 16 rfl rfl)
theorem dX5_reckonAll_183 : decode cX5_reckonAll 183 = .ok (.iload 6, 2) := dk_21 6 (dk_at dksX5_reckonAll_7 18 rfl rfl)
theorem dX5_reckonAll_185 : decode cX5_reckonAll 185 = .ok (.iadd, 1) := dk_96 (dk_at dksX5_reckonAll_7 20 rfl rfl)
theorem dX5_reckonAll_186 : decode cX5_reckonAll 186 = .ok (.iaload, 1) := dk_46 (dk_at dksX5_reckonAll_7 21 rfl rfl)
theorem dX5_reckonAll_187 : decode cX5_reckonAll 187 = .ok (.i2l, 1) := dk_133 (dk_at dksX5_reckonAll_7 22 rfl rfl)
theorem dX5_reckonAll_188 : decode cX5_reckonAll 188 = .ok (.goto 10, 3) := dk_167 0 10 (dk_at dksX5_reckonAll_8 0 rfl rfl)
theorem dX5_reckonAll_191 : decode cX5_reckonAll 191 = .ok (.aload_n 0, 1) := dk_42 (dk_at dksX5_reckonAll_8 3 rfl rfl)
theorem dX5_reckonAll_192 : decode cX5_reckonAll 192 = .ok (.iload 6, 2) := dk_21 6 (dk_at dksX5_reckonAll_8 4 rfl rfl)
theorem dX5_reckonAll_194 : decode cX5_reckonAll 194 = .ok (.invokevirtual 219, 3) := dk_182 0 219 (dk_at dksX5_reckonAll_8 6 rfl rfl)
theorem dX5_reckonAll_197 : decode cX5_reckonAll 197 = .ok (.i2l, 1) := dk_133 (dk_at dksX5_reckonAll_8 9 rfl rfl)
theorem dX5_reckonAll_198 : decode cX5_reckonAll 198 = .ok (.lastore, 1) := dk_80 (dk_at dksX5_reckonAll_8 10 rfl rfl)
theorem dX5_reckonAll_199 : decode cX5_reckonAll 199 = .ok (.iinc 3 1, 3) := dk_132 3 1 (dk_at dksX5_reckonAll_8 11 rfl rfl)
theorem dX5_reckonAll_202 : decode cX5_reckonAll 202 = .ok (.goto 142, 3) := dk_167 0 142 (dk_at dksX5_reckonAll_8 14 rfl rfl)
theorem dX5_reckonAll_205 : decode cX5_reckonAll 205 = .ok (.iload 5, 2) := dk_21 5 (dk_at dksX5_reckonAll_8 17 rfl rfl)
theorem dX5_reckonAll_207 : decode cX5_reckonAll 207 = .ok (.bipush 28, 2) := dk_16 28 (dk_at dksX5_reckonAll_8 19 rfl rfl)
theorem dX5_reckonAll_209 : decode cX5_reckonAll 209 = .ok (.if_icmp .ge 73, 3) := dk_162 0 73 (dk_at dksX5_reckonAll_8 21 rfl rfl)
theorem dX5_reckonAll_212 : decode cX5_reckonAll 212 = .ok (.iinc 3 (-1), 3) := dk_132 3 255 (dk_at dksX5_reckonAll_9 0 rfl rfl)
theorem dX5_reckonAll_215 : decode cX5_reckonAll 215 = .ok (.aload_n 0, 1) := dk_42 (dk_at dksX5_reckonAll_9 3 rfl rfl)
theorem dX5_reckonAll_216 : decode cX5_reckonAll 216 = .ok (.getfield 107, 3) := dk_180 0 107 (dk_at dksX5_reckonAll_9 4 rfl rfl)
theorem dX5_reckonAll_219 : decode cX5_reckonAll 219 = .ok (.iload_n 3, 1) := dk_29 (dk_at dksX5_reckonAll_9 7 rfl rfl)
theorem dX5_reckonAll_220 : decode cX5_reckonAll 220 = .ok (.iconst 1, 1) := dk_4 (dk_at dksX5_reckonAll_9 8 rfl rfl)
theorem dX5_reckonAll_221 : decode cX5_reckonAll 221 = .ok (.isub, 1) := dk_100 (dk_at dksX5_reckonAll_9 9 rfl rfl)
theorem dX5_reckonAll_222 : decode cX5_reckonAll 222 = .ok (.aload_n 0, 1) := dk_42 (dk_at dksX5_reckonAll_9 10 rfl rfl)
theorem dX5_reckonAll_223 : decode cX5_reckonAll 223 = .ok (.iload 5, 2) := dk_21 5 (dk_at dksX5_reckonAll_9 11 rfl rfl)
theorem dX5_reckonAll_225 : decode cX5_reckonAll 225 = .ok (.aload_n 0, 1) := dk_42 (dk_at dksX5_reckonAll_9 13 rfl rfl)
theorem dX5_reckonAll_226 : decode cX5_reckonAll 226 = .ok (.getfield 107, 3) := dk_180 0 107 (dk_at dksX5_reckonAll_9 14 rfl rfl)
theorem dX5_reckonAll_229 : decode cX5_reckonAll 229 = .ok (.iload_n 3, 1) := dk_29 (dk_at dksX5_reckonAll_9 17 rfl rfl)
theorem dX5_reckonAll_230 : decode cX5_reckonAll 230 = .ok (.iconst 1, 1) := dk_4 (dk_at dksX5_reckonAll_9 18 rfl rfl)
theorem dX5_reckonAll_231 : decode cX5_reckonAll 231 = .ok (.isub, 1) := dk_100 (dk_at dksX5_reckonAll_9 19 rfl rfl)
theorem dX5_reckonAll_232 : decode cX5_reckonAll 232 = .ok (.laload, 1) := dk_47 (dk_at dksX5_reckonAll_9 20 rfl rfl)
theorem dX5_reckonAll_233 : decode cX5_reckonAll 233 = .ok (.aload_n 0, 1) := dk_42 (dk_at dksX5_reckonAll_9 21 rfl rfl)
theorem dX5_reckonAll_234 : decode cX5_reckonAll 234 = .ok (.getfield 107, 3) := dk_180 0 107 (dk_at dksX5_reckonAll_10 0 rfl rfl)
theorem dX5_reckonAll_237 : decode cX5_reckonAll 237 = .ok (.iload_n 3, 1) := dk_29 (dk_at dksX5_reckonAll_10 3 rfl rfl)
theorem dX5_reckonAll_238 : decode cX5_reckonAll 238 = .ok (.laload, 1) := dk_47 (dk_at dksX5_reckonAll_10 4 rfl rfl)
theorem dX5_reckonAll_239 : decode cX5_reckonAll 239 = .ok (.invokevirtual 430, 3) := dk_182 1 174 (dk_at dksX5_reckonAll_10 5 rfl rfl)
theorem dX5_reckonAll_242 : decode cX5_reckonAll 242 = .ok (.lastore, 1) := dk_80 (dk_at dksX5_reckonAll_10 8 rfl rfl)
theorem dX5_reckonAll_243 : decode cX5_reckonAll 243 = .ok (.aload_n 0, 1) := dk_42 (dk_at dksX5_reckonAll_10 9 rfl rfl)
theorem dX5_reckonAll_244 : decode cX5_reckonAll 244 = .ok (.aload_n 0, 1) := dk_42 (dk_at dksX5_reckonAll_10 10 rfl rfl)
theorem dX5_reckonAll_245 : decode cX5_reckonAll 245 = .ok (.getfield 424, 3) := dk_180 1 168 (dk_at dksX5_reckonAll_10 11 rfl rfl)
theorem dX5_reckonAll_248 : decode cX5_reckonAll 248 = .ok (.ifCond .ne 23, 3) := dk_154 0 23 (dk_at dksX5_reckonAll_10 14 rfl rfl)
theorem dX5_reckonAll_251 : decode cX5_reckonAll 251 = .ok (.aload_n 0, 1) := dk_42 (dk_at dksX5_reckonAll_10 17 rfl rfl)
theorem dX5_reckonAll_252 : decode cX5_reckonAll 252 = .ok (.getfield 107, 3) := dk_180 0 107 (dk_at dksX5_reckonAll_10 18 rfl rfl)
theorem dX5_reckonAll_255 : decode cX5_reckonAll 255 = .ok (.iload_n 3, 1) := dk_29 (dk_at dksX5_reckonAll_10 21 rfl rfl)
theorem dX5_reckonAll_256 : decode cX5_reckonAll 256 = .ok (.iconst 1, 1) := dk_4 (dk_at dksX5_reckonAll_10 22 rfl rfl)
theorem dX5_reckonAll_257 : decode cX5_reckonAll 257 = .ok (.isub, 1) := dk_100 (dk_at dksX5_reckonAll_10 23 rfl rfl)
theorem dX5_reckonAll_258 : decode cX5_reckonAll 258 = .ok (.laload, 1) := dk_47 (dk_at dksX5_reckonAll_11 0 rfl rfl)
theorem dX5_reckonAll_259 : decode cX5_reckonAll 259 = .ok (.ldc2_w 434, 3) := dk_20 1 178 (dk_at dksX5_reckonAll_11 1 rfl rfl)
theorem dX5_reckonAll_262 : decode cX5_reckonAll 262 = .ok (.ldc2_w 436, 3) := dk_20 1 180 (dk_at dksX5_reckonAll_11 4 rfl rfl)
theorem dX5_reckonAll_265 : decode cX5_reckonAll 265 = .ok (.invokestatic 195, 3) := dk_184 0 195 (dk_at dksX5_reckonAll_11 7 rfl rfl)
theorem dX5_reckonAll_268 : decode cX5_reckonAll 268 = .ok (.ifCond .ne 7, 3) := dk_154 0 7 (dk_at dksX5_reckonAll_11 10 rfl rfl)
theorem dX5_reckonAll_271 : decode cX5_reckonAll 271 = .ok (.iconst 1, 1) := dk_4 (dk_at dksX5_reckonAll_11 13 rfl rfl)
theorem dX5_reckonAll_272 : decode cX5_reckonAll 272 = .ok (.goto 4, 3) := dk_167 0 4 (dk_at dksX5_reckonAll_11 14 rfl rfl)
theorem dX5_reckonAll_275 : decode cX5_reckonAll 275 = .ok (.iconst 0, 1) := dk_3 (dk_at dksX5_reckonAll_11 17 rfl rfl)
theorem dX5_reckonAll_276 : decode cX5_reckonAll 276 = .ok (.putfield 424, 3) := dk_181 1 168 (dk_at dksX5_reckonAll_11 18 rfl rfl)
theorem dX5_reckonAll_279 : decode cX5_reckonAll 279 = .ok (.goto 65, 3) := dk_167 0 65 (dk_at dksX5_reckonAll_11 21 rfl rfl)
theorem dX5_reckonAll_282 : decode cX5_reckonAll 282 = .ok (.iload 5, 2) := dk_21 5 (dk_at dksX5_reckonAll_12 0 rfl rfl)
theorem dX5_reckonAll_284 : decode cX5_reckonAll 284 = .ok (.bipush 28, 2) := dk_16 28 (dk_at dksX5_reckonAll_12 2 rfl rfl)
theorem dX5_reckonAll_286 : decode cX5_reckonAll 286 = .ok (.if_icmp .ne 24, 3) := dk_160 0 24 (dk_at dksX5_reckonAll_12 4 rfl rfl)
theorem dX5_reckonAll_289 : decode cX5_reckonAll 289 = .ok (.aload_n 0, 1) := dk_42 (dk_at dksX5_reckonAll_12 7 rfl rfl)
theorem dX5_reckonAll_290 : decode cX5_reckonAll 290 = .ok (.getfield 107, 3) := dk_180 0 107 (dk_at dksX5_reckonAll_12 8 rfl rfl)
theorem dX5_reckonAll_293 : decode cX5_reckonAll 293 = .ok (.iload_n 3, 1) := dk_29 (dk_at dksX5_reckonAll_12 11 rfl rfl)
theorem dX5_reckonAll_294 : decode cX5_reckonAll 294 = .ok (.iconst 1, 1) := dk_4 (dk_at dksX5_reckonAll_12 12 rfl rfl)
theorem dX5_reckonAll_295 : decode cX5_reckonAll 295 = .ok (.isub, 1) := dk_100 (dk_at dksX5_reckonAll_12 13 rfl rfl)
theorem dX5_reckonAll_296 : decode cX5_reckonAll 296 = .ok (.lconst 1, 1) := dk_10 (dk_at dksX5_reckonAll_12 14 rfl rfl)
theorem dX5_reckonAll_297 : decode cX5_reckonAll 297 = .ok (.aload_n 0, 1) := dk_42 (dk_at dksX5_reckonAll_12 15 rfl rfl)
theorem dX5_reckonAll_298 : decode cX5_reckonAll 298 = .ok (.getfield 107, 3) := dk_180 0 107 (dk_at dksX5_reckonAll_12 16 rfl rfl)
theorem dX5_reckonAll_301 : decode cX5_reckonAll 301 = .ok (.iload_n 3, 1) := dk_29 (dk_at dksX5_reckonAll_12 19 rfl rfl)
theorem dX5_reckonAll_302 : decode cX5_reckonAll 302 = .ok (.iconst 1, 1) := dk_4 (dk_at dksX5_reckonAll_12 20 rfl rfl)
theorem dX5_reckonAll_303 : decode cX5_reckonAll 303 = .ok (.isub, 1) := dk_100 (dk_at dksX5_reckonAll_12 21 rfl rfl)
theorem dX5_reckonAll_304 : decode cX5_reckonAll 304 = .ok (.laload, 1) := dk_47 (dk_at dksX5_reckonAll_12 22 rfl rfl)
theorem dX5_reckonAll_305 : decode cX5_reckonAll 305 = .ok (.lsub, 1) := dk_101 (dk_at dksX5_reckonAll_12 23 rfl rfl)
theorem dX5_reckonAll_306 : decode cX5_reckonAll 306 = .ok (.lastore, 1) := dk_80 (dk_at dksX5_reckonAll_13 0 rfl rfl)
theorem dX5_reckonAll_307 : decode cX5_reckonAll 307 = .ok (.goto 37, 3) := dk_167 0 37 (dk_at dksX5_reckonAll_13 1 rfl rfl)
theorem dX5_reckonAll_310 : decode cX5_reckonAll 310 = .ok (.aload_n 0, 1) := dk_42 (dk_at dksX5_reckonAll_13 4 rfl rfl)
theorem dX5_reckonAll_311 : decode cX5_reckonAll 311 = .ok (.getfield 107, 3) := dk_180 0 107 (dk_at dksX5_reckonAll_13 5 rfl rfl)
theorem dX5_reckonAll_314 : decode cX5_reckonAll 314 = .ok (.iload_n 3, 1) := dk_29 (dk_at dksX5_reckonAll_13 8 rfl rfl)
theorem dX5_reckonAll_315 : decode cX5_reckonAll 315 = .ok (.iconst 1, 1) := dk_4 (dk_at dksX5_reckonAll_13 9 rfl rfl)
theorem dX5_reckonAll_316 : decode cX5_reckonAll 316 = .ok (.isub, 1) := dk_100 (dk_at dksX5_reckonAll_13 10 rfl rfl)
theorem dX5_reckonAll_317 : decode cX5_reckonAll 317 = .ok (.laload, 1) := dk_47 (dk_at dksX5_reckonAll_13 11 rfl rfl)
theorem dX5_reckonAll_318 : decode cX5_reckonAll 318 = .ok (.iload 5, 2) := dk_21 5 (dk_at dksX5_reckonAll_13 12 rfl rfl)
theorem dX5_reckonAll_320 : decode cX5_reckonAll 320 = .ok (.bipush 29, 2) := dk_16 29 (dk_at dksX5_reckonAll_13 14 rfl rfl)
theorem dX5_reckonAll_322 : decode cX5_reckonAll 322 = .ok (.if_icmp .ne 7, 3) := dk_160 0 7 (dk_at dksX5_reckonAll_13 16 rfl rfl)
theorem dX5_reckonAll_325 : decode cX5_reckonAll 325 = .ok (.lconst 0, 1) := dk_9 (dk_at dksX5_reckonAll_13 19 rfl rfl)
theorem dX5_reckonAll_326 : decode cX5_reckonAll 326 = .ok (.goto 4, 3) := dk_167 0 4 (dk_at dksX5_reckonAll_13 20 rfl rfl)
theorem dX5_reckonAll_329 : decode cX5_reckonAll 329 = .ok (.lconst 1, 1) := dk_10 (dk_at dksX5_reckonAll_13 23 rfl rfl)
theorem dX5_reckonAll_330 : decode cX5_reckonAll 330 = .ok (.lcmp, 1) := dk_148 (dk_at dksX5_reckonAll_14 0 rfl rfl)
theorem dX5_reckonAll_331 : decode cX5_reckonAll 331 = .ok (.ifCond .ne 10, 3) := dk_154 0 10 (dk_at dksX5_reckonAll_14 1 rfl rfl)
theorem dX5_reckonAll_334 : decode cX5_reckonAll 334 = .ok (.iload 6, 2) := dk_21 6 (dk_at dksX5_reckonAll_14 4 rfl rfl)
theorem dX5_reckonAll_336 : decode cX5_reckonAll 336 = .ok (.istore 4, 2) := dk_54 4 (dk_at dksX5_reckonAll_14 6 rfl rfl)
theorem dX5_reckonAll_338 : decode cX5_reckonAll 338 = .ok (.goto 6, 3) := dk_167 0 6 (dk_at dksX5_reckonAll_14 8 rfl rfl)
theorem dX5_reckonAll_341 : decode cX5_reckonAll 341 = .ok (.iinc 3 (-1), 3) := dk_132 3 255 (dk_at dksX5_reckonAll_14 11 rfl rfl)
theorem dX5_reckonAll_344 : decode cX5_reckonAll 344 = .ok (.goto (-334), 3) := dk_167 254 178 (dk_at dksX5_reckonAll_14 14 rfl rfl)
theorem dX5_reckonAll_347 : decode cX5_reckonAll 347 = .ok (.aload_n 0, 1) := dk_42 (dk_at dksX5_reckonAll_14 17 rfl rfl)
theorem dX5_reckonAll_348 : decode cX5_reckonAll 348 = .ok (.iload_n 3, 1) := dk_29 (dk_at dksX5_reckonAll_14 18 rfl rfl)
theorem dX5_reckonAll_349 : decode cX5_reckonAll 349 = .ok (.ifCond .le 12, 3) := dk_158 0 12 (dk_at dksX5_reckonAll_14 19 rfl rfl)
theorem dX5_reckonAll_352 : decode cX5_reckonAll 352 = .ok (.aload_n 0, 1) := dk_42 (dk_at dksX5_reckonAll_14 22 rfl rfl)
theorem dX5_reckonAll_353 : decode cX5_reckonAll 353 = .ok (.getfield 107, 3) := dk_180 0 107 (dk_at dksX5_reckonAll_15 0 rfl rfl)
theorem dX5_reckonAll_356 : decode cX5_reckonAll 356 = .ok (.iconst 0, 1) := dk_3 (dk_at dksX5_reckonAll_15 3 rfl rfl)
theorem dX5_reckonAll_357 : decode cX5_reckonAll 357 = .ok (.laload, 1) := dk_47 (dk_at dksX5_reckonAll_15 4 rfl rfl)
theorem dX5_reckonAll_358 : decode cX5_reckonAll 358 = .ok (.goto 4, 3) := dk_167 0 4 (dk_at dksX5_reckonAll_15 5 rfl rfl)
theorem dX5_reckonAll_361 : decode cX5_reckonAll 361 = .ok (.lconst 0, 1) := dk_9 (dk_at dksX5_reckonAll_15 8 rfl rfl)
theorem dX5_reckonAll_362 : decode cX5_reckonAll 362 = .ok (.putfield 438, 3) := dk_181 1 182 (dk_at dksX5_reckonAll_15 9 rfl rfl)
theorem dX5_reckonAll_365 : decode cX5_reckonAll 365 = .ok (.return_, 1) := dk_177 (dk_at dksX5_reckonAll_15 12 rfl rfl)
abbrev cX5_reckon : ByteArray := prog_22_method_67_code
def yX5_reckon : MethodName := ⟨RX5, "reckon", "(IJJ)J"⟩
def dkwX5_reckon_6 : List UInt8 := [148, 158, 0, 7, 10, 167, 0, 4, 9, 173, 32, 22, 4, 148, 154, 0, 7, 10, 167, 0, 4, 9, 173]
abbrev dktX5_reckon_6 : List UInt8 := dkwX5_reckon_6 ++ []
def dkwX5_reckon_5 : List UInt8 := [167, 0, 7, 32, 22, 4, 113, 173, 32, 22, 4, 148, 156, 0, 7, 10, 167, 0, 4, 9, 173, 32, 22, 4]
abbrev dktX5_reckon_5 : List UInt8 := dkwX5_reckon_5 ++ dktX5_reckon_6
def dkwX5_reckon_4 : List UInt8 := [22, 4, 9, 148, 154, 0, 7, 4, 167, 0, 4, 3, 181, 1, 168, 42, 180, 1, 168, 153, 0, 7, 9]
abbrev dktX5_reckon_4 : List UInt8 := dkwX5_reckon_4 ++ dktX5_reckon_5
def dkwX5_reckon_3 : List UInt8 := [167, 0, 4, 3, 181, 1, 168, 42, 180, 1, 168, 153, 0, 7, 9, 167, 0, 7, 32, 22, 4, 109, 173, 42]
abbrev dktX5_reckon_3 : List UInt8 := dkwX5_reckon_3 ++ dktX5_reckon_4
def dkwX5_reckon_2 : List UInt8 := [32, 22, 4, 97, 173, 32, 22, 4, 101, 173, 32, 22, 4, 105, 173, 42, 22, 4, 9, 148, 154, 0, 7, 4]
abbrev dktX5_reckon_2 : List UInt8 := dkwX5_reckon_2 ++ dktX5_reckon_3
def dkwX5_reckon_1 : List UInt8 := [170, 0, 0, 0, 0, 0, 148, 0, 0, 0, 20, 0, 0, 0, 26, 0, 0, 0, 43, 0, 0, 0, 48, 0, 0, 0, 53, 0, 0, 0, 58, 0, 0, 0, 90, 0, 0, 0, 122, 0, 0, 0, 135]
abbrev dktX5_reckon_1 : List UInt8 := dkwX5_reckon_1 ++ dktX5_reckon_2
def dkwX5_reckon_0 : List UInt8 := [27]
abbrev dktX5_reckon_0 : List UInt8 := dkwX5_reckon_0 ++ dktX5_reckon_1
theorem dksX5_reckon_0 : cX5_reckon.data.toList.drop 0 = dktX5_reckon_0 := by decide +kernel
theorem dksX5_reckon_1 : cX5_reckon.data.toList.drop 1 = dktX5_reckon_1 := dk_seg dksX5_reckon_0 1 rfl rfl
theorem dksX5_reckon_2 : cX5_reckon.data.toList.drop 44 = dktX5_reckon_2 := dk_seg dksX5_reckon_1 43 rfl rfl
theorem dksX5_reckon_3 : cX5_reckon.data.toList.drop 68 = dktX5_reckon_3 := dk_seg dksX5_reckon_2 24 rfl rfl
theorem dksX5_reckon_4 : cX5_reckon.data.toList.drop 92 = dktX5_reckon_4 := dk_seg dksX5_reckon_3 24 rfl rfl
theorem dksX5_reckon_5 : cX5_reckon.data.toList.drop 115 = dktX5_reckon_5 := dk_seg dksX5_reckon_4 23 rfl rfl
theorem dksX5_reckon_6 : cX5_reckon.data.toList.drop 139 = dktX5_reckon_6 := dk_seg dksX5_reckon_5 24 rfl rfl
theorem dX5_reckon_0 : decode cX5_reckon 0 = .ok (.iload_n 1, 1) := dk_27 (dk_at dksX5_reckon_0 0 rfl rfl)
theorem dX5_reckon_1 : decode cX5_reckon 1 = .ok (.tableswitch 148 20 26 #[43, 48, 53, 58, 90, 122, 135], 43) := by decide +kernel
theorem dX5_reckon_44 : decode cX5_reckon 44 = .ok (.lload_n 2, 1) := dk_32 (dk_at dksX5_reckon_2 0 rfl rfl)
theorem dX5_reckon_45 : decode cX5_reckon 45 = .ok (.lload 4, 2) := dk_22 4 (dk_at dksX5_reckon_2 1 rfl rfl)
theorem dX5_reckon_47 : decode cX5_reckon 47 = .ok (.ladd, 1) := dk_97 (dk_at dksX5_reckon_2 3 rfl rfl)
theorem dX5_reckon_48 : decode cX5_reckon 48 = .ok (.lreturn, 1) := dk_173 (dk_at dksX5_reckon_2 4 rfl rfl)
theorem dX5_reckon_49 : decode cX5_reckon 49 = .ok (.lload_n 2, 1) := dk_32 (dk_at dksX5_reckon_2 5 rfl rfl)
theorem dX5_reckon_50 : decode cX5_reckon 50 = .ok (.lload 4, 2) := dk_22 4 (dk_at dksX5_reckon_2 6 rfl rfl)
theorem dX5_reckon_52 : decode cX5_reckon 52 = .ok (.lsub, 1) := dk_101 (dk_at dksX5_reckon_2 8 rfl rfl)
theorem dX5_reckon_53 : decode cX5_reckon 53 = .ok (.lreturn, 1) := dk_173 (dk_at dksX5_reckon_2 9 rfl rfl)
theorem dX5_reckon_54 : decode cX5_reckon 54 = .ok (.lload_n 2, 1) := dk_32 (dk_at dksX5_reckon_2 10 rfl rfl)
theorem dX5_reckon_55 : decode cX5_reckon 55 = .ok (.lload 4, 2) := dk_22 4 (dk_at dksX5_reckon_2 11 rfl rfl)
theorem dX5_reckon_57 : decode cX5_reckon 57 = .ok (.lmul, 1) := dk_105 (dk_at dksX5_reckon_2 13 rfl rfl)
theorem dX5_reckon_58 : decode cX5_reckon 58 = .ok (.lreturn, 1) := dk_173 (dk_at dksX5_reckon_2 14 rfl rfl)
theorem dX5_reckon_59 : decode cX5_reckon 59 = .ok (.aload_n 0, 1) := dk_42 (dk_at dksX5_reckon_2 15 rfl rfl)
theorem dX5_reckon_60 : decode cX5_reckon 60 = .ok (.lload 4, 2) := dk_22 4 (dk_at dksX5_reckon_2 16 rfl rfl)
theorem dX5_reckon_62 : decode cX5_reckon 62 = .ok (.lconst 0, 1) := dk_9 (dk_at dksX5_reckon_2 18 rfl rfl)
theorem dX5_reckon_63 : decode cX5_reckon 63 = .ok (.lcmp, 1) := dk_148 (dk_at dksX5_reckon_2 19 rfl rfl)
theorem dX5_reckon_64 : decode cX5_reckon 64 = .ok (.ifCond .ne 7, 3) := dk_154 0 7 (dk_at dksX5_reckon_2 20 rfl rfl)
theorem dX5_reckon_67 : decode cX5_reckon 67 = .ok (.iconst 1, 1) := dk_4 (dk_at dksX5_reckon_2 23 rfl rfl)
theorem dX5_reckon_68 : decode cX5_reckon 68 = .ok (.goto 4, 3) := dk_167 0 4 (dk_at dksX5_reckon_3 0 rfl rfl)
theorem dX5_reckon_71 : decode cX5_reckon 71 = .ok (.iconst 0, 1) := dk_3 (dk_at dksX5_reckon_3 3 rfl rfl)
theorem dX5_reckon_72 : decode cX5_reckon 72 = .ok (.putfield 424, 3) := dk_181 1 168 (dk_at dksX5_reckon_3 4 rfl rfl)
theorem dX5_reckon_75 : decode cX5_reckon 75 = .ok (.aload_n 0, 1) := dk_42 (dk_at dksX5_reckon_3 7 rfl rfl)
theorem dX5_reckon_76 : decode cX5_reckon 76 = .ok (.getfield 424, 3) := dk_180 1 168 (dk_at dksX5_reckon_3 8 rfl rfl)
theorem dX5_reckon_79 : decode cX5_reckon 79 = .ok (.ifCond .eq 7, 3) := dk_153 0 7 (dk_at dksX5_reckon_3 11 rfl rfl)
theorem dX5_reckon_82 : decode cX5_reckon 82 = .ok (.lconst 0, 1) := dk_9 (dk_at dksX5_reckon_3 14 rfl rfl)
theorem dX5_reckon_83 : decode cX5_reckon 83 = .ok (.goto 7, 3) := dk_167 0 7 (dk_at dksX5_reckon_3 15 rfl rfl)
theorem dX5_reckon_86 : decode cX5_reckon 86 = .ok (.lload_n 2, 1) := dk_32 (dk_at dksX5_reckon_3 18 rfl rfl)
theorem dX5_reckon_87 : decode cX5_reckon 87 = .ok (.lload 4, 2) := dk_22 4 (dk_at dksX5_reckon_3 19 rfl rfl)
theorem dX5_reckon_89 : decode cX5_reckon 89 = .ok (.ldiv, 1) := dk_109 (dk_at dksX5_reckon_3 21 rfl rfl)
theorem dX5_reckon_90 : decode cX5_reckon 90 = .ok (.lreturn, 1) := dk_173 (dk_at dksX5_reckon_3 22 rfl rfl)
theorem dX5_reckon_91 : decode cX5_reckon 91 = .ok (.aload_n 0, 1) := dk_42 (dk_at dksX5_reckon_3 23 rfl rfl)
theorem dX5_reckon_92 : decode cX5_reckon 92 = .ok (.lload 4, 2) := dk_22 4 (dk_at dksX5_reckon_4 0 rfl rfl)
theorem dX5_reckon_94 : decode cX5_reckon 94 = .ok (.lconst 0, 1) := dk_9 (dk_at dksX5_reckon_4 2 rfl rfl)
theorem dX5_reckon_95 : decode cX5_reckon 95 = .ok (.lcmp, 1) := dk_148 (dk_at dksX5_reckon_4 3 rfl rfl)
theorem dX5_reckon_96 : decode cX5_reckon 96 = .ok (.ifCond .ne 7, 3) := dk_154 0 7 (dk_at dksX5_reckon_4 4 rfl rfl)
theorem dX5_reckon_99 : decode cX5_reckon 99 = .ok (.iconst 1, 1) := dk_4 (dk_at dksX5_reckon_4 7 rfl rfl)
theorem dX5_reckon_100 : decode cX5_reckon 100 = .ok (.goto 4, 3) := dk_167 0 4 (dk_at dksX5_reckon_4 8 rfl rfl)
theorem dX5_reckon_103 : decode cX5_reckon 103 = .ok (.iconst 0, 1) := dk_3 (dk_at dksX5_reckon_4 11 rfl rfl)
theorem dX5_reckon_104 : decode cX5_reckon 104 = .ok (.putfield 424, 3) := dk_181 1 168 (dk_at dksX5_reckon_4 12 rfl rfl)
theorem dX5_reckon_107 : decode cX5_reckon 107 = .ok (.aload_n 0, 1) := dk_42 (dk_at dksX5_reckon_4 15 rfl rfl)
theorem dX5_reckon_108 : decode cX5_reckon 108 = .ok (.getfield 424, 3) := dk_180 1 168 (dk_at dksX5_reckon_4 16 rfl rfl)
theorem dX5_reckon_111 : decode cX5_reckon 111 = .ok (.ifCond .eq 7, 3) := dk_153 0 7 (dk_at dksX5_reckon_4 19 rfl rfl)
theorem dX5_reckon_114 : decode cX5_reckon 114 = .ok (.lconst 0, 1) := dk_9 (dk_at dksX5_reckon_4 22 rfl rfl)
theorem dX5_reckon_115 : decode cX5_reckon 115 = .ok (.goto 7, 3) := dk_167 0 7 (dk_at dksX5_reckon_5 0 rfl rfl)
theorem dX5_reckon_118 : decode cX5_reckon 118 = .ok (.lload_n 2, 1) := dk_32 (dk_at dksX5_reckon_5 3 rfl rfl)
theorem dX5_reckon_119 : decode cX5_reckon 119 = .ok (.lload 4, 2) := dk_22 4 (dk_at dksX5_reckon_5 4 rfl rfl)
theorem dX5_reckon_121 : decode cX5_reckon 121 = .ok (.lrem, 1) := dk_113 (dk_at dksX5_reckon_5 6 rfl rfl)
theorem dX5_reckon_122 : decode cX5_reckon 122 = .ok (.lreturn, 1) := dk_173 (dk_at dksX5_reckon_5 7 rfl rfl)
theorem dX5_reckon_123 : decode cX5_reckon 123 = .ok (.lload_n 2, 1) := dk_32 (dk_at dksX5_reckon_5 8 rfl rfl)
theorem dX5_reckon_124 : decode cX5_reckon 124 = .ok (.lload 4, 2) := dk_22 4 (dk_at dksX5_reckon_5 9 rfl rfl)
theorem dX5_reckon_126 : decode cX5_reckon 126 = .ok (.lcmp, 1) := dk_148 (dk_at dksX5_reckon_5 11 rfl rfl)
theorem dX5_reckon_127 : decode cX5_reckon 127 = .ok (.ifCond .ge 7, 3) := dk_156 0 7 (dk_at dksX5_reckon_5 12 rfl rfl)
theorem dX5_reckon_130 : decode cX5_reckon 130 = .ok (.lconst 1, 1) := dk_10 (dk_at dksX5_reckon_5 15 rfl rfl)
theorem dX5_reckon_131 : decode cX5_reckon 131 = .ok (.goto 4, 3) := dk_167 0 4 (dk_at dksX5_reckon_5 16 rfl rfl)
theorem dX5_reckon_134 : decode cX5_reckon 134 = .ok (.lconst 0, 1) := dk_9 (dk_at dksX5_reckon_5 19 rfl rfl)
theorem dX5_reckon_135 : decode cX5_reckon 135 = .ok (.lreturn, 1) := dk_173 (dk_at dksX5_reckon_5 20 rfl rfl)
theorem dX5_reckon_136 : decode cX5_reckon 136 = .ok (.lload_n 2, 1) := dk_32 (dk_at dksX5_reckon_5 21 rfl rfl)
theorem dX5_reckon_137 : decode cX5_reckon 137 = .ok (.lload 4, 2) := dk_22 4 (dk_at dksX5_reckon_5 22 rfl rfl)
theorem dX5_reckon_139 : decode cX5_reckon 139 = .ok (.lcmp, 1) := dk_148 (dk_at dksX5_reckon_6 0 rfl rfl)
theorem dX5_reckon_140 : decode cX5_reckon 140 = .ok (.ifCond .le 7, 3) := dk_158 0 7 (dk_at dksX5_reckon_6 1 rfl rfl)
theorem dX5_reckon_143 : decode cX5_reckon 143 = .ok (.lconst 1, 1) := dk_10 (dk_at dksX5_reckon_6 4 rfl rfl)
theorem dX5_reckon_144 : decode cX5_reckon 144 = .ok (.goto 4, 3) := dk_167 0 4 (dk_at dksX5_reckon_6 5 rfl rfl)
theorem dX5_reckon_147 : decode cX5_reckon 147 = .ok (.lconst 0, 1) := dk_9 (dk_at dksX5_reckon_6 8 rfl rfl)
theorem dX5_reckon_148 : decode cX5_reckon 148 = .ok (.lreturn, 1) := dk_173 (dk_at dksX5_reckon_6 9 rfl rfl)
theorem dX5_reckon_149 : decode cX5_reckon 149 = .ok (.lload_n 2, 1) := dk_32 (dk_at dksX5_reckon_6 10 rfl rfl)
theorem dX5_reckon_150 : decode cX5_reckon 150 = .ok (.lload 4, 2) := dk_22 4 (dk_at dksX5_reckon_6 11 rfl rfl)
theorem dX5_reckon_152 : decode cX5_reckon 152 = .ok (.lcmp, 1) := dk_148 (dk_at dksX5_reckon_6 13 rfl rfl)
theorem dX5_reckon_153 : decode cX5_reckon 153 = .ok (.ifCond .ne 7, 3) := dk_154 0 7 (dk_at dksX5_reckon_6 14 rfl rfl)
theorem dX5_reckon_156 : decode cX5_reckon 156 = .ok (.lconst 1, 1) := dk_10 (dk_at dksX5_reckon_6 17 rfl rfl)
theorem dX5_reckon_157 : decode cX5_reckon 157 = .ok (.goto 4, 3) := dk_167 0 4 (dk_at dksX5_reckon_6 18 rfl rfl)
theorem dX5_reckon_160 : decode cX5_reckon 160 = .ok (.lconst 0, 1) := dk_9 (dk_at dksX5_reckon_6 21 rfl rfl)
theorem dX5_reckon_161 : decode cX5_reckon 161 = .ok (.lreturn, 1) := dk_173 (dk_at dksX5_reckon_6 22 rfl rfl)
abbrev cX5_within : ByteArray := prog_22_method_6_code
def yX5_within : MethodName := ⟨RX5, "within", "(JII)I"⟩
def dkwX5_within_1 : List UInt8 := [172]
abbrev dktX5_within_1 : List UInt8 := dkwX5_within_1 ++ []
def dkwX5_within_0 : List UInt8 := [30, 28, 133, 148, 156, 0, 7, 28, 167, 0, 16, 30, 29, 133, 148, 158, 0, 7, 29, 167, 0, 5, 30, 136]
abbrev dktX5_within_0 : List UInt8 := dkwX5_within_0 ++ dktX5_within_1
theorem dksX5_within_0 : cX5_within.data.toList.drop 0 = dktX5_within_0 := by decide +kernel
theorem dksX5_within_1 : cX5_within.data.toList.drop 24 = dktX5_within_1 := dk_seg dksX5_within_0 24 rfl rfl
theorem dX5_within_0 : decode cX5_within 0 = .ok (.lload_n 0, 1) := dk_30 (dk_at dksX5_within_0 0 rfl rfl)
theorem dX5_within_1 : decode cX5_within 1 = .ok (.iload_n 2, 1) := dk_28 (dk_at dksX5_within_0 1 rfl rfl)
theorem dX5_within_2 : decode cX5_within 2 = .ok (.i2l, 1) := dk_133 (dk_at dksX5_within_0 2 rfl rfl)
theorem dX5_within_3 : decode cX5_within 3 = .ok (.lcmp, 1) := dk_148 (dk_at dksX5_within_0 3 rfl rfl)
theorem dX5_within_4 : decode cX5_within 4 = .ok (.ifCond .ge 7, 3) := dk_156 0 7 (dk_at dksX5_within_0 4 rfl rfl)
theorem dX5_within_7 : decode cX5_within 7 = .ok (.iload_n 2, 1) := dk_28 (dk_at dksX5_within_0 7 rfl rfl)
theorem dX5_within_8 : decode cX5_within 8 = .ok (.goto 16, 3) := dk_167 0 16 (dk_at dksX5_within_0 8 rfl rfl)
theorem dX5_within_11 : decode cX5_within 11 = .ok (.lload_n 0, 1) := dk_30 (dk_at dksX5_within_0 11 rfl rfl)
theorem dX5_within_12 : decode cX5_within 12 = .ok (.iload_n 3, 1) := dk_29 (dk_at dksX5_within_0 12 rfl rfl)
theorem dX5_within_13 : decode cX5_within 13 = .ok (.i2l, 1) := dk_133 (dk_at dksX5_within_0 13 rfl rfl)
theorem dX5_within_14 : decode cX5_within 14 = .ok (.lcmp, 1) := dk_148 (dk_at dksX5_within_0 14 rfl rfl)
theorem dX5_within_15 : decode cX5_within 15 = .ok (.ifCond .le 7, 3) := dk_158 0 7 (dk_at dksX5_within_0 15 rfl rfl)
theorem dX5_within_18 : decode cX5_within 18 = .ok (.iload_n 3, 1) := dk_29 (dk_at dksX5_within_0 18 rfl rfl)
theorem dX5_within_19 : decode cX5_within 19 = .ok (.goto 5, 3) := dk_167 0 5 (dk_at dksX5_within_0 19 rfl rfl)
theorem dX5_within_22 : decode cX5_within 22 = .ok (.lload_n 0, 1) := dk_30 (dk_at dksX5_within_0 22 rfl rfl)
theorem dX5_within_23 : decode cX5_within 23 = .ok (.l2i, 1) := dk_136 (dk_at dksX5_within_0 23 rfl rfl)
theorem dX5_within_24 : decode cX5_within 24 = .ok (.ireturn, 1) := dk_172 (dk_at dksX5_within_1 0 rfl rfl)
abbrev cX5_losesOf : ByteArray := prog_22_method_72_code
def yX5_losesOf : MethodName := ⟨RX5, "losesOf", "(I)I"⟩
def dkwX5_losesOf_0 : List UInt8 := [42, 5, 27, 2, 9, 182, 1, 194, 3, 16, 9, 184, 1, 198, 172]
abbrev dktX5_losesOf_0 : List UInt8 := dkwX5_losesOf_0 ++ []
theorem dksX5_losesOf_0 : cX5_losesOf.data.toList.drop 0 = dktX5_losesOf_0 := by decide +kernel
theorem dX5_losesOf_0 : decode cX5_losesOf 0 = .ok (.aload_n 0, 1) := dk_42 (dk_at dksX5_losesOf_0 0 rfl rfl)
theorem dX5_losesOf_1 : decode cX5_losesOf 1 = .ok (.iconst 2, 1) := dk_5 (dk_at dksX5_losesOf_0 1 rfl rfl)
theorem dX5_losesOf_2 : decode cX5_losesOf 2 = .ok (.iload_n 1, 1) := dk_27 (dk_at dksX5_losesOf_0 2 rfl rfl)
theorem dX5_losesOf_3 : decode cX5_losesOf 3 = .ok (.iconst (-1), 1) := dk_2 (dk_at dksX5_losesOf_0 3 rfl rfl)
theorem dX5_losesOf_4 : decode cX5_losesOf 4 = .ok (.lconst 0, 1) := dk_9 (dk_at dksX5_losesOf_0 4 rfl rfl)
theorem dX5_losesOf_5 : decode cX5_losesOf 5 = .ok (.invokevirtual 450, 3) := dk_182 1 194 (dk_at dksX5_losesOf_0 5 rfl rfl)
theorem dX5_losesOf_8 : decode cX5_losesOf 8 = .ok (.iconst 0, 1) := dk_3 (dk_at dksX5_losesOf_0 8 rfl rfl)
theorem dX5_losesOf_9 : decode cX5_losesOf 9 = .ok (.bipush 9, 2) := dk_16 9 (dk_at dksX5_losesOf_0 9 rfl rfl)
theorem dX5_losesOf_11 : decode cX5_losesOf 11 = .ok (.invokestatic 454, 3) := dk_184 1 198 (dk_at dksX5_losesOf_0 11 rfl rfl)
theorem dX5_losesOf_14 : decode cX5_losesOf 14 = .ok (.ireturn, 1) := dk_172 (dk_at dksX5_losesOf_0 14 rfl rfl)
abbrev cX5_pins : ByteArray := prog_22_method_27_code
def yX5_pins : MethodName := ⟨RX5, "pins", "(III)I"⟩
def dkwX5_pins_2 : List UInt8 := [181, 0, 181, 42, 16, 8, 16, 8, 27, 104, 96, 28, 96, 29, 182, 0, 233, 172]
abbrev dktX5_pins_2 : List UInt8 := dkwX5_pins_2 ++ []
def dkwX5_pins_1 : List UInt8 := [42, 2, 182, 0, 184, 172, 42, 27, 182, 0, 213, 154, 0, 10, 42, 16, 254, 182, 0, 184, 172, 42, 3]
abbrev dktX5_pins_1 : List UInt8 := dkwX5_pins_1 ++ dktX5_pins_2
def dkwX5_pins_0 : List UInt8 := [42, 3, 181, 0, 175, 28, 184, 0, 228, 153, 0, 15, 29, 133, 9, 20, 0, 231, 184, 0, 195, 154, 0, 9]
abbrev dktX5_pins_0 : List UInt8 := dkwX5_pins_0 ++ dktX5_pins_1
theorem dksX5_pins_0 : cX5_pins.data.toList.drop 0 = dktX5_pins_0 := by decide +kernel
theorem dksX5_pins_1 : cX5_pins.data.toList.drop 24 = dktX5_pins_1 := dk_seg dksX5_pins_0 24 rfl rfl
theorem dksX5_pins_2 : cX5_pins.data.toList.drop 47 = dktX5_pins_2 := dk_seg dksX5_pins_1 23 rfl rfl
theorem dX5_pins_0 : decode cX5_pins 0 = .ok (.aload_n 0, 1) := dk_42 (dk_at dksX5_pins_0 0 rfl rfl)
theorem dX5_pins_1 : decode cX5_pins 1 = .ok (.iconst 0, 1) := dk_3 (dk_at dksX5_pins_0 1 rfl rfl)
theorem dX5_pins_2 : decode cX5_pins 2 = .ok (.putfield 175, 3) := dk_181 0 175 (dk_at dksX5_pins_0 2 rfl rfl)
theorem dX5_pins_5 : decode cX5_pins 5 = .ok (.iload_n 2, 1) := dk_28 (dk_at dksX5_pins_0 5 rfl rfl)
theorem dX5_pins_6 : decode cX5_pins 6 = .ok (.invokestatic 228, 3) := dk_184 0 228 (dk_at dksX5_pins_0 6 rfl rfl)
theorem dX5_pins_9 : decode cX5_pins 9 = .ok (.ifCond .eq 15, 3) := dk_153 0 15 (dk_at dksX5_pins_0 9 rfl rfl)
theorem dX5_pins_12 : decode cX5_pins 12 = .ok (.iload_n 3, 1) := dk_29 (dk_at dksX5_pins_0 12 rfl rfl)
theorem dX5_pins_13 : decode cX5_pins 13 = .ok (.i2l, 1) := dk_133 (dk_at dksX5_pins_0 13 rfl rfl)
theorem dX5_pins_14 : decode cX5_pins 14 = .ok (.lconst 0, 1) := dk_9 (dk_at dksX5_pins_0 14 rfl rfl)
theorem dX5_pins_15 : decode cX5_pins 15 = .ok (.ldc2_w 231, 3) := dk_20 0 231 (dk_at dksX5_pins_0 15 rfl rfl)
theorem dX5_pins_18 : decode cX5_pins 18 = .ok (.invokestatic 195, 3) := dk_184 0 195 (dk_at dksX5_pins_0 18 rfl rfl)
theorem dX5_pins_21 : decode cX5_pins 21 = .ok (.ifCond .ne 9, 3) := dk_154 0 9 (dk_at dksX5_pins_0 21 rfl rfl)
theorem dX5_pins_24 : decode cX5_pins 24 = .ok (.aload_n 0, 1) := dk_42 (dk_at dksX5_pins_1 0 rfl rfl)
theorem dX5_pins_25 : decode cX5_pins 25 = .ok (.iconst (-1), 1) := dk_2 (dk_at dksX5_pins_1 1 rfl rfl)
theorem dX5_pins_26 : decode cX5_pins 26 = .ok (.invokevirtual 184, 3) := dk_182 0 184 (dk_at dksX5_pins_1 2 rfl rfl)
theorem dX5_pins_29 : decode cX5_pins 29 = .ok (.ireturn, 1) := dk_172 (dk_at dksX5_pins_1 5 rfl rfl)
theorem dX5_pins_30 : decode cX5_pins 30 = .ok (.aload_n 0, 1) := dk_42 (dk_at dksX5_pins_1 6 rfl rfl)
theorem dX5_pins_31 : decode cX5_pins 31 = .ok (.iload_n 1, 1) := dk_27 (dk_at dksX5_pins_1 7 rfl rfl)
theorem dX5_pins_32 : decode cX5_pins 32 = .ok (.invokevirtual 213, 3) := dk_182 0 213 (dk_at dksX5_pins_1 8 rfl rfl)
theorem dX5_pins_35 : decode cX5_pins 35 = .ok (.ifCond .ne 10, 3) := dk_154 0 10 (dk_at dksX5_pins_1 11 rfl rfl)
theorem dX5_pins_38 : decode cX5_pins 38 = .ok (.aload_n 0, 1) := dk_42 (dk_at dksX5_pins_1 14 rfl rfl)
theorem dX5_pins_39 : decode cX5_pins 39 = .ok (.bipush (-2), 2) := dk_16 254 (dk_at dksX5_pins_1 15 rfl rfl)
theorem dX5_pins_41 : decode cX5_pins 41 = .ok (.invokevirtual 184, 3) := dk_182 0 184 (dk_at dksX5_pins_1 17 rfl rfl)
theorem dX5_pins_44 : decode cX5_pins 44 = .ok (.ireturn, 1) := dk_172 (dk_at dksX5_pins_1 20 rfl rfl)
theorem dX5_pins_45 : decode cX5_pins 45 = .ok (.aload_n 0, 1) := dk_42 (dk_at dksX5_pins_1 21 rfl rfl)
theorem dX5_pins_46 : decode cX5_pins 46 = .ok (.iconst 0, 1) := dk_3 (dk_at dksX5_pins_1 22 rfl rfl)
theorem dX5_pins_47 : decode cX5_pins 47 = .ok (.putfield 181, 3) := dk_181 0 181 (dk_at dksX5_pins_2 0 rfl rfl)
theorem dX5_pins_50 : decode cX5_pins 50 = .ok (.aload_n 0, 1) := dk_42 (dk_at dksX5_pins_2 3 rfl rfl)
theorem dX5_pins_51 : decode cX5_pins 51 = .ok (.bipush 8, 2) := dk_16 8 (dk_at dksX5_pins_2 4 rfl rfl)
theorem dX5_pins_53 : decode cX5_pins 53 = .ok (.bipush 8, 2) := dk_16 8 (dk_at dksX5_pins_2 6 rfl rfl)
theorem dX5_pins_55 : decode cX5_pins 55 = .ok (.iload_n 1, 1) := dk_27 (dk_at dksX5_pins_2 8 rfl rfl)
theorem dX5_pins_56 : decode cX5_pins 56 = .ok (.imul, 1) := dk_104 (dk_at dksX5_pins_2 9 rfl rfl)
theorem dX5_pins_57 : decode cX5_pins 57 = .ok (.iadd, 1) := dk_96 (dk_at dksX5_pins_2 10 rfl rfl)
theorem dX5_pins_58 : decode cX5_pins 58 = .ok (.iload_n 2, 1) := dk_28 (dk_at dksX5_pins_2 11 rfl rfl)
theorem dX5_pins_59 : decode cX5_pins 59 = .ok (.iadd, 1) := dk_96 (dk_at dksX5_pins_2 12 rfl rfl)
theorem dX5_pins_60 : decode cX5_pins 60 = .ok (.iload_n 3, 1) := dk_29 (dk_at dksX5_pins_2 13 rfl rfl)
theorem dX5_pins_61 : decode cX5_pins 61 = .ok (.invokevirtual 233, 3) := dk_182 0 233 (dk_at dksX5_pins_2 14 rfl rfl)
theorem dX5_pins_64 : decode cX5_pins 64 = .ok (.ireturn, 1) := dk_172 (dk_at dksX5_pins_2 17 rfl rfl)
abbrev cX5_isBar : ByteArray := prog_22_method_18_code
def yX5_isBar : MethodName := ⟨RX5, "isBar", "(I)Z"⟩
def dkwX5_isBar_0 : List UInt8 := [26, 133, 9, 20, 0, 202, 184, 0, 195, 172]
abbrev dktX5_isBar_0 : List UInt8 := dkwX5_isBar_0 ++ []
theorem dksX5_isBar_0 : cX5_isBar.data.toList.drop 0 = dktX5_isBar_0 := by decide +kernel
theorem dX5_isBar_0 : decode cX5_isBar 0 = .ok (.iload_n 0, 1) := dk_26 (dk_at dksX5_isBar_0 0 rfl rfl)
theorem dX5_isBar_1 : decode cX5_isBar 1 = .ok (.i2l, 1) := dk_133 (dk_at dksX5_isBar_0 1 rfl rfl)
theorem dX5_isBar_2 : decode cX5_isBar 2 = .ok (.lconst 0, 1) := dk_9 (dk_at dksX5_isBar_0 2 rfl rfl)
theorem dX5_isBar_3 : decode cX5_isBar 3 = .ok (.ldc2_w 202, 3) := dk_20 0 202 (dk_at dksX5_isBar_0 3 rfl rfl)
theorem dX5_isBar_6 : decode cX5_isBar 6 = .ok (.invokestatic 195, 3) := dk_184 0 195 (dk_at dksX5_isBar_0 6 rfl rfl)
theorem dX5_isBar_9 : decode cX5_isBar 9 = .ok (.ireturn, 1) := dk_172 (dk_at dksX5_isBar_0 9 rfl rfl)
abbrev cX5_change : ByteArray := prog_22_method_8_code
def yX5_change : MethodName := ⟨RX5, "change", "(II)I"⟩
def dkwX5_change_0 : List UInt8 := [42, 180, 0, 13, 27, 46, 62, 42, 180, 0, 13, 27, 28, 79, 42, 3, 181, 0, 178, 29, 172]
abbrev dktX5_change_0 : List UInt8 := dkwX5_change_0 ++ []
theorem dksX5_change_0 : cX5_change.data.toList.drop 0 = dktX5_change_0 := by decide +kernel
theorem dX5_change_0 : decode cX5_change 0 = .ok (.aload_n 0, 1) := dk_42 (dk_at dksX5_change_0 0 rfl rfl)
theorem dX5_change_1 : decode cX5_change 1 = .ok (.getfield 13, 3) := dk_180 0 13 (dk_at dksX5_change_0 1 rfl rfl)
theorem dX5_change_4 : decode cX5_change 4 = .ok (.iload_n 1, 1) := dk_27 (dk_at dksX5_change_0 4 rfl rfl)
theorem dX5_change_5 : decode cX5_change 5 = .ok (.iaload, 1) := dk_46 (dk_at dksX5_change_0 5 rfl rfl)
theorem dX5_change_6 : decode cX5_change 6 = .ok (.istore_n 3, 1) := dk_62 (dk_at dksX5_change_0 6 rfl rfl)
theorem dX5_change_7 : decode cX5_change 7 = .ok (.aload_n 0, 1) := dk_42 (dk_at dksX5_change_0 7 rfl rfl)
theorem dX5_change_8 : decode cX5_change 8 = .ok (.getfield 13, 3) := dk_180 0 13 (dk_at dksX5_change_0 8 rfl rfl)
theorem dX5_change_11 : decode cX5_change 11 = .ok (.iload_n 1, 1) := dk_27 (dk_at dksX5_change_0 11 rfl rfl)
theorem dX5_change_12 : decode cX5_change 12 = .ok (.iload_n 2, 1) := dk_28 (dk_at dksX5_change_0 12 rfl rfl)
theorem dX5_change_13 : decode cX5_change 13 = .ok (.iastore, 1) := dk_79 (dk_at dksX5_change_0 13 rfl rfl)
theorem dX5_change_14 : decode cX5_change 14 = .ok (.aload_n 0, 1) := dk_42 (dk_at dksX5_change_0 14 rfl rfl)
theorem dX5_change_15 : decode cX5_change 15 = .ok (.iconst 0, 1) := dk_3 (dk_at dksX5_change_0 15 rfl rfl)
theorem dX5_change_16 : decode cX5_change 16 = .ok (.putfield 178, 3) := dk_181 0 178 (dk_at dksX5_change_0 16 rfl rfl)
theorem dX5_change_19 : decode cX5_change 19 = .ok (.iload_n 3, 1) := dk_29 (dk_at dksX5_change_0 19 rfl rfl)
theorem dX5_change_20 : decode cX5_change 20 = .ok (.ireturn, 1) := dk_172 (dk_at dksX5_change_0 20 rfl rfl)
abbrev cX5_suitor : ByteArray := prog_22_method_28_code
def yX5_suitor : MethodName := ⟨RX5, "suitor", "(II)I"⟩
def dkwX5_suitor_3 : List UInt8 := [42, 180, 0, 13, 4, 92, 46, 4, 96, 79, 42, 29, 182, 0, 199, 172]
abbrev dktX5_suitor_3 : List UInt8 := dkwX5_suitor_3 ++ []
def dkwX5_suitor_2 : List UInt8 := [182, 0, 184, 172, 42, 180, 0, 13, 16, 80, 29, 96, 27, 79, 42, 180, 0, 13, 16, 86, 29, 96, 28, 79]
abbrev dktX5_suitor_2 : List UInt8 := dkwX5_suitor_2 ++ dktX5_suitor_3
def dkwX5_suitor_1 : List UInt8 := [42, 2, 182, 0, 184, 172, 42, 180, 0, 13, 4, 46, 62, 29, 16, 6, 160, 0, 10, 42, 16, 251]
abbrev dktX5_suitor_1 : List UInt8 := dkwX5_suitor_1 ++ dktX5_suitor_2
def dkwX5_suitor_0 : List UInt8 := [42, 3, 181, 0, 175, 27, 184, 0, 236, 153, 0, 15, 28, 133, 9, 20, 0, 239, 184, 0, 195, 154, 0, 9]
abbrev dktX5_suitor_0 : List UInt8 := dkwX5_suitor_0 ++ dktX5_suitor_1
theorem dksX5_suitor_0 : cX5_suitor.data.toList.drop 0 = dktX5_suitor_0 := by decide +kernel
theorem dksX5_suitor_1 : cX5_suitor.data.toList.drop 24 = dktX5_suitor_1 := dk_seg dksX5_suitor_0 24 rfl rfl
theorem dksX5_suitor_2 : cX5_suitor.data.toList.drop 46 = dktX5_suitor_2 := dk_seg dksX5_suitor_1 22 rfl rfl
theorem dksX5_suitor_3 : cX5_suitor.data.toList.drop 70 = dktX5_suitor_3 := dk_seg dksX5_suitor_2 24 rfl rfl
theorem dX5_suitor_0 : decode cX5_suitor 0 = .ok (.aload_n 0, 1) := dk_42 (dk_at dksX5_suitor_0 0 rfl rfl)
theorem dX5_suitor_1 : decode cX5_suitor 1 = .ok (.iconst 0, 1) := dk_3 (dk_at dksX5_suitor_0 1 rfl rfl)
theorem dX5_suitor_2 : decode cX5_suitor 2 = .ok (.putfield 175, 3) := dk_181 0 175 (dk_at dksX5_suitor_0 2 rfl rfl)
theorem dX5_suitor_5 : decode cX5_suitor 5 = .ok (.iload_n 1, 1) := dk_27 (dk_at dksX5_suitor_0 5 rfl rfl)
theorem dX5_suitor_6 : decode cX5_suitor 6 = .ok (.invokestatic 236, 3) := dk_184 0 236 (dk_at dksX5_suitor_0 6 rfl rfl)
theorem dX5_suitor_9 : decode cX5_suitor 9 = .ok (.ifCond .eq 15, 3) := dk_153 0 15 (dk_at dksX5_suitor_0 9 rfl rfl)
theorem dX5_suitor_12 : decode cX5_suitor 12 = .ok (.iload_n 2, 1) := dk_28 (dk_at dksX5_suitor_0 12 rfl rfl)
theorem dX5_suitor_13 : decode cX5_suitor 13 = .ok (.i2l, 1) := dk_133 (dk_at dksX5_suitor_0 13 rfl rfl)
theorem dX5_suitor_14 : decode cX5_suitor 14 = .ok (.lconst 0, 1) := dk_9 (dk_at dksX5_suitor_0 14 rfl rfl)
theorem dX5_suitor_15 : decode cX5_suitor 15 = .ok (.ldc2_w 239, 3) := dk_20 0 239 (dk_at dksX5_suitor_0 15 rfl rfl)
theorem dX5_suitor_18 : decode cX5_suitor 18 = .ok (.invokestatic 195, 3) := dk_184 0 195 (dk_at dksX5_suitor_0 18 rfl rfl)
theorem dX5_suitor_21 : decode cX5_suitor 21 = .ok (.ifCond .ne 9, 3) := dk_154 0 9 (dk_at dksX5_suitor_0 21 rfl rfl)
theorem dX5_suitor_24 : decode cX5_suitor 24 = .ok (.aload_n 0, 1) := dk_42 (dk_at dksX5_suitor_1 0 rfl rfl)
theorem dX5_suitor_25 : decode cX5_suitor 25 = .ok (.iconst (-1), 1) := dk_2 (dk_at dksX5_suitor_1 1 rfl rfl)
theorem dX5_suitor_26 : decode cX5_suitor 26 = .ok (.invokevirtual 184, 3) := dk_182 0 184 (dk_at dksX5_suitor_1 2 rfl rfl)
theorem dX5_suitor_29 : decode cX5_suitor 29 = .ok (.ireturn, 1) := dk_172 (dk_at dksX5_suitor_1 5 rfl rfl)
theorem dX5_suitor_30 : decode cX5_suitor 30 = .ok (.aload_n 0, 1) := dk_42 (dk_at dksX5_suitor_1 6 rfl rfl)
theorem dX5_suitor_31 : decode cX5_suitor 31 = .ok (.getfield 13, 3) := dk_180 0 13 (dk_at dksX5_suitor_1 7 rfl rfl)
theorem dX5_suitor_34 : decode cX5_suitor 34 = .ok (.iconst 1, 1) := dk_4 (dk_at dksX5_suitor_1 10 rfl rfl)
theorem dX5_suitor_35 : decode cX5_suitor 35 = .ok (.iaload, 1) := dk_46 (dk_at dksX5_suitor_1 11 rfl rfl)
theorem dX5_suitor_36 : decode cX5_suitor 36 = .ok (.istore_n 3, 1) := dk_62 (dk_at dksX5_suitor_1 12 rfl rfl)
theorem dX5_suitor_37 : decode cX5_suitor 37 = .ok (.iload_n 3, 1) := dk_29 (dk_at dksX5_suitor_1 13 rfl rfl)
theorem dX5_suitor_38 : decode cX5_suitor 38 = .ok (.bipush 6, 2) := dk_16 6 (dk_at dksX5_suitor_1 14 rfl rfl)
theorem dX5_suitor_40 : decode cX5_suitor 40 = .ok (.if_icmp .ne 10, 3) := dk_160 0 10 (dk_at dksX5_suitor_1 16 rfl rfl)
theorem dX5_suitor_43 : decode cX5_suitor 43 = .ok (.aload_n 0, 1) := dk_42 (dk_at dksX5_suitor_1 19 rfl rfl)
theorem dX5_suitor_44 : decode cX5_suitor 44 = .ok (.bipush (-5), 2) := dk_16 251 (dk_at dksX5_suitor_1 20 rfl rfl)
theorem dX5_suitor_46 : decode cX5_suitor 46 = .ok (.invokevirtual 184, 3) := dk_182 0 184 (dk_at dksX5_suitor_2 0 rfl rfl)
theorem dX5_suitor_49 : decode cX5_suitor 49 = .ok (.ireturn, 1) := dk_172 (dk_at dksX5_suitor_2 3 rfl rfl)
theorem dX5_suitor_50 : decode cX5_suitor 50 = .ok (.aload_n 0, 1) := dk_42 (dk_at dksX5_suitor_2 4 rfl rfl)
theorem dX5_suitor_51 : decode cX5_suitor 51 = .ok (.getfield 13, 3) := dk_180 0 13 (dk_at dksX5_suitor_2 5 rfl rfl)
theorem dX5_suitor_54 : decode cX5_suitor 54 = .ok (.bipush 80, 2) := dk_16 80 (dk_at dksX5_suitor_2 8 rfl rfl)
theorem dX5_suitor_56 : decode cX5_suitor 56 = .ok (.iload_n 3, 1) := dk_29 (dk_at dksX5_suitor_2 10 rfl rfl)
theorem dX5_suitor_57 : decode cX5_suitor 57 = .ok (.iadd, 1) := dk_96 (dk_at dksX5_suitor_2 11 rfl rfl)
theorem dX5_suitor_58 : decode cX5_suitor 58 = .ok (.iload_n 1, 1) := dk_27 (dk_at dksX5_suitor_2 12 rfl rfl)
theorem dX5_suitor_59 : decode cX5_suitor 59 = .ok (.iastore, 1) := dk_79 (dk_at dksX5_suitor_2 13 rfl rfl)
theorem dX5_suitor_60 : decode cX5_suitor 60 = .ok (.aload_n 0, 1) := dk_42 (dk_at dksX5_suitor_2 14 rfl rfl)
theorem dX5_suitor_61 : decode cX5_suitor 61 = .ok (.getfield 13, 3) := dk_180 0 13 (dk_at dksX5_suitor_2 15 rfl rfl)
theorem dX5_suitor_64 : decode cX5_suitor 64 = .ok (.bipush 86, 2) := dk_16 86 (dk_at dksX5_suitor_2 18 rfl rfl)
theorem dX5_suitor_66 : decode cX5_suitor 66 = .ok (.iload_n 3, 1) := dk_29 (dk_at dksX5_suitor_2 20 rfl rfl)
theorem dX5_suitor_67 : decode cX5_suitor 67 = .ok (.iadd, 1) := dk_96 (dk_at dksX5_suitor_2 21 rfl rfl)
theorem dX5_suitor_68 : decode cX5_suitor 68 = .ok (.iload_n 2, 1) := dk_28 (dk_at dksX5_suitor_2 22 rfl rfl)
theorem dX5_suitor_69 : decode cX5_suitor 69 = .ok (.iastore, 1) := dk_79 (dk_at dksX5_suitor_2 23 rfl rfl)
theorem dX5_suitor_70 : decode cX5_suitor 70 = .ok (.aload_n 0, 1) := dk_42 (dk_at dksX5_suitor_3 0 rfl rfl)
theorem dX5_suitor_71 : decode cX5_suitor 71 = .ok (.getfield 13, 3) := dk_180 0 13 (dk_at dksX5_suitor_3 1 rfl rfl)
theorem dX5_suitor_74 : decode cX5_suitor 74 = .ok (.iconst 1, 1) := dk_4 (dk_at dksX5_suitor_3 4 rfl rfl)
theorem dX5_suitor_75 : decode cX5_suitor 75 = .ok (.dup2, 1) := dk_92 (dk_at dksX5_suitor_3 5 rfl rfl)
theorem dX5_suitor_76 : decode cX5_suitor 76 = .ok (.iaload, 1) := dk_46 (dk_at dksX5_suitor_3 6 rfl rfl)
theorem dX5_suitor_77 : decode cX5_suitor 77 = .ok (.iconst 1, 1) := dk_4 (dk_at dksX5_suitor_3 7 rfl rfl)
theorem dX5_suitor_78 : decode cX5_suitor 78 = .ok (.iadd, 1) := dk_96 (dk_at dksX5_suitor_3 8 rfl rfl)
theorem dX5_suitor_79 : decode cX5_suitor 79 = .ok (.iastore, 1) := dk_79 (dk_at dksX5_suitor_3 9 rfl rfl)
theorem dX5_suitor_80 : decode cX5_suitor 80 = .ok (.aload_n 0, 1) := dk_42 (dk_at dksX5_suitor_3 10 rfl rfl)
theorem dX5_suitor_81 : decode cX5_suitor 81 = .ok (.iload_n 3, 1) := dk_29 (dk_at dksX5_suitor_3 11 rfl rfl)
theorem dX5_suitor_82 : decode cX5_suitor 82 = .ok (.invokevirtual 199, 3) := dk_182 0 199 (dk_at dksX5_suitor_3 12 rfl rfl)
theorem dX5_suitor_85 : decode cX5_suitor 85 = .ok (.ireturn, 1) := dk_172 (dk_at dksX5_suitor_3 15 rfl rfl)
abbrev cX5_isTooth : ByteArray := prog_22_method_19_code
def yX5_isTooth : MethodName := ⟨RX5, "isTooth", "(I)Z"⟩
def dkwX5_isTooth_0 : List UInt8 := [26, 133, 9, 20, 0, 202, 184, 0, 195, 172]
abbrev dktX5_isTooth_0 : List UInt8 := dkwX5_isTooth_0 ++ []
theorem dksX5_isTooth_0 : cX5_isTooth.data.toList.drop 0 = dktX5_isTooth_0 := by decide +kernel
theorem dX5_isTooth_0 : decode cX5_isTooth 0 = .ok (.iload_n 0, 1) := dk_26 (dk_at dksX5_isTooth_0 0 rfl rfl)
theorem dX5_isTooth_1 : decode cX5_isTooth 1 = .ok (.i2l, 1) := dk_133 (dk_at dksX5_isTooth_0 1 rfl rfl)
theorem dX5_isTooth_2 : decode cX5_isTooth 2 = .ok (.lconst 0, 1) := dk_9 (dk_at dksX5_isTooth_0 2 rfl rfl)
theorem dX5_isTooth_3 : decode cX5_isTooth 3 = .ok (.ldc2_w 202, 3) := dk_20 0 202 (dk_at dksX5_isTooth_0 3 rfl rfl)
theorem dX5_isTooth_6 : decode cX5_isTooth 6 = .ok (.invokestatic 195, 3) := dk_184 0 195 (dk_at dksX5_isTooth_0 6 rfl rfl)
theorem dX5_isTooth_9 : decode cX5_isTooth 9 = .ok (.ireturn, 1) := dk_172 (dk_at dksX5_isTooth_0 9 rfl rfl)
abbrev cX5_at : ByteArray := prog_22_method_29_code
def yX5_at : MethodName := ⟨RX5, "at", "(II)I"⟩
def dkwX5_at_3 : List UInt8 := [182, 0, 244, 172, 2, 172]
abbrev dktX5_at_3 : List UInt8 := dkwX5_at_3 ++ []
def dkwX5_at_2 : List UInt8 := [42, 180, 0, 13, 16, 80, 27, 96, 46, 172, 42, 180, 0, 13, 16, 86, 27, 96, 46, 172, 42, 27]
abbrev dktX5_at_2 : List UInt8 := dkwX5_at_2 ++ dktX5_at_3
def dkwX5_at_1 : List UInt8 := [170, 0, 0, 0, 0, 0, 0, 54, 0, 0, 0, 0, 0, 0, 0, 2, 0, 0, 0, 28, 0, 0, 0, 38, 0, 0, 0, 48]
abbrev dktX5_at_1 : List UInt8 := dkwX5_at_1 ++ dktX5_at_2
def dkwX5_at_0 : List UInt8 := [42, 3, 181, 0, 175, 42, 27, 182, 0, 241, 154, 0, 5, 2, 172, 28]
abbrev dktX5_at_0 : List UInt8 := dkwX5_at_0 ++ dktX5_at_1
theorem dksX5_at_0 : cX5_at.data.toList.drop 0 = dktX5_at_0 := by decide +kernel
theorem dksX5_at_1 : cX5_at.data.toList.drop 16 = dktX5_at_1 := dk_seg dksX5_at_0 16 rfl rfl
theorem dksX5_at_2 : cX5_at.data.toList.drop 44 = dktX5_at_2 := dk_seg dksX5_at_1 28 rfl rfl
theorem dksX5_at_3 : cX5_at.data.toList.drop 66 = dktX5_at_3 := dk_seg dksX5_at_2 22 rfl rfl
theorem dX5_at_0 : decode cX5_at 0 = .ok (.aload_n 0, 1) := dk_42 (dk_at dksX5_at_0 0 rfl rfl)
theorem dX5_at_1 : decode cX5_at 1 = .ok (.iconst 0, 1) := dk_3 (dk_at dksX5_at_0 1 rfl rfl)
theorem dX5_at_2 : decode cX5_at 2 = .ok (.putfield 175, 3) := dk_181 0 175 (dk_at dksX5_at_0 2 rfl rfl)
theorem dX5_at_5 : decode cX5_at 5 = .ok (.aload_n 0, 1) := dk_42 (dk_at dksX5_at_0 5 rfl rfl)
theorem dX5_at_6 : decode cX5_at 6 = .ok (.iload_n 1, 1) := dk_27 (dk_at dksX5_at_0 6 rfl rfl)
theorem dX5_at_7 : decode cX5_at 7 = .ok (.invokevirtual 241, 3) := dk_182 0 241 (dk_at dksX5_at_0 7 rfl rfl)
theorem dX5_at_10 : decode cX5_at 10 = .ok (.ifCond .ne 5, 3) := dk_154 0 5 (dk_at dksX5_at_0 10 rfl rfl)
theorem dX5_at_13 : decode cX5_at 13 = .ok (.iconst (-1), 1) := dk_2 (dk_at dksX5_at_0 13 rfl rfl)
theorem dX5_at_14 : decode cX5_at 14 = .ok (.ireturn, 1) := dk_172 (dk_at dksX5_at_0 14 rfl rfl)
theorem dX5_at_15 : decode cX5_at 15 = .ok (.iload_n 2, 1) := dk_28 (dk_at dksX5_at_0 15 rfl rfl)
theorem dX5_at_16 : decode cX5_at 16 = .ok (.tableswitch 54 0 2 #[28, 38, 48], 28) := by decide +kernel
theorem dX5_at_44 : decode cX5_at 44 = .ok (.aload_n 0, 1) := dk_42 (dk_at dksX5_at_2 0 rfl rfl)
theorem dX5_at_45 : decode cX5_at 45 = .ok (.getfield 13, 3) := dk_180 0 13 (dk_at dksX5_at_2 1 rfl rfl)
theorem dX5_at_48 : decode cX5_at 48 = .ok (.bipush 80, 2) := dk_16 80 (dk_at dksX5_at_2 4 rfl rfl)
theorem dX5_at_50 : decode cX5_at 50 = .ok (.iload_n 1, 1) := dk_27 (dk_at dksX5_at_2 6 rfl rfl)
theorem dX5_at_51 : decode cX5_at 51 = .ok (.iadd, 1) := dk_96 (dk_at dksX5_at_2 7 rfl rfl)
theorem dX5_at_52 : decode cX5_at 52 = .ok (.iaload, 1) := dk_46 (dk_at dksX5_at_2 8 rfl rfl)
theorem dX5_at_53 : decode cX5_at 53 = .ok (.ireturn, 1) := dk_172 (dk_at dksX5_at_2 9 rfl rfl)
theorem dX5_at_54 : decode cX5_at 54 = .ok (.aload_n 0, 1) := dk_42 (dk_at dksX5_at_2 10 rfl rfl)
theorem dX5_at_55 : decode cX5_at 55 = .ok (.getfield 13, 3) := dk_180 0 13 (dk_at dksX5_at_2 11 rfl rfl)
theorem dX5_at_58 : decode cX5_at 58 = .ok (.bipush 86, 2) := dk_16 86 (dk_at dksX5_at_2 14 rfl rfl)
theorem dX5_at_60 : decode cX5_at 60 = .ok (.iload_n 1, 1) := dk_27 (dk_at dksX5_at_2 16 rfl rfl)
theorem dX5_at_61 : decode cX5_at 61 = .ok (.iadd, 1) := dk_96 (dk_at dksX5_at_2 17 rfl rfl)
theorem dX5_at_62 : decode cX5_at 62 = .ok (.iaload, 1) := dk_46 (dk_at dksX5_at_2 18 rfl rfl)
theorem dX5_at_63 : decode cX5_at 63 = .ok (.ireturn, 1) := dk_172 (dk_at dksX5_at_2 19 rfl rfl)
theorem dX5_at_64 : decode cX5_at 64 = .ok (.aload_n 0, 1) := dk_42 (dk_at dksX5_at_2 20 rfl rfl)
theorem dX5_at_65 : decode cX5_at 65 = .ok (.iload_n 1, 1) := dk_27 (dk_at dksX5_at_2 21 rfl rfl)
theorem dX5_at_66 : decode cX5_at 66 = .ok (.invokevirtual 244, 3) := dk_182 0 244 (dk_at dksX5_at_3 0 rfl rfl)
theorem dX5_at_69 : decode cX5_at 69 = .ok (.ireturn, 1) := dk_172 (dk_at dksX5_at_3 3 rfl rfl)
theorem dX5_at_70 : decode cX5_at 70 = .ok (.iconst (-1), 1) := dk_2 (dk_at dksX5_at_3 4 rfl rfl)
theorem dX5_at_71 : decode cX5_at 71 = .ok (.ireturn, 1) := dk_172 (dk_at dksX5_at_3 5 rfl rfl)
abbrev cX5_isSuitor : ByteArray := prog_22_method_17_code
def yX5_isSuitor : MethodName := ⟨RX5, "isSuitor", "(I)Z"⟩
def dkwX5_isSuitor_0 : List UInt8 := [27, 133, 9, 42, 180, 0, 13, 4, 46, 133, 10, 101, 184, 0, 195, 172]
abbrev dktX5_isSuitor_0 : List UInt8 := dkwX5_isSuitor_0 ++ []
theorem dksX5_isSuitor_0 : cX5_isSuitor.data.toList.drop 0 = dktX5_isSuitor_0 := by decide +kernel
theorem dX5_isSuitor_0 : decode cX5_isSuitor 0 = .ok (.iload_n 1, 1) := dk_27 (dk_at dksX5_isSuitor_0 0 rfl rfl)
theorem dX5_isSuitor_1 : decode cX5_isSuitor 1 = .ok (.i2l, 1) := dk_133 (dk_at dksX5_isSuitor_0 1 rfl rfl)
theorem dX5_isSuitor_2 : decode cX5_isSuitor 2 = .ok (.lconst 0, 1) := dk_9 (dk_at dksX5_isSuitor_0 2 rfl rfl)
theorem dX5_isSuitor_3 : decode cX5_isSuitor 3 = .ok (.aload_n 0, 1) := dk_42 (dk_at dksX5_isSuitor_0 3 rfl rfl)
theorem dX5_isSuitor_4 : decode cX5_isSuitor 4 = .ok (.getfield 13, 3) := dk_180 0 13 (dk_at dksX5_isSuitor_0 4 rfl rfl)
theorem dX5_isSuitor_7 : decode cX5_isSuitor 7 = .ok (.iconst 1, 1) := dk_4 (dk_at dksX5_isSuitor_0 7 rfl rfl)
theorem dX5_isSuitor_8 : decode cX5_isSuitor 8 = .ok (.iaload, 1) := dk_46 (dk_at dksX5_isSuitor_0 8 rfl rfl)
theorem dX5_isSuitor_9 : decode cX5_isSuitor 9 = .ok (.i2l, 1) := dk_133 (dk_at dksX5_isSuitor_0 9 rfl rfl)
theorem dX5_isSuitor_10 : decode cX5_isSuitor 10 = .ok (.lconst 1, 1) := dk_10 (dk_at dksX5_isSuitor_0 10 rfl rfl)
theorem dX5_isSuitor_11 : decode cX5_isSuitor 11 = .ok (.lsub, 1) := dk_101 (dk_at dksX5_isSuitor_0 11 rfl rfl)
theorem dX5_isSuitor_12 : decode cX5_isSuitor 12 = .ok (.invokestatic 195, 3) := dk_184 0 195 (dk_at dksX5_isSuitor_0 12 rfl rfl)
theorem dX5_isSuitor_15 : decode cX5_isSuitor 15 = .ok (.ireturn, 1) := dk_172 (dk_at dksX5_isSuitor_0 15 rfl rfl)
abbrev cX5_boxOf : ByteArray := prog_22_method_23_code
def yX5_boxOf : MethodName := ⟨RX5, "boxOf", "(I)I"⟩
def dkwX5_boxOf_1 : List UInt8 := [160, 0, 7, 29, 167, 0, 4, 28, 61, 132, 3, 1, 167, 255, 224, 28, 172]
abbrev dktX5_boxOf_1 : List UInt8 := dkwX5_boxOf_1 ++ []
def dkwX5_boxOf_0 : List UInt8 := [2, 61, 3, 62, 29, 42, 180, 0, 13, 3, 46, 162, 0, 28, 42, 180, 0, 13, 16, 68, 29, 96, 46, 27]
abbrev dktX5_boxOf_0 : List UInt8 := dkwX5_boxOf_0 ++ dktX5_boxOf_1
theorem dksX5_boxOf_0 : cX5_boxOf.data.toList.drop 0 = dktX5_boxOf_0 := by decide +kernel
theorem dksX5_boxOf_1 : cX5_boxOf.data.toList.drop 24 = dktX5_boxOf_1 := dk_seg dksX5_boxOf_0 24 rfl rfl
theorem dX5_boxOf_0 : decode cX5_boxOf 0 = .ok (.iconst (-1), 1) := dk_2 (dk_at dksX5_boxOf_0 0 rfl rfl)
theorem dX5_boxOf_1 : decode cX5_boxOf 1 = .ok (.istore_n 2, 1) := dk_61 (dk_at dksX5_boxOf_0 1 rfl rfl)
theorem dX5_boxOf_2 : decode cX5_boxOf 2 = .ok (.iconst 0, 1) := dk_3 (dk_at dksX5_boxOf_0 2 rfl rfl)
theorem dX5_boxOf_3 : decode cX5_boxOf 3 = .ok (.istore_n 3, 1) := dk_62 (dk_at dksX5_boxOf_0 3 rfl rfl)
theorem dX5_boxOf_4 : decode cX5_boxOf 4 = .ok (.iload_n 3, 1) := dk_29 (dk_at dksX5_boxOf_0 4 rfl rfl)
theorem dX5_boxOf_5 : decode cX5_boxOf 5 = .ok (.aload_n 0, 1) := dk_42 (dk_at dksX5_boxOf_0 5 rfl rfl)
theorem dX5_boxOf_6 : decode cX5_boxOf 6 = .ok (.getfield 13, 3) := dk_180 0 13 (dk_at dksX5_boxOf_0 6 rfl rfl)
theorem dX5_boxOf_9 : decode cX5_boxOf 9 = .ok (.iconst 0, 1) := dk_3 (dk_at dksX5_boxOf_0 9 rfl rfl)
theorem dX5_boxOf_10 : decode cX5_boxOf 10 = .ok (.iaload, 1) := dk_46 (dk_at dksX5_boxOf_0 10 rfl rfl)
theorem dX5_boxOf_11 : decode cX5_boxOf 11 = .ok (.if_icmp .ge 28, 3) := dk_162 0 28 (dk_at dksX5_boxOf_0 11 rfl rfl)
theorem dX5_boxOf_14 : decode cX5_boxOf 14 = .ok (.aload_n 0, 1) := dk_42 (dk_at dksX5_boxOf_0 14 rfl rfl)
theorem dX5_boxOf_15 : decode cX5_boxOf 15 = .ok (.getfield 13, 3) := dk_180 0 13 (dk_at dksX5_boxOf_0 15 rfl rfl)
theorem dX5_boxOf_18 : decode cX5_boxOf 18 = .ok (.bipush 68, 2) := dk_16 68 (dk_at dksX5_boxOf_0 18 rfl rfl)
theorem dX5_boxOf_20 : decode cX5_boxOf 20 = .ok (.iload_n 3, 1) := dk_29 (dk_at dksX5_boxOf_0 20 rfl rfl)
theorem dX5_boxOf_21 : decode cX5_boxOf 21 = .ok (.iadd, 1) := dk_96 (dk_at dksX5_boxOf_0 21 rfl rfl)
theorem dX5_boxOf_22 : decode cX5_boxOf 22 = .ok (.iaload, 1) := dk_46 (dk_at dksX5_boxOf_0 22 rfl rfl)
theorem dX5_boxOf_23 : decode cX5_boxOf 23 = .ok (.iload_n 1, 1) := dk_27 (dk_at dksX5_boxOf_0 23 rfl rfl)
theorem dX5_boxOf_24 : decode cX5_boxOf 24 = .ok (.if_icmp .ne 7, 3) := dk_160 0 7 (dk_at dksX5_boxOf_1 0 rfl rfl)
theorem dX5_boxOf_27 : decode cX5_boxOf 27 = .ok (.iload_n 3, 1) := dk_29 (dk_at dksX5_boxOf_1 3 rfl rfl)
theorem dX5_boxOf_28 : decode cX5_boxOf 28 = .ok (.goto 4, 3) := dk_167 0 4 (dk_at dksX5_boxOf_1 4 rfl rfl)
theorem dX5_boxOf_31 : decode cX5_boxOf 31 = .ok (.iload_n 2, 1) := dk_28 (dk_at dksX5_boxOf_1 7 rfl rfl)
theorem dX5_boxOf_32 : decode cX5_boxOf 32 = .ok (.istore_n 2, 1) := dk_61 (dk_at dksX5_boxOf_1 8 rfl rfl)
theorem dX5_boxOf_33 : decode cX5_boxOf 33 = .ok (.iinc 3 1, 3) := dk_132 3 1 (dk_at dksX5_boxOf_1 9 rfl rfl)
theorem dX5_boxOf_36 : decode cX5_boxOf 36 = .ok (.goto (-32), 3) := dk_167 255 224 (dk_at dksX5_boxOf_1 12 rfl rfl)
theorem dX5_boxOf_39 : decode cX5_boxOf 39 = .ok (.iload_n 2, 1) := dk_28 (dk_at dksX5_boxOf_1 15 rfl rfl)
theorem dX5_boxOf_40 : decode cX5_boxOf 40 = .ok (.ireturn, 1) := dk_172 (dk_at dksX5_boxOf_1 16 rfl rfl)
abbrev cX5_asks : ByteArray := prog_22_method_30_code
def yX5_asks : MethodName := ⟨RX5, "asks", "(III)I"⟩
def dkwX5_asks_3 : List UInt8 := [167, 0, 4, 3, 172, 2, 172]
abbrev dktX5_asks_3 : List UInt8 := dkwX5_asks_3 ++ []
def dkwX5_asks_2 : List UInt8 := [42, 27, 28, 182, 0, 247, 172, 42, 27, 28, 182, 0, 250, 172, 42, 27, 28, 182, 0, 253, 153, 0, 7, 4]
abbrev dktX5_asks_2 : List UInt8 := dkwX5_asks_2 ++ dktX5_asks_3
def dkwX5_asks_1 : List UInt8 := [170, 0, 0, 0, 0, 0, 0, 57, 0, 0, 0, 0, 0, 0, 0, 2, 0, 0, 0, 28, 0, 0, 0, 35, 0, 0, 0, 42]
abbrev dktX5_asks_1 : List UInt8 := dkwX5_asks_1 ++ dktX5_asks_2
def dkwX5_asks_0 : List UInt8 := [42, 3, 181, 0, 175, 42, 27, 182, 0, 213, 153, 0, 11, 42, 28, 182, 0, 241, 154, 0, 5, 2, 172, 29]
abbrev dktX5_asks_0 : List UInt8 := dkwX5_asks_0 ++ dktX5_asks_1
theorem dksX5_asks_0 : cX5_asks.data.toList.drop 0 = dktX5_asks_0 := by decide +kernel
theorem dksX5_asks_1 : cX5_asks.data.toList.drop 24 = dktX5_asks_1 := dk_seg dksX5_asks_0 24 rfl rfl
theorem dksX5_asks_2 : cX5_asks.data.toList.drop 52 = dktX5_asks_2 := dk_seg dksX5_asks_1 28 rfl rfl
theorem dksX5_asks_3 : cX5_asks.data.toList.drop 76 = dktX5_asks_3 := dk_seg dksX5_asks_2 24 rfl rfl
theorem dX5_asks_0 : decode cX5_asks 0 = .ok (.aload_n 0, 1) := dk_42 (dk_at dksX5_asks_0 0 rfl rfl)
theorem dX5_asks_1 : decode cX5_asks 1 = .ok (.iconst 0, 1) := dk_3 (dk_at dksX5_asks_0 1 rfl rfl)
theorem dX5_asks_2 : decode cX5_asks 2 = .ok (.putfield 175, 3) := dk_181 0 175 (dk_at dksX5_asks_0 2 rfl rfl)
theorem dX5_asks_5 : decode cX5_asks 5 = .ok (.aload_n 0, 1) := dk_42 (dk_at dksX5_asks_0 5 rfl rfl)
theorem dX5_asks_6 : decode cX5_asks 6 = .ok (.iload_n 1, 1) := dk_27 (dk_at dksX5_asks_0 6 rfl rfl)
theorem dX5_asks_7 : decode cX5_asks 7 = .ok (.invokevirtual 213, 3) := dk_182 0 213 (dk_at dksX5_asks_0 7 rfl rfl)
theorem dX5_asks_10 : decode cX5_asks 10 = .ok (.ifCond .eq 11, 3) := dk_153 0 11 (dk_at dksX5_asks_0 10 rfl rfl)
theorem dX5_asks_13 : decode cX5_asks 13 = .ok (.aload_n 0, 1) := dk_42 (dk_at dksX5_asks_0 13 rfl rfl)
theorem dX5_asks_14 : decode cX5_asks 14 = .ok (.iload_n 2, 1) := dk_28 (dk_at dksX5_asks_0 14 rfl rfl)
theorem dX5_asks_15 : decode cX5_asks 15 = .ok (.invokevirtual 241, 3) := dk_182 0 241 (dk_at dksX5_asks_0 15 rfl rfl)
theorem dX5_asks_18 : decode cX5_asks 18 = .ok (.ifCond .ne 5, 3) := dk_154 0 5 (dk_at dksX5_asks_0 18 rfl rfl)
theorem dX5_asks_21 : decode cX5_asks 21 = .ok (.iconst (-1), 1) := dk_2 (dk_at dksX5_asks_0 21 rfl rfl)
theorem dX5_asks_22 : decode cX5_asks 22 = .ok (.ireturn, 1) := dk_172 (dk_at dksX5_asks_0 22 rfl rfl)
theorem dX5_asks_23 : decode cX5_asks 23 = .ok (.iload_n 3, 1) := dk_29 (dk_at dksX5_asks_0 23 rfl rfl)
theorem dX5_asks_24 : decode cX5_asks 24 = .ok (.tableswitch 57 0 2 #[28, 35, 42], 28) := by decide +kernel
theorem dX5_asks_52 : decode cX5_asks 52 = .ok (.aload_n 0, 1) := dk_42 (dk_at dksX5_asks_2 0 rfl rfl)
theorem dX5_asks_53 : decode cX5_asks 53 = .ok (.iload_n 1, 1) := dk_27 (dk_at dksX5_asks_2 1 rfl rfl)
theorem dX5_asks_54 : decode cX5_asks 54 = .ok (.iload_n 2, 1) := dk_28 (dk_at dksX5_asks_2 2 rfl rfl)
theorem dX5_asks_55 : decode cX5_asks 55 = .ok (.invokevirtual 247, 3) := dk_182 0 247 (dk_at dksX5_asks_2 3 rfl rfl)
theorem dX5_asks_58 : decode cX5_asks 58 = .ok (.ireturn, 1) := dk_172 (dk_at dksX5_asks_2 6 rfl rfl)
theorem dX5_asks_59 : decode cX5_asks 59 = .ok (.aload_n 0, 1) := dk_42 (dk_at dksX5_asks_2 7 rfl rfl)
theorem dX5_asks_60 : decode cX5_asks 60 = .ok (.iload_n 1, 1) := dk_27 (dk_at dksX5_asks_2 8 rfl rfl)
theorem dX5_asks_61 : decode cX5_asks 61 = .ok (.iload_n 2, 1) := dk_28 (dk_at dksX5_asks_2 9 rfl rfl)
theorem dX5_asks_62 : decode cX5_asks 62 = .ok (.invokevirtual 250, 3) := dk_182 0 250 (dk_at dksX5_asks_2 10 rfl rfl)
theorem dX5_asks_65 : decode cX5_asks 65 = .ok (.ireturn, 1) := dk_172 (dk_at dksX5_asks_2 13 rfl rfl)
theorem dX5_asks_66 : decode cX5_asks 66 = .ok (.aload_n 0, 1) := dk_42 (dk_at dksX5_asks_2 14 rfl rfl)
theorem dX5_asks_67 : decode cX5_asks 67 = .ok (.iload_n 1, 1) := dk_27 (dk_at dksX5_asks_2 15 rfl rfl)
theorem dX5_asks_68 : decode cX5_asks 68 = .ok (.iload_n 2, 1) := dk_28 (dk_at dksX5_asks_2 16 rfl rfl)
theorem dX5_asks_69 : decode cX5_asks 69 = .ok (.invokevirtual 253, 3) := dk_182 0 253 (dk_at dksX5_asks_2 17 rfl rfl)
theorem dX5_asks_72 : decode cX5_asks 72 = .ok (.ifCond .eq 7, 3) := dk_153 0 7 (dk_at dksX5_asks_2 20 rfl rfl)
theorem dX5_asks_75 : decode cX5_asks 75 = .ok (.iconst 1, 1) := dk_4 (dk_at dksX5_asks_2 23 rfl rfl)
theorem dX5_asks_76 : decode cX5_asks 76 = .ok (.goto 4, 3) := dk_167 0 4 (dk_at dksX5_asks_3 0 rfl rfl)
theorem dX5_asks_79 : decode cX5_asks 79 = .ok (.iconst 0, 1) := dk_3 (dk_at dksX5_asks_3 3 rfl rfl)
theorem dX5_asks_80 : decode cX5_asks 80 = .ok (.ireturn, 1) := dk_172 (dk_at dksX5_asks_3 4 rfl rfl)
theorem dX5_asks_81 : decode cX5_asks 81 = .ok (.iconst (-1), 1) := dk_2 (dk_at dksX5_asks_3 5 rfl rfl)
theorem dX5_asks_82 : decode cX5_asks 82 = .ok (.ireturn, 1) := dk_172 (dk_at dksX5_asks_3 6 rfl rfl)
abbrev cX5_likesOf : ByteArray := prog_22_method_73_code
def yX5_likesOf : MethodName := ⟨RX5, "likesOf", "(II)I"⟩
def dkwX5_likesOf_0 : List UInt8 := [42, 4, 27, 28, 42, 27, 28, 182, 0, 247, 133, 182, 1, 194, 3, 16, 99, 184, 1, 198, 172]
abbrev dktX5_likesOf_0 : List UInt8 := dkwX5_likesOf_0 ++ []
theorem dksX5_likesOf_0 : cX5_likesOf.data.toList.drop 0 = dktX5_likesOf_0 := by decide +kernel
theorem dX5_likesOf_0 : decode cX5_likesOf 0 = .ok (.aload_n 0, 1) := dk_42 (dk_at dksX5_likesOf_0 0 rfl rfl)
theorem dX5_likesOf_1 : decode cX5_likesOf 1 = .ok (.iconst 1, 1) := dk_4 (dk_at dksX5_likesOf_0 1 rfl rfl)
theorem dX5_likesOf_2 : decode cX5_likesOf 2 = .ok (.iload_n 1, 1) := dk_27 (dk_at dksX5_likesOf_0 2 rfl rfl)
theorem dX5_likesOf_3 : decode cX5_likesOf 3 = .ok (.iload_n 2, 1) := dk_28 (dk_at dksX5_likesOf_0 3 rfl rfl)
theorem dX5_likesOf_4 : decode cX5_likesOf 4 = .ok (.aload_n 0, 1) := dk_42 (dk_at dksX5_likesOf_0 4 rfl rfl)
theorem dX5_likesOf_5 : decode cX5_likesOf 5 = .ok (.iload_n 1, 1) := dk_27 (dk_at dksX5_likesOf_0 5 rfl rfl)
theorem dX5_likesOf_6 : decode cX5_likesOf 6 = .ok (.iload_n 2, 1) := dk_28 (dk_at dksX5_likesOf_0 6 rfl rfl)
theorem dX5_likesOf_7 : decode cX5_likesOf 7 = .ok (.invokevirtual 247, 3) := dk_182 0 247 (dk_at dksX5_likesOf_0 7 rfl rfl)
theorem dX5_likesOf_10 : decode cX5_likesOf 10 = .ok (.i2l, 1) := dk_133 (dk_at dksX5_likesOf_0 10 rfl rfl)
theorem dX5_likesOf_11 : decode cX5_likesOf 11 = .ok (.invokevirtual 450, 3) := dk_182 1 194 (dk_at dksX5_likesOf_0 11 rfl rfl)
theorem dX5_likesOf_14 : decode cX5_likesOf 14 = .ok (.iconst 0, 1) := dk_3 (dk_at dksX5_likesOf_0 14 rfl rfl)
theorem dX5_likesOf_15 : decode cX5_likesOf 15 = .ok (.bipush 99, 2) := dk_16 99 (dk_at dksX5_likesOf_0 15 rfl rfl)
theorem dX5_likesOf_17 : decode cX5_likesOf 17 = .ok (.invokestatic 454, 3) := dk_184 1 198 (dk_at dksX5_likesOf_0 17 rfl rfl)
theorem dX5_likesOf_20 : decode cX5_likesOf 20 = .ok (.ireturn, 1) := dk_172 (dk_at dksX5_likesOf_0 20 rfl rfl)
abbrev cX5_isBarred : ByteArray := prog_22_method_74_code
def yX5_isBarred : MethodName := ⟨RX5, "isBarred", "(II)Z"⟩
def dkwX5_isBarred_0 : List UInt8 := [42, 6, 27, 28, 9, 182, 1, 194, 10, 148, 154, 0, 7, 4, 167, 0, 4, 3, 172]
abbrev dktX5_isBarred_0 : List UInt8 := dkwX5_isBarred_0 ++ []
theorem dksX5_isBarred_0 : cX5_isBarred.data.toList.drop 0 = dktX5_isBarred_0 := by decide +kernel
theorem dX5_isBarred_0 : decode cX5_isBarred 0 = .ok (.aload_n 0, 1) := dk_42 (dk_at dksX5_isBarred_0 0 rfl rfl)
theorem dX5_isBarred_1 : decode cX5_isBarred 1 = .ok (.iconst 3, 1) := dk_6 (dk_at dksX5_isBarred_0 1 rfl rfl)
theorem dX5_isBarred_2 : decode cX5_isBarred 2 = .ok (.iload_n 1, 1) := dk_27 (dk_at dksX5_isBarred_0 2 rfl rfl)
theorem dX5_isBarred_3 : decode cX5_isBarred 3 = .ok (.iload_n 2, 1) := dk_28 (dk_at dksX5_isBarred_0 3 rfl rfl)
theorem dX5_isBarred_4 : decode cX5_isBarred 4 = .ok (.lconst 0, 1) := dk_9 (dk_at dksX5_isBarred_0 4 rfl rfl)
theorem dX5_isBarred_5 : decode cX5_isBarred 5 = .ok (.invokevirtual 450, 3) := dk_182 1 194 (dk_at dksX5_isBarred_0 5 rfl rfl)
theorem dX5_isBarred_8 : decode cX5_isBarred 8 = .ok (.lconst 1, 1) := dk_10 (dk_at dksX5_isBarred_0 8 rfl rfl)
theorem dX5_isBarred_9 : decode cX5_isBarred 9 = .ok (.lcmp, 1) := dk_148 (dk_at dksX5_isBarred_0 9 rfl rfl)
theorem dX5_isBarred_10 : decode cX5_isBarred 10 = .ok (.ifCond .ne 7, 3) := dk_154 0 7 (dk_at dksX5_isBarred_0 10 rfl rfl)
theorem dX5_isBarred_13 : decode cX5_isBarred 13 = .ok (.iconst 1, 1) := dk_4 (dk_at dksX5_isBarred_0 13 rfl rfl)
theorem dX5_isBarred_14 : decode cX5_isBarred 14 = .ok (.goto 4, 3) := dk_167 0 4 (dk_at dksX5_isBarred_0 14 rfl rfl)
theorem dX5_isBarred_17 : decode cX5_isBarred 17 = .ok (.iconst 0, 1) := dk_3 (dk_at dksX5_isBarred_0 17 rfl rfl)
theorem dX5_isBarred_18 : decode cX5_isBarred 18 = .ok (.ireturn, 1) := dk_172 (dk_at dksX5_isBarred_0 18 rfl rfl)
abbrev cX5_terms : ByteArray := prog_22_method_31_code
def yX5_terms : MethodName := ⟨RX5, "terms", "(II)I"⟩
def dkwX5_terms_3 : List UInt8 := [172, 42, 3, 181, 0, 181, 42, 8, 27, 96, 28, 182, 0, 233, 172]
abbrev dktX5_terms_3 : List UInt8 := dkwX5_terms_3 ++ []
def dkwX5_terms_2 : List UInt8 := [20, 1, 5, 184, 0, 195, 153, 0, 7, 4, 167, 0, 4, 3, 62, 29, 154, 0, 9, 42, 2, 182, 0, 184]
abbrev dktX5_terms_2 : List UInt8 := dkwX5_terms_2 ++ dktX5_terms_3
def dkwX5_terms_1 : List UInt8 := [160, 0, 15, 28, 133, 9, 20, 1, 3, 184, 0, 195, 167, 0, 25, 27, 5, 160, 0, 19, 28, 133, 9]
abbrev dktX5_terms_1 : List UInt8 := dkwX5_terms_1 ++ dktX5_terms_2
def dkwX5_terms_0 : List UInt8 := [42, 3, 181, 0, 175, 27, 154, 0, 15, 28, 133, 9, 20, 1, 1, 184, 0, 195, 167, 0, 42, 27, 4]
abbrev dktX5_terms_0 : List UInt8 := dkwX5_terms_0 ++ dktX5_terms_1
theorem dksX5_terms_0 : cX5_terms.data.toList.drop 0 = dktX5_terms_0 := by decide +kernel
theorem dksX5_terms_1 : cX5_terms.data.toList.drop 23 = dktX5_terms_1 := dk_seg dksX5_terms_0 23 rfl rfl
theorem dksX5_terms_2 : cX5_terms.data.toList.drop 46 = dktX5_terms_2 := dk_seg dksX5_terms_1 23 rfl rfl
theorem dksX5_terms_3 : cX5_terms.data.toList.drop 70 = dktX5_terms_3 := dk_seg dksX5_terms_2 24 rfl rfl
theorem dX5_terms_0 : decode cX5_terms 0 = .ok (.aload_n 0, 1) := dk_42 (dk_at dksX5_terms_0 0 rfl rfl)
theorem dX5_terms_1 : decode cX5_terms 1 = .ok (.iconst 0, 1) := dk_3 (dk_at dksX5_terms_0 1 rfl rfl)
theorem dX5_terms_2 : decode cX5_terms 2 = .ok (.putfield 175, 3) := dk_181 0 175 (dk_at dksX5_terms_0 2 rfl rfl)
theorem dX5_terms_5 : decode cX5_terms 5 = .ok (.iload_n 1, 1) := dk_27 (dk_at dksX5_terms_0 5 rfl rfl)
theorem dX5_terms_6 : decode cX5_terms 6 = .ok (.ifCond .ne 15, 3) := dk_154 0 15 (dk_at dksX5_terms_0 6 rfl rfl)
theorem dX5_terms_9 : decode cX5_terms 9 = .ok (.iload_n 2, 1) := dk_28 (dk_at dksX5_terms_0 9 rfl rfl)
theorem dX5_terms_10 : decode cX5_terms 10 = .ok (.i2l, 1) := dk_133 (dk_at dksX5_terms_0 10 rfl rfl)
theorem dX5_terms_11 : decode cX5_terms 11 = .ok (.lconst 0, 1) := dk_9 (dk_at dksX5_terms_0 11 rfl rfl)
theorem dX5_terms_12 : decode cX5_terms 12 = .ok (.ldc2_w 257, 3) := dk_20 1 1 (dk_at dksX5_terms_0 12 rfl rfl)
theorem dX5_terms_15 : decode cX5_terms 15 = .ok (.invokestatic 195, 3) := dk_184 0 195 (dk_at dksX5_terms_0 15 rfl rfl)
theorem dX5_terms_18 : decode cX5_terms 18 = .ok (.goto 42, 3) := dk_167 0 42 (dk_at dksX5_terms_0 18 rfl rfl)
theorem dX5_terms_21 : decode cX5_terms 21 = .ok (.iload_n 1, 1) := dk_27 (dk_at dksX5_terms_0 21 rfl rfl)
theorem dX5_terms_22 : decode cX5_terms 22 = .ok (.iconst 1, 1) := dk_4 (dk_at dksX5_terms_0 22 rfl rfl)
theorem dX5_terms_23 : decode cX5_terms 23 = .ok (.if_icmp .ne 15, 3) := dk_160 0 15 (dk_at dksX5_terms_1 0 rfl rfl)
theorem dX5_terms_26 : decode cX5_terms 26 = .ok (.iload_n 2, 1) := dk_28 (dk_at dksX5_terms_1 3 rfl rfl)
theorem dX5_terms_27 : decode cX5_terms 27 = .ok (.i2l, 1) := dk_133 (dk_at dksX5_terms_1 4 rfl rfl)
theorem dX5_terms_28 : decode cX5_terms 28 = .ok (.lconst 0, 1) := dk_9 (dk_at dksX5_terms_1 5 rfl rfl)
theorem dX5_terms_29 : decode cX5_terms 29 = .ok (.ldc2_w 259, 3) := dk_20 1 3 (dk_at dksX5_terms_1 6 rfl rfl)
theorem dX5_terms_32 : decode cX5_terms 32 = .ok (.invokestatic 195, 3) := dk_184 0 195 (dk_at dksX5_terms_1 9 rfl rfl)
theorem dX5_terms_35 : decode cX5_terms 35 = .ok (.goto 25, 3) := dk_167 0 25 (dk_at dksX5_terms_1 12 rfl rfl)
theorem dX5_terms_38 : decode cX5_terms 38 = .ok (.iload_n 1, 1) := dk_27 (dk_at dksX5_terms_1 15 rfl rfl)
theorem dX5_terms_39 : decode cX5_terms 39 = .ok (.iconst 2, 1) := dk_5 (dk_at dksX5_terms_1 16 rfl rfl)
theorem dX5_terms_40 : decode cX5_terms 40 = .ok (.if_icmp .ne 19, 3) := dk_160 0 19 (dk_at dksX5_terms_1 17 rfl rfl)
theorem dX5_terms_43 : decode cX5_terms 43 = .ok (.iload_n 2, 1) := dk_28 (dk_at dksX5_terms_1 20 rfl rfl)
theorem dX5_terms_44 : decode cX5_terms 44 = .ok (.i2l, 1) := dk_133 (dk_at dksX5_terms_1 21 rfl rfl)
theorem dX5_terms_45 : decode cX5_terms 45 = .ok (.lconst 0, 1) := dk_9 (dk_at dksX5_terms_1 22 rfl rfl)
theorem dX5_terms_46 : decode cX5_terms 46 = .ok (.ldc2_w 261, 3) := dk_20 1 5 (dk_at dksX5_terms_2 0 rfl rfl)
theorem dX5_terms_49 : decode cX5_terms 49 = .ok (.invokestatic 195, 3) := dk_184 0 195 (dk_at dksX5_terms_2 3 rfl rfl)
theorem dX5_terms_52 : decode cX5_terms 52 = .ok (.ifCond .eq 7, 3) := dk_153 0 7 (dk_at dksX5_terms_2 6 rfl rfl)
theorem dX5_terms_55 : decode cX5_terms 55 = .ok (.iconst 1, 1) := dk_4 (dk_at dksX5_terms_2 9 rfl rfl)
theorem dX5_terms_56 : decode cX5_terms 56 = .ok (.goto 4, 3) := dk_167 0 4 (dk_at dksX5_terms_2 10 rfl rfl)
theorem dX5_terms_59 : decode cX5_terms 59 = .ok (.iconst 0, 1) := dk_3 (dk_at dksX5_terms_2 13 rfl rfl)
theorem dX5_terms_60 : decode cX5_terms 60 = .ok (.istore_n 3, 1) := dk_62 (dk_at dksX5_terms_2 14 rfl rfl)
theorem dX5_terms_61 : decode cX5_terms 61 = .ok (.iload_n 3, 1) := dk_29 (dk_at dksX5_terms_2 15 rfl rfl)
theorem dX5_terms_62 : decode cX5_terms 62 = .ok (.ifCond .ne 9, 3) := dk_154 0 9 (dk_at dksX5_terms_2 16 rfl rfl)
theorem dX5_terms_65 : decode cX5_terms 65 = .ok (.aload_n 0, 1) := dk_42 (dk_at dksX5_terms_2 19 rfl rfl)
theorem dX5_terms_66 : decode cX5_terms 66 = .ok (.iconst (-1), 1) := dk_2 (dk_at dksX5_terms_2 20 rfl rfl)
theorem dX5_terms_67 : decode cX5_terms 67 = .ok (.invokevirtual 184, 3) := dk_182 0 184 (dk_at dksX5_terms_2 21 rfl rfl)
theorem dX5_terms_70 : decode cX5_terms 70 = .ok (.ireturn, 1) := dk_172 (dk_at dksX5_terms_3 0 rfl rfl)
theorem dX5_terms_71 : decode cX5_terms 71 = .ok (.aload_n 0, 1) := dk_42 (dk_at dksX5_terms_3 1 rfl rfl)
theorem dX5_terms_72 : decode cX5_terms 72 = .ok (.iconst 0, 1) := dk_3 (dk_at dksX5_terms_3 2 rfl rfl)
theorem dX5_terms_73 : decode cX5_terms 73 = .ok (.putfield 181, 3) := dk_181 0 181 (dk_at dksX5_terms_3 3 rfl rfl)
theorem dX5_terms_76 : decode cX5_terms 76 = .ok (.aload_n 0, 1) := dk_42 (dk_at dksX5_terms_3 6 rfl rfl)
theorem dX5_terms_77 : decode cX5_terms 77 = .ok (.iconst 5, 1) := dk_8 (dk_at dksX5_terms_3 7 rfl rfl)
theorem dX5_terms_78 : decode cX5_terms 78 = .ok (.iload_n 1, 1) := dk_27 (dk_at dksX5_terms_3 8 rfl rfl)
theorem dX5_terms_79 : decode cX5_terms 79 = .ok (.iadd, 1) := dk_96 (dk_at dksX5_terms_3 9 rfl rfl)
theorem dX5_terms_80 : decode cX5_terms 80 = .ok (.iload_n 2, 1) := dk_28 (dk_at dksX5_terms_3 10 rfl rfl)
theorem dX5_terms_81 : decode cX5_terms 81 = .ok (.invokevirtual 233, 3) := dk_182 0 233 (dk_at dksX5_terms_3 11 rfl rfl)
theorem dX5_terms_84 : decode cX5_terms 84 = .ok (.ireturn, 1) := dk_172 (dk_at dksX5_terms_3 14 rfl rfl)
abbrev cX5_row : ByteArray := prog_22_method_32_code
def yX5_row : MethodName := ⟨RX5, "row", "()I"⟩
def dkwX5_row_5 : List UInt8 := [89, 180, 1, 10, 4, 96, 181, 1, 10, 132, 3, 3, 167, 255, 164, 42, 28, 182, 0, 199, 172]
abbrev dktX5_row_5 : List UInt8 := dkwX5_row_5 ++ []
def dkwX5_row_4 : List UInt8 := [180, 0, 35, 29, 4, 96, 46, 96, 42, 180, 0, 35, 29, 5, 96, 46, 79, 132, 2, 1, 167, 0, 13, 42]
abbrev dktX5_row_4 : List UInt8 := dkwX5_row_4 ++ dktX5_row_5
def dkwX5_row_3 : List UInt8 := [184, 0, 228, 153, 0, 43, 42, 180, 0, 13, 16, 8, 16, 8, 42, 180, 0, 35, 29, 46, 104, 96, 42]
abbrev dktX5_row_3 : List UInt8 := dkwX5_row_3 ++ dktX5_row_4
def dkwX5_row_2 : List UInt8 := [162, 0, 70, 42, 42, 180, 0, 35, 29, 46, 182, 0, 213, 153, 0, 57, 42, 180, 0, 35, 29, 4, 96, 46]
abbrev dktX5_row_2 : List UInt8 := dkwX5_row_2 ++ dktX5_row_3
def dkwX5_row_1 : List UInt8 := [182, 0, 184, 172, 42, 3, 181, 1, 10, 3, 61, 3, 62, 29, 27, 162, 0, 93, 29, 5, 96, 27]
abbrev dktX5_row_1 : List UInt8 := dkwX5_row_1 ++ dktX5_row_2
def dkwX5_row_0 : List UInt8 := [42, 3, 181, 0, 175, 42, 180, 1, 7, 60, 42, 3, 181, 1, 7, 27, 154, 0, 10, 42, 16, 250]
abbrev dktX5_row_0 : List UInt8 := dkwX5_row_0 ++ dktX5_row_1
theorem dksX5_row_0 : cX5_row.data.toList.drop 0 = dktX5_row_0 := by decide +kernel
theorem dksX5_row_1 : cX5_row.data.toList.drop 22 = dktX5_row_1 := dk_seg dksX5_row_0 22 rfl rfl
theorem dksX5_row_2 : cX5_row.data.toList.drop 44 = dktX5_row_2 := dk_seg dksX5_row_1 22 rfl rfl
theorem dksX5_row_3 : cX5_row.data.toList.drop 68 = dktX5_row_3 := dk_seg dksX5_row_2 24 rfl rfl
theorem dksX5_row_4 : cX5_row.data.toList.drop 91 = dktX5_row_4 := dk_seg dksX5_row_3 23 rfl rfl
theorem dksX5_row_5 : cX5_row.data.toList.drop 115 = dktX5_row_5 := dk_seg dksX5_row_4 24 rfl rfl
theorem dX5_row_0 : decode cX5_row 0 = .ok (.aload_n 0, 1) := dk_42 (dk_at dksX5_row_0 0 rfl rfl)
theorem dX5_row_1 : decode cX5_row 1 = .ok (.iconst 0, 1) := dk_3 (dk_at dksX5_row_0 1 rfl rfl)
theorem dX5_row_2 : decode cX5_row 2 = .ok (.putfield 175, 3) := dk_181 0 175 (dk_at dksX5_row_0 2 rfl rfl)
theorem dX5_row_5 : decode cX5_row 5 = .ok (.aload_n 0, 1) := dk_42 (dk_at dksX5_row_0 5 rfl rfl)
theorem dX5_row_6 : decode cX5_row 6 = .ok (.getfield 263, 3) := dk_180 1 7 (dk_at dksX5_row_0 6 rfl rfl)
theorem dX5_row_9 : decode cX5_row 9 = .ok (.istore_n 1, 1) := dk_60 (dk_at dksX5_row_0 9 rfl rfl)
theorem dX5_row_10 : decode cX5_row 10 = .ok (.aload_n 0, 1) := dk_42 (dk_at dksX5_row_0 10 rfl rfl)
theorem dX5_row_11 : decode cX5_row 11 = .ok (.iconst 0, 1) := dk_3 (dk_at dksX5_row_0 11 rfl rfl)
theorem dX5_row_12 : decode cX5_row 12 = .ok (.putfield 263, 3) := dk_181 1 7 (dk_at dksX5_row_0 12 rfl rfl)
theorem dX5_row_15 : decode cX5_row 15 = .ok (.iload_n 1, 1) := dk_27 (dk_at dksX5_row_0 15 rfl rfl)
theorem dX5_row_16 : decode cX5_row 16 = .ok (.ifCond .ne 10, 3) := dk_154 0 10 (dk_at dksX5_row_0 16 rfl rfl)
theorem dX5_row_19 : decode cX5_row 19 = .ok (.aload_n 0, 1) := dk_42 (dk_at dksX5_row_0 19 rfl rfl)
theorem dX5_row_20 : decode cX5_row 20 = .ok (.bipush (-6), 2) := dk_16 250 (dk_at dksX5_row_0 20 rfl rfl)
theorem dX5_row_22 : decode cX5_row 22 = .ok (.invokevirtual 184, 3) := dk_182 0 184 (dk_at dksX5_row_1 0 rfl rfl)
theorem dX5_row_25 : decode cX5_row 25 = .ok (.ireturn, 1) := dk_172 (dk_at dksX5_row_1 3 rfl rfl)
theorem dX5_row_26 : decode cX5_row 26 = .ok (.aload_n 0, 1) := dk_42 (dk_at dksX5_row_1 4 rfl rfl)
theorem dX5_row_27 : decode cX5_row 27 = .ok (.iconst 0, 1) := dk_3 (dk_at dksX5_row_1 5 rfl rfl)
theorem dX5_row_28 : decode cX5_row 28 = .ok (.putfield 266, 3) := dk_181 1 10 (dk_at dksX5_row_1 6 rfl rfl)
theorem dX5_row_31 : decode cX5_row 31 = .ok (.iconst 0, 1) := dk_3 (dk_at dksX5_row_1 9 rfl rfl)
theorem dX5_row_32 : decode cX5_row 32 = .ok (.istore_n 2, 1) := dk_61 (dk_at dksX5_row_1 10 rfl rfl)
theorem dX5_row_33 : decode cX5_row 33 = .ok (.iconst 0, 1) := dk_3 (dk_at dksX5_row_1 11 rfl rfl)
theorem dX5_row_34 : decode cX5_row 34 = .ok (.istore_n 3, 1) := dk_62 (dk_at dksX5_row_1 12 rfl rfl)
theorem dX5_row_35 : decode cX5_row 35 = .ok (.iload_n 3, 1) := dk_29 (dk_at dksX5_row_1 13 rfl rfl)
theorem dX5_row_36 : decode cX5_row 36 = .ok (.iload_n 1, 1) := dk_27 (dk_at dksX5_row_1 14 rfl rfl)
theorem dX5_row_37 : decode cX5_row 37 = .ok (.if_icmp .ge 93, 3) := dk_162 0 93 (dk_at dksX5_row_1 15 rfl rfl)
theorem dX5_row_40 : decode cX5_row 40 = .ok (.iload_n 3, 1) := dk_29 (dk_at dksX5_row_1 18 rfl rfl)
theorem dX5_row_41 : decode cX5_row 41 = .ok (.iconst 2, 1) := dk_5 (dk_at dksX5_row_1 19 rfl rfl)
theorem dX5_row_42 : decode cX5_row 42 = .ok (.iadd, 1) := dk_96 (dk_at dksX5_row_1 20 rfl rfl)
theorem dX5_row_43 : decode cX5_row 43 = .ok (.iload_n 1, 1) := dk_27 (dk_at dksX5_row_1 21 rfl rfl)
theorem dX5_row_44 : decode cX5_row 44 = .ok (.if_icmp .ge 70, 3) := dk_162 0 70 (dk_at dksX5_row_2 0 rfl rfl)
theorem dX5_row_47 : decode cX5_row 47 = .ok (.aload_n 0, 1) := dk_42 (dk_at dksX5_row_2 3 rfl rfl)
theorem dX5_row_48 : decode cX5_row 48 = .ok (.aload_n 0, 1) := dk_42 (dk_at dksX5_row_2 4 rfl rfl)
theorem dX5_row_49 : decode cX5_row 49 = .ok (.getfield 35, 3) := dk_180 0 35 (dk_at dksX5_row_2 5 rfl rfl)
theorem dX5_row_52 : decode cX5_row 52 = .ok (.iload_n 3, 1) := dk_29 (dk_at dksX5_row_2 8 rfl rfl)
theorem dX5_row_53 : decode cX5_row 53 = .ok (.iaload, 1) := dk_46 (dk_at dksX5_row_2 9 rfl rfl)
theorem dX5_row_54 : decode cX5_row 54 = .ok (.invokevirtual 213, 3) := dk_182 0 213 (dk_at dksX5_row_2 10 rfl rfl)
theorem dX5_row_57 : decode cX5_row 57 = .ok (.ifCond .eq 57, 3) := dk_153 0 57 (dk_at dksX5_row_2 13 rfl rfl)
theorem dX5_row_60 : decode cX5_row 60 = .ok (.aload_n 0, 1) := dk_42 (dk_at dksX5_row_2 16 rfl rfl)
theorem dX5_row_61 : decode cX5_row 61 = .ok (.getfield 35, 3) := dk_180 0 35 (dk_at dksX5_row_2 17 rfl rfl)
theorem dX5_row_64 : decode cX5_row 64 = .ok (.iload_n 3, 1) := dk_29 (dk_at dksX5_row_2 20 rfl rfl)
theorem dX5_row_65 : decode cX5_row 65 = .ok (.iconst 1, 1) := dk_4 (dk_at dksX5_row_2 21 rfl rfl)
theorem dX5_row_66 : decode cX5_row 66 = .ok (.iadd, 1) := dk_96 (dk_at dksX5_row_2 22 rfl rfl)
theorem dX5_row_67 : decode cX5_row 67 = .ok (.iaload, 1) := dk_46 (dk_at dksX5_row_2 23 rfl rfl)
theorem dX5_row_68 : decode cX5_row 68 = .ok (.invokestatic 228, 3) := dk_184 0 228 (dk_at dksX5_row_3 0 rfl rfl)
theorem dX5_row_71 : decode cX5_row 71 = .ok (.ifCond .eq 43, 3) := dk_153 0 43 (dk_at dksX5_row_3 3 rfl rfl)
theorem dX5_row_74 : decode cX5_row 74 = .ok (.aload_n 0, 1) := dk_42 (dk_at dksX5_row_3 6 rfl rfl)
theorem dX5_row_75 : decode cX5_row 75 = .ok (.getfield 13, 3) := dk_180 0 13 (dk_at dksX5_row_3 7 rfl rfl)
theorem dX5_row_78 : decode cX5_row 78 = .ok (.bipush 8, 2) := dk_16 8 (dk_at dksX5_row_3 10 rfl rfl)
theorem dX5_row_80 : decode cX5_row 80 = .ok (.bipush 8, 2) := dk_16 8 (dk_at dksX5_row_3 12 rfl rfl)
theorem dX5_row_82 : decode cX5_row 82 = .ok (.aload_n 0, 1) := dk_42 (dk_at dksX5_row_3 14 rfl rfl)
theorem dX5_row_83 : decode cX5_row 83 = .ok (.getfield 35, 3) := dk_180 0 35 (dk_at dksX5_row_3 15 rfl rfl)
theorem dX5_row_86 : decode cX5_row 86 = .ok (.iload_n 3, 1) := dk_29 (dk_at dksX5_row_3 18 rfl rfl)
theorem dX5_row_87 : decode cX5_row 87 = .ok (.iaload, 1) := dk_46 (dk_at dksX5_row_3 19 rfl rfl)
theorem dX5_row_88 : decode cX5_row 88 = .ok (.imul, 1) := dk_104 (dk_at dksX5_row_3 20 rfl rfl)
theorem dX5_row_89 : decode cX5_row 89 = .ok (.iadd, 1) := dk_96 (dk_at dksX5_row_3 21 rfl rfl)
theorem dX5_row_90 : decode cX5_row 90 = .ok (.aload_n 0, 1) := dk_42 (dk_at dksX5_row_3 22 rfl rfl)
theorem dX5_row_91 : decode cX5_row 91 = .ok (.getfield 35, 3) := dk_180 0 35 (dk_at dksX5_row_4 0 rfl rfl)
theorem dX5_row_94 : decode cX5_row 94 = .ok (.iload_n 3, 1) := dk_29 (dk_at dksX5_row_4 3 rfl rfl)
theorem dX5_row_95 : decode cX5_row 95 = .ok (.iconst 1, 1) := dk_4 (dk_at dksX5_row_4 4 rfl rfl)
theorem dX5_row_96 : decode cX5_row 96 = .ok (.iadd, 1) := dk_96 (dk_at dksX5_row_4 5 rfl rfl)
theorem dX5_row_97 : decode cX5_row 97 = .ok (.iaload, 1) := dk_46 (dk_at dksX5_row_4 6 rfl rfl)
theorem dX5_row_98 : decode cX5_row 98 = .ok (.iadd, 1) := dk_96 (dk_at dksX5_row_4 7 rfl rfl)
theorem dX5_row_99 : decode cX5_row 99 = .ok (.aload_n 0, 1) := dk_42 (dk_at dksX5_row_4 8 rfl rfl)
theorem dX5_row_100 : decode cX5_row 100 = .ok (.getfield 35, 3) := dk_180 0 35 (dk_at dksX5_row_4 9 rfl rfl)
theorem dX5_row_103 : decode cX5_row 103 = .ok (.iload_n 3, 1) := dk_29 (dk_at dksX5_row_4 12 rfl rfl)
theorem dX5_row_104 : decode cX5_row 104 = .ok (.iconst 2, 1) := dk_5 (dk_at dksX5_row_4 13 rfl rfl)
theorem dX5_row_105 : decode cX5_row 105 = .ok (.iadd, 1) := dk_96 (dk_at dksX5_row_4 14 rfl rfl)
theorem dX5_row_106 : decode cX5_row 106 = .ok (.iaload, 1) := dk_46 (dk_at dksX5_row_4 15 rfl rfl)
theorem dX5_row_107 : decode cX5_row 107 = .ok (.iastore, 1) := dk_79 (dk_at dksX5_row_4 16 rfl rfl)
theorem dX5_row_108 : decode cX5_row 108 = .ok (.iinc 2 1, 3) := dk_132 2 1 (dk_at dksX5_row_4 17 rfl rfl)
theorem dX5_row_111 : decode cX5_row 111 = .ok (.goto 13, 3) := dk_167 0 13 (dk_at dksX5_row_4 20 rfl rfl)
theorem dX5_row_114 : decode cX5_row 114 = .ok (.aload_n 0, 1) := dk_42 (dk_at dksX5_row_4 23 rfl rfl)
theorem dX5_row_115 : decode cX5_row 115 = .ok (.dup, 1) := dk_89 (dk_at dksX5_row_5 0 rfl rfl)
theorem dX5_row_116 : decode cX5_row 116 = .ok (.getfield 266, 3) := dk_180 1 10 (dk_at dksX5_row_5 1 rfl rfl)
theorem dX5_row_119 : decode cX5_row 119 = .ok (.iconst 1, 1) := dk_4 (dk_at dksX5_row_5 4 rfl rfl)
theorem dX5_row_120 : decode cX5_row 120 = .ok (.iadd, 1) := dk_96 (dk_at dksX5_row_5 5 rfl rfl)
theorem dX5_row_121 : decode cX5_row 121 = .ok (.putfield 266, 3) := dk_181 1 10 (dk_at dksX5_row_5 6 rfl rfl)
theorem dX5_row_124 : decode cX5_row 124 = .ok (.iinc 3 3, 3) := dk_132 3 3 (dk_at dksX5_row_5 9 rfl rfl)
theorem dX5_row_127 : decode cX5_row 127 = .ok (.goto (-92), 3) := dk_167 255 164 (dk_at dksX5_row_5 12 rfl rfl)
theorem dX5_row_130 : decode cX5_row 130 = .ok (.aload_n 0, 1) := dk_42 (dk_at dksX5_row_5 15 rfl rfl)
theorem dX5_row_131 : decode cX5_row 131 = .ok (.iload_n 2, 1) := dk_28 (dk_at dksX5_row_5 16 rfl rfl)
theorem dX5_row_132 : decode cX5_row 132 = .ok (.invokevirtual 199, 3) := dk_182 0 199 (dk_at dksX5_row_5 17 rfl rfl)
theorem dX5_row_135 : decode cX5_row 135 = .ok (.ireturn, 1) := dk_172 (dk_at dksX5_row_5 20 rfl rfl)
abbrev cX5_rust : ByteArray := prog_22_method_33_code
def yX5_rust : MethodName := ⟨RX5, "rust", "()I"⟩
def dkwX5_rust_0 : List UInt8 := [42, 3, 181, 0, 175, 42, 180, 1, 10, 172]
abbrev dktX5_rust_0 : List UInt8 := dkwX5_rust_0 ++ []
theorem dksX5_rust_0 : cX5_rust.data.toList.drop 0 = dktX5_rust_0 := by decide +kernel
theorem dX5_rust_0 : decode cX5_rust 0 = .ok (.aload_n 0, 1) := dk_42 (dk_at dksX5_rust_0 0 rfl rfl)
theorem dX5_rust_1 : decode cX5_rust 1 = .ok (.iconst 0, 1) := dk_3 (dk_at dksX5_rust_0 1 rfl rfl)
theorem dX5_rust_2 : decode cX5_rust 2 = .ok (.putfield 175, 3) := dk_181 0 175 (dk_at dksX5_rust_0 2 rfl rfl)
theorem dX5_rust_5 : decode cX5_rust 5 = .ok (.aload_n 0, 1) := dk_42 (dk_at dksX5_rust_0 5 rfl rfl)
theorem dX5_rust_6 : decode cX5_rust 6 = .ok (.getfield 266, 3) := dk_180 1 10 (dk_at dksX5_rust_0 6 rfl rfl)
theorem dX5_rust_9 : decode cX5_rust 9 = .ok (.ireturn, 1) := dk_172 (dk_at dksX5_rust_0 9 rfl rfl)
abbrev cX5_feed : ByteArray := prog_22_method_35_code
def yX5_feed : MethodName := ⟨RX5, "feed", "(IIIII)I"⟩
def dkwX5_feed_2 : List UInt8 := [182, 1, 13, 42, 180, 1, 7, 172]
abbrev dktX5_feed_2 : List UInt8 := dkwX5_feed_2 ++ []
def dkwX5_feed_1 : List UInt8 := [182, 1, 13, 42, 28, 182, 1, 13, 42, 29, 182, 1, 13, 42, 21, 4, 182, 1, 13, 42, 21, 5]
abbrev dktX5_feed_1 : List UInt8 := dkwX5_feed_1 ++ dktX5_feed_2
def dkwX5_feed_0 : List UInt8 := [42, 3, 181, 0, 175, 42, 180, 1, 7, 16, 20, 96, 17, 1, 144, 164, 0, 5, 2, 172, 42, 27]
abbrev dktX5_feed_0 : List UInt8 := dkwX5_feed_0 ++ dktX5_feed_1
theorem dksX5_feed_0 : cX5_feed.data.toList.drop 0 = dktX5_feed_0 := by decide +kernel
theorem dksX5_feed_1 : cX5_feed.data.toList.drop 22 = dktX5_feed_1 := dk_seg dksX5_feed_0 22 rfl rfl
theorem dksX5_feed_2 : cX5_feed.data.toList.drop 44 = dktX5_feed_2 := dk_seg dksX5_feed_1 22 rfl rfl
theorem dX5_feed_0 : decode cX5_feed 0 = .ok (.aload_n 0, 1) := dk_42 (dk_at dksX5_feed_0 0 rfl rfl)
theorem dX5_feed_1 : decode cX5_feed 1 = .ok (.iconst 0, 1) := dk_3 (dk_at dksX5_feed_0 1 rfl rfl)
theorem dX5_feed_2 : decode cX5_feed 2 = .ok (.putfield 175, 3) := dk_181 0 175 (dk_at dksX5_feed_0 2 rfl rfl)
theorem dX5_feed_5 : decode cX5_feed 5 = .ok (.aload_n 0, 1) := dk_42 (dk_at dksX5_feed_0 5 rfl rfl)
theorem dX5_feed_6 : decode cX5_feed 6 = .ok (.getfield 263, 3) := dk_180 1 7 (dk_at dksX5_feed_0 6 rfl rfl)
theorem dX5_feed_9 : decode cX5_feed 9 = .ok (.bipush 20, 2) := dk_16 20 (dk_at dksX5_feed_0 9 rfl rfl)
theorem dX5_feed_11 : decode cX5_feed 11 = .ok (.iadd, 1) := dk_96 (dk_at dksX5_feed_0 11 rfl rfl)
theorem dX5_feed_12 : decode cX5_feed 12 = .ok (.sipush 400, 3) := dk_17 1 144 (dk_at dksX5_feed_0 12 rfl rfl)
theorem dX5_feed_15 : decode cX5_feed 15 = .ok (.if_icmp .le 5, 3) := dk_164 0 5 (dk_at dksX5_feed_0 15 rfl rfl)
theorem dX5_feed_18 : decode cX5_feed 18 = .ok (.iconst (-1), 1) := dk_2 (dk_at dksX5_feed_0 18 rfl rfl)
theorem dX5_feed_19 : decode cX5_feed 19 = .ok (.ireturn, 1) := dk_172 (dk_at dksX5_feed_0 19 rfl rfl)
theorem dX5_feed_20 : decode cX5_feed 20 = .ok (.aload_n 0, 1) := dk_42 (dk_at dksX5_feed_0 20 rfl rfl)
theorem dX5_feed_21 : decode cX5_feed 21 = .ok (.iload_n 1, 1) := dk_27 (dk_at dksX5_feed_0 21 rfl rfl)
theorem dX5_feed_22 : decode cX5_feed 22 = .ok (.invokevirtual 269, 3) := dk_182 1 13 (dk_at dksX5_feed_1 0 rfl rfl)
theorem dX5_feed_25 : decode cX5_feed 25 = .ok (.aload_n 0, 1) := dk_42 (dk_at dksX5_feed_1 3 rfl rfl)
theorem dX5_feed_26 : decode cX5_feed 26 = .ok (.iload_n 2, 1) := dk_28 (dk_at dksX5_feed_1 4 rfl rfl)
theorem dX5_feed_27 : decode cX5_feed 27 = .ok (.invokevirtual 269, 3) := dk_182 1 13 (dk_at dksX5_feed_1 5 rfl rfl)
theorem dX5_feed_30 : decode cX5_feed 30 = .ok (.aload_n 0, 1) := dk_42 (dk_at dksX5_feed_1 8 rfl rfl)
theorem dX5_feed_31 : decode cX5_feed 31 = .ok (.iload_n 3, 1) := dk_29 (dk_at dksX5_feed_1 9 rfl rfl)
theorem dX5_feed_32 : decode cX5_feed 32 = .ok (.invokevirtual 269, 3) := dk_182 1 13 (dk_at dksX5_feed_1 10 rfl rfl)
theorem dX5_feed_35 : decode cX5_feed 35 = .ok (.aload_n 0, 1) := dk_42 (dk_at dksX5_feed_1 13 rfl rfl)
theorem dX5_feed_36 : decode cX5_feed 36 = .ok (.iload 4, 2) := dk_21 4 (dk_at dksX5_feed_1 14 rfl rfl)
theorem dX5_feed_38 : decode cX5_feed 38 = .ok (.invokevirtual 269, 3) := dk_182 1 13 (dk_at dksX5_feed_1 16 rfl rfl)
theorem dX5_feed_41 : decode cX5_feed 41 = .ok (.aload_n 0, 1) := dk_42 (dk_at dksX5_feed_1 19 rfl rfl)
theorem dX5_feed_42 : decode cX5_feed 42 = .ok (.iload 5, 2) := dk_21 5 (dk_at dksX5_feed_1 20 rfl rfl)
theorem dX5_feed_44 : decode cX5_feed 44 = .ok (.invokevirtual 269, 3) := dk_182 1 13 (dk_at dksX5_feed_2 0 rfl rfl)
theorem dX5_feed_47 : decode cX5_feed 47 = .ok (.aload_n 0, 1) := dk_42 (dk_at dksX5_feed_2 3 rfl rfl)
theorem dX5_feed_48 : decode cX5_feed 48 = .ok (.getfield 263, 3) := dk_180 1 7 (dk_at dksX5_feed_2 4 rfl rfl)
theorem dX5_feed_51 : decode cX5_feed 51 = .ok (.ireturn, 1) := dk_172 (dk_at dksX5_feed_2 7 rfl rfl)
abbrev cX5_four : ByteArray := prog_22_method_34_code
def yX5_four : MethodName := ⟨RX5, "four", "(I)V"⟩
def dkwX5_four_1 : List UInt8 := [89, 180, 1, 7, 4, 96, 181, 1, 7, 132, 2, 248, 167, 255, 223, 177]
abbrev dktX5_four_1 : List UInt8 := dkwX5_four_1 ++ []
def dkwX5_four_0 : List UInt8 := [16, 24, 61, 28, 155, 0, 35, 42, 180, 0, 35, 42, 180, 1, 7, 27, 28, 122, 17, 0, 255, 126, 79, 42]
abbrev dktX5_four_0 : List UInt8 := dkwX5_four_0 ++ dktX5_four_1
theorem dksX5_four_0 : cX5_four.data.toList.drop 0 = dktX5_four_0 := by decide +kernel
theorem dksX5_four_1 : cX5_four.data.toList.drop 24 = dktX5_four_1 := dk_seg dksX5_four_0 24 rfl rfl
theorem dX5_four_0 : decode cX5_four 0 = .ok (.bipush 24, 2) := dk_16 24 (dk_at dksX5_four_0 0 rfl rfl)
theorem dX5_four_2 : decode cX5_four 2 = .ok (.istore_n 2, 1) := dk_61 (dk_at dksX5_four_0 2 rfl rfl)
theorem dX5_four_3 : decode cX5_four 3 = .ok (.iload_n 2, 1) := dk_28 (dk_at dksX5_four_0 3 rfl rfl)
theorem dX5_four_4 : decode cX5_four 4 = .ok (.ifCond .lt 35, 3) := dk_155 0 35 (dk_at dksX5_four_0 4 rfl rfl)
theorem dX5_four_7 : decode cX5_four 7 = .ok (.aload_n 0, 1) := dk_42 (dk_at dksX5_four_0 7 rfl rfl)
theorem dX5_four_8 : decode cX5_four 8 = .ok (.getfield 35, 3) := dk_180 0 35 (dk_at dksX5_four_0 8 rfl rfl)
theorem dX5_four_11 : decode cX5_four 11 = .ok (.aload_n 0, 1) := dk_42 (dk_at dksX5_four_0 11 rfl rfl)
theorem dX5_four_12 : decode cX5_four 12 = .ok (.getfield 263, 3) := dk_180 1 7 (dk_at dksX5_four_0 12 rfl rfl)
theorem dX5_four_15 : decode cX5_four 15 = .ok (.iload_n 1, 1) := dk_27 (dk_at dksX5_four_0 15 rfl rfl)
theorem dX5_four_16 : decode cX5_four 16 = .ok (.iload_n 2, 1) := dk_28 (dk_at dksX5_four_0 16 rfl rfl)
theorem dX5_four_17 : decode cX5_four 17 = .ok (.ishr, 1) := dk_122 (dk_at dksX5_four_0 17 rfl rfl)
theorem dX5_four_18 : decode cX5_four 18 = .ok (.sipush 255, 3) := dk_17 0 255 (dk_at dksX5_four_0 18 rfl rfl)
theorem dX5_four_21 : decode cX5_four 21 = .ok (.iand, 1) := dk_126 (dk_at dksX5_four_0 21 rfl rfl)
theorem dX5_four_22 : decode cX5_four 22 = .ok (.iastore, 1) := dk_79 (dk_at dksX5_four_0 22 rfl rfl)
theorem dX5_four_23 : decode cX5_four 23 = .ok (.aload_n 0, 1) := dk_42 (dk_at dksX5_four_0 23 rfl rfl)
theorem dX5_four_24 : decode cX5_four 24 = .ok (.dup, 1) := dk_89 (dk_at dksX5_four_1 0 rfl rfl)
theorem dX5_four_25 : decode cX5_four 25 = .ok (.getfield 263, 3) := dk_180 1 7 (dk_at dksX5_four_1 1 rfl rfl)
theorem dX5_four_28 : decode cX5_four 28 = .ok (.iconst 1, 1) := dk_4 (dk_at dksX5_four_1 4 rfl rfl)
theorem dX5_four_29 : decode cX5_four 29 = .ok (.iadd, 1) := dk_96 (dk_at dksX5_four_1 5 rfl rfl)
theorem dX5_four_30 : decode cX5_four 30 = .ok (.putfield 263, 3) := dk_181 1 7 (dk_at dksX5_four_1 6 rfl rfl)
theorem dX5_four_33 : decode cX5_four 33 = .ok (.iinc 2 (-8), 3) := dk_132 2 248 (dk_at dksX5_four_1 9 rfl rfl)
theorem dX5_four_36 : decode cX5_four 36 = .ok (.goto (-33), 3) := dk_167 255 223 (dk_at dksX5_four_1 12 rfl rfl)
theorem dX5_four_39 : decode cX5_four 39 = .ok (.return_, 1) := dk_177 (dk_at dksX5_four_1 15 rfl rfl)
abbrev cX5_end : ByteArray := prog_22_method_36_code
def yX5_end : MethodName := ⟨RX5, "end", "(I)I"⟩
def dkwX5_end_1 : List UInt8 := [27, 172]
abbrev dktX5_end_1 : List UInt8 := dkwX5_end_1 ++ []
def dkwX5_end_0 : List UInt8 := [42, 3, 181, 0, 175, 27, 155, 0, 11, 27, 42, 180, 1, 7, 164, 0, 5, 2, 172, 42, 27, 181, 1, 7]
abbrev dktX5_end_0 : List UInt8 := dkwX5_end_0 ++ dktX5_end_1
theorem dksX5_end_0 : cX5_end.data.toList.drop 0 = dktX5_end_0 := by decide +kernel
theorem dksX5_end_1 : cX5_end.data.toList.drop 24 = dktX5_end_1 := dk_seg dksX5_end_0 24 rfl rfl
theorem dX5_end_0 : decode cX5_end 0 = .ok (.aload_n 0, 1) := dk_42 (dk_at dksX5_end_0 0 rfl rfl)
theorem dX5_end_1 : decode cX5_end 1 = .ok (.iconst 0, 1) := dk_3 (dk_at dksX5_end_0 1 rfl rfl)
theorem dX5_end_2 : decode cX5_end 2 = .ok (.putfield 175, 3) := dk_181 0 175 (dk_at dksX5_end_0 2 rfl rfl)
theorem dX5_end_5 : decode cX5_end 5 = .ok (.iload_n 1, 1) := dk_27 (dk_at dksX5_end_0 5 rfl rfl)
theorem dX5_end_6 : decode cX5_end 6 = .ok (.ifCond .lt 11, 3) := dk_155 0 11 (dk_at dksX5_end_0 6 rfl rfl)
theorem dX5_end_9 : decode cX5_end 9 = .ok (.iload_n 1, 1) := dk_27 (dk_at dksX5_end_0 9 rfl rfl)
theorem dX5_end_10 : decode cX5_end 10 = .ok (.aload_n 0, 1) := dk_42 (dk_at dksX5_end_0 10 rfl rfl)
theorem dX5_end_11 : decode cX5_end 11 = .ok (.getfield 263, 3) := dk_180 1 7 (dk_at dksX5_end_0 11 rfl rfl)
theorem dX5_end_14 : decode cX5_end 14 = .ok (.if_icmp .le 5, 3) := dk_164 0 5 (dk_at dksX5_end_0 14 rfl rfl)
theorem dX5_end_17 : decode cX5_end 17 = .ok (.iconst (-1), 1) := dk_2 (dk_at dksX5_end_0 17 rfl rfl)
theorem dX5_end_18 : decode cX5_end 18 = .ok (.ireturn, 1) := dk_172 (dk_at dksX5_end_0 18 rfl rfl)
theorem dX5_end_19 : decode cX5_end 19 = .ok (.aload_n 0, 1) := dk_42 (dk_at dksX5_end_0 19 rfl rfl)
theorem dX5_end_20 : decode cX5_end 20 = .ok (.iload_n 1, 1) := dk_27 (dk_at dksX5_end_0 20 rfl rfl)
theorem dX5_end_21 : decode cX5_end 21 = .ok (.putfield 263, 3) := dk_181 1 7 (dk_at dksX5_end_0 21 rfl rfl)
theorem dX5_end_24 : decode cX5_end 24 = .ok (.iload_n 1, 1) := dk_27 (dk_at dksX5_end_1 0 rfl rfl)
theorem dX5_end_25 : decode cX5_end 25 = .ok (.ireturn, 1) := dk_172 (dk_at dksX5_end_1 1 rfl rfl)
abbrev cX5_fault : ByteArray := prog_22_method_45_code
def yX5_fault : MethodName := ⟨RX5, "fault", "()I"⟩
def dkwX5_fault_0 : List UInt8 := [42, 3, 181, 0, 175, 42, 180, 0, 38, 172]
abbrev dktX5_fault_0 : List UInt8 := dkwX5_fault_0 ++ []
theorem dksX5_fault_0 : cX5_fault.data.toList.drop 0 = dktX5_fault_0 := by decide +kernel
theorem dX5_fault_0 : decode cX5_fault 0 = .ok (.aload_n 0, 1) := dk_42 (dk_at dksX5_fault_0 0 rfl rfl)
theorem dX5_fault_1 : decode cX5_fault 1 = .ok (.iconst 0, 1) := dk_3 (dk_at dksX5_fault_0 1 rfl rfl)
theorem dX5_fault_2 : decode cX5_fault 2 = .ok (.putfield 175, 3) := dk_181 0 175 (dk_at dksX5_fault_0 2 rfl rfl)
theorem dX5_fault_5 : decode cX5_fault 5 = .ok (.aload_n 0, 1) := dk_42 (dk_at dksX5_fault_0 5 rfl rfl)
theorem dX5_fault_6 : decode cX5_fault 6 = .ok (.getfield 38, 3) := dk_180 0 38 (dk_at dksX5_fault_0 6 rfl rfl)
theorem dX5_fault_9 : decode cX5_fault 9 = .ok (.ireturn, 1) := dk_172 (dk_at dksX5_fault_0 9 rfl rfl)
abbrev cX5_law : ByteArray := prog_22_method_64_code
def yX5_law : MethodName := ⟨RX5, "law", "()I"⟩
def dkwX5_law_9 : List UInt8 := [180, 0, 13, 6, 46, 4, 100, 182, 0, 184, 172]
abbrev dktX5_law_9 : List UInt8 := dkwX5_law_9 ++ []
def dkwX5_law_8 : List UInt8 := [180, 0, 48, 28, 46, 79, 132, 2, 1, 167, 255, 205, 42, 180, 0, 13, 6, 92, 46, 4, 96, 79, 42, 42]
abbrev dktX5_law_8 : List UInt8 := dkwX5_law_8 ++ dktX5_law_9
def dkwX5_law_7 : List UInt8 := [96, 42, 180, 0, 45, 28, 46, 79, 42, 180, 0, 13, 27, 16, 98, 96, 5, 28, 104, 96, 4, 96, 42]
abbrev dktX5_law_7 : List UInt8 := dkwX5_law_7 ++ dktX5_law_8
def dkwX5_law_6 : List UInt8 := [167, 255, 226, 3, 61, 28, 42, 180, 1, 56, 162, 0, 49, 42, 180, 0, 13, 27, 16, 98, 96, 5, 28, 104]
abbrev dktX5_law_6 : List UInt8 := dkwX5_law_6 ++ dktX5_law_7
def dkwX5_law_5 : List UInt8 := [104, 162, 0, 25, 42, 180, 0, 13, 27, 5, 96, 28, 96, 42, 180, 0, 42, 28, 46, 79, 132, 2, 1]
abbrev dktX5_law_5 : List UInt8 := dkwX5_law_5 ++ dktX5_law_6
def dkwX5_law_4 : List UInt8 := [104, 96, 60, 42, 180, 0, 13, 27, 4, 96, 42, 180, 1, 148, 79, 3, 61, 28, 16, 8, 42, 180, 1, 148]
abbrev dktX5_law_4 : List UInt8 := dkwX5_law_4 ++ dktX5_law_5
def dkwX5_law_3 : List UInt8 := [180, 1, 19, 153, 0, 10, 42, 16, 250, 182, 0, 184, 172, 16, 116, 17, 3, 132, 42, 180, 0, 13, 6, 46]
abbrev dktX5_law_3 : List UInt8 := dkwX5_law_3 ++ dktX5_law_4
def dkwX5_law_2 : List UInt8 := [182, 1, 88, 153, 0, 14, 42, 182, 1, 23, 42, 182, 1, 159, 167, 255, 232, 42, 182, 1, 162, 42]
abbrev dktX5_law_2 : List UInt8 := dkwX5_law_2 ++ dktX5_law_3
def dkwX5_law_1 : List UInt8 := [182, 0, 184, 172, 42, 3, 182, 1, 156, 42, 182, 1, 159, 42, 180, 1, 19, 154, 0, 23, 42, 16, 59]
abbrev dktX5_law_1 : List UInt8 := dkwX5_law_1 ++ dktX5_law_2
def dkwX5_law_0 : List UInt8 := [42, 3, 181, 0, 175, 42, 180, 0, 13, 6, 46, 16, 6, 160, 0, 15, 42, 3, 181, 1, 7, 42, 16, 251]
abbrev dktX5_law_0 : List UInt8 := dkwX5_law_0 ++ dktX5_law_1
theorem dksX5_law_0 : cX5_law.data.toList.drop 0 = dktX5_law_0 := by decide +kernel
theorem dksX5_law_1 : cX5_law.data.toList.drop 24 = dktX5_law_1 := dk_seg dksX5_law_0 24 rfl rfl
theorem dksX5_law_2 : cX5_law.data.toList.drop 47 = dktX5_law_2 := dk_seg dksX5_law_1 23 rfl rfl
theorem dksX5_law_3 : cX5_law.data.toList.drop 69 = dktX5_law_3 := dk_seg dksX5_law_2 22 rfl rfl
theorem dksX5_law_4 : cX5_law.data.toList.drop 93 = dktX5_law_4 := dk_seg dksX5_law_3 24 rfl rfl
theorem dksX5_law_5 : cX5_law.data.toList.drop 117 = dktX5_law_5 := dk_seg dksX5_law_4 24 rfl rfl
theorem dksX5_law_6 : cX5_law.data.toList.drop 140 = dktX5_law_6 := dk_seg dksX5_law_5 23 rfl rfl
theorem dksX5_law_7 : cX5_law.data.toList.drop 164 = dktX5_law_7 := dk_seg dksX5_law_6 24 rfl rfl
theorem dksX5_law_8 : cX5_law.data.toList.drop 187 = dktX5_law_8 := dk_seg dksX5_law_7 23 rfl rfl
theorem dksX5_law_9 : cX5_law.data.toList.drop 211 = dktX5_law_9 := dk_seg dksX5_law_8 24 rfl rfl
theorem dX5_law_0 : decode cX5_law 0 = .ok (.aload_n 0, 1) := dk_42 (dk_at dksX5_law_0 0 rfl rfl)
theorem dX5_law_1 : decode cX5_law 1 = .ok (.iconst 0, 1) := dk_3 (dk_at dksX5_law_0 1 rfl rfl)
theorem dX5_law_2 : decode cX5_law 2 = .ok (.putfield 175, 3) := dk_181 0 175 (dk_at dksX5_law_0 2 rfl rfl)
theorem dX5_law_5 : decode cX5_law 5 = .ok (.aload_n 0, 1) := dk_42 (dk_at dksX5_law_0 5 rfl rfl)
theorem dX5_law_6 : decode cX5_law 6 = .ok (.getfield 13, 3) := dk_180 0 13 (dk_at dksX5_law_0 6 rfl rfl)
theorem dX5_law_9 : decode cX5_law 9 = .ok (.iconst 3, 1) := dk_6 (dk_at dksX5_law_0 9 rfl rfl)
theorem dX5_law_10 : decode cX5_law 10 = .ok (.iaload, 1) := dk_46 (dk_at dksX5_law_0 10 rfl rfl)
theorem dX5_law_11 : decode cX5_law 11 = .ok (.bipush 6, 2) := dk_16 6 (dk_at dksX5_law_0 11 rfl rfl)
theorem dX5_law_13 : decode cX5_law 13 = .ok (.if_icmp .ne 15, 3) := dk_160 0 15 (dk_at dksX5_law_0 13 rfl rfl)
theorem dX5_law_16 : decode cX5_law 16 = .ok (.aload_n 0, 1) := dk_42 (dk_at dksX5_law_0 16 rfl rfl)
theorem dX5_law_17 : decode cX5_law 17 = .ok (.iconst 0, 1) := dk_3 (dk_at dksX5_law_0 17 rfl rfl)
theorem dX5_law_18 : decode cX5_law 18 = .ok (.putfield 263, 3) := dk_181 1 7 (dk_at dksX5_law_0 18 rfl rfl)
theorem dX5_law_21 : decode cX5_law 21 = .ok (.aload_n 0, 1) := dk_42 (dk_at dksX5_law_0 21 rfl rfl)
theorem dX5_law_22 : decode cX5_law 22 = .ok (.bipush (-5), 2) := dk_16 251 (dk_at dksX5_law_0 22 rfl rfl)
theorem dX5_law_24 : decode cX5_law 24 = .ok (.invokevirtual 184, 3) := dk_182 0 184 (dk_at dksX5_law_1 0 rfl rfl)
theorem dX5_law_27 : decode cX5_law 27 = .ok (.ireturn, 1) := dk_172 (dk_at dksX5_law_1 3 rfl rfl)
theorem dX5_law_28 : decode cX5_law 28 = .ok (.aload_n 0, 1) := dk_42 (dk_at dksX5_law_1 4 rfl rfl)
theorem dX5_law_29 : decode cX5_law 29 = .ok (.iconst 0, 1) := dk_3 (dk_at dksX5_law_1 5 rfl rfl)
theorem dX5_law_30 : decode cX5_law 30 = .ok (.invokevirtual 412, 3) := dk_182 1 156 (dk_at dksX5_law_1 6 rfl rfl)
theorem dX5_law_33 : decode cX5_law 33 = .ok (.aload_n 0, 1) := dk_42 (dk_at dksX5_law_1 9 rfl rfl)
theorem dX5_law_34 : decode cX5_law 34 = .ok (.invokevirtual 415, 3) := dk_182 1 159 (dk_at dksX5_law_1 10 rfl rfl)
theorem dX5_law_37 : decode cX5_law 37 = .ok (.aload_n 0, 1) := dk_42 (dk_at dksX5_law_1 13 rfl rfl)
theorem dX5_law_38 : decode cX5_law 38 = .ok (.getfield 275, 3) := dk_180 1 19 (dk_at dksX5_law_1 14 rfl rfl)
theorem dX5_law_41 : decode cX5_law 41 = .ok (.ifCond .ne 23, 3) := dk_154 0 23 (dk_at dksX5_law_1 17 rfl rfl)
theorem dX5_law_44 : decode cX5_law 44 = .ok (.aload_n 0, 1) := dk_42 (dk_at dksX5_law_1 20 rfl rfl)
theorem dX5_law_45 : decode cX5_law 45 = .ok (.bipush 59, 2) := dk_16 59 (dk_at dksX5_law_1 21 rfl rfl)
theorem dX5_law_47 : decode cX5_law 47 = .ok (.invokevirtual 344, 3) := dk_182 1 88 (dk_at dksX5_law_2 0 rfl rfl)
theorem dX5_law_50 : decode cX5_law 50 = .ok (.ifCond .eq 14, 3) := dk_153 0 14 (dk_at dksX5_law_2 3 rfl rfl)
theorem dX5_law_53 : decode cX5_law 53 = .ok (.aload_n 0, 1) := dk_42 (dk_at dksX5_law_2 6 rfl rfl)
theorem dX5_law_54 : decode cX5_law 54 = .ok (.invokevirtual 279, 3) := dk_182 1 23 (dk_at dksX5_law_2 7 rfl rfl)
theorem dX5_law_57 : decode cX5_law 57 = .ok (.aload_n 0, 1) := dk_42 (dk_at dksX5_law_2 10 rfl rfl)
theorem dX5_law_58 : decode cX5_law 58 = .ok (.invokevirtual 415, 3) := dk_182 1 159 (dk_at dksX5_law_2 11 rfl rfl)
theorem dX5_law_61 : decode cX5_law 61 = .ok (.goto (-24), 3) := dk_167 255 232 (dk_at dksX5_law_2 14 rfl rfl)
theorem dX5_law_64 : decode cX5_law 64 = .ok (.aload_n 0, 1) := dk_42 (dk_at dksX5_law_2 17 rfl rfl)
theorem dX5_law_65 : decode cX5_law 65 = .ok (.invokevirtual 418, 3) := dk_182 1 162 (dk_at dksX5_law_2 18 rfl rfl)
theorem dX5_law_68 : decode cX5_law 68 = .ok (.aload_n 0, 1) := dk_42 (dk_at dksX5_law_2 21 rfl rfl)
theorem dX5_law_69 : decode cX5_law 69 = .ok (.getfield 275, 3) := dk_180 1 19 (dk_at dksX5_law_3 0 rfl rfl)
theorem dX5_law_72 : decode cX5_law 72 = .ok (.ifCond .eq 10, 3) := dk_153 0 10 (dk_at dksX5_law_3 3 rfl rfl)
theorem dX5_law_75 : decode cX5_law 75 = .ok (.aload_n 0, 1) := dk_42 (dk_at dksX5_law_3 6 rfl rfl)
theorem dX5_law_76 : decode cX5_law 76 = .ok (.bipush (-6), 2) := dk_16 250 (dk_at dksX5_law_3 7 rfl rfl)
theorem dX5_law_78 : decode cX5_law 78 = .ok (.invokevirtual 184, 3) := dk_182 0 184 (dk_at dksX5_law_3 9 rfl rfl)
theorem dX5_law_81 : decode cX5_law 81 = .ok (.ireturn, 1) := dk_172 (dk_at dksX5_law_3 12 rfl rfl)
theorem dX5_law_82 : decode cX5_law 82 = .ok (.bipush 116, 2) := dk_16 116 (dk_at dksX5_law_3 13 rfl rfl)
theorem dX5_law_84 : decode cX5_law 84 = .ok (.sipush 900, 3) := dk_17 3 132 (dk_at dksX5_law_3 15 rfl rfl)
theorem dX5_law_87 : decode cX5_law 87 = .ok (.aload_n 0, 1) := dk_42 (dk_at dksX5_law_3 18 rfl rfl)
theorem dX5_law_88 : decode cX5_law 88 = .ok (.getfield 13, 3) := dk_180 0 13 (dk_at dksX5_law_3 19 rfl rfl)
theorem dX5_law_91 : decode cX5_law 91 = .ok (.iconst 3, 1) := dk_6 (dk_at dksX5_law_3 22 rfl rfl)
theorem dX5_law_92 : decode cX5_law 92 = .ok (.iaload, 1) := dk_46 (dk_at dksX5_law_3 23 rfl rfl)
theorem dX5_law_93 : decode cX5_law 93 = .ok (.imul, 1) := dk_104 (dk_at dksX5_law_4 0 rfl rfl)
theorem dX5_law_94 : decode cX5_law 94 = .ok (.iadd, 1) := dk_96 (dk_at dksX5_law_4 1 rfl rfl)
theorem dX5_law_95 : decode cX5_law 95 = .ok (.istore_n 1, 1) := dk_60 (dk_at dksX5_law_4 2 rfl rfl)
theorem dX5_law_96 : decode cX5_law 96 = .ok (.aload_n 0, 1) := dk_42 (dk_at dksX5_law_4 3 rfl rfl)
theorem dX5_law_97 : decode cX5_law 97 = .ok (.getfield 13, 3) := dk_180 0 13 (dk_at dksX5_law_4 4 rfl rfl)
theorem dX5_law_100 : decode cX5_law 100 = .ok (.iload_n 1, 1) := dk_27 (dk_at dksX5_law_4 7 rfl rfl)
theorem dX5_law_101 : decode cX5_law 101 = .ok (.iconst 1, 1) := dk_4 (dk_at dksX5_law_4 8 rfl rfl)
theorem dX5_law_102 : decode cX5_law 102 = .ok (.iadd, 1) := dk_96 (dk_at dksX5_law_4 9 rfl rfl)
theorem dX5_law_103 : decode cX5_law 103 = .ok (.aload_n 0, 1) := dk_42 (dk_at dksX5_law_4 10 rfl rfl)
theorem dX5_law_104 : decode cX5_law 104 = .ok (.getfield 404, 3) := dk_180 1 148 (dk_at dksX5_law_4 11 rfl rfl)
theorem dX5_law_107 : decode cX5_law 107 = .ok (.iastore, 1) := dk_79 (dk_at dksX5_law_4 14 rfl rfl)
theorem dX5_law_108 : decode cX5_law 108 = .ok (.iconst 0, 1) := dk_3 (dk_at dksX5_law_4 15 rfl rfl)
theorem dX5_law_109 : decode cX5_law 109 = .ok (.istore_n 2, 1) := dk_61 (dk_at dksX5_law_4 16 rfl rfl)
theorem dX5_law_110 : decode cX5_law 110 = .ok (.iload_n 2, 1) := dk_28 (dk_at dksX5_law_4 17 rfl rfl)
theorem dX5_law_111 : decode cX5_law 111 = .ok (.bipush 8, 2) := dk_16 8 (dk_at dksX5_law_4 18 rfl rfl)
theorem dX5_law_113 : decode cX5_law 113 = .ok (.aload_n 0, 1) := dk_42 (dk_at dksX5_law_4 20 rfl rfl)
theorem dX5_law_114 : decode cX5_law 114 = .ok (.getfield 404, 3) := dk_180 1 148 (dk_at dksX5_law_4 21 rfl rfl)
theorem dX5_law_117 : decode cX5_law 117 = .ok (.imul, 1) := dk_104 (dk_at dksX5_law_5 0 rfl rfl)
theorem dX5_law_118 : decode cX5_law 118 = .ok (.if_icmp .ge 25, 3) := dk_162 0 25 (dk_at dksX5_law_5 1 rfl rfl)
theorem dX5_law_121 : decode cX5_law 121 = .ok (.aload_n 0, 1) := dk_42 (dk_at dksX5_law_5 4 rfl rfl)
theorem dX5_law_122 : decode cX5_law 122 = .ok (.getfield 13, 3) := dk_180 0 13 (dk_at dksX5_law_5 5 rfl rfl)
theorem dX5_law_125 : decode cX5_law 125 = .ok (.iload_n 1, 1) := dk_27 (dk_at dksX5_law_5 8 rfl rfl)
theorem dX5_law_126 : decode cX5_law 126 = .ok (.iconst 2, 1) := dk_5 (dk_at dksX5_law_5 9 rfl rfl)
theorem dX5_law_127 : decode cX5_law 127 = .ok (.iadd, 1) := dk_96 (dk_at dksX5_law_5 10 rfl rfl)
theorem dX5_law_128 : decode cX5_law 128 = .ok (.iload_n 2, 1) := dk_28 (dk_at dksX5_law_5 11 rfl rfl)
theorem dX5_law_129 : decode cX5_law 129 = .ok (.iadd, 1) := dk_96 (dk_at dksX5_law_5 12 rfl rfl)
theorem dX5_law_130 : decode cX5_law 130 = .ok (.aload_n 0, 1) := dk_42 (dk_at dksX5_law_5 13 rfl rfl)
theorem dX5_law_131 : decode cX5_law 131 = .ok (.getfield 42, 3) := dk_180 0 42 (dk_at dksX5_law_5 14 rfl rfl)
theorem dX5_law_134 : decode cX5_law 134 = .ok (.iload_n 2, 1) := dk_28 (dk_at dksX5_law_5 17 rfl rfl)
theorem dX5_law_135 : decode cX5_law 135 = .ok (.iaload, 1) := dk_46 (dk_at dksX5_law_5 18 rfl rfl)
theorem dX5_law_136 : decode cX5_law 136 = .ok (.iastore, 1) := dk_79 (dk_at dksX5_law_5 19 rfl rfl)
theorem dX5_law_137 : decode cX5_law 137 = .ok (.iinc 2 1, 3) := dk_132 2 1 (dk_at dksX5_law_5 20 rfl rfl)
theorem dX5_law_140 : decode cX5_law 140 = .ok (.goto (-30), 3) := dk_167 255 226 (dk_at dksX5_law_6 0 rfl rfl)
theorem dX5_law_143 : decode cX5_law 143 = .ok (.iconst 0, 1) := dk_3 (dk_at dksX5_law_6 3 rfl rfl)
theorem dX5_law_144 : decode cX5_law 144 = .ok (.istore_n 2, 1) := dk_61 (dk_at dksX5_law_6 4 rfl rfl)
theorem dX5_law_145 : decode cX5_law 145 = .ok (.iload_n 2, 1) := dk_28 (dk_at dksX5_law_6 5 rfl rfl)
theorem dX5_law_146 : decode cX5_law 146 = .ok (.aload_n 0, 1) := dk_42 (dk_at dksX5_law_6 6 rfl rfl)
theorem dX5_law_147 : decode cX5_law 147 = .ok (.getfield 312, 3) := dk_180 1 56 (dk_at dksX5_law_6 7 rfl rfl)
theorem dX5_law_150 : decode cX5_law 150 = .ok (.if_icmp .ge 49, 3) := dk_162 0 49 (dk_at dksX5_law_6 10 rfl rfl)
theorem dX5_law_153 : decode cX5_law 153 = .ok (.aload_n 0, 1) := dk_42 (dk_at dksX5_law_6 13 rfl rfl)
theorem dX5_law_154 : decode cX5_law 154 = .ok (.getfield 13, 3) := dk_180 0 13 (dk_at dksX5_law_6 14 rfl rfl)
theorem dX5_law_157 : decode cX5_law 157 = .ok (.iload_n 1, 1) := dk_27 (dk_at dksX5_law_6 17 rfl rfl)
theorem dX5_law_158 : decode cX5_law 158 = .ok (.bipush 98, 2) := dk_16 98 (dk_at dksX5_law_6 18 rfl rfl)
theorem dX5_law_160 : decode cX5_law 160 = .ok (.iadd, 1) := dk_96 (dk_at dksX5_law_6 20 rfl rfl)
theorem dX5_law_161 : decode cX5_law 161 = .ok (.iconst 2, 1) := dk_5 (dk_at dksX5_law_6 21 rfl rfl)
theorem dX5_law_162 : decode cX5_law 162 = .ok (.iload_n 2, 1) := dk_28 (dk_at dksX5_law_6 22 rfl rfl)
theorem dX5_law_163 : decode cX5_law 163 = .ok (.imul, 1) := dk_104 (dk_at dksX5_law_6 23 rfl rfl)
theorem dX5_law_164 : decode cX5_law 164 = .ok (.iadd, 1) := dk_96 (dk_at dksX5_law_7 0 rfl rfl)
theorem dX5_law_165 : decode cX5_law 165 = .ok (.aload_n 0, 1) := dk_42 (dk_at dksX5_law_7 1 rfl rfl)
theorem dX5_law_166 : decode cX5_law 166 = .ok (.getfield 45, 3) := dk_180 0 45 (dk_at dksX5_law_7 2 rfl rfl)
theorem dX5_law_169 : decode cX5_law 169 = .ok (.iload_n 2, 1) := dk_28 (dk_at dksX5_law_7 5 rfl rfl)
theorem dX5_law_170 : decode cX5_law 170 = .ok (.iaload, 1) := dk_46 (dk_at dksX5_law_7 6 rfl rfl)
theorem dX5_law_171 : decode cX5_law 171 = .ok (.iastore, 1) := dk_79 (dk_at dksX5_law_7 7 rfl rfl)
theorem dX5_law_172 : decode cX5_law 172 = .ok (.aload_n 0, 1) := dk_42 (dk_at dksX5_law_7 8 rfl rfl)
theorem dX5_law_173 : decode cX5_law 173 = .ok (.getfield 13, 3) := dk_180 0 13 (dk_at dksX5_law_7 9 rfl rfl)
theorem dX5_law_176 : decode cX5_law 176 = .ok (.iload_n 1, 1) := dk_27 (dk_at dksX5_law_7 12 rfl rfl)
theorem dX5_law_177 : decode cX5_law 177 = .ok (.bipush 98, 2) := dk_16 98 (dk_at dksX5_law_7 13 rfl rfl)
theorem dX5_law_179 : decode cX5_law 179 = .ok (.iadd, 1) := dk_96 (dk_at dksX5_law_7 15 rfl rfl)
theorem dX5_law_180 : decode cX5_law 180 = .ok (.iconst 2, 1) := dk_5 (dk_at dksX5_law_7 16 rfl rfl)
theorem dX5_law_181 : decode cX5_law 181 = .ok (.iload_n 2, 1) := dk_28 (dk_at dksX5_law_7 17 rfl rfl)
theorem dX5_law_182 : decode cX5_law 182 = .ok (.imul, 1) := dk_104 (dk_at dksX5_law_7 18 rfl rfl)
theorem dX5_law_183 : decode cX5_law 183 = .ok (.iadd, 1) := dk_96 (dk_at dksX5_law_7 19 rfl rfl)
theorem dX5_law_184 : decode cX5_law 184 = .ok (.iconst 1, 1) := dk_4 (dk_at dksX5_law_7 20 rfl rfl)
theorem dX5_law_185 : decode cX5_law 185 = .ok (.iadd, 1) := dk_96 (dk_at dksX5_law_7 21 rfl rfl)
theorem dX5_law_186 : decode cX5_law 186 = .ok (.aload_n 0, 1) := dk_42 (dk_at dksX5_law_7 22 rfl rfl)
theorem dX5_law_187 : decode cX5_law 187 = .ok (.getfield 48, 3) := dk_180 0 48 (dk_at dksX5_law_8 0 rfl rfl)
theorem dX5_law_190 : decode cX5_law 190 = .ok (.iload_n 2, 1) := dk_28 (dk_at dksX5_law_8 3 rfl rfl)
theorem dX5_law_191 : decode cX5_law 191 = .ok (.iaload, 1) := dk_46 (dk_at dksX5_law_8 4 rfl rfl)
theorem dX5_law_192 : decode cX5_law 192 = .ok (.iastore, 1) := dk_79 (dk_at dksX5_law_8 5 rfl rfl)
theorem dX5_law_193 : decode cX5_law 193 = .ok (.iinc 2 1, 3) := dk_132 2 1 (dk_at dksX5_law_8 6 rfl rfl)
theorem dX5_law_196 : decode cX5_law 196 = .ok (.goto (-51), 3) := dk_167 255 205 (dk_at dksX5_law_8 9 rfl rfl)
theorem dX5_law_199 : decode cX5_law 199 = .ok (.aload_n 0, 1) := dk_42 (dk_at dksX5_law_8 12 rfl rfl)
theorem dX5_law_200 : decode cX5_law 200 = .ok (.getfield 13, 3) := dk_180 0 13 (dk_at dksX5_law_8 13 rfl rfl)
theorem dX5_law_203 : decode cX5_law 203 = .ok (.iconst 3, 1) := dk_6 (dk_at dksX5_law_8 16 rfl rfl)
theorem dX5_law_204 : decode cX5_law 204 = .ok (.dup2, 1) := dk_92 (dk_at dksX5_law_8 17 rfl rfl)
theorem dX5_law_205 : decode cX5_law 205 = .ok (.iaload, 1) := dk_46 (dk_at dksX5_law_8 18 rfl rfl)
theorem dX5_law_206 : decode cX5_law 206 = .ok (.iconst 1, 1) := dk_4 (dk_at dksX5_law_8 19 rfl rfl)
theorem dX5_law_207 : decode cX5_law 207 = .ok (.iadd, 1) := dk_96 (dk_at dksX5_law_8 20 rfl rfl)
theorem dX5_law_208 : decode cX5_law 208 = .ok (.iastore, 1) := dk_79 (dk_at dksX5_law_8 21 rfl rfl)
theorem dX5_law_209 : decode cX5_law 209 = .ok (.aload_n 0, 1) := dk_42 (dk_at dksX5_law_8 22 rfl rfl)
theorem dX5_law_210 : decode cX5_law 210 = .ok (.aload_n 0, 1) := dk_42 (dk_at dksX5_law_8 23 rfl rfl)
theorem dX5_law_211 : decode cX5_law 211 = .ok (.getfield 13, 3) := dk_180 0 13 (dk_at dksX5_law_9 0 rfl rfl)
theorem dX5_law_214 : decode cX5_law 214 = .ok (.iconst 3, 1) := dk_6 (dk_at dksX5_law_9 3 rfl rfl)
theorem dX5_law_215 : decode cX5_law 215 = .ok (.iaload, 1) := dk_46 (dk_at dksX5_law_9 4 rfl rfl)
theorem dX5_law_216 : decode cX5_law 216 = .ok (.iconst 1, 1) := dk_4 (dk_at dksX5_law_9 5 rfl rfl)
theorem dX5_law_217 : decode cX5_law 217 = .ok (.isub, 1) := dk_100 (dk_at dksX5_law_9 6 rfl rfl)
theorem dX5_law_218 : decode cX5_law 218 = .ok (.invokevirtual 184, 3) := dk_182 0 184 (dk_at dksX5_law_9 7 rfl rfl)
theorem dX5_law_221 : decode cX5_law 221 = .ok (.ireturn, 1) := dk_172 (dk_at dksX5_law_9 10 rfl rfl)
abbrev cX5_beginText : ByteArray := prog_22_method_61_code
def yX5_beginText : MethodName := ⟨RX5, "beginText", "(Z)V"⟩
def dkwX5_beginText_1 : List UInt8 := [177]
abbrev dktX5_beginText_1 : List UInt8 := dkwX5_beginText_1 ++ []
def dkwX5_beginText_0 : List UInt8 := [42, 27, 181, 1, 94, 42, 182, 1, 145, 42, 3, 181, 1, 148, 42, 3, 181, 1, 56, 42, 3, 181, 1, 85]
abbrev dktX5_beginText_0 : List UInt8 := dkwX5_beginText_0 ++ dktX5_beginText_1
theorem dksX5_beginText_0 : cX5_beginText.data.toList.drop 0 = dktX5_beginText_0 := by decide +kernel
theorem dksX5_beginText_1 : cX5_beginText.data.toList.drop 24 = dktX5_beginText_1 := dk_seg dksX5_beginText_0 24 rfl rfl
theorem dX5_beginText_0 : decode cX5_beginText 0 = .ok (.aload_n 0, 1) := dk_42 (dk_at dksX5_beginText_0 0 rfl rfl)
theorem dX5_beginText_1 : decode cX5_beginText 1 = .ok (.iload_n 1, 1) := dk_27 (dk_at dksX5_beginText_0 1 rfl rfl)
theorem dX5_beginText_2 : decode cX5_beginText 2 = .ok (.putfield 350, 3) := dk_181 1 94 (dk_at dksX5_beginText_0 2 rfl rfl)
theorem dX5_beginText_5 : decode cX5_beginText 5 = .ok (.aload_n 0, 1) := dk_42 (dk_at dksX5_beginText_0 5 rfl rfl)
theorem dX5_beginText_6 : decode cX5_beginText 6 = .ok (.invokevirtual 401, 3) := dk_182 1 145 (dk_at dksX5_beginText_0 6 rfl rfl)
theorem dX5_beginText_9 : decode cX5_beginText 9 = .ok (.aload_n 0, 1) := dk_42 (dk_at dksX5_beginText_0 9 rfl rfl)
theorem dX5_beginText_10 : decode cX5_beginText 10 = .ok (.iconst 0, 1) := dk_3 (dk_at dksX5_beginText_0 10 rfl rfl)
theorem dX5_beginText_11 : decode cX5_beginText 11 = .ok (.putfield 404, 3) := dk_181 1 148 (dk_at dksX5_beginText_0 11 rfl rfl)
theorem dX5_beginText_14 : decode cX5_beginText 14 = .ok (.aload_n 0, 1) := dk_42 (dk_at dksX5_beginText_0 14 rfl rfl)
theorem dX5_beginText_15 : decode cX5_beginText 15 = .ok (.iconst 0, 1) := dk_3 (dk_at dksX5_beginText_0 15 rfl rfl)
theorem dX5_beginText_16 : decode cX5_beginText 16 = .ok (.putfield 312, 3) := dk_181 1 56 (dk_at dksX5_beginText_0 16 rfl rfl)
theorem dX5_beginText_19 : decode cX5_beginText 19 = .ok (.aload_n 0, 1) := dk_42 (dk_at dksX5_beginText_0 19 rfl rfl)
theorem dX5_beginText_20 : decode cX5_beginText 20 = .ok (.iconst 0, 1) := dk_3 (dk_at dksX5_beginText_0 20 rfl rfl)
theorem dX5_beginText_21 : decode cX5_beginText 21 = .ok (.putfield 341, 3) := dk_181 1 85 (dk_at dksX5_beginText_0 21 rfl rfl)
theorem dX5_beginText_24 : decode cX5_beginText 24 = .ok (.return_, 1) := dk_177 (dk_at dksX5_beginText_1 0 rfl rfl)
abbrev cX5_begin : ByteArray := prog_22_method_39_code
def yX5_begin : MethodName := ⟨RX5, "begin", "()V"⟩
def dkwX5_begin_0 : List UInt8 := [42, 3, 181, 1, 16, 42, 3, 181, 1, 19, 42, 2, 181, 0, 38, 42, 182, 1, 23, 177]
abbrev dktX5_begin_0 : List UInt8 := dkwX5_begin_0 ++ []
theorem dksX5_begin_0 : cX5_begin.data.toList.drop 0 = dktX5_begin_0 := by decide +kernel
theorem dX5_begin_0 : decode cX5_begin 0 = .ok (.aload_n 0, 1) := dk_42 (dk_at dksX5_begin_0 0 rfl rfl)
theorem dX5_begin_1 : decode cX5_begin 1 = .ok (.iconst 0, 1) := dk_3 (dk_at dksX5_begin_0 1 rfl rfl)
theorem dX5_begin_2 : decode cX5_begin 2 = .ok (.putfield 272, 3) := dk_181 1 16 (dk_at dksX5_begin_0 2 rfl rfl)
theorem dX5_begin_5 : decode cX5_begin 5 = .ok (.aload_n 0, 1) := dk_42 (dk_at dksX5_begin_0 5 rfl rfl)
theorem dX5_begin_6 : decode cX5_begin 6 = .ok (.iconst 0, 1) := dk_3 (dk_at dksX5_begin_0 6 rfl rfl)
theorem dX5_begin_7 : decode cX5_begin 7 = .ok (.putfield 275, 3) := dk_181 1 19 (dk_at dksX5_begin_0 7 rfl rfl)
theorem dX5_begin_10 : decode cX5_begin 10 = .ok (.aload_n 0, 1) := dk_42 (dk_at dksX5_begin_0 10 rfl rfl)
theorem dX5_begin_11 : decode cX5_begin 11 = .ok (.iconst (-1), 1) := dk_2 (dk_at dksX5_begin_0 11 rfl rfl)
theorem dX5_begin_12 : decode cX5_begin 12 = .ok (.putfield 38, 3) := dk_181 0 38 (dk_at dksX5_begin_0 12 rfl rfl)
theorem dX5_begin_15 : decode cX5_begin 15 = .ok (.aload_n 0, 1) := dk_42 (dk_at dksX5_begin_0 15 rfl rfl)
theorem dX5_begin_16 : decode cX5_begin 16 = .ok (.invokevirtual 279, 3) := dk_182 1 23 (dk_at dksX5_begin_0 16 rfl rfl)
theorem dX5_begin_19 : decode cX5_begin 19 = .ok (.return_, 1) := dk_177 (dk_at dksX5_begin_0 19 rfl rfl)
abbrev cX5_next : ByteArray := prog_22_method_40_code
def yX5_next : MethodName := ⟨RX5, "next", "()V"⟩
def dkwX5_next_14 : List UInt8 := [181, 1, 16, 167, 255, 167, 177]
abbrev dktX5_next_14 : List UInt8 := dkwX5_next_14 ++ []
def dkwX5_next_13 : List UInt8 := [180, 0, 35, 42, 180, 1, 16, 46, 133, 97, 20, 1, 50, 101, 181, 1, 29, 42, 89, 180, 1, 16, 4, 96]
abbrev dktX5_next_13 : List UInt8 := dkwX5_next_13 ++ dktX5_next_14
def dkwX5_next_12 : List UInt8 := [20, 1, 48, 148, 158, 0, 10, 42, 180, 1, 29, 167, 0, 26, 42, 180, 1, 29, 20, 1, 3, 105, 42]
abbrev dktX5_next_12 : List UInt8 := dkwX5_next_12 ++ dktX5_next_13
def dkwX5_next_11 : List UInt8 := [162, 0, 76, 42, 180, 0, 35, 42, 180, 1, 16, 46, 184, 1, 36, 153, 0, 61, 42, 42, 180, 1, 29]
abbrev dktX5_next_11 : List UInt8 := dkwX5_next_11 ++ dktX5_next_12
def dkwX5_next_10 : List UInt8 := [4, 96, 181, 1, 16, 167, 255, 165, 42, 180, 1, 39, 5, 160, 0, 87, 42, 180, 1, 16, 42, 180, 1, 7]
abbrev dktX5_next_10 : List UInt8 := dkwX5_next_10 ++ dktX5_next_11
def dkwX5_next_9 : List UInt8 := [180, 1, 16, 46, 133, 97, 20, 1, 44, 101, 167, 0, 6, 20, 1, 46, 181, 1, 29, 42, 89, 180, 1, 16]
abbrev dktX5_next_9 : List UInt8 := dkwX5_next_9 ++ dktX5_next_10
def dkwX5_next_8 : List UInt8 := [180, 1, 26, 100, 16, 10, 162, 0, 29, 42, 180, 1, 29, 20, 1, 42, 105, 42, 180, 0, 35, 42]
abbrev dktX5_next_8 : List UInt8 := dkwX5_next_8 ++ dktX5_next_9
def dkwX5_next_7 : List UInt8 := [162, 0, 78, 42, 180, 0, 35, 42, 180, 1, 16, 46, 184, 1, 33, 153, 0, 63, 42, 42, 180, 1, 16, 42]
abbrev dktX5_next_7 : List UInt8 := dkwX5_next_7 ++ dktX5_next_8
def dkwX5_next_6 : List UInt8 := [180, 1, 16, 4, 96, 181, 1, 16, 42, 180, 1, 39, 4, 160, 0, 89, 42, 180, 1, 16, 42, 180, 1, 7]
abbrev dktX5_next_6 : List UInt8 := dkwX5_next_6 ++ dktX5_next_7
def dkwX5_next_5 : List UInt8 := [180, 1, 39, 6, 160, 0, 27, 42, 42, 180, 0, 35, 42, 180, 1, 26, 46, 133, 181, 1, 29, 42, 89]
abbrev dktX5_next_5 : List UInt8 := dkwX5_next_5 ++ dktX5_next_6
def dkwX5_next_4 : List UInt8 := [180, 0, 35, 42, 180, 1, 26, 46, 184, 1, 36, 153, 0, 7, 5, 167, 0, 4, 6, 181, 1, 39, 42]
abbrev dktX5_next_4 : List UInt8 := dkwX5_next_4 ++ dktX5_next_5
def dkwX5_next_3 : List UInt8 := [167, 0, 42, 42, 180, 0, 35, 42, 180, 1, 26, 46, 184, 1, 33, 153, 0, 7, 4, 167, 0, 23, 42]
abbrev dktX5_next_3 : List UInt8 := dkwX5_next_3 ++ dktX5_next_4
def dkwX5_next_2 : List UInt8 := [180, 1, 26, 181, 1, 16, 42, 9, 181, 1, 29, 42, 42, 180, 1, 26, 42, 180, 1, 7, 160, 0, 7, 3]
abbrev dktX5_next_2 : List UInt8 := dkwX5_next_2 ++ dktX5_next_3
def dkwX5_next_1 : List UInt8 := [180, 1, 26, 46, 16, 32, 160, 0, 16, 42, 89, 180, 1, 26, 4, 96, 181, 1, 26, 167, 255, 221, 42, 42]
abbrev dktX5_next_1 : List UInt8 := dkwX5_next_1 ++ dktX5_next_2
def dkwX5_next_0 : List UInt8 := [42, 42, 180, 1, 16, 181, 1, 26, 42, 180, 1, 26, 42, 180, 1, 7, 162, 0, 30, 42, 180, 0, 35, 42]
abbrev dktX5_next_0 : List UInt8 := dkwX5_next_0 ++ dktX5_next_1
theorem dksX5_next_0 : cX5_next.data.toList.drop 0 = dktX5_next_0 := by decide +kernel
theorem dksX5_next_1 : cX5_next.data.toList.drop 24 = dktX5_next_1 := dk_seg dksX5_next_0 24 rfl rfl
theorem dksX5_next_2 : cX5_next.data.toList.drop 48 = dktX5_next_2 := dk_seg dksX5_next_1 24 rfl rfl
theorem dksX5_next_3 : cX5_next.data.toList.drop 72 = dktX5_next_3 := dk_seg dksX5_next_2 24 rfl rfl
theorem dksX5_next_4 : cX5_next.data.toList.drop 95 = dktX5_next_4 := dk_seg dksX5_next_3 23 rfl rfl
theorem dksX5_next_5 : cX5_next.data.toList.drop 118 = dktX5_next_5 := dk_seg dksX5_next_4 23 rfl rfl
theorem dksX5_next_6 : cX5_next.data.toList.drop 141 = dktX5_next_6 := dk_seg dksX5_next_5 23 rfl rfl
theorem dksX5_next_7 : cX5_next.data.toList.drop 165 = dktX5_next_7 := dk_seg dksX5_next_6 24 rfl rfl
theorem dksX5_next_8 : cX5_next.data.toList.drop 189 = dktX5_next_8 := dk_seg dksX5_next_7 24 rfl rfl
theorem dksX5_next_9 : cX5_next.data.toList.drop 211 = dktX5_next_9 := dk_seg dksX5_next_8 22 rfl rfl
theorem dksX5_next_10 : cX5_next.data.toList.drop 235 = dktX5_next_10 := dk_seg dksX5_next_9 24 rfl rfl
theorem dksX5_next_11 : cX5_next.data.toList.drop 259 = dktX5_next_11 := dk_seg dksX5_next_10 24 rfl rfl
theorem dksX5_next_12 : cX5_next.data.toList.drop 282 = dktX5_next_12 := dk_seg dksX5_next_11 23 rfl rfl
theorem dksX5_next_13 : cX5_next.data.toList.drop 305 = dktX5_next_13 := dk_seg dksX5_next_12 23 rfl rfl
theorem dksX5_next_14 : cX5_next.data.toList.drop 329 = dktX5_next_14 := dk_seg dksX5_next_13 24 rfl rfl
theorem dX5_next_0 : decode cX5_next 0 = .ok (.aload_n 0, 1) := dk_42 (dk_at dksX5_next_0 0 rfl rfl)
theorem dX5_next_1 : decode cX5_next 1 = .ok (.aload_n 0, 1) := dk_42 (dk_at dksX5_next_0 1 rfl rfl)
theorem dX5_next_2 : decode cX5_next 2 = .ok (.getfield 272, 3) := dk_180 1 16 (dk_at dksX5_next_0 2 rfl rfl)
theorem dX5_next_5 : decode cX5_next 5 = .ok (.putfield 282, 3) := dk_181 1 26 (dk_at dksX5_next_0 5 rfl rfl)
theorem dX5_next_8 : decode cX5_next 8 = .ok (.aload_n 0, 1) := dk_42 (dk_at dksX5_next_0 8 rfl rfl)
theorem dX5_next_9 : decode cX5_next 9 = .ok (.getfield 282, 3) := dk_180 1 26 (dk_at dksX5_next_0 9 rfl rfl)
theorem dX5_next_12 : decode cX5_next 12 = .ok (.aload_n 0, 1) := dk_42 (dk_at dksX5_next_0 12 rfl rfl)
theorem dX5_next_13 : decode cX5_next 13 = .ok (.getfield 263, 3) := dk_180 1 7 (dk_at dksX5_next_0 13 rfl rfl)
theorem dX5_next_16 : decode cX5_next 16 = .ok (.if_icmp .ge 30, 3) := dk_162 0 30 (dk_at dksX5_next_0 16 rfl rfl)
theorem dX5_next_19 : decode cX5_next 19 = .ok (.aload_n 0, 1) := dk_42 (dk_at dksX5_next_0 19 rfl rfl)
theorem dX5_next_20 : decode cX5_next 20 = .ok (.getfield 35, 3) := dk_180 0 35 (dk_at dksX5_next_0 20 rfl rfl)
theorem dX5_next_23 : decode cX5_next 23 = .ok (.aload_n 0, 1) := dk_42 (dk_at dksX5_next_0 23 rfl rfl)
theorem dX5_next_24 : decode cX5_next 24 = .ok (.getfield 282, 3) := dk_180 1 26 (dk_at dksX5_next_1 0 rfl rfl)
theorem dX5_next_27 : decode cX5_next 27 = .ok (.iaload, 1) := dk_46 (dk_at dksX5_next_1 3 rfl rfl)
theorem dX5_next_28 : decode cX5_next 28 = .ok (.bipush 32, 2) := dk_16 32 (dk_at dksX5_next_1 4 rfl rfl)
theorem dX5_next_30 : decode cX5_next 30 = .ok (.if_icmp .ne 16, 3) := dk_160 0 16 (dk_at dksX5_next_1 6 rfl rfl)
theorem dX5_next_33 : decode cX5_next 33 = .ok (.aload_n 0, 1) := dk_42 (dk_at dksX5_next_1 9 rfl rfl)
theorem dX5_next_34 : decode cX5_next 34 = .ok (.dup, 1) := dk_89 (dk_at dksX5_next_1 10 rfl rfl)
theorem dX5_next_35 : decode cX5_next 35 = .ok (.getfield 282, 3) := dk_180 1 26 (dk_at dksX5_next_1 11 rfl rfl)
theorem dX5_next_38 : decode cX5_next 38 = .ok (.iconst 1, 1) := dk_4 (dk_at dksX5_next_1 14 rfl rfl)
theorem dX5_next_39 : decode cX5_next 39 = .ok (.iadd, 1) := dk_96 (dk_at dksX5_next_1 15 rfl rfl)
theorem dX5_next_40 : decode cX5_next 40 = .ok (.putfield 282, 3) := dk_181 1 26 (dk_at dksX5_next_1 16 rfl rfl)
theorem dX5_next_43 : decode cX5_next 43 = .ok (.goto (-35), 3) := dk_167 255 221 (dk_at dksX5_next_1 19 rfl rfl)
theorem dX5_next_46 : decode cX5_next 46 = .ok (.aload_n 0, 1) := dk_42 (dk_at dksX5_next_1 22 rfl rfl)
theorem dX5_next_47 : decode cX5_next 47 = .ok (.aload_n 0, 1) := dk_42 (dk_at dksX5_next_1 23 rfl rfl)
theorem dX5_next_48 : decode cX5_next 48 = .ok (.getfield 282, 3) := dk_180 1 26 (dk_at dksX5_next_2 0 rfl rfl)
theorem dX5_next_51 : decode cX5_next 51 = .ok (.putfield 272, 3) := dk_181 1 16 (dk_at dksX5_next_2 3 rfl rfl)
theorem dX5_next_54 : decode cX5_next 54 = .ok (.aload_n 0, 1) := dk_42 (dk_at dksX5_next_2 6 rfl rfl)
theorem dX5_next_55 : decode cX5_next 55 = .ok (.lconst 0, 1) := dk_9 (dk_at dksX5_next_2 7 rfl rfl)
theorem dX5_next_56 : decode cX5_next 56 = .ok (.putfield 285, 3) := dk_181 1 29 (dk_at dksX5_next_2 8 rfl rfl)
theorem dX5_next_59 : decode cX5_next 59 = .ok (.aload_n 0, 1) := dk_42 (dk_at dksX5_next_2 11 rfl rfl)
theorem dX5_next_60 : decode cX5_next 60 = .ok (.aload_n 0, 1) := dk_42 (dk_at dksX5_next_2 12 rfl rfl)
theorem dX5_next_61 : decode cX5_next 61 = .ok (.getfield 282, 3) := dk_180 1 26 (dk_at dksX5_next_2 13 rfl rfl)
theorem dX5_next_64 : decode cX5_next 64 = .ok (.aload_n 0, 1) := dk_42 (dk_at dksX5_next_2 16 rfl rfl)
theorem dX5_next_65 : decode cX5_next 65 = .ok (.getfield 263, 3) := dk_180 1 7 (dk_at dksX5_next_2 17 rfl rfl)
theorem dX5_next_68 : decode cX5_next 68 = .ok (.if_icmp .ne 7, 3) := dk_160 0 7 (dk_at dksX5_next_2 20 rfl rfl)
theorem dX5_next_71 : decode cX5_next 71 = .ok (.iconst 0, 1) := dk_3 (dk_at dksX5_next_2 23 rfl rfl)
theorem dX5_next_72 : decode cX5_next 72 = .ok (.goto 42, 3) := dk_167 0 42 (dk_at dksX5_next_3 0 rfl rfl)
theorem dX5_next_75 : decode cX5_next 75 = .ok (.aload_n 0, 1) := dk_42 (dk_at dksX5_next_3 3 rfl rfl)
theorem dX5_next_76 : decode cX5_next 76 = .ok (.getfield 35, 3) := dk_180 0 35 (dk_at dksX5_next_3 4 rfl rfl)
theorem dX5_next_79 : decode cX5_next 79 = .ok (.aload_n 0, 1) := dk_42 (dk_at dksX5_next_3 7 rfl rfl)
theorem dX5_next_80 : decode cX5_next 80 = .ok (.getfield 282, 3) := dk_180 1 26 (dk_at dksX5_next_3 8 rfl rfl)
theorem dX5_next_83 : decode cX5_next 83 = .ok (.iaload, 1) := dk_46 (dk_at dksX5_next_3 11 rfl rfl)
theorem dX5_next_84 : decode cX5_next 84 = .ok (.invokestatic 289, 3) := dk_184 1 33 (dk_at dksX5_next_3 12 rfl rfl)
theorem dX5_next_87 : decode cX5_next 87 = .ok (.ifCond .eq 7, 3) := dk_153 0 7 (dk_at dksX5_next_3 15 rfl rfl)
theorem dX5_next_90 : decode cX5_next 90 = .ok (.iconst 1, 1) := dk_4 (dk_at dksX5_next_3 18 rfl rfl)
theorem dX5_next_91 : decode cX5_next 91 = .ok (.goto 23, 3) := dk_167 0 23 (dk_at dksX5_next_3 19 rfl rfl)
theorem dX5_next_94 : decode cX5_next 94 = .ok (.aload_n 0, 1) := dk_42 (dk_at dksX5_next_3 22 rfl rfl)
theorem dX5_next_95 : decode cX5_next 95 = .ok (.getfield 35, 3) := dk_180 0 35 (dk_at dksX5_next_4 0 rfl rfl)
theorem dX5_next_98 : decode cX5_next 98 = .ok (.aload_n 0, 1) := dk_42 (dk_at dksX5_next_4 3 rfl rfl)
theorem dX5_next_99 : decode cX5_next 99 = .ok (.getfield 282, 3) := dk_180 1 26 (dk_at dksX5_next_4 4 rfl rfl)
theorem dX5_next_102 : decode cX5_next 102 = .ok (.iaload, 1) := dk_46 (dk_at dksX5_next_4 7 rfl rfl)
theorem dX5_next_103 : decode cX5_next 103 = .ok (.invokestatic 292, 3) := dk_184 1 36 (dk_at dksX5_next_4 8 rfl rfl)
theorem dX5_next_106 : decode cX5_next 106 = .ok (.ifCond .eq 7, 3) := dk_153 0 7 (dk_at dksX5_next_4 11 rfl rfl)
theorem dX5_next_109 : decode cX5_next 109 = .ok (.iconst 2, 1) := dk_5 (dk_at dksX5_next_4 14 rfl rfl)
theorem dX5_next_110 : decode cX5_next 110 = .ok (.goto 4, 3) := dk_167 0 4 (dk_at dksX5_next_4 15 rfl rfl)
theorem dX5_next_113 : decode cX5_next 113 = .ok (.iconst 3, 1) := dk_6 (dk_at dksX5_next_4 18 rfl rfl)
theorem dX5_next_114 : decode cX5_next 114 = .ok (.putfield 295, 3) := dk_181 1 39 (dk_at dksX5_next_4 19 rfl rfl)
theorem dX5_next_117 : decode cX5_next 117 = .ok (.aload_n 0, 1) := dk_42 (dk_at dksX5_next_4 22 rfl rfl)
theorem dX5_next_118 : decode cX5_next 118 = .ok (.getfield 295, 3) := dk_180 1 39 (dk_at dksX5_next_5 0 rfl rfl)
theorem dX5_next_121 : decode cX5_next 121 = .ok (.iconst 3, 1) := dk_6 (dk_at dksX5_next_5 3 rfl rfl)
theorem dX5_next_122 : decode cX5_next 122 = .ok (.if_icmp .ne 27, 3) := dk_160 0 27 (dk_at dksX5_next_5 4 rfl rfl)
theorem dX5_next_125 : decode cX5_next 125 = .ok (.aload_n 0, 1) := dk_42 (dk_at dksX5_next_5 7 rfl rfl)
theorem dX5_next_126 : decode cX5_next 126 = .ok (.aload_n 0, 1) := dk_42 (dk_at dksX5_next_5 8 rfl rfl)
theorem dX5_next_127 : decode cX5_next 127 = .ok (.getfield 35, 3) := dk_180 0 35 (dk_at dksX5_next_5 9 rfl rfl)
theorem dX5_next_130 : decode cX5_next 130 = .ok (.aload_n 0, 1) := dk_42 (dk_at dksX5_next_5 12 rfl rfl)
theorem dX5_next_131 : decode cX5_next 131 = .ok (.getfield 282, 3) := dk_180 1 26 (dk_at dksX5_next_5 13 rfl rfl)
theorem dX5_next_134 : decode cX5_next 134 = .ok (.iaload, 1) := dk_46 (dk_at dksX5_next_5 16 rfl rfl)
theorem dX5_next_135 : decode cX5_next 135 = .ok (.i2l, 1) := dk_133 (dk_at dksX5_next_5 17 rfl rfl)
theorem dX5_next_136 : decode cX5_next 136 = .ok (.putfield 285, 3) := dk_181 1 29 (dk_at dksX5_next_5 18 rfl rfl)
theorem dX5_next_139 : decode cX5_next 139 = .ok (.aload_n 0, 1) := dk_42 (dk_at dksX5_next_5 21 rfl rfl)
theorem dX5_next_140 : decode cX5_next 140 = .ok (.dup, 1) := dk_89 (dk_at dksX5_next_5 22 rfl rfl)
theorem dX5_next_141 : decode cX5_next 141 = .ok (.getfield 272, 3) := dk_180 1 16 (dk_at dksX5_next_6 0 rfl rfl)
theorem dX5_next_144 : decode cX5_next 144 = .ok (.iconst 1, 1) := dk_4 (dk_at dksX5_next_6 3 rfl rfl)
theorem dX5_next_145 : decode cX5_next 145 = .ok (.iadd, 1) := dk_96 (dk_at dksX5_next_6 4 rfl rfl)
theorem dX5_next_146 : decode cX5_next 146 = .ok (.putfield 272, 3) := dk_181 1 16 (dk_at dksX5_next_6 5 rfl rfl)
theorem dX5_next_149 : decode cX5_next 149 = .ok (.aload_n 0, 1) := dk_42 (dk_at dksX5_next_6 8 rfl rfl)
theorem dX5_next_150 : decode cX5_next 150 = .ok (.getfield 295, 3) := dk_180 1 39 (dk_at dksX5_next_6 9 rfl rfl)
theorem dX5_next_153 : decode cX5_next 153 = .ok (.iconst 1, 1) := dk_4 (dk_at dksX5_next_6 12 rfl rfl)
theorem dX5_next_154 : decode cX5_next 154 = .ok (.if_icmp .ne 89, 3) := dk_160 0 89 (dk_at dksX5_next_6 13 rfl rfl)
theorem dX5_next_157 : decode cX5_next 157 = .ok (.aload_n 0, 1) := dk_42 (dk_at dksX5_next_6 16 rfl rfl)
theorem dX5_next_158 : decode cX5_next 158 = .ok (.getfield 272, 3) := dk_180 1 16 (dk_at dksX5_next_6 17 rfl rfl)
theorem dX5_next_161 : decode cX5_next 161 = .ok (.aload_n 0, 1) := dk_42 (dk_at dksX5_next_6 20 rfl rfl)
theorem dX5_next_162 : decode cX5_next 162 = .ok (.getfield 263, 3) := dk_180 1 7 (dk_at dksX5_next_6 21 rfl rfl)
theorem dX5_next_165 : decode cX5_next 165 = .ok (.if_icmp .ge 78, 3) := dk_162 0 78 (dk_at dksX5_next_7 0 rfl rfl)
theorem dX5_next_168 : decode cX5_next 168 = .ok (.aload_n 0, 1) := dk_42 (dk_at dksX5_next_7 3 rfl rfl)
theorem dX5_next_169 : decode cX5_next 169 = .ok (.getfield 35, 3) := dk_180 0 35 (dk_at dksX5_next_7 4 rfl rfl)
theorem dX5_next_172 : decode cX5_next 172 = .ok (.aload_n 0, 1) := dk_42 (dk_at dksX5_next_7 7 rfl rfl)
theorem dX5_next_173 : decode cX5_next 173 = .ok (.getfield 272, 3) := dk_180 1 16 (dk_at dksX5_next_7 8 rfl rfl)
theorem dX5_next_176 : decode cX5_next 176 = .ok (.iaload, 1) := dk_46 (dk_at dksX5_next_7 11 rfl rfl)
theorem dX5_next_177 : decode cX5_next 177 = .ok (.invokestatic 289, 3) := dk_184 1 33 (dk_at dksX5_next_7 12 rfl rfl)
theorem dX5_next_180 : decode cX5_next 180 = .ok (.ifCond .eq 63, 3) := dk_153 0 63 (dk_at dksX5_next_7 15 rfl rfl)
theorem dX5_next_183 : decode cX5_next 183 = .ok (.aload_n 0, 1) := dk_42 (dk_at dksX5_next_7 18 rfl rfl)
theorem dX5_next_184 : decode cX5_next 184 = .ok (.aload_n 0, 1) := dk_42 (dk_at dksX5_next_7 19 rfl rfl)
theorem dX5_next_185 : decode cX5_next 185 = .ok (.getfield 272, 3) := dk_180 1 16 (dk_at dksX5_next_7 20 rfl rfl)
theorem dX5_next_188 : decode cX5_next 188 = .ok (.aload_n 0, 1) := dk_42 (dk_at dksX5_next_7 23 rfl rfl)
theorem dX5_next_189 : decode cX5_next 189 = .ok (.getfield 282, 3) := dk_180 1 26 (dk_at dksX5_next_8 0 rfl rfl)
theorem dX5_next_192 : decode cX5_next 192 = .ok (.isub, 1) := dk_100 (dk_at dksX5_next_8 3 rfl rfl)
theorem dX5_next_193 : decode cX5_next 193 = .ok (.bipush 10, 2) := dk_16 10 (dk_at dksX5_next_8 4 rfl rfl)
theorem dX5_next_195 : decode cX5_next 195 = .ok (.if_icmp .ge 29, 3) := dk_162 0 29 (dk_at dksX5_next_8 6 rfl rfl)
theorem dX5_next_198 : decode cX5_next 198 = .ok (.aload_n 0, 1) := dk_42 (dk_at dksX5_next_8 9 rfl rfl)
theorem dX5_next_199 : decode cX5_next 199 = .ok (.getfield 285, 3) := dk_180 1 29 (dk_at dksX5_next_8 10 rfl rfl)
theorem dX5_next_202 : decode cX5_next 202 = .ok (.ldc2_w 298, 3) := dk_20 1 42 (dk_at dksX5_next_8 13 rfl rfl)
theorem dX5_next_205 : decode cX5_next 205 = .ok (.lmul, 1) := dk_105 (dk_at dksX5_next_8 16 rfl rfl)
theorem dX5_next_206 : decode cX5_next 206 = .ok (.aload_n 0, 1) := dk_42 (dk_at dksX5_next_8 17 rfl rfl)
theorem dX5_next_207 : decode cX5_next 207 = .ok (.getfield 35, 3) := dk_180 0 35 (dk_at dksX5_next_8 18 rfl rfl)
theorem dX5_next_210 : decode cX5_next 210 = .ok (.aload_n 0, 1) := dk_42 (dk_at dksX5_next_8 21 rfl rfl)
theorem dX5_next_211 : decode cX5_next 211 = .ok (.getfield 272, 3) := dk_180 1 16 (dk_at dksX5_next_9 0 rfl rfl)
theorem dX5_next_214 : decode cX5_next 214 = .ok (.iaload, 1) := dk_46 (dk_at dksX5_next_9 3 rfl rfl)
theorem dX5_next_215 : decode cX5_next 215 = .ok (.i2l, 1) := dk_133 (dk_at dksX5_next_9 4 rfl rfl)
theorem dX5_next_216 : decode cX5_next 216 = .ok (.ladd, 1) := dk_97 (dk_at dksX5_next_9 5 rfl rfl)
theorem dX5_next_217 : decode cX5_next 217 = .ok (.ldc2_w 300, 3) := dk_20 1 44 (dk_at dksX5_next_9 6 rfl rfl)
theorem dX5_next_220 : decode cX5_next 220 = .ok (.lsub, 1) := dk_101 (dk_at dksX5_next_9 9 rfl rfl)
theorem dX5_next_221 : decode cX5_next 221 = .ok (.goto 6, 3) := dk_167 0 6 (dk_at dksX5_next_9 10 rfl rfl)
theorem dX5_next_224 : decode cX5_next 224 = .ok (.ldc2_w 302, 3) := dk_20 1 46 (dk_at dksX5_next_9 13 rfl rfl)
theorem dX5_next_227 : decode cX5_next 227 = .ok (.putfield 285, 3) := dk_181 1 29 (dk_at dksX5_next_9 16 rfl rfl)
theorem dX5_next_230 : decode cX5_next 230 = .ok (.aload_n 0, 1) := dk_42 (dk_at dksX5_next_9 19 rfl rfl)
theorem dX5_next_231 : decode cX5_next 231 = .ok (.dup, 1) := dk_89 (dk_at dksX5_next_9 20 rfl rfl)
theorem dX5_next_232 : decode cX5_next 232 = .ok (.getfield 272, 3) := dk_180 1 16 (dk_at dksX5_next_9 21 rfl rfl)
theorem dX5_next_235 : decode cX5_next 235 = .ok (.iconst 1, 1) := dk_4 (dk_at dksX5_next_10 0 rfl rfl)
theorem dX5_next_236 : decode cX5_next 236 = .ok (.iadd, 1) := dk_96 (dk_at dksX5_next_10 1 rfl rfl)
theorem dX5_next_237 : decode cX5_next 237 = .ok (.putfield 272, 3) := dk_181 1 16 (dk_at dksX5_next_10 2 rfl rfl)
theorem dX5_next_240 : decode cX5_next 240 = .ok (.goto (-91), 3) := dk_167 255 165 (dk_at dksX5_next_10 5 rfl rfl)
theorem dX5_next_243 : decode cX5_next 243 = .ok (.aload_n 0, 1) := dk_42 (dk_at dksX5_next_10 8 rfl rfl)
theorem dX5_next_244 : decode cX5_next 244 = .ok (.getfield 295, 3) := dk_180 1 39 (dk_at dksX5_next_10 9 rfl rfl)
theorem dX5_next_247 : decode cX5_next 247 = .ok (.iconst 2, 1) := dk_5 (dk_at dksX5_next_10 12 rfl rfl)
theorem dX5_next_248 : decode cX5_next 248 = .ok (.if_icmp .ne 87, 3) := dk_160 0 87 (dk_at dksX5_next_10 13 rfl rfl)
theorem dX5_next_251 : decode cX5_next 251 = .ok (.aload_n 0, 1) := dk_42 (dk_at dksX5_next_10 16 rfl rfl)
theorem dX5_next_252 : decode cX5_next 252 = .ok (.getfield 272, 3) := dk_180 1 16 (dk_at dksX5_next_10 17 rfl rfl)
theorem dX5_next_255 : decode cX5_next 255 = .ok (.aload_n 0, 1) := dk_42 (dk_at dksX5_next_10 20 rfl rfl)
theorem dX5_next_256 : decode cX5_next 256 = .ok (.getfield 263, 3) := dk_180 1 7 (dk_at dksX5_next_10 21 rfl rfl)
theorem dX5_next_259 : decode cX5_next 259 = .ok (.if_icmp .ge 76, 3) := dk_162 0 76 (dk_at dksX5_next_11 0 rfl rfl)
theorem dX5_next_262 : decode cX5_next 262 = .ok (.aload_n 0, 1) := dk_42 (dk_at dksX5_next_11 3 rfl rfl)
theorem dX5_next_263 : decode cX5_next 263 = .ok (.getfield 35, 3) := dk_180 0 35 (dk_at dksX5_next_11 4 rfl rfl)
theorem dX5_next_266 : decode cX5_next 266 = .ok (.aload_n 0, 1) := dk_42 (dk_at dksX5_next_11 7 rfl rfl)
theorem dX5_next_267 : decode cX5_next 267 = .ok (.getfield 272, 3) := dk_180 1 16 (dk_at dksX5_next_11 8 rfl rfl)
theorem dX5_next_270 : decode cX5_next 270 = .ok (.iaload, 1) := dk_46 (dk_at dksX5_next_11 11 rfl rfl)
theorem dX5_next_271 : decode cX5_next 271 = .ok (.invokestatic 292, 3) := dk_184 1 36 (dk_at dksX5_next_11 12 rfl rfl)
theorem dX5_next_274 : decode cX5_next 274 = .ok (.ifCond .eq 61, 3) := dk_153 0 61 (dk_at dksX5_next_11 15 rfl rfl)
theorem dX5_next_277 : decode cX5_next 277 = .ok (.aload_n 0, 1) := dk_42 (dk_at dksX5_next_11 18 rfl rfl)
theorem dX5_next_278 : decode cX5_next 278 = .ok (.aload_n 0, 1) := dk_42 (dk_at dksX5_next_11 19 rfl rfl)
theorem dX5_next_279 : decode cX5_next 279 = .ok (.getfield 285, 3) := dk_180 1 29 (dk_at dksX5_next_11 20 rfl rfl)
theorem dX5_next_282 : decode cX5_next 282 = .ok (.ldc2_w 304, 3) := dk_20 1 48 (dk_at dksX5_next_12 0 rfl rfl)
theorem dX5_next_285 : decode cX5_next 285 = .ok (.lcmp, 1) := dk_148 (dk_at dksX5_next_12 3 rfl rfl)
theorem dX5_next_286 : decode cX5_next 286 = .ok (.ifCond .le 10, 3) := dk_158 0 10 (dk_at dksX5_next_12 4 rfl rfl)
theorem dX5_next_289 : decode cX5_next 289 = .ok (.aload_n 0, 1) := dk_42 (dk_at dksX5_next_12 7 rfl rfl)
theorem dX5_next_290 : decode cX5_next 290 = .ok (.getfield 285, 3) := dk_180 1 29 (dk_at dksX5_next_12 8 rfl rfl)
theorem dX5_next_293 : decode cX5_next 293 = .ok (.goto 26, 3) := dk_167 0 26 (dk_at dksX5_next_12 11 rfl rfl)
theorem dX5_next_296 : decode cX5_next 296 = .ok (.aload_n 0, 1) := dk_42 (dk_at dksX5_next_12 14 rfl rfl)
theorem dX5_next_297 : decode cX5_next 297 = .ok (.getfield 285, 3) := dk_180 1 29 (dk_at dksX5_next_12 15 rfl rfl)
theorem dX5_next_300 : decode cX5_next 300 = .ok (.ldc2_w 259, 3) := dk_20 1 3 (dk_at dksX5_next_12 18 rfl rfl)
theorem dX5_next_303 : decode cX5_next 303 = .ok (.lmul, 1) := dk_105 (dk_at dksX5_next_12 21 rfl rfl)
theorem dX5_next_304 : decode cX5_next 304 = .ok (.aload_n 0, 1) := dk_42 (dk_at dksX5_next_12 22 rfl rfl)
theorem dX5_next_305 : decode cX5_next 305 = .ok (.getfield 35, 3) := dk_180 0 35 (dk_at dksX5_next_13 0 rfl rfl)
theorem dX5_next_308 : decode cX5_next 308 = .ok (.aload_n 0, 1) := dk_42 (dk_at dksX5_next_13 3 rfl rfl)
theorem dX5_next_309 : decode cX5_next 309 = .ok (.getfield 272, 3) := dk_180 1 16 (dk_at dksX5_next_13 4 rfl rfl)
theorem dX5_next_312 : decode cX5_next 312 = .ok (.iaload, 1) := dk_46 (dk_at dksX5_next_13 7 rfl rfl)
theorem dX5_next_313 : decode cX5_next 313 = .ok (.i2l, 1) := dk_133 (dk_at dksX5_next_13 8 rfl rfl)
theorem dX5_next_314 : decode cX5_next 314 = .ok (.ladd, 1) := dk_97 (dk_at dksX5_next_13 9 rfl rfl)
theorem dX5_next_315 : decode cX5_next 315 = .ok (.ldc2_w 306, 3) := dk_20 1 50 (dk_at dksX5_next_13 10 rfl rfl)
theorem dX5_next_318 : decode cX5_next 318 = .ok (.lsub, 1) := dk_101 (dk_at dksX5_next_13 13 rfl rfl)
theorem dX5_next_319 : decode cX5_next 319 = .ok (.putfield 285, 3) := dk_181 1 29 (dk_at dksX5_next_13 14 rfl rfl)
theorem dX5_next_322 : decode cX5_next 322 = .ok (.aload_n 0, 1) := dk_42 (dk_at dksX5_next_13 17 rfl rfl)
theorem dX5_next_323 : decode cX5_next 323 = .ok (.dup, 1) := dk_89 (dk_at dksX5_next_13 18 rfl rfl)
theorem dX5_next_324 : decode cX5_next 324 = .ok (.getfield 272, 3) := dk_180 1 16 (dk_at dksX5_next_13 19 rfl rfl)
theorem dX5_next_327 : decode cX5_next 327 = .ok (.iconst 1, 1) := dk_4 (dk_at dksX5_next_13 22 rfl rfl)
theorem dX5_next_328 : decode cX5_next 328 = .ok (.iadd, 1) := dk_96 (dk_at dksX5_next_13 23 rfl rfl)
theorem dX5_next_329 : decode cX5_next 329 = .ok (.putfield 272, 3) := dk_181 1 16 (dk_at dksX5_next_14 0 rfl rfl)
theorem dX5_next_332 : decode cX5_next 332 = .ok (.goto (-89), 3) := dk_167 255 167 (dk_at dksX5_next_14 3 rfl rfl)
theorem dX5_next_335 : decode cX5_next 335 = .ok (.return_, 1) := dk_177 (dk_at dksX5_next_14 6 rfl rfl)
abbrev cX5_isSmall : ByteArray := prog_22_method_37_code
def yX5_isSmall : MethodName := ⟨RX5, "isSmall", "(I)Z"⟩
def dkwX5_isSmall_0 : List UInt8 := [26, 16, 97, 161, 0, 13, 26, 16, 122, 163, 0, 7, 4, 167, 0, 4, 3, 172]
abbrev dktX5_isSmall_0 : List UInt8 := dkwX5_isSmall_0 ++ []
theorem dksX5_isSmall_0 : cX5_isSmall.data.toList.drop 0 = dktX5_isSmall_0 := by decide +kernel
theorem dX5_isSmall_0 : decode cX5_isSmall 0 = .ok (.iload_n 0, 1) := dk_26 (dk_at dksX5_isSmall_0 0 rfl rfl)
theorem dX5_isSmall_1 : decode cX5_isSmall 1 = .ok (.bipush 97, 2) := dk_16 97 (dk_at dksX5_isSmall_0 1 rfl rfl)
theorem dX5_isSmall_3 : decode cX5_isSmall 3 = .ok (.if_icmp .lt 13, 3) := dk_161 0 13 (dk_at dksX5_isSmall_0 3 rfl rfl)
theorem dX5_isSmall_6 : decode cX5_isSmall 6 = .ok (.iload_n 0, 1) := dk_26 (dk_at dksX5_isSmall_0 6 rfl rfl)
theorem dX5_isSmall_7 : decode cX5_isSmall 7 = .ok (.bipush 122, 2) := dk_16 122 (dk_at dksX5_isSmall_0 7 rfl rfl)
theorem dX5_isSmall_9 : decode cX5_isSmall 9 = .ok (.if_icmp .gt 7, 3) := dk_163 0 7 (dk_at dksX5_isSmall_0 9 rfl rfl)
theorem dX5_isSmall_12 : decode cX5_isSmall 12 = .ok (.iconst 1, 1) := dk_4 (dk_at dksX5_isSmall_0 12 rfl rfl)
theorem dX5_isSmall_13 : decode cX5_isSmall 13 = .ok (.goto 4, 3) := dk_167 0 4 (dk_at dksX5_isSmall_0 13 rfl rfl)
theorem dX5_isSmall_16 : decode cX5_isSmall 16 = .ok (.iconst 0, 1) := dk_3 (dk_at dksX5_isSmall_0 16 rfl rfl)
theorem dX5_isSmall_17 : decode cX5_isSmall 17 = .ok (.ireturn, 1) := dk_172 (dk_at dksX5_isSmall_0 17 rfl rfl)
abbrev cX5_isDigit : ByteArray := prog_22_method_38_code
def yX5_isDigit : MethodName := ⟨RX5, "isDigit", "(I)Z"⟩
def dkwX5_isDigit_0 : List UInt8 := [26, 16, 48, 161, 0, 13, 26, 16, 57, 163, 0, 7, 4, 167, 0, 4, 3, 172]
abbrev dktX5_isDigit_0 : List UInt8 := dkwX5_isDigit_0 ++ []
theorem dksX5_isDigit_0 : cX5_isDigit.data.toList.drop 0 = dktX5_isDigit_0 := by decide +kernel
theorem dX5_isDigit_0 : decode cX5_isDigit 0 = .ok (.iload_n 0, 1) := dk_26 (dk_at dksX5_isDigit_0 0 rfl rfl)
theorem dX5_isDigit_1 : decode cX5_isDigit 1 = .ok (.bipush 48, 2) := dk_16 48 (dk_at dksX5_isDigit_0 1 rfl rfl)
theorem dX5_isDigit_3 : decode cX5_isDigit 3 = .ok (.if_icmp .lt 13, 3) := dk_161 0 13 (dk_at dksX5_isDigit_0 3 rfl rfl)
theorem dX5_isDigit_6 : decode cX5_isDigit 6 = .ok (.iload_n 0, 1) := dk_26 (dk_at dksX5_isDigit_0 6 rfl rfl)
theorem dX5_isDigit_7 : decode cX5_isDigit 7 = .ok (.bipush 57, 2) := dk_16 57 (dk_at dksX5_isDigit_0 7 rfl rfl)
theorem dX5_isDigit_9 : decode cX5_isDigit 9 = .ok (.if_icmp .gt 7, 3) := dk_163 0 7 (dk_at dksX5_isDigit_0 9 rfl rfl)
theorem dX5_isDigit_12 : decode cX5_isDigit 12 = .ok (.iconst 1, 1) := dk_4 (dk_at dksX5_isDigit_0 12 rfl rfl)
theorem dX5_isDigit_13 : decode cX5_isDigit 13 = .ok (.goto 4, 3) := dk_167 0 4 (dk_at dksX5_isDigit_0 13 rfl rfl)
theorem dX5_isDigit_16 : decode cX5_isDigit 16 = .ok (.iconst 0, 1) := dk_3 (dk_at dksX5_isDigit_0 16 rfl rfl)
theorem dX5_isDigit_17 : decode cX5_isDigit 17 = .ok (.ireturn, 1) := dk_172 (dk_at dksX5_isDigit_0 17 rfl rfl)
abbrev cX5_readLaw : ByteArray := prog_22_method_63_code
def yX5_readLaw : MethodName := ⟨RX5, "readLaw", "()V"⟩
def dkwX5_readLaw_8 : List UInt8 := [182, 1, 151, 42, 180, 0, 42, 28, 16, 6, 96, 42, 180, 1, 56, 79, 177]
abbrev dktX5_readLaw_8 : List UInt8 := dkwX5_readLaw_8 ++ []
def dkwX5_readLaw_7 : List UInt8 := [180, 1, 19, 154, 0, 22, 42, 20, 1, 154, 182, 1, 75, 153, 0, 12, 42, 182, 1, 23, 42, 4]
abbrev dktX5_readLaw_7 : List UInt8 := dkwX5_readLaw_7 ++ dktX5_readLaw_8
def dkwX5_readLaw_6 : List UInt8 := [180, 0, 42, 28, 7, 96, 42, 180, 1, 56, 79, 42, 180, 0, 42, 28, 8, 96, 42, 180, 1, 56, 79, 42]
abbrev dktX5_readLaw_6 : List UInt8 := dkwX5_readLaw_6 ++ dktX5_readLaw_7
def dkwX5_readLaw_5 : List UInt8 := [180, 0, 42, 28, 6, 96, 42, 180, 1, 56, 79, 27, 6, 159, 0, 8, 42, 3, 182, 1, 151, 42]
abbrev dktX5_readLaw_5 : List UInt8 := dkwX5_readLaw_5 ++ dktX5_readLaw_6
def dkwX5_readLaw_4 : List UInt8 := [132, 3, 1, 167, 255, 238, 42, 180, 0, 42, 28, 27, 79, 42, 89, 180, 1, 148, 4, 96, 181, 1, 148, 42]
abbrev dktX5_readLaw_4 : List UInt8 := dkwX5_readLaw_4 ++ dktX5_readLaw_5
def dkwX5_readLaw_3 : List UInt8 := [180, 1, 148, 104, 61, 3, 62, 29, 16, 8, 162, 0, 18, 42, 180, 0, 42, 28, 29, 96, 3, 79]
abbrev dktX5_readLaw_3 : List UInt8 := dkwX5_readLaw_3 ++ dktX5_readLaw_4
def dkwX5_readLaw_2 : List UInt8 := [162, 0, 7, 4, 167, 0, 4, 3, 182, 1, 52, 42, 180, 1, 19, 153, 0, 4, 177, 16, 8, 42]
abbrev dktX5_readLaw_2 : List UInt8 := dkwX5_readLaw_2 ++ dktX5_readLaw_3
def dkwX5_readLaw_1 : List UInt8 := [167, 0, 4, 27, 60, 132, 2, 1, 167, 255, 229, 42, 27, 2, 159, 0, 16, 42, 180, 1, 148, 16, 12]
abbrev dktX5_readLaw_1 : List UInt8 := dkwX5_readLaw_1 ++ dktX5_readLaw_2
def dkwX5_readLaw_0 : List UInt8 := [2, 60, 3, 61, 28, 7, 162, 0, 28, 42, 42, 180, 0, 98, 28, 47, 182, 1, 75, 153, 0, 7, 28]
abbrev dktX5_readLaw_0 : List UInt8 := dkwX5_readLaw_0 ++ dktX5_readLaw_1
theorem dksX5_readLaw_0 : cX5_readLaw.data.toList.drop 0 = dktX5_readLaw_0 := by decide +kernel
theorem dksX5_readLaw_1 : cX5_readLaw.data.toList.drop 23 = dktX5_readLaw_1 := dk_seg dksX5_readLaw_0 23 rfl rfl
theorem dksX5_readLaw_2 : cX5_readLaw.data.toList.drop 46 = dktX5_readLaw_2 := dk_seg dksX5_readLaw_1 23 rfl rfl
theorem dksX5_readLaw_3 : cX5_readLaw.data.toList.drop 68 = dktX5_readLaw_3 := dk_seg dksX5_readLaw_2 22 rfl rfl
theorem dksX5_readLaw_4 : cX5_readLaw.data.toList.drop 90 = dktX5_readLaw_4 := dk_seg dksX5_readLaw_3 22 rfl rfl
theorem dksX5_readLaw_5 : cX5_readLaw.data.toList.drop 114 = dktX5_readLaw_5 := dk_seg dksX5_readLaw_4 24 rfl rfl
theorem dksX5_readLaw_6 : cX5_readLaw.data.toList.drop 136 = dktX5_readLaw_6 := dk_seg dksX5_readLaw_5 22 rfl rfl
theorem dksX5_readLaw_7 : cX5_readLaw.data.toList.drop 160 = dktX5_readLaw_7 := dk_seg dksX5_readLaw_6 24 rfl rfl
theorem dksX5_readLaw_8 : cX5_readLaw.data.toList.drop 182 = dktX5_readLaw_8 := dk_seg dksX5_readLaw_7 22 rfl rfl
theorem dX5_readLaw_0 : decode cX5_readLaw 0 = .ok (.iconst (-1), 1) := dk_2 (dk_at dksX5_readLaw_0 0 rfl rfl)
theorem dX5_readLaw_1 : decode cX5_readLaw 1 = .ok (.istore_n 1, 1) := dk_60 (dk_at dksX5_readLaw_0 1 rfl rfl)
theorem dX5_readLaw_2 : decode cX5_readLaw 2 = .ok (.iconst 0, 1) := dk_3 (dk_at dksX5_readLaw_0 2 rfl rfl)
theorem dX5_readLaw_3 : decode cX5_readLaw 3 = .ok (.istore_n 2, 1) := dk_61 (dk_at dksX5_readLaw_0 3 rfl rfl)
theorem dX5_readLaw_4 : decode cX5_readLaw 4 = .ok (.iload_n 2, 1) := dk_28 (dk_at dksX5_readLaw_0 4 rfl rfl)
theorem dX5_readLaw_5 : decode cX5_readLaw 5 = .ok (.iconst 4, 1) := dk_7 (dk_at dksX5_readLaw_0 5 rfl rfl)
theorem dX5_readLaw_6 : decode cX5_readLaw 6 = .ok (.if_icmp .ge 28, 3) := dk_162 0 28 (dk_at dksX5_readLaw_0 6 rfl rfl)
theorem dX5_readLaw_9 : decode cX5_readLaw 9 = .ok (.aload_n 0, 1) := dk_42 (dk_at dksX5_readLaw_0 9 rfl rfl)
theorem dX5_readLaw_10 : decode cX5_readLaw 10 = .ok (.aload_n 0, 1) := dk_42 (dk_at dksX5_readLaw_0 10 rfl rfl)
theorem dX5_readLaw_11 : decode cX5_readLaw 11 = .ok (.getfield 98, 3) := dk_180 0 98 (dk_at dksX5_readLaw_0 11 rfl rfl)
theorem dX5_readLaw_14 : decode cX5_readLaw 14 = .ok (.iload_n 2, 1) := dk_28 (dk_at dksX5_readLaw_0 14 rfl rfl)
theorem dX5_readLaw_15 : decode cX5_readLaw 15 = .ok (.laload, 1) := dk_47 (dk_at dksX5_readLaw_0 15 rfl rfl)
theorem dX5_readLaw_16 : decode cX5_readLaw 16 = .ok (.invokevirtual 331, 3) := dk_182 1 75 (dk_at dksX5_readLaw_0 16 rfl rfl)
theorem dX5_readLaw_19 : decode cX5_readLaw 19 = .ok (.ifCond .eq 7, 3) := dk_153 0 7 (dk_at dksX5_readLaw_0 19 rfl rfl)
theorem dX5_readLaw_22 : decode cX5_readLaw 22 = .ok (.iload_n 2, 1) := dk_28 (dk_at dksX5_readLaw_0 22 rfl rfl)
theorem dX5_readLaw_23 : decode cX5_readLaw 23 = .ok (.goto 4, 3) := dk_167 0 4 (dk_at dksX5_readLaw_1 0 rfl rfl)
theorem dX5_readLaw_26 : decode cX5_readLaw 26 = .ok (.iload_n 1, 1) := dk_27 (dk_at dksX5_readLaw_1 3 rfl rfl)
theorem dX5_readLaw_27 : decode cX5_readLaw 27 = .ok (.istore_n 1, 1) := dk_60 (dk_at dksX5_readLaw_1 4 rfl rfl)
theorem dX5_readLaw_28 : decode cX5_readLaw 28 = .ok (.iinc 2 1, 3) := dk_132 2 1 (dk_at dksX5_readLaw_1 5 rfl rfl)
theorem dX5_readLaw_31 : decode cX5_readLaw 31 = .ok (.goto (-27), 3) := dk_167 255 229 (dk_at dksX5_readLaw_1 8 rfl rfl)
theorem dX5_readLaw_34 : decode cX5_readLaw 34 = .ok (.aload_n 0, 1) := dk_42 (dk_at dksX5_readLaw_1 11 rfl rfl)
theorem dX5_readLaw_35 : decode cX5_readLaw 35 = .ok (.iload_n 1, 1) := dk_27 (dk_at dksX5_readLaw_1 12 rfl rfl)
theorem dX5_readLaw_36 : decode cX5_readLaw 36 = .ok (.iconst (-1), 1) := dk_2 (dk_at dksX5_readLaw_1 13 rfl rfl)
theorem dX5_readLaw_37 : decode cX5_readLaw 37 = .ok (.if_icmp .eq 16, 3) := dk_159 0 16 (dk_at dksX5_readLaw_1 14 rfl rfl)
theorem dX5_readLaw_40 : decode cX5_readLaw 40 = .ok (.aload_n 0, 1) := dk_42 (dk_at dksX5_readLaw_1 17 rfl rfl)
theorem dX5_readLaw_41 : decode cX5_readLaw 41 = .ok (.getfield 404, 3) := dk_180 1 148 (dk_at dksX5_readLaw_1 18 rfl rfl)
theorem dX5_readLaw_44 : decode cX5_readLaw 44 = .ok (.bipush 12, 2) := dk_16 12 (dk_at dksX5_readLaw_1 21 rfl rfl)
theorem dX5_readLaw_46 : decode cX5_readLaw 46 = .ok (.if_icmp .ge 7, 3) := dk_162 0 7 (dk_at dksX5_readLaw_2 0 rfl rfl)
theorem dX5_readLaw_49 : decode cX5_readLaw 49 = .ok (.iconst 1, 1) := dk_4 (dk_at dksX5_readLaw_2 3 rfl rfl)
theorem dX5_readLaw_50 : decode cX5_readLaw 50 = .ok (.goto 4, 3) := dk_167 0 4 (dk_at dksX5_readLaw_2 4 rfl rfl)
theorem dX5_readLaw_53 : decode cX5_readLaw 53 = .ok (.iconst 0, 1) := dk_3 (dk_at dksX5_readLaw_2 7 rfl rfl)
theorem dX5_readLaw_54 : decode cX5_readLaw 54 = .ok (.invokevirtual 308, 3) := dk_182 1 52 (dk_at dksX5_readLaw_2 8 rfl rfl)
theorem dX5_readLaw_57 : decode cX5_readLaw 57 = .ok (.aload_n 0, 1) := dk_42 (dk_at dksX5_readLaw_2 11 rfl rfl)
theorem dX5_readLaw_58 : decode cX5_readLaw 58 = .ok (.getfield 275, 3) := dk_180 1 19 (dk_at dksX5_readLaw_2 12 rfl rfl)
theorem dX5_readLaw_61 : decode cX5_readLaw 61 = .ok (.ifCond .eq 4, 3) := dk_153 0 4 (dk_at dksX5_readLaw_2 15 rfl rfl)
theorem dX5_readLaw_64 : decode cX5_readLaw 64 = .ok (.return_, 1) := dk_177 (dk_at dksX5_readLaw_2 18 rfl rfl)
theorem dX5_readLaw_65 : decode cX5_readLaw 65 = .ok (.bipush 8, 2) := dk_16 8 (dk_at dksX5_readLaw_2 19 rfl rfl)
theorem dX5_readLaw_67 : decode cX5_readLaw 67 = .ok (.aload_n 0, 1) := dk_42 (dk_at dksX5_readLaw_2 21 rfl rfl)
theorem dX5_readLaw_68 : decode cX5_readLaw 68 = .ok (.getfield 404, 3) := dk_180 1 148 (dk_at dksX5_readLaw_3 0 rfl rfl)
theorem dX5_readLaw_71 : decode cX5_readLaw 71 = .ok (.imul, 1) := dk_104 (dk_at dksX5_readLaw_3 3 rfl rfl)
theorem dX5_readLaw_72 : decode cX5_readLaw 72 = .ok (.istore_n 2, 1) := dk_61 (dk_at dksX5_readLaw_3 4 rfl rfl)
theorem dX5_readLaw_73 : decode cX5_readLaw 73 = .ok (.iconst 0, 1) := dk_3 (dk_at dksX5_readLaw_3 5 rfl rfl)
theorem dX5_readLaw_74 : decode cX5_readLaw 74 = .ok (.istore_n 3, 1) := dk_62 (dk_at dksX5_readLaw_3 6 rfl rfl)
theorem dX5_readLaw_75 : decode cX5_readLaw 75 = .ok (.iload_n 3, 1) := dk_29 (dk_at dksX5_readLaw_3 7 rfl rfl)
theorem dX5_readLaw_76 : decode cX5_readLaw 76 = .ok (.bipush 8, 2) := dk_16 8 (dk_at dksX5_readLaw_3 8 rfl rfl)
theorem dX5_readLaw_78 : decode cX5_readLaw 78 = .ok (.if_icmp .ge 18, 3) := dk_162 0 18 (dk_at dksX5_readLaw_3 10 rfl rfl)
theorem dX5_readLaw_81 : decode cX5_readLaw 81 = .ok (.aload_n 0, 1) := dk_42 (dk_at dksX5_readLaw_3 13 rfl rfl)
theorem dX5_readLaw_82 : decode cX5_readLaw 82 = .ok (.getfield 42, 3) := dk_180 0 42 (dk_at dksX5_readLaw_3 14 rfl rfl)
theorem dX5_readLaw_85 : decode cX5_readLaw 85 = .ok (.iload_n 2, 1) := dk_28 (dk_at dksX5_readLaw_3 17 rfl rfl)
theorem dX5_readLaw_86 : decode cX5_readLaw 86 = .ok (.iload_n 3, 1) := dk_29 (dk_at dksX5_readLaw_3 18 rfl rfl)
theorem dX5_readLaw_87 : decode cX5_readLaw 87 = .ok (.iadd, 1) := dk_96 (dk_at dksX5_readLaw_3 19 rfl rfl)
theorem dX5_readLaw_88 : decode cX5_readLaw 88 = .ok (.iconst 0, 1) := dk_3 (dk_at dksX5_readLaw_3 20 rfl rfl)
theorem dX5_readLaw_89 : decode cX5_readLaw 89 = .ok (.iastore, 1) := dk_79 (dk_at dksX5_readLaw_3 21 rfl rfl)
theorem dX5_readLaw_90 : decode cX5_readLaw 90 = .ok (.iinc 3 1, 3) := dk_132 3 1 (dk_at dksX5_readLaw_4 0 rfl rfl)
theorem dX5_readLaw_93 : decode cX5_readLaw 93 = .ok (.goto (-18), 3) := dk_167 255 238 (dk_at dksX5_readLaw_4 3 rfl rfl)
theorem dX5_readLaw_96 : decode cX5_readLaw 96 = .ok (.aload_n 0, 1) := dk_42 (dk_at dksX5_readLaw_4 6 rfl rfl)
theorem dX5_readLaw_97 : decode cX5_readLaw 97 = .ok (.getfield 42, 3) := dk_180 0 42 (dk_at dksX5_readLaw_4 7 rfl rfl)
theorem dX5_readLaw_100 : decode cX5_readLaw 100 = .ok (.iload_n 2, 1) := dk_28 (dk_at dksX5_readLaw_4 10 rfl rfl)
theorem dX5_readLaw_101 : decode cX5_readLaw 101 = .ok (.iload_n 1, 1) := dk_27 (dk_at dksX5_readLaw_4 11 rfl rfl)
theorem dX5_readLaw_102 : decode cX5_readLaw 102 = .ok (.iastore, 1) := dk_79 (dk_at dksX5_readLaw_4 12 rfl rfl)
theorem dX5_readLaw_103 : decode cX5_readLaw 103 = .ok (.aload_n 0, 1) := dk_42 (dk_at dksX5_readLaw_4 13 rfl rfl)
theorem dX5_readLaw_104 : decode cX5_readLaw 104 = .ok (.dup, 1) := dk_89 (dk_at dksX5_readLaw_4 14 rfl rfl)
theorem dX5_readLaw_105 : decode cX5_readLaw 105 = .ok (.getfield 404, 3) := dk_180 1 148 (dk_at dksX5_readLaw_4 15 rfl rfl)
theorem dX5_readLaw_108 : decode cX5_readLaw 108 = .ok (.iconst 1, 1) := dk_4 (dk_at dksX5_readLaw_4 18 rfl rfl)
theorem dX5_readLaw_109 : decode cX5_readLaw 109 = .ok (.iadd, 1) := dk_96 (dk_at dksX5_readLaw_4 19 rfl rfl)
theorem dX5_readLaw_110 : decode cX5_readLaw 110 = .ok (.putfield 404, 3) := dk_181 1 148 (dk_at dksX5_readLaw_4 20 rfl rfl)
theorem dX5_readLaw_113 : decode cX5_readLaw 113 = .ok (.aload_n 0, 1) := dk_42 (dk_at dksX5_readLaw_4 23 rfl rfl)
theorem dX5_readLaw_114 : decode cX5_readLaw 114 = .ok (.getfield 42, 3) := dk_180 0 42 (dk_at dksX5_readLaw_5 0 rfl rfl)
theorem dX5_readLaw_117 : decode cX5_readLaw 117 = .ok (.iload_n 2, 1) := dk_28 (dk_at dksX5_readLaw_5 3 rfl rfl)
theorem dX5_readLaw_118 : decode cX5_readLaw 118 = .ok (.iconst 3, 1) := dk_6 (dk_at dksX5_readLaw_5 4 rfl rfl)
theorem dX5_readLaw_119 : decode cX5_readLaw 119 = .ok (.iadd, 1) := dk_96 (dk_at dksX5_readLaw_5 5 rfl rfl)
theorem dX5_readLaw_120 : decode cX5_readLaw 120 = .ok (.aload_n 0, 1) := dk_42 (dk_at dksX5_readLaw_5 6 rfl rfl)
theorem dX5_readLaw_121 : decode cX5_readLaw 121 = .ok (.getfield 312, 3) := dk_180 1 56 (dk_at dksX5_readLaw_5 7 rfl rfl)
theorem dX5_readLaw_124 : decode cX5_readLaw 124 = .ok (.iastore, 1) := dk_79 (dk_at dksX5_readLaw_5 10 rfl rfl)
theorem dX5_readLaw_125 : decode cX5_readLaw 125 = .ok (.iload_n 1, 1) := dk_27 (dk_at dksX5_readLaw_5 11 rfl rfl)
theorem dX5_readLaw_126 : decode cX5_readLaw 126 = .ok (.iconst 3, 1) := dk_6 (dk_at dksX5_readLaw_5 12 rfl rfl)
theorem dX5_readLaw_127 : decode cX5_readLaw 127 = .ok (.if_icmp .eq 8, 3) := dk_159 0 8 (dk_at dksX5_readLaw_5 13 rfl rfl)
theorem dX5_readLaw_130 : decode cX5_readLaw 130 = .ok (.aload_n 0, 1) := dk_42 (dk_at dksX5_readLaw_5 16 rfl rfl)
theorem dX5_readLaw_131 : decode cX5_readLaw 131 = .ok (.iconst 0, 1) := dk_3 (dk_at dksX5_readLaw_5 17 rfl rfl)
theorem dX5_readLaw_132 : decode cX5_readLaw 132 = .ok (.invokevirtual 407, 3) := dk_182 1 151 (dk_at dksX5_readLaw_5 18 rfl rfl)
theorem dX5_readLaw_135 : decode cX5_readLaw 135 = .ok (.aload_n 0, 1) := dk_42 (dk_at dksX5_readLaw_5 21 rfl rfl)
theorem dX5_readLaw_136 : decode cX5_readLaw 136 = .ok (.getfield 42, 3) := dk_180 0 42 (dk_at dksX5_readLaw_6 0 rfl rfl)
theorem dX5_readLaw_139 : decode cX5_readLaw 139 = .ok (.iload_n 2, 1) := dk_28 (dk_at dksX5_readLaw_6 3 rfl rfl)
theorem dX5_readLaw_140 : decode cX5_readLaw 140 = .ok (.iconst 4, 1) := dk_7 (dk_at dksX5_readLaw_6 4 rfl rfl)
theorem dX5_readLaw_141 : decode cX5_readLaw 141 = .ok (.iadd, 1) := dk_96 (dk_at dksX5_readLaw_6 5 rfl rfl)
theorem dX5_readLaw_142 : decode cX5_readLaw 142 = .ok (.aload_n 0, 1) := dk_42 (dk_at dksX5_readLaw_6 6 rfl rfl)
theorem dX5_readLaw_143 : decode cX5_readLaw 143 = .ok (.getfield 312, 3) := dk_180 1 56 (dk_at dksX5_readLaw_6 7 rfl rfl)
theorem dX5_readLaw_146 : decode cX5_readLaw 146 = .ok (.iastore, 1) := dk_79 (dk_at dksX5_readLaw_6 10 rfl rfl)
theorem dX5_readLaw_147 : decode cX5_readLaw 147 = .ok (.aload_n 0, 1) := dk_42 (dk_at dksX5_readLaw_6 11 rfl rfl)
theorem dX5_readLaw_148 : decode cX5_readLaw 148 = .ok (.getfield 42, 3) := dk_180 0 42 (dk_at dksX5_readLaw_6 12 rfl rfl)
theorem dX5_readLaw_151 : decode cX5_readLaw 151 = .ok (.iload_n 2, 1) := dk_28 (dk_at dksX5_readLaw_6 15 rfl rfl)
theorem dX5_readLaw_152 : decode cX5_readLaw 152 = .ok (.iconst 5, 1) := dk_8 (dk_at dksX5_readLaw_6 16 rfl rfl)
theorem dX5_readLaw_153 : decode cX5_readLaw 153 = .ok (.iadd, 1) := dk_96 (dk_at dksX5_readLaw_6 17 rfl rfl)
theorem dX5_readLaw_154 : decode cX5_readLaw 154 = .ok (.aload_n 0, 1) := dk_42 (dk_at dksX5_readLaw_6 18 rfl rfl)
theorem dX5_readLaw_155 : decode cX5_readLaw 155 = .ok (.getfield 312, 3) := dk_180 1 56 (dk_at dksX5_readLaw_6 19 rfl rfl)
theorem dX5_readLaw_158 : decode cX5_readLaw 158 = .ok (.iastore, 1) := dk_79 (dk_at dksX5_readLaw_6 22 rfl rfl)
theorem dX5_readLaw_159 : decode cX5_readLaw 159 = .ok (.aload_n 0, 1) := dk_42 (dk_at dksX5_readLaw_6 23 rfl rfl)
theorem dX5_readLaw_160 : decode cX5_readLaw 160 = .ok (.getfield 275, 3) := dk_180 1 19 (dk_at dksX5_readLaw_7 0 rfl rfl)
theorem dX5_readLaw_163 : decode cX5_readLaw 163 = .ok (.ifCond .ne 22, 3) := dk_154 0 22 (dk_at dksX5_readLaw_7 3 rfl rfl)
theorem dX5_readLaw_166 : decode cX5_readLaw 166 = .ok (.aload_n 0, 1) := dk_42 (dk_at dksX5_readLaw_7 6 rfl rfl)
theorem dX5_readLaw_167 : decode cX5_readLaw 167 = .ok (.ldc2_w 410, 3) := dk_20 1 154 (dk_at dksX5_readLaw_7 7 rfl rfl)
theorem dX5_readLaw_170 : decode cX5_readLaw 170 = .ok (.invokevirtual 331, 3) := dk_182 1 75 (dk_at dksX5_readLaw_7 10 rfl rfl)
theorem dX5_readLaw_173 : decode cX5_readLaw 173 = .ok (.ifCond .eq 12, 3) := dk_153 0 12 (dk_at dksX5_readLaw_7 13 rfl rfl)
theorem dX5_readLaw_176 : decode cX5_readLaw 176 = .ok (.aload_n 0, 1) := dk_42 (dk_at dksX5_readLaw_7 16 rfl rfl)
theorem dX5_readLaw_177 : decode cX5_readLaw 177 = .ok (.invokevirtual 279, 3) := dk_182 1 23 (dk_at dksX5_readLaw_7 17 rfl rfl)
theorem dX5_readLaw_180 : decode cX5_readLaw 180 = .ok (.aload_n 0, 1) := dk_42 (dk_at dksX5_readLaw_7 20 rfl rfl)
theorem dX5_readLaw_181 : decode cX5_readLaw 181 = .ok (.iconst 1, 1) := dk_4 (dk_at dksX5_readLaw_7 21 rfl rfl)
theorem dX5_readLaw_182 : decode cX5_readLaw 182 = .ok (.invokevirtual 407, 3) := dk_182 1 151 (dk_at dksX5_readLaw_8 0 rfl rfl)
theorem dX5_readLaw_185 : decode cX5_readLaw 185 = .ok (.aload_n 0, 1) := dk_42 (dk_at dksX5_readLaw_8 3 rfl rfl)
theorem dX5_readLaw_186 : decode cX5_readLaw 186 = .ok (.getfield 42, 3) := dk_180 0 42 (dk_at dksX5_readLaw_8 4 rfl rfl)
theorem dX5_readLaw_189 : decode cX5_readLaw 189 = .ok (.iload_n 2, 1) := dk_28 (dk_at dksX5_readLaw_8 7 rfl rfl)
theorem dX5_readLaw_190 : decode cX5_readLaw 190 = .ok (.bipush 6, 2) := dk_16 6 (dk_at dksX5_readLaw_8 8 rfl rfl)
theorem dX5_readLaw_192 : decode cX5_readLaw 192 = .ok (.iadd, 1) := dk_96 (dk_at dksX5_readLaw_8 10 rfl rfl)
theorem dX5_readLaw_193 : decode cX5_readLaw 193 = .ok (.aload_n 0, 1) := dk_42 (dk_at dksX5_readLaw_8 11 rfl rfl)
theorem dX5_readLaw_194 : decode cX5_readLaw 194 = .ok (.getfield 312, 3) := dk_180 1 56 (dk_at dksX5_readLaw_8 12 rfl rfl)
theorem dX5_readLaw_197 : decode cX5_readLaw 197 = .ok (.iastore, 1) := dk_79 (dk_at dksX5_readLaw_8 15 rfl rfl)
theorem dX5_readLaw_198 : decode cX5_readLaw 198 = .ok (.return_, 1) := dk_177 (dk_at dksX5_readLaw_8 16 rfl rfl)
abbrev cX5_isWord : ByteArray := prog_22_method_41_code
def yX5_isWord : MethodName := ⟨RX5, "isWord", "(J)Z"⟩
def dkwX5_isWord_0 : List UInt8 := [42, 180, 1, 39, 4, 160, 0, 16, 42, 180, 1, 29, 31, 148, 154, 0, 7, 4, 167, 0, 4, 3, 172]
abbrev dktX5_isWord_0 : List UInt8 := dkwX5_isWord_0 ++ []
theorem dksX5_isWord_0 : cX5_isWord.data.toList.drop 0 = dktX5_isWord_0 := by decide +kernel
theorem dX5_isWord_0 : decode cX5_isWord 0 = .ok (.aload_n 0, 1) := dk_42 (dk_at dksX5_isWord_0 0 rfl rfl)
theorem dX5_isWord_1 : decode cX5_isWord 1 = .ok (.getfield 295, 3) := dk_180 1 39 (dk_at dksX5_isWord_0 1 rfl rfl)
theorem dX5_isWord_4 : decode cX5_isWord 4 = .ok (.iconst 1, 1) := dk_4 (dk_at dksX5_isWord_0 4 rfl rfl)
theorem dX5_isWord_5 : decode cX5_isWord 5 = .ok (.if_icmp .ne 16, 3) := dk_160 0 16 (dk_at dksX5_isWord_0 5 rfl rfl)
theorem dX5_isWord_8 : decode cX5_isWord 8 = .ok (.aload_n 0, 1) := dk_42 (dk_at dksX5_isWord_0 8 rfl rfl)
theorem dX5_isWord_9 : decode cX5_isWord 9 = .ok (.getfield 285, 3) := dk_180 1 29 (dk_at dksX5_isWord_0 9 rfl rfl)
theorem dX5_isWord_12 : decode cX5_isWord 12 = .ok (.lload_n 1, 1) := dk_31 (dk_at dksX5_isWord_0 12 rfl rfl)
theorem dX5_isWord_13 : decode cX5_isWord 13 = .ok (.lcmp, 1) := dk_148 (dk_at dksX5_isWord_0 13 rfl rfl)
theorem dX5_isWord_14 : decode cX5_isWord 14 = .ok (.ifCond .ne 7, 3) := dk_154 0 7 (dk_at dksX5_isWord_0 14 rfl rfl)
theorem dX5_isWord_17 : decode cX5_isWord 17 = .ok (.iconst 1, 1) := dk_4 (dk_at dksX5_isWord_0 17 rfl rfl)
theorem dX5_isWord_18 : decode cX5_isWord 18 = .ok (.goto 4, 3) := dk_167 0 4 (dk_at dksX5_isWord_0 18 rfl rfl)
theorem dX5_isWord_21 : decode cX5_isWord 21 = .ok (.iconst 0, 1) := dk_3 (dk_at dksX5_isWord_0 21 rfl rfl)
theorem dX5_isWord_22 : decode cX5_isWord 22 = .ok (.ireturn, 1) := dk_172 (dk_at dksX5_isWord_0 22 rfl rfl)
abbrev cX5_must : ByteArray := prog_22_method_43_code
def yX5_must : MethodName := ⟨RX5, "must", "(Z)V"⟩
def dkwX5_must_1 : List UInt8 := [42, 180, 1, 19, 154, 0, 7, 42, 182, 1, 23, 177]
abbrev dktX5_must_1 : List UInt8 := dkwX5_must_1 ++ []
def dkwX5_must_0 : List UInt8 := [42, 180, 1, 19, 154, 0, 20, 27, 154, 0, 16, 42, 4, 181, 1, 19, 42, 42, 180, 1, 26, 181, 0, 38]
abbrev dktX5_must_0 : List UInt8 := dkwX5_must_0 ++ dktX5_must_1
theorem dksX5_must_0 : cX5_must.data.toList.drop 0 = dktX5_must_0 := by decide +kernel
theorem dksX5_must_1 : cX5_must.data.toList.drop 24 = dktX5_must_1 := dk_seg dksX5_must_0 24 rfl rfl
theorem dX5_must_0 : decode cX5_must 0 = .ok (.aload_n 0, 1) := dk_42 (dk_at dksX5_must_0 0 rfl rfl)
theorem dX5_must_1 : decode cX5_must 1 = .ok (.getfield 275, 3) := dk_180 1 19 (dk_at dksX5_must_0 1 rfl rfl)
theorem dX5_must_4 : decode cX5_must 4 = .ok (.ifCond .ne 20, 3) := dk_154 0 20 (dk_at dksX5_must_0 4 rfl rfl)
theorem dX5_must_7 : decode cX5_must 7 = .ok (.iload_n 1, 1) := dk_27 (dk_at dksX5_must_0 7 rfl rfl)
theorem dX5_must_8 : decode cX5_must 8 = .ok (.ifCond .ne 16, 3) := dk_154 0 16 (dk_at dksX5_must_0 8 rfl rfl)
theorem dX5_must_11 : decode cX5_must 11 = .ok (.aload_n 0, 1) := dk_42 (dk_at dksX5_must_0 11 rfl rfl)
theorem dX5_must_12 : decode cX5_must 12 = .ok (.iconst 1, 1) := dk_4 (dk_at dksX5_must_0 12 rfl rfl)
theorem dX5_must_13 : decode cX5_must 13 = .ok (.putfield 275, 3) := dk_181 1 19 (dk_at dksX5_must_0 13 rfl rfl)
theorem dX5_must_16 : decode cX5_must 16 = .ok (.aload_n 0, 1) := dk_42 (dk_at dksX5_must_0 16 rfl rfl)
theorem dX5_must_17 : decode cX5_must 17 = .ok (.aload_n 0, 1) := dk_42 (dk_at dksX5_must_0 17 rfl rfl)
theorem dX5_must_18 : decode cX5_must 18 = .ok (.getfield 282, 3) := dk_180 1 26 (dk_at dksX5_must_0 18 rfl rfl)
theorem dX5_must_21 : decode cX5_must 21 = .ok (.putfield 38, 3) := dk_181 0 38 (dk_at dksX5_must_0 21 rfl rfl)
theorem dX5_must_24 : decode cX5_must 24 = .ok (.aload_n 0, 1) := dk_42 (dk_at dksX5_must_1 0 rfl rfl)
theorem dX5_must_25 : decode cX5_must 25 = .ok (.getfield 275, 3) := dk_180 1 19 (dk_at dksX5_must_1 1 rfl rfl)
theorem dX5_must_28 : decode cX5_must 28 = .ok (.ifCond .ne 7, 3) := dk_154 0 7 (dk_at dksX5_must_1 4 rfl rfl)
theorem dX5_must_31 : decode cX5_must 31 = .ok (.aload_n 0, 1) := dk_42 (dk_at dksX5_must_1 7 rfl rfl)
theorem dX5_must_32 : decode cX5_must 32 = .ok (.invokevirtual 279, 3) := dk_182 1 23 (dk_at dksX5_must_1 8 rfl rfl)
theorem dX5_must_35 : decode cX5_must 35 = .ok (.return_, 1) := dk_177 (dk_at dksX5_must_1 11 rfl rfl)
abbrev cX5_readExpression : ByteArray := prog_22_method_60_code
def yX5_readExpression : MethodName := ⟨RX5, "readExpression", "(Z)V"⟩
def dkwX5_readExpression_3 : List UInt8 := [61, 167, 255, 203, 42, 4, 182, 1, 121, 177]
abbrev dktX5_readExpression_3 : List UInt8 := dkwX5_readExpression_3 ++ []
def dkwX5_readExpression_2 : List UInt8 := [42, 182, 1, 118, 167, 0, 20, 28, 6, 160, 0, 11, 42, 27, 182, 1, 138, 167, 0, 7, 42, 182, 1, 142]
abbrev dktX5_readExpression_2 : List UInt8 := dkwX5_readExpression_2 ++ dktX5_readExpression_3
def dkwX5_readExpression_1 : List UInt8 := [154, 0, 52, 28, 7, 159, 0, 47, 28, 154, 0, 10, 42, 182, 1, 135, 167, 0, 32, 28, 4, 160, 0, 10]
abbrev dktX5_readExpression_1 : List UInt8 := dkwX5_readExpression_1 ++ dktX5_readExpression_2
def dkwX5_readExpression_0 : List UInt8 := [42, 3, 181, 1, 59, 42, 3, 181, 1, 79, 27, 153, 0, 7, 3, 167, 0, 4, 4, 61, 42, 180, 1, 19]
abbrev dktX5_readExpression_0 : List UInt8 := dkwX5_readExpression_0 ++ dktX5_readExpression_1
theorem dksX5_readExpression_0 : cX5_readExpression.data.toList.drop 0 = dktX5_readExpression_0 := by decide +kernel
theorem dksX5_readExpression_1 : cX5_readExpression.data.toList.drop 24 = dktX5_readExpression_1 := dk_seg dksX5_readExpression_0 24 rfl rfl
theorem dksX5_readExpression_2 : cX5_readExpression.data.toList.drop 48 = dktX5_readExpression_2 := dk_seg dksX5_readExpression_1 24 rfl rfl
theorem dksX5_readExpression_3 : cX5_readExpression.data.toList.drop 72 = dktX5_readExpression_3 := dk_seg dksX5_readExpression_2 24 rfl rfl
theorem dX5_readExpression_0 : decode cX5_readExpression 0 = .ok (.aload_n 0, 1) := dk_42 (dk_at dksX5_readExpression_0 0 rfl rfl)
theorem dX5_readExpression_1 : decode cX5_readExpression 1 = .ok (.iconst 0, 1) := dk_3 (dk_at dksX5_readExpression_0 1 rfl rfl)
theorem dX5_readExpression_2 : decode cX5_readExpression 2 = .ok (.putfield 315, 3) := dk_181 1 59 (dk_at dksX5_readExpression_0 2 rfl rfl)
theorem dX5_readExpression_5 : decode cX5_readExpression 5 = .ok (.aload_n 0, 1) := dk_42 (dk_at dksX5_readExpression_0 5 rfl rfl)
theorem dX5_readExpression_6 : decode cX5_readExpression 6 = .ok (.iconst 0, 1) := dk_3 (dk_at dksX5_readExpression_0 6 rfl rfl)
theorem dX5_readExpression_7 : decode cX5_readExpression 7 = .ok (.putfield 335, 3) := dk_181 1 79 (dk_at dksX5_readExpression_0 7 rfl rfl)
theorem dX5_readExpression_10 : decode cX5_readExpression 10 = .ok (.iload_n 1, 1) := dk_27 (dk_at dksX5_readExpression_0 10 rfl rfl)
theorem dX5_readExpression_11 : decode cX5_readExpression 11 = .ok (.ifCond .eq 7, 3) := dk_153 0 7 (dk_at dksX5_readExpression_0 11 rfl rfl)
theorem dX5_readExpression_14 : decode cX5_readExpression 14 = .ok (.iconst 0, 1) := dk_3 (dk_at dksX5_readExpression_0 14 rfl rfl)
theorem dX5_readExpression_15 : decode cX5_readExpression 15 = .ok (.goto 4, 3) := dk_167 0 4 (dk_at dksX5_readExpression_0 15 rfl rfl)
theorem dX5_readExpression_18 : decode cX5_readExpression 18 = .ok (.iconst 1, 1) := dk_4 (dk_at dksX5_readExpression_0 18 rfl rfl)
theorem dX5_readExpression_19 : decode cX5_readExpression 19 = .ok (.istore_n 2, 1) := dk_61 (dk_at dksX5_readExpression_0 19 rfl rfl)
theorem dX5_readExpression_20 : decode cX5_readExpression 20 = .ok (.aload_n 0, 1) := dk_42 (dk_at dksX5_readExpression_0 20 rfl rfl)
theorem dX5_readExpression_21 : decode cX5_readExpression 21 = .ok (.getfield 275, 3) := dk_180 1 19 (dk_at dksX5_readExpression_0 21 rfl rfl)
theorem dX5_readExpression_24 : decode cX5_readExpression 24 = .ok (.ifCond .ne 52, 3) := dk_154 0 52 (dk_at dksX5_readExpression_1 0 rfl rfl)
theorem dX5_readExpression_27 : decode cX5_readExpression 27 = .ok (.iload_n 2, 1) := dk_28 (dk_at dksX5_readExpression_1 3 rfl rfl)
theorem dX5_readExpression_28 : decode cX5_readExpression 28 = .ok (.iconst 4, 1) := dk_7 (dk_at dksX5_readExpression_1 4 rfl rfl)
theorem dX5_readExpression_29 : decode cX5_readExpression 29 = .ok (.if_icmp .eq 47, 3) := dk_159 0 47 (dk_at dksX5_readExpression_1 5 rfl rfl)
theorem dX5_readExpression_32 : decode cX5_readExpression 32 = .ok (.iload_n 2, 1) := dk_28 (dk_at dksX5_readExpression_1 8 rfl rfl)
theorem dX5_readExpression_33 : decode cX5_readExpression 33 = .ok (.ifCond .ne 10, 3) := dk_154 0 10 (dk_at dksX5_readExpression_1 9 rfl rfl)
theorem dX5_readExpression_36 : decode cX5_readExpression 36 = .ok (.aload_n 0, 1) := dk_42 (dk_at dksX5_readExpression_1 12 rfl rfl)
theorem dX5_readExpression_37 : decode cX5_readExpression 37 = .ok (.invokevirtual 391, 3) := dk_182 1 135 (dk_at dksX5_readExpression_1 13 rfl rfl)
theorem dX5_readExpression_40 : decode cX5_readExpression 40 = .ok (.goto 32, 3) := dk_167 0 32 (dk_at dksX5_readExpression_1 16 rfl rfl)
theorem dX5_readExpression_43 : decode cX5_readExpression 43 = .ok (.iload_n 2, 1) := dk_28 (dk_at dksX5_readExpression_1 19 rfl rfl)
theorem dX5_readExpression_44 : decode cX5_readExpression 44 = .ok (.iconst 1, 1) := dk_4 (dk_at dksX5_readExpression_1 20 rfl rfl)
theorem dX5_readExpression_45 : decode cX5_readExpression 45 = .ok (.if_icmp .ne 10, 3) := dk_160 0 10 (dk_at dksX5_readExpression_1 21 rfl rfl)
theorem dX5_readExpression_48 : decode cX5_readExpression 48 = .ok (.aload_n 0, 1) := dk_42 (dk_at dksX5_readExpression_2 0 rfl rfl)
theorem dX5_readExpression_49 : decode cX5_readExpression 49 = .ok (.invokevirtual 374, 3) := dk_182 1 118 (dk_at dksX5_readExpression_2 1 rfl rfl)
theorem dX5_readExpression_52 : decode cX5_readExpression 52 = .ok (.goto 20, 3) := dk_167 0 20 (dk_at dksX5_readExpression_2 4 rfl rfl)
theorem dX5_readExpression_55 : decode cX5_readExpression 55 = .ok (.iload_n 2, 1) := dk_28 (dk_at dksX5_readExpression_2 7 rfl rfl)
theorem dX5_readExpression_56 : decode cX5_readExpression 56 = .ok (.iconst 3, 1) := dk_6 (dk_at dksX5_readExpression_2 8 rfl rfl)
theorem dX5_readExpression_57 : decode cX5_readExpression 57 = .ok (.if_icmp .ne 11, 3) := dk_160 0 11 (dk_at dksX5_readExpression_2 9 rfl rfl)
theorem dX5_readExpression_60 : decode cX5_readExpression 60 = .ok (.aload_n 0, 1) := dk_42 (dk_at dksX5_readExpression_2 12 rfl rfl)
theorem dX5_readExpression_61 : decode cX5_readExpression 61 = .ok (.iload_n 1, 1) := dk_27 (dk_at dksX5_readExpression_2 13 rfl rfl)
theorem dX5_readExpression_62 : decode cX5_readExpression 62 = .ok (.invokevirtual 394, 3) := dk_182 1 138 (dk_at dksX5_readExpression_2 14 rfl rfl)
theorem dX5_readExpression_65 : decode cX5_readExpression 65 = .ok (.goto 7, 3) := dk_167 0 7 (dk_at dksX5_readExpression_2 17 rfl rfl)
theorem dX5_readExpression_68 : decode cX5_readExpression 68 = .ok (.aload_n 0, 1) := dk_42 (dk_at dksX5_readExpression_2 20 rfl rfl)
theorem dX5_readExpression_69 : decode cX5_readExpression 69 = .ok (.invokevirtual 398, 3) := dk_182 1 142 (dk_at dksX5_readExpression_2 21 rfl rfl)
theorem dX5_readExpression_72 : decode cX5_readExpression 72 = .ok (.istore_n 2, 1) := dk_61 (dk_at dksX5_readExpression_3 0 rfl rfl)
theorem dX5_readExpression_73 : decode cX5_readExpression 73 = .ok (.goto (-53), 3) := dk_167 255 203 (dk_at dksX5_readExpression_3 1 rfl rfl)
theorem dX5_readExpression_76 : decode cX5_readExpression 76 = .ok (.aload_n 0, 1) := dk_42 (dk_at dksX5_readExpression_3 4 rfl rfl)
theorem dX5_readExpression_77 : decode cX5_readExpression 77 = .ok (.iconst 1, 1) := dk_4 (dk_at dksX5_readExpression_3 5 rfl rfl)
theorem dX5_readExpression_78 : decode cX5_readExpression 78 = .ok (.invokevirtual 377, 3) := dk_182 1 121 (dk_at dksX5_readExpression_3 6 rfl rfl)
theorem dX5_readExpression_81 : decode cX5_readExpression 81 = .ok (.return_, 1) := dk_177 (dk_at dksX5_readExpression_3 9 rfl rfl)
abbrev cX5_readPlain : ByteArray := prog_22_method_57_code
def yX5_readPlain : MethodName := ⟨RX5, "readPlain", "()I"⟩
def dkwX5_readPlain_1 : List UInt8 := [16, 40, 182, 1, 88, 153, 0, 11, 42, 16, 31, 182, 1, 91, 3, 172, 42, 182, 1, 118, 172]
abbrev dktX5_readPlain_1 : List UInt8 := dkwX5_readPlain_1 ++ []
def dkwX5_readPlain_0 : List UInt8 := [42, 20, 1, 116, 182, 1, 75, 153, 0, 16, 42, 16, 28, 3, 182, 1, 82, 42, 182, 1, 23, 3, 172, 42]
abbrev dktX5_readPlain_0 : List UInt8 := dkwX5_readPlain_0 ++ dktX5_readPlain_1
theorem dksX5_readPlain_0 : cX5_readPlain.data.toList.drop 0 = dktX5_readPlain_0 := by decide +kernel
theorem dksX5_readPlain_1 : cX5_readPlain.data.toList.drop 24 = dktX5_readPlain_1 := dk_seg dksX5_readPlain_0 24 rfl rfl
theorem dX5_readPlain_0 : decode cX5_readPlain 0 = .ok (.aload_n 0, 1) := dk_42 (dk_at dksX5_readPlain_0 0 rfl rfl)
theorem dX5_readPlain_1 : decode cX5_readPlain 1 = .ok (.ldc2_w 372, 3) := dk_20 1 116 (dk_at dksX5_readPlain_0 1 rfl rfl)
theorem dX5_readPlain_4 : decode cX5_readPlain 4 = .ok (.invokevirtual 331, 3) := dk_182 1 75 (dk_at dksX5_readPlain_0 4 rfl rfl)
theorem dX5_readPlain_7 : decode cX5_readPlain 7 = .ok (.ifCond .eq 16, 3) := dk_153 0 16 (dk_at dksX5_readPlain_0 7 rfl rfl)
theorem dX5_readPlain_10 : decode cX5_readPlain 10 = .ok (.aload_n 0, 1) := dk_42 (dk_at dksX5_readPlain_0 10 rfl rfl)
theorem dX5_readPlain_11 : decode cX5_readPlain 11 = .ok (.bipush 28, 2) := dk_16 28 (dk_at dksX5_readPlain_0 11 rfl rfl)
theorem dX5_readPlain_13 : decode cX5_readPlain 13 = .ok (.iconst 0, 1) := dk_3 (dk_at dksX5_readPlain_0 13 rfl rfl)
theorem dX5_readPlain_14 : decode cX5_readPlain 14 = .ok (.invokevirtual 338, 3) := dk_182 1 82 (dk_at dksX5_readPlain_0 14 rfl rfl)
theorem dX5_readPlain_17 : decode cX5_readPlain 17 = .ok (.aload_n 0, 1) := dk_42 (dk_at dksX5_readPlain_0 17 rfl rfl)
theorem dX5_readPlain_18 : decode cX5_readPlain 18 = .ok (.invokevirtual 279, 3) := dk_182 1 23 (dk_at dksX5_readPlain_0 18 rfl rfl)
theorem dX5_readPlain_21 : decode cX5_readPlain 21 = .ok (.iconst 0, 1) := dk_3 (dk_at dksX5_readPlain_0 21 rfl rfl)
theorem dX5_readPlain_22 : decode cX5_readPlain 22 = .ok (.ireturn, 1) := dk_172 (dk_at dksX5_readPlain_0 22 rfl rfl)
theorem dX5_readPlain_23 : decode cX5_readPlain 23 = .ok (.aload_n 0, 1) := dk_42 (dk_at dksX5_readPlain_0 23 rfl rfl)
theorem dX5_readPlain_24 : decode cX5_readPlain 24 = .ok (.bipush 40, 2) := dk_16 40 (dk_at dksX5_readPlain_1 0 rfl rfl)
theorem dX5_readPlain_26 : decode cX5_readPlain 26 = .ok (.invokevirtual 344, 3) := dk_182 1 88 (dk_at dksX5_readPlain_1 2 rfl rfl)
theorem dX5_readPlain_29 : decode cX5_readPlain 29 = .ok (.ifCond .eq 11, 3) := dk_153 0 11 (dk_at dksX5_readPlain_1 5 rfl rfl)
theorem dX5_readPlain_32 : decode cX5_readPlain 32 = .ok (.aload_n 0, 1) := dk_42 (dk_at dksX5_readPlain_1 8 rfl rfl)
theorem dX5_readPlain_33 : decode cX5_readPlain 33 = .ok (.bipush 31, 2) := dk_16 31 (dk_at dksX5_readPlain_1 9 rfl rfl)
theorem dX5_readPlain_35 : decode cX5_readPlain 35 = .ok (.invokevirtual 347, 3) := dk_182 1 91 (dk_at dksX5_readPlain_1 11 rfl rfl)
theorem dX5_readPlain_38 : decode cX5_readPlain 38 = .ok (.iconst 0, 1) := dk_3 (dk_at dksX5_readPlain_1 14 rfl rfl)
theorem dX5_readPlain_39 : decode cX5_readPlain 39 = .ok (.ireturn, 1) := dk_172 (dk_at dksX5_readPlain_1 15 rfl rfl)
theorem dX5_readPlain_40 : decode cX5_readPlain 40 = .ok (.aload_n 0, 1) := dk_42 (dk_at dksX5_readPlain_1 16 rfl rfl)
theorem dX5_readPlain_41 : decode cX5_readPlain 41 = .ok (.invokevirtual 374, 3) := dk_182 1 118 (dk_at dksX5_readPlain_1 17 rfl rfl)
theorem dX5_readPlain_44 : decode cX5_readPlain 44 = .ok (.ireturn, 1) := dk_172 (dk_at dksX5_readPlain_1 20 rfl rfl)
abbrev cX5_push : ByteArray := prog_22_method_47_code
def yX5_push : MethodName := ⟨RX5, "push", "(II)V"⟩
def dkwX5_push_1 : List UInt8 := [180, 1, 59, 4, 96, 181, 1, 59, 177]
abbrev dktX5_push_1 : List UInt8 := dkwX5_push_1 ++ []
def dkwX5_push_0 : List UInt8 := [42, 180, 0, 51, 42, 180, 1, 59, 27, 79, 42, 180, 0, 54, 42, 180, 1, 59, 28, 79, 42, 89]
abbrev dktX5_push_0 : List UInt8 := dkwX5_push_0 ++ dktX5_push_1
theorem dksX5_push_0 : cX5_push.data.toList.drop 0 = dktX5_push_0 := by decide +kernel
theorem dksX5_push_1 : cX5_push.data.toList.drop 22 = dktX5_push_1 := dk_seg dksX5_push_0 22 rfl rfl
theorem dX5_push_0 : decode cX5_push 0 = .ok (.aload_n 0, 1) := dk_42 (dk_at dksX5_push_0 0 rfl rfl)
theorem dX5_push_1 : decode cX5_push 1 = .ok (.getfield 51, 3) := dk_180 0 51 (dk_at dksX5_push_0 1 rfl rfl)
theorem dX5_push_4 : decode cX5_push 4 = .ok (.aload_n 0, 1) := dk_42 (dk_at dksX5_push_0 4 rfl rfl)
theorem dX5_push_5 : decode cX5_push 5 = .ok (.getfield 315, 3) := dk_180 1 59 (dk_at dksX5_push_0 5 rfl rfl)
theorem dX5_push_8 : decode cX5_push 8 = .ok (.iload_n 1, 1) := dk_27 (dk_at dksX5_push_0 8 rfl rfl)
theorem dX5_push_9 : decode cX5_push 9 = .ok (.iastore, 1) := dk_79 (dk_at dksX5_push_0 9 rfl rfl)
theorem dX5_push_10 : decode cX5_push 10 = .ok (.aload_n 0, 1) := dk_42 (dk_at dksX5_push_0 10 rfl rfl)
theorem dX5_push_11 : decode cX5_push 11 = .ok (.getfield 54, 3) := dk_180 0 54 (dk_at dksX5_push_0 11 rfl rfl)
theorem dX5_push_14 : decode cX5_push 14 = .ok (.aload_n 0, 1) := dk_42 (dk_at dksX5_push_0 14 rfl rfl)
theorem dX5_push_15 : decode cX5_push 15 = .ok (.getfield 315, 3) := dk_180 1 59 (dk_at dksX5_push_0 15 rfl rfl)
theorem dX5_push_18 : decode cX5_push 18 = .ok (.iload_n 2, 1) := dk_28 (dk_at dksX5_push_0 18 rfl rfl)
theorem dX5_push_19 : decode cX5_push 19 = .ok (.iastore, 1) := dk_79 (dk_at dksX5_push_0 19 rfl rfl)
theorem dX5_push_20 : decode cX5_push 20 = .ok (.aload_n 0, 1) := dk_42 (dk_at dksX5_push_0 20 rfl rfl)
theorem dX5_push_21 : decode cX5_push 21 = .ok (.dup, 1) := dk_89 (dk_at dksX5_push_0 21 rfl rfl)
theorem dX5_push_22 : decode cX5_push 22 = .ok (.getfield 315, 3) := dk_180 1 59 (dk_at dksX5_push_1 0 rfl rfl)
theorem dX5_push_25 : decode cX5_push 25 = .ok (.iconst 1, 1) := dk_4 (dk_at dksX5_push_1 3 rfl rfl)
theorem dX5_push_26 : decode cX5_push 26 = .ok (.iadd, 1) := dk_96 (dk_at dksX5_push_1 4 rfl rfl)
theorem dX5_push_27 : decode cX5_push 27 = .ok (.putfield 315, 3) := dk_181 1 59 (dk_at dksX5_push_1 5 rfl rfl)
theorem dX5_push_30 : decode cX5_push 30 = .ok (.return_, 1) := dk_177 (dk_at dksX5_push_1 8 rfl rfl)
abbrev cX5_isSign : ByteArray := prog_22_method_42_code
def yX5_isSign : MethodName := ⟨RX5, "isSign", "(I)Z"⟩
def dkwX5_isSign_0 : List UInt8 := [42, 180, 1, 39, 6, 160, 0, 17, 42, 180, 1, 29, 27, 133, 148, 154, 0, 7, 4, 167, 0, 4, 3, 172]
abbrev dktX5_isSign_0 : List UInt8 := dkwX5_isSign_0 ++ []
theorem dksX5_isSign_0 : cX5_isSign.data.toList.drop 0 = dktX5_isSign_0 := by decide +kernel
theorem dX5_isSign_0 : decode cX5_isSign 0 = .ok (.aload_n 0, 1) := dk_42 (dk_at dksX5_isSign_0 0 rfl rfl)
theorem dX5_isSign_1 : decode cX5_isSign 1 = .ok (.getfield 295, 3) := dk_180 1 39 (dk_at dksX5_isSign_0 1 rfl rfl)
theorem dX5_isSign_4 : decode cX5_isSign 4 = .ok (.iconst 3, 1) := dk_6 (dk_at dksX5_isSign_0 4 rfl rfl)
theorem dX5_isSign_5 : decode cX5_isSign 5 = .ok (.if_icmp .ne 17, 3) := dk_160 0 17 (dk_at dksX5_isSign_0 5 rfl rfl)
theorem dX5_isSign_8 : decode cX5_isSign 8 = .ok (.aload_n 0, 1) := dk_42 (dk_at dksX5_isSign_0 8 rfl rfl)
theorem dX5_isSign_9 : decode cX5_isSign 9 = .ok (.getfield 285, 3) := dk_180 1 29 (dk_at dksX5_isSign_0 9 rfl rfl)
theorem dX5_isSign_12 : decode cX5_isSign 12 = .ok (.iload_n 1, 1) := dk_27 (dk_at dksX5_isSign_0 12 rfl rfl)
theorem dX5_isSign_13 : decode cX5_isSign 13 = .ok (.i2l, 1) := dk_133 (dk_at dksX5_isSign_0 13 rfl rfl)
theorem dX5_isSign_14 : decode cX5_isSign 14 = .ok (.lcmp, 1) := dk_148 (dk_at dksX5_isSign_0 14 rfl rfl)
theorem dX5_isSign_15 : decode cX5_isSign 15 = .ok (.ifCond .ne 7, 3) := dk_154 0 7 (dk_at dksX5_isSign_0 15 rfl rfl)
theorem dX5_isSign_18 : decode cX5_isSign 18 = .ok (.iconst 1, 1) := dk_4 (dk_at dksX5_isSign_0 18 rfl rfl)
theorem dX5_isSign_19 : decode cX5_isSign 19 = .ok (.goto 4, 3) := dk_167 0 4 (dk_at dksX5_isSign_0 19 rfl rfl)
theorem dX5_isSign_22 : decode cX5_isSign 22 = .ok (.iconst 0, 1) := dk_3 (dk_at dksX5_isSign_0 22 rfl rfl)
theorem dX5_isSign_23 : decode cX5_isSign 23 = .ok (.ireturn, 1) := dk_172 (dk_at dksX5_isSign_0 23 rfl rfl)
abbrev cX5_openBracket : ByteArray := prog_22_method_54_code
def yX5_openBracket : MethodName := ⟨RX5, "openBracket", "(I)V"⟩
def dkwX5_openBracket_1 : List UInt8 := [154, 0, 19, 42, 89, 180, 1, 79, 4, 96, 181, 1, 79, 42, 27, 3, 182, 1, 82, 177]
abbrev dktX5_openBracket_1 : List UInt8 := dkwX5_openBracket_1 ++ []
def dkwX5_openBracket_0 : List UInt8 := [42, 42, 180, 1, 79, 16, 8, 162, 0, 7, 4, 167, 0, 4, 3, 182, 1, 52, 42, 180, 1, 19]
abbrev dktX5_openBracket_0 : List UInt8 := dkwX5_openBracket_0 ++ dktX5_openBracket_1
theorem dksX5_openBracket_0 : cX5_openBracket.data.toList.drop 0 = dktX5_openBracket_0 := by decide +kernel
theorem dksX5_openBracket_1 : cX5_openBracket.data.toList.drop 22 = dktX5_openBracket_1 := dk_seg dksX5_openBracket_0 22 rfl rfl
theorem dX5_openBracket_0 : decode cX5_openBracket 0 = .ok (.aload_n 0, 1) := dk_42 (dk_at dksX5_openBracket_0 0 rfl rfl)
theorem dX5_openBracket_1 : decode cX5_openBracket 1 = .ok (.aload_n 0, 1) := dk_42 (dk_at dksX5_openBracket_0 1 rfl rfl)
theorem dX5_openBracket_2 : decode cX5_openBracket 2 = .ok (.getfield 335, 3) := dk_180 1 79 (dk_at dksX5_openBracket_0 2 rfl rfl)
theorem dX5_openBracket_5 : decode cX5_openBracket 5 = .ok (.bipush 8, 2) := dk_16 8 (dk_at dksX5_openBracket_0 5 rfl rfl)
theorem dX5_openBracket_7 : decode cX5_openBracket 7 = .ok (.if_icmp .ge 7, 3) := dk_162 0 7 (dk_at dksX5_openBracket_0 7 rfl rfl)
theorem dX5_openBracket_10 : decode cX5_openBracket 10 = .ok (.iconst 1, 1) := dk_4 (dk_at dksX5_openBracket_0 10 rfl rfl)
theorem dX5_openBracket_11 : decode cX5_openBracket 11 = .ok (.goto 4, 3) := dk_167 0 4 (dk_at dksX5_openBracket_0 11 rfl rfl)
theorem dX5_openBracket_14 : decode cX5_openBracket 14 = .ok (.iconst 0, 1) := dk_3 (dk_at dksX5_openBracket_0 14 rfl rfl)
theorem dX5_openBracket_15 : decode cX5_openBracket 15 = .ok (.invokevirtual 308, 3) := dk_182 1 52 (dk_at dksX5_openBracket_0 15 rfl rfl)
theorem dX5_openBracket_18 : decode cX5_openBracket 18 = .ok (.aload_n 0, 1) := dk_42 (dk_at dksX5_openBracket_0 18 rfl rfl)
theorem dX5_openBracket_19 : decode cX5_openBracket 19 = .ok (.getfield 275, 3) := dk_180 1 19 (dk_at dksX5_openBracket_0 19 rfl rfl)
theorem dX5_openBracket_22 : decode cX5_openBracket 22 = .ok (.ifCond .ne 19, 3) := dk_154 0 19 (dk_at dksX5_openBracket_1 0 rfl rfl)
theorem dX5_openBracket_25 : decode cX5_openBracket 25 = .ok (.aload_n 0, 1) := dk_42 (dk_at dksX5_openBracket_1 3 rfl rfl)
theorem dX5_openBracket_26 : decode cX5_openBracket 26 = .ok (.dup, 1) := dk_89 (dk_at dksX5_openBracket_1 4 rfl rfl)
theorem dX5_openBracket_27 : decode cX5_openBracket 27 = .ok (.getfield 335, 3) := dk_180 1 79 (dk_at dksX5_openBracket_1 5 rfl rfl)
theorem dX5_openBracket_30 : decode cX5_openBracket 30 = .ok (.iconst 1, 1) := dk_4 (dk_at dksX5_openBracket_1 8 rfl rfl)
theorem dX5_openBracket_31 : decode cX5_openBracket 31 = .ok (.iadd, 1) := dk_96 (dk_at dksX5_openBracket_1 9 rfl rfl)
theorem dX5_openBracket_32 : decode cX5_openBracket 32 = .ok (.putfield 335, 3) := dk_181 1 79 (dk_at dksX5_openBracket_1 10 rfl rfl)
theorem dX5_openBracket_35 : decode cX5_openBracket 35 = .ok (.aload_n 0, 1) := dk_42 (dk_at dksX5_openBracket_1 13 rfl rfl)
theorem dX5_openBracket_36 : decode cX5_openBracket 36 = .ok (.iload_n 1, 1) := dk_27 (dk_at dksX5_openBracket_1 14 rfl rfl)
theorem dX5_openBracket_37 : decode cX5_openBracket 37 = .ok (.iconst 0, 1) := dk_3 (dk_at dksX5_openBracket_1 15 rfl rfl)
theorem dX5_openBracket_38 : decode cX5_openBracket 38 = .ok (.invokevirtual 338, 3) := dk_182 1 82 (dk_at dksX5_openBracket_1 16 rfl rfl)
theorem dX5_openBracket_41 : decode cX5_openBracket 41 = .ok (.return_, 1) := dk_177 (dk_at dksX5_openBracket_1 19 rfl rfl)
abbrev cX5_readPart : ByteArray := prog_22_method_56_code
def yX5_readPart : MethodName := ⟨RX5, "readPart", "()I"⟩
def dkwX5_readPart_6 : List UInt8 := [6, 172]
abbrev dktX5_readPart_6 : List UInt8 := dkwX5_readPart_6 ++ []
def dkwX5_readPart_5 : List UInt8 := [154, 0, 24, 42, 180, 1, 56, 4, 100, 62, 42, 180, 0, 48, 29, 42, 9, 20, 1, 110, 182, 1, 112, 79]
abbrev dktX5_readPart_5 : List UInt8 := dkwX5_readPart_5 ++ dktX5_readPart_6
def dkwX5_readPart_4 : List UInt8 := [167, 0, 4, 3, 182, 1, 106, 42, 180, 1, 94, 153, 0, 36, 27, 8, 161, 0, 31, 42, 180, 1, 19]
abbrev dktX5_readPart_4 : List UInt8 := dkwX5_readPart_4 ++ dktX5_readPart_5
def dkwX5_readPart_3 : List UInt8 := [167, 0, 4, 3, 27, 2, 160, 0, 7, 3, 167, 0, 4, 27, 28, 153, 0, 11, 42, 180, 1, 29, 136]
abbrev dktX5_readPart_3 : List UInt8 := dkwX5_readPart_3 ++ dktX5_readPart_4
def dkwX5_readPart_2 : List UInt8 := [20, 1, 104, 148, 157, 0, 7, 4, 167, 0, 4, 3, 61, 42, 27, 2, 160, 0, 7, 28, 153, 0, 7, 4]
abbrev dktX5_readPart_2 : List UInt8 := dkwX5_readPart_2 ++ dktX5_readPart_3
def dkwX5_readPart_1 : List UInt8 := [42, 182, 1, 97, 167, 0, 7, 42, 182, 1, 101, 60, 42, 180, 1, 39, 5, 160, 0, 18, 42, 180, 1, 29]
abbrev dktX5_readPart_1 : List UInt8 := dkwX5_readPart_1 ++ dktX5_readPart_2
def dkwX5_readPart_0 : List UInt8 := [42, 16, 91, 182, 1, 88, 153, 0, 11, 42, 16, 32, 182, 1, 91, 4, 172, 42, 180, 1, 94, 153, 0, 10]
abbrev dktX5_readPart_0 : List UInt8 := dkwX5_readPart_0 ++ dktX5_readPart_1
theorem dksX5_readPart_0 : cX5_readPart.data.toList.drop 0 = dktX5_readPart_0 := by decide +kernel
theorem dksX5_readPart_1 : cX5_readPart.data.toList.drop 24 = dktX5_readPart_1 := dk_seg dksX5_readPart_0 24 rfl rfl
theorem dksX5_readPart_2 : cX5_readPart.data.toList.drop 48 = dktX5_readPart_2 := dk_seg dksX5_readPart_1 24 rfl rfl
theorem dksX5_readPart_3 : cX5_readPart.data.toList.drop 72 = dktX5_readPart_3 := dk_seg dksX5_readPart_2 24 rfl rfl
theorem dksX5_readPart_4 : cX5_readPart.data.toList.drop 95 = dktX5_readPart_4 := dk_seg dksX5_readPart_3 23 rfl rfl
theorem dksX5_readPart_5 : cX5_readPart.data.toList.drop 118 = dktX5_readPart_5 := dk_seg dksX5_readPart_4 23 rfl rfl
theorem dksX5_readPart_6 : cX5_readPart.data.toList.drop 142 = dktX5_readPart_6 := dk_seg dksX5_readPart_5 24 rfl rfl
theorem dX5_readPart_0 : decode cX5_readPart 0 = .ok (.aload_n 0, 1) := dk_42 (dk_at dksX5_readPart_0 0 rfl rfl)
theorem dX5_readPart_1 : decode cX5_readPart 1 = .ok (.bipush 91, 2) := dk_16 91 (dk_at dksX5_readPart_0 1 rfl rfl)
theorem dX5_readPart_3 : decode cX5_readPart 3 = .ok (.invokevirtual 344, 3) := dk_182 1 88 (dk_at dksX5_readPart_0 3 rfl rfl)
theorem dX5_readPart_6 : decode cX5_readPart 6 = .ok (.ifCond .eq 11, 3) := dk_153 0 11 (dk_at dksX5_readPart_0 6 rfl rfl)
theorem dX5_readPart_9 : decode cX5_readPart 9 = .ok (.aload_n 0, 1) := dk_42 (dk_at dksX5_readPart_0 9 rfl rfl)
theorem dX5_readPart_10 : decode cX5_readPart 10 = .ok (.bipush 32, 2) := dk_16 32 (dk_at dksX5_readPart_0 10 rfl rfl)
theorem dX5_readPart_12 : decode cX5_readPart 12 = .ok (.invokevirtual 347, 3) := dk_182 1 91 (dk_at dksX5_readPart_0 12 rfl rfl)
theorem dX5_readPart_15 : decode cX5_readPart 15 = .ok (.iconst 1, 1) := dk_4 (dk_at dksX5_readPart_0 15 rfl rfl)
theorem dX5_readPart_16 : decode cX5_readPart 16 = .ok (.ireturn, 1) := dk_172 (dk_at dksX5_readPart_0 16 rfl rfl)
theorem dX5_readPart_17 : decode cX5_readPart 17 = .ok (.aload_n 0, 1) := dk_42 (dk_at dksX5_readPart_0 17 rfl rfl)
theorem dX5_readPart_18 : decode cX5_readPart 18 = .ok (.getfield 350, 3) := dk_180 1 94 (dk_at dksX5_readPart_0 18 rfl rfl)
theorem dX5_readPart_21 : decode cX5_readPart 21 = .ok (.ifCond .eq 10, 3) := dk_153 0 10 (dk_at dksX5_readPart_0 21 rfl rfl)
theorem dX5_readPart_24 : decode cX5_readPart 24 = .ok (.aload_n 0, 1) := dk_42 (dk_at dksX5_readPart_1 0 rfl rfl)
theorem dX5_readPart_25 : decode cX5_readPart 25 = .ok (.invokevirtual 353, 3) := dk_182 1 97 (dk_at dksX5_readPart_1 1 rfl rfl)
theorem dX5_readPart_28 : decode cX5_readPart 28 = .ok (.goto 7, 3) := dk_167 0 7 (dk_at dksX5_readPart_1 4 rfl rfl)
theorem dX5_readPart_31 : decode cX5_readPart 31 = .ok (.aload_n 0, 1) := dk_42 (dk_at dksX5_readPart_1 7 rfl rfl)
theorem dX5_readPart_32 : decode cX5_readPart 32 = .ok (.invokevirtual 357, 3) := dk_182 1 101 (dk_at dksX5_readPart_1 8 rfl rfl)
theorem dX5_readPart_35 : decode cX5_readPart 35 = .ok (.istore_n 1, 1) := dk_60 (dk_at dksX5_readPart_1 11 rfl rfl)
theorem dX5_readPart_36 : decode cX5_readPart 36 = .ok (.aload_n 0, 1) := dk_42 (dk_at dksX5_readPart_1 12 rfl rfl)
theorem dX5_readPart_37 : decode cX5_readPart 37 = .ok (.getfield 295, 3) := dk_180 1 39 (dk_at dksX5_readPart_1 13 rfl rfl)
theorem dX5_readPart_40 : decode cX5_readPart 40 = .ok (.iconst 2, 1) := dk_5 (dk_at dksX5_readPart_1 16 rfl rfl)
theorem dX5_readPart_41 : decode cX5_readPart 41 = .ok (.if_icmp .ne 18, 3) := dk_160 0 18 (dk_at dksX5_readPart_1 17 rfl rfl)
theorem dX5_readPart_44 : decode cX5_readPart 44 = .ok (.aload_n 0, 1) := dk_42 (dk_at dksX5_readPart_1 20 rfl rfl)
theorem dX5_readPart_45 : decode cX5_readPart 45 = .ok (.getfield 285, 3) := dk_180 1 29 (dk_at dksX5_readPart_1 21 rfl rfl)
theorem dX5_readPart_48 : decode cX5_readPart 48 = .ok (.ldc2_w 360, 3) := dk_20 1 104 (dk_at dksX5_readPart_2 0 rfl rfl)
theorem dX5_readPart_51 : decode cX5_readPart 51 = .ok (.lcmp, 1) := dk_148 (dk_at dksX5_readPart_2 3 rfl rfl)
theorem dX5_readPart_52 : decode cX5_readPart 52 = .ok (.ifCond .gt 7, 3) := dk_157 0 7 (dk_at dksX5_readPart_2 4 rfl rfl)
theorem dX5_readPart_55 : decode cX5_readPart 55 = .ok (.iconst 1, 1) := dk_4 (dk_at dksX5_readPart_2 7 rfl rfl)
theorem dX5_readPart_56 : decode cX5_readPart 56 = .ok (.goto 4, 3) := dk_167 0 4 (dk_at dksX5_readPart_2 8 rfl rfl)
theorem dX5_readPart_59 : decode cX5_readPart 59 = .ok (.iconst 0, 1) := dk_3 (dk_at dksX5_readPart_2 11 rfl rfl)
theorem dX5_readPart_60 : decode cX5_readPart 60 = .ok (.istore_n 2, 1) := dk_61 (dk_at dksX5_readPart_2 12 rfl rfl)
theorem dX5_readPart_61 : decode cX5_readPart 61 = .ok (.aload_n 0, 1) := dk_42 (dk_at dksX5_readPart_2 13 rfl rfl)
theorem dX5_readPart_62 : decode cX5_readPart 62 = .ok (.iload_n 1, 1) := dk_27 (dk_at dksX5_readPart_2 14 rfl rfl)
theorem dX5_readPart_63 : decode cX5_readPart 63 = .ok (.iconst (-1), 1) := dk_2 (dk_at dksX5_readPart_2 15 rfl rfl)
theorem dX5_readPart_64 : decode cX5_readPart 64 = .ok (.if_icmp .ne 7, 3) := dk_160 0 7 (dk_at dksX5_readPart_2 16 rfl rfl)
theorem dX5_readPart_67 : decode cX5_readPart 67 = .ok (.iload_n 2, 1) := dk_28 (dk_at dksX5_readPart_2 19 rfl rfl)
theorem dX5_readPart_68 : decode cX5_readPart 68 = .ok (.ifCond .eq 7, 3) := dk_153 0 7 (dk_at dksX5_readPart_2 20 rfl rfl)
theorem dX5_readPart_71 : decode cX5_readPart 71 = .ok (.iconst 1, 1) := dk_4 (dk_at dksX5_readPart_2 23 rfl rfl)
theorem dX5_readPart_72 : decode cX5_readPart 72 = .ok (.goto 4, 3) := dk_167 0 4 (dk_at dksX5_readPart_3 0 rfl rfl)
theorem dX5_readPart_75 : decode cX5_readPart 75 = .ok (.iconst 0, 1) := dk_3 (dk_at dksX5_readPart_3 3 rfl rfl)
theorem dX5_readPart_76 : decode cX5_readPart 76 = .ok (.iload_n 1, 1) := dk_27 (dk_at dksX5_readPart_3 4 rfl rfl)
theorem dX5_readPart_77 : decode cX5_readPart 77 = .ok (.iconst (-1), 1) := dk_2 (dk_at dksX5_readPart_3 5 rfl rfl)
theorem dX5_readPart_78 : decode cX5_readPart 78 = .ok (.if_icmp .ne 7, 3) := dk_160 0 7 (dk_at dksX5_readPart_3 6 rfl rfl)
theorem dX5_readPart_81 : decode cX5_readPart 81 = .ok (.iconst 0, 1) := dk_3 (dk_at dksX5_readPart_3 9 rfl rfl)
theorem dX5_readPart_82 : decode cX5_readPart 82 = .ok (.goto 4, 3) := dk_167 0 4 (dk_at dksX5_readPart_3 10 rfl rfl)
theorem dX5_readPart_85 : decode cX5_readPart 85 = .ok (.iload_n 1, 1) := dk_27 (dk_at dksX5_readPart_3 13 rfl rfl)
theorem dX5_readPart_86 : decode cX5_readPart 86 = .ok (.iload_n 2, 1) := dk_28 (dk_at dksX5_readPart_3 14 rfl rfl)
theorem dX5_readPart_87 : decode cX5_readPart 87 = .ok (.ifCond .eq 11, 3) := dk_153 0 11 (dk_at dksX5_readPart_3 15 rfl rfl)
theorem dX5_readPart_90 : decode cX5_readPart 90 = .ok (.aload_n 0, 1) := dk_42 (dk_at dksX5_readPart_3 18 rfl rfl)
theorem dX5_readPart_91 : decode cX5_readPart 91 = .ok (.getfield 285, 3) := dk_180 1 29 (dk_at dksX5_readPart_3 19 rfl rfl)
theorem dX5_readPart_94 : decode cX5_readPart 94 = .ok (.l2i, 1) := dk_136 (dk_at dksX5_readPart_3 22 rfl rfl)
theorem dX5_readPart_95 : decode cX5_readPart 95 = .ok (.goto 4, 3) := dk_167 0 4 (dk_at dksX5_readPart_4 0 rfl rfl)
theorem dX5_readPart_98 : decode cX5_readPart 98 = .ok (.iconst 0, 1) := dk_3 (dk_at dksX5_readPart_4 3 rfl rfl)
theorem dX5_readPart_99 : decode cX5_readPart 99 = .ok (.invokevirtual 362, 3) := dk_182 1 106 (dk_at dksX5_readPart_4 4 rfl rfl)
theorem dX5_readPart_102 : decode cX5_readPart 102 = .ok (.aload_n 0, 1) := dk_42 (dk_at dksX5_readPart_4 7 rfl rfl)
theorem dX5_readPart_103 : decode cX5_readPart 103 = .ok (.getfield 350, 3) := dk_180 1 94 (dk_at dksX5_readPart_4 8 rfl rfl)
theorem dX5_readPart_106 : decode cX5_readPart 106 = .ok (.ifCond .eq 36, 3) := dk_153 0 36 (dk_at dksX5_readPart_4 11 rfl rfl)
theorem dX5_readPart_109 : decode cX5_readPart 109 = .ok (.iload_n 1, 1) := dk_27 (dk_at dksX5_readPart_4 14 rfl rfl)
theorem dX5_readPart_110 : decode cX5_readPart 110 = .ok (.iconst 5, 1) := dk_8 (dk_at dksX5_readPart_4 15 rfl rfl)
theorem dX5_readPart_111 : decode cX5_readPart 111 = .ok (.if_icmp .lt 31, 3) := dk_161 0 31 (dk_at dksX5_readPart_4 16 rfl rfl)
theorem dX5_readPart_114 : decode cX5_readPart 114 = .ok (.aload_n 0, 1) := dk_42 (dk_at dksX5_readPart_4 19 rfl rfl)
theorem dX5_readPart_115 : decode cX5_readPart 115 = .ok (.getfield 275, 3) := dk_180 1 19 (dk_at dksX5_readPart_4 20 rfl rfl)
theorem dX5_readPart_118 : decode cX5_readPart 118 = .ok (.ifCond .ne 24, 3) := dk_154 0 24 (dk_at dksX5_readPart_5 0 rfl rfl)
theorem dX5_readPart_121 : decode cX5_readPart 121 = .ok (.aload_n 0, 1) := dk_42 (dk_at dksX5_readPart_5 3 rfl rfl)
theorem dX5_readPart_122 : decode cX5_readPart 122 = .ok (.getfield 312, 3) := dk_180 1 56 (dk_at dksX5_readPart_5 4 rfl rfl)
theorem dX5_readPart_125 : decode cX5_readPart 125 = .ok (.iconst 1, 1) := dk_4 (dk_at dksX5_readPart_5 7 rfl rfl)
theorem dX5_readPart_126 : decode cX5_readPart 126 = .ok (.isub, 1) := dk_100 (dk_at dksX5_readPart_5 8 rfl rfl)
theorem dX5_readPart_127 : decode cX5_readPart 127 = .ok (.istore_n 3, 1) := dk_62 (dk_at dksX5_readPart_5 9 rfl rfl)
theorem dX5_readPart_128 : decode cX5_readPart 128 = .ok (.aload_n 0, 1) := dk_42 (dk_at dksX5_readPart_5 10 rfl rfl)
theorem dX5_readPart_129 : decode cX5_readPart 129 = .ok (.getfield 48, 3) := dk_180 0 48 (dk_at dksX5_readPart_5 11 rfl rfl)
theorem dX5_readPart_132 : decode cX5_readPart 132 = .ok (.iload_n 3, 1) := dk_29 (dk_at dksX5_readPart_5 14 rfl rfl)
theorem dX5_readPart_133 : decode cX5_readPart 133 = .ok (.aload_n 0, 1) := dk_42 (dk_at dksX5_readPart_5 15 rfl rfl)
theorem dX5_readPart_134 : decode cX5_readPart 134 = .ok (.lconst 0, 1) := dk_9 (dk_at dksX5_readPart_5 16 rfl rfl)
theorem dX5_readPart_135 : decode cX5_readPart 135 = .ok (.ldc2_w 366, 3) := dk_20 1 110 (dk_at dksX5_readPart_5 17 rfl rfl)
theorem dX5_readPart_138 : decode cX5_readPart 138 = .ok (.invokevirtual 368, 3) := dk_182 1 112 (dk_at dksX5_readPart_5 20 rfl rfl)
theorem dX5_readPart_141 : decode cX5_readPart 141 = .ok (.iastore, 1) := dk_79 (dk_at dksX5_readPart_5 23 rfl rfl)
theorem dX5_readPart_142 : decode cX5_readPart 142 = .ok (.iconst 3, 1) := dk_6 (dk_at dksX5_readPart_6 0 rfl rfl)
theorem dX5_readPart_143 : decode cX5_readPart 143 = .ok (.ireturn, 1) := dk_172 (dk_at dksX5_readPart_6 1 rfl rfl)
abbrev cX5_orderPartAt : ByteArray := prog_22_method_53_code
def yX5_orderPartAt : MethodName := ⟨RX5, "orderPartAt", "()I"⟩
def dkwX5_orderPartAt_1 : List UInt8 := [4, 96, 167, 0, 4, 27, 60, 132, 2, 1, 167, 255, 226, 27, 172]
abbrev dktX5_orderPartAt_1 : List UInt8 := dkwX5_orderPartAt_1 ++ []
def dkwX5_orderPartAt_0 : List UInt8 := [2, 60, 3, 61, 28, 16, 6, 162, 0, 30, 42, 42, 180, 0, 87, 28, 47, 182, 1, 75, 153, 0, 9, 28]
abbrev dktX5_orderPartAt_0 : List UInt8 := dkwX5_orderPartAt_0 ++ dktX5_orderPartAt_1
theorem dksX5_orderPartAt_0 : cX5_orderPartAt.data.toList.drop 0 = dktX5_orderPartAt_0 := by decide +kernel
theorem dksX5_orderPartAt_1 : cX5_orderPartAt.data.toList.drop 24 = dktX5_orderPartAt_1 := dk_seg dksX5_orderPartAt_0 24 rfl rfl
theorem dX5_orderPartAt_0 : decode cX5_orderPartAt 0 = .ok (.iconst (-1), 1) := dk_2 (dk_at dksX5_orderPartAt_0 0 rfl rfl)
theorem dX5_orderPartAt_1 : decode cX5_orderPartAt 1 = .ok (.istore_n 1, 1) := dk_60 (dk_at dksX5_orderPartAt_0 1 rfl rfl)
theorem dX5_orderPartAt_2 : decode cX5_orderPartAt 2 = .ok (.iconst 0, 1) := dk_3 (dk_at dksX5_orderPartAt_0 2 rfl rfl)
theorem dX5_orderPartAt_3 : decode cX5_orderPartAt 3 = .ok (.istore_n 2, 1) := dk_61 (dk_at dksX5_orderPartAt_0 3 rfl rfl)
theorem dX5_orderPartAt_4 : decode cX5_orderPartAt 4 = .ok (.iload_n 2, 1) := dk_28 (dk_at dksX5_orderPartAt_0 4 rfl rfl)
theorem dX5_orderPartAt_5 : decode cX5_orderPartAt 5 = .ok (.bipush 6, 2) := dk_16 6 (dk_at dksX5_orderPartAt_0 5 rfl rfl)
theorem dX5_orderPartAt_7 : decode cX5_orderPartAt 7 = .ok (.if_icmp .ge 30, 3) := dk_162 0 30 (dk_at dksX5_orderPartAt_0 7 rfl rfl)
theorem dX5_orderPartAt_10 : decode cX5_orderPartAt 10 = .ok (.aload_n 0, 1) := dk_42 (dk_at dksX5_orderPartAt_0 10 rfl rfl)
theorem dX5_orderPartAt_11 : decode cX5_orderPartAt 11 = .ok (.aload_n 0, 1) := dk_42 (dk_at dksX5_orderPartAt_0 11 rfl rfl)
theorem dX5_orderPartAt_12 : decode cX5_orderPartAt 12 = .ok (.getfield 87, 3) := dk_180 0 87 (dk_at dksX5_orderPartAt_0 12 rfl rfl)
theorem dX5_orderPartAt_15 : decode cX5_orderPartAt 15 = .ok (.iload_n 2, 1) := dk_28 (dk_at dksX5_orderPartAt_0 15 rfl rfl)
theorem dX5_orderPartAt_16 : decode cX5_orderPartAt 16 = .ok (.laload, 1) := dk_47 (dk_at dksX5_orderPartAt_0 16 rfl rfl)
theorem dX5_orderPartAt_17 : decode cX5_orderPartAt 17 = .ok (.invokevirtual 331, 3) := dk_182 1 75 (dk_at dksX5_orderPartAt_0 17 rfl rfl)
theorem dX5_orderPartAt_20 : decode cX5_orderPartAt 20 = .ok (.ifCond .eq 9, 3) := dk_153 0 9 (dk_at dksX5_orderPartAt_0 20 rfl rfl)
theorem dX5_orderPartAt_23 : decode cX5_orderPartAt 23 = .ok (.iload_n 2, 1) := dk_28 (dk_at dksX5_orderPartAt_0 23 rfl rfl)
theorem dX5_orderPartAt_24 : decode cX5_orderPartAt 24 = .ok (.iconst 1, 1) := dk_4 (dk_at dksX5_orderPartAt_1 0 rfl rfl)
theorem dX5_orderPartAt_25 : decode cX5_orderPartAt 25 = .ok (.iadd, 1) := dk_96 (dk_at dksX5_orderPartAt_1 1 rfl rfl)
theorem dX5_orderPartAt_26 : decode cX5_orderPartAt 26 = .ok (.goto 4, 3) := dk_167 0 4 (dk_at dksX5_orderPartAt_1 2 rfl rfl)
theorem dX5_orderPartAt_29 : decode cX5_orderPartAt 29 = .ok (.iload_n 1, 1) := dk_27 (dk_at dksX5_orderPartAt_1 5 rfl rfl)
theorem dX5_orderPartAt_30 : decode cX5_orderPartAt 30 = .ok (.istore_n 1, 1) := dk_60 (dk_at dksX5_orderPartAt_1 6 rfl rfl)
theorem dX5_orderPartAt_31 : decode cX5_orderPartAt 31 = .ok (.iinc 2 1, 3) := dk_132 2 1 (dk_at dksX5_orderPartAt_1 7 rfl rfl)
theorem dX5_orderPartAt_34 : decode cX5_orderPartAt 34 = .ok (.goto (-30), 3) := dk_167 255 226 (dk_at dksX5_orderPartAt_1 10 rfl rfl)
theorem dX5_orderPartAt_37 : decode cX5_orderPartAt 37 = .ok (.iload_n 1, 1) := dk_27 (dk_at dksX5_orderPartAt_1 13 rfl rfl)
theorem dX5_orderPartAt_38 : decode cX5_orderPartAt 38 = .ok (.ireturn, 1) := dk_172 (dk_at dksX5_orderPartAt_1 14 rfl rfl)
abbrev cX5_partAt : ByteArray := prog_22_method_52_code
def yX5_partAt : MethodName := ⟨RX5, "partAt", "()I"⟩
def dkwX5_partAt_1 : List UInt8 := [4, 96, 167, 0, 4, 27, 60, 132, 2, 1, 167, 255, 226, 27, 172]
abbrev dktX5_partAt_1 : List UInt8 := dkwX5_partAt_1 ++ []
def dkwX5_partAt_0 : List UInt8 := [2, 60, 3, 61, 28, 16, 9, 162, 0, 30, 42, 42, 180, 0, 75, 28, 47, 182, 1, 75, 153, 0, 9, 28]
abbrev dktX5_partAt_0 : List UInt8 := dkwX5_partAt_0 ++ dktX5_partAt_1
theorem dksX5_partAt_0 : cX5_partAt.data.toList.drop 0 = dktX5_partAt_0 := by decide +kernel
theorem dksX5_partAt_1 : cX5_partAt.data.toList.drop 24 = dktX5_partAt_1 := dk_seg dksX5_partAt_0 24 rfl rfl
theorem dX5_partAt_0 : decode cX5_partAt 0 = .ok (.iconst (-1), 1) := dk_2 (dk_at dksX5_partAt_0 0 rfl rfl)
theorem dX5_partAt_1 : decode cX5_partAt 1 = .ok (.istore_n 1, 1) := dk_60 (dk_at dksX5_partAt_0 1 rfl rfl)
theorem dX5_partAt_2 : decode cX5_partAt 2 = .ok (.iconst 0, 1) := dk_3 (dk_at dksX5_partAt_0 2 rfl rfl)
theorem dX5_partAt_3 : decode cX5_partAt 3 = .ok (.istore_n 2, 1) := dk_61 (dk_at dksX5_partAt_0 3 rfl rfl)
theorem dX5_partAt_4 : decode cX5_partAt 4 = .ok (.iload_n 2, 1) := dk_28 (dk_at dksX5_partAt_0 4 rfl rfl)
theorem dX5_partAt_5 : decode cX5_partAt 5 = .ok (.bipush 9, 2) := dk_16 9 (dk_at dksX5_partAt_0 5 rfl rfl)
theorem dX5_partAt_7 : decode cX5_partAt 7 = .ok (.if_icmp .ge 30, 3) := dk_162 0 30 (dk_at dksX5_partAt_0 7 rfl rfl)
theorem dX5_partAt_10 : decode cX5_partAt 10 = .ok (.aload_n 0, 1) := dk_42 (dk_at dksX5_partAt_0 10 rfl rfl)
theorem dX5_partAt_11 : decode cX5_partAt 11 = .ok (.aload_n 0, 1) := dk_42 (dk_at dksX5_partAt_0 11 rfl rfl)
theorem dX5_partAt_12 : decode cX5_partAt 12 = .ok (.getfield 75, 3) := dk_180 0 75 (dk_at dksX5_partAt_0 12 rfl rfl)
theorem dX5_partAt_15 : decode cX5_partAt 15 = .ok (.iload_n 2, 1) := dk_28 (dk_at dksX5_partAt_0 15 rfl rfl)
theorem dX5_partAt_16 : decode cX5_partAt 16 = .ok (.laload, 1) := dk_47 (dk_at dksX5_partAt_0 16 rfl rfl)
theorem dX5_partAt_17 : decode cX5_partAt 17 = .ok (.invokevirtual 331, 3) := dk_182 1 75 (dk_at dksX5_partAt_0 17 rfl rfl)
theorem dX5_partAt_20 : decode cX5_partAt 20 = .ok (.ifCond .eq 9, 3) := dk_153 0 9 (dk_at dksX5_partAt_0 20 rfl rfl)
theorem dX5_partAt_23 : decode cX5_partAt 23 = .ok (.iload_n 2, 1) := dk_28 (dk_at dksX5_partAt_0 23 rfl rfl)
theorem dX5_partAt_24 : decode cX5_partAt 24 = .ok (.iconst 1, 1) := dk_4 (dk_at dksX5_partAt_1 0 rfl rfl)
theorem dX5_partAt_25 : decode cX5_partAt 25 = .ok (.iadd, 1) := dk_96 (dk_at dksX5_partAt_1 1 rfl rfl)
theorem dX5_partAt_26 : decode cX5_partAt 26 = .ok (.goto 4, 3) := dk_167 0 4 (dk_at dksX5_partAt_1 2 rfl rfl)
theorem dX5_partAt_29 : decode cX5_partAt 29 = .ok (.iload_n 1, 1) := dk_27 (dk_at dksX5_partAt_1 5 rfl rfl)
theorem dX5_partAt_30 : decode cX5_partAt 30 = .ok (.istore_n 1, 1) := dk_60 (dk_at dksX5_partAt_1 6 rfl rfl)
theorem dX5_partAt_31 : decode cX5_partAt 31 = .ok (.iinc 2 1, 3) := dk_132 2 1 (dk_at dksX5_partAt_1 7 rfl rfl)
theorem dX5_partAt_34 : decode cX5_partAt 34 = .ok (.goto (-30), 3) := dk_167 255 226 (dk_at dksX5_partAt_1 10 rfl rfl)
theorem dX5_partAt_37 : decode cX5_partAt 37 = .ok (.iload_n 1, 1) := dk_27 (dk_at dksX5_partAt_1 13 rfl rfl)
theorem dX5_partAt_38 : decode cX5_partAt 38 = .ok (.ireturn, 1) := dk_172 (dk_at dksX5_partAt_1 14 rfl rfl)
abbrev cX5_leaf : ByteArray := prog_22_method_55_code
def yX5_leaf : MethodName := ⟨RX5, "leaf", "(ZII)V"⟩
def dkwX5_leaf_1 : List UInt8 := [180, 1, 19, 154, 0, 19, 42, 28, 29, 182, 1, 65, 42, 89, 180, 1, 85, 4, 96, 181, 1, 85, 177]
abbrev dktX5_leaf_1 : List UInt8 := dkwX5_leaf_1 ++ []
def dkwX5_leaf_0 : List UInt8 := [42, 27, 153, 0, 16, 42, 180, 1, 85, 16, 50, 162, 0, 7, 4, 167, 0, 4, 3, 182, 1, 52, 42]
abbrev dktX5_leaf_0 : List UInt8 := dkwX5_leaf_0 ++ dktX5_leaf_1
theorem dksX5_leaf_0 : cX5_leaf.data.toList.drop 0 = dktX5_leaf_0 := by decide +kernel
theorem dksX5_leaf_1 : cX5_leaf.data.toList.drop 23 = dktX5_leaf_1 := dk_seg dksX5_leaf_0 23 rfl rfl
theorem dX5_leaf_0 : decode cX5_leaf 0 = .ok (.aload_n 0, 1) := dk_42 (dk_at dksX5_leaf_0 0 rfl rfl)
theorem dX5_leaf_1 : decode cX5_leaf 1 = .ok (.iload_n 1, 1) := dk_27 (dk_at dksX5_leaf_0 1 rfl rfl)
theorem dX5_leaf_2 : decode cX5_leaf 2 = .ok (.ifCond .eq 16, 3) := dk_153 0 16 (dk_at dksX5_leaf_0 2 rfl rfl)
theorem dX5_leaf_5 : decode cX5_leaf 5 = .ok (.aload_n 0, 1) := dk_42 (dk_at dksX5_leaf_0 5 rfl rfl)
theorem dX5_leaf_6 : decode cX5_leaf 6 = .ok (.getfield 341, 3) := dk_180 1 85 (dk_at dksX5_leaf_0 6 rfl rfl)
theorem dX5_leaf_9 : decode cX5_leaf 9 = .ok (.bipush 50, 2) := dk_16 50 (dk_at dksX5_leaf_0 9 rfl rfl)
theorem dX5_leaf_11 : decode cX5_leaf 11 = .ok (.if_icmp .ge 7, 3) := dk_162 0 7 (dk_at dksX5_leaf_0 11 rfl rfl)
theorem dX5_leaf_14 : decode cX5_leaf 14 = .ok (.iconst 1, 1) := dk_4 (dk_at dksX5_leaf_0 14 rfl rfl)
theorem dX5_leaf_15 : decode cX5_leaf 15 = .ok (.goto 4, 3) := dk_167 0 4 (dk_at dksX5_leaf_0 15 rfl rfl)
theorem dX5_leaf_18 : decode cX5_leaf 18 = .ok (.iconst 0, 1) := dk_3 (dk_at dksX5_leaf_0 18 rfl rfl)
theorem dX5_leaf_19 : decode cX5_leaf 19 = .ok (.invokevirtual 308, 3) := dk_182 1 52 (dk_at dksX5_leaf_0 19 rfl rfl)
theorem dX5_leaf_22 : decode cX5_leaf 22 = .ok (.aload_n 0, 1) := dk_42 (dk_at dksX5_leaf_0 22 rfl rfl)
theorem dX5_leaf_23 : decode cX5_leaf 23 = .ok (.getfield 275, 3) := dk_180 1 19 (dk_at dksX5_leaf_1 0 rfl rfl)
theorem dX5_leaf_26 : decode cX5_leaf 26 = .ok (.ifCond .ne 19, 3) := dk_154 0 19 (dk_at dksX5_leaf_1 3 rfl rfl)
theorem dX5_leaf_29 : decode cX5_leaf 29 = .ok (.aload_n 0, 1) := dk_42 (dk_at dksX5_leaf_1 6 rfl rfl)
theorem dX5_leaf_30 : decode cX5_leaf 30 = .ok (.iload_n 2, 1) := dk_28 (dk_at dksX5_leaf_1 7 rfl rfl)
theorem dX5_leaf_31 : decode cX5_leaf 31 = .ok (.iload_n 3, 1) := dk_29 (dk_at dksX5_leaf_1 8 rfl rfl)
theorem dX5_leaf_32 : decode cX5_leaf 32 = .ok (.invokevirtual 321, 3) := dk_182 1 65 (dk_at dksX5_leaf_1 9 rfl rfl)
theorem dX5_leaf_35 : decode cX5_leaf 35 = .ok (.aload_n 0, 1) := dk_42 (dk_at dksX5_leaf_1 12 rfl rfl)
theorem dX5_leaf_36 : decode cX5_leaf 36 = .ok (.dup, 1) := dk_89 (dk_at dksX5_leaf_1 13 rfl rfl)
theorem dX5_leaf_37 : decode cX5_leaf 37 = .ok (.getfield 341, 3) := dk_180 1 85 (dk_at dksX5_leaf_1 14 rfl rfl)
theorem dX5_leaf_40 : decode cX5_leaf 40 = .ok (.iconst 1, 1) := dk_4 (dk_at dksX5_leaf_1 17 rfl rfl)
theorem dX5_leaf_41 : decode cX5_leaf 41 = .ok (.iadd, 1) := dk_96 (dk_at dksX5_leaf_1 18 rfl rfl)
theorem dX5_leaf_42 : decode cX5_leaf 42 = .ok (.putfield 341, 3) := dk_181 1 85 (dk_at dksX5_leaf_1 19 rfl rfl)
theorem dX5_leaf_45 : decode cX5_leaf 45 = .ok (.return_, 1) := dk_177 (dk_at dksX5_leaf_1 22 rfl rfl)
abbrev cX5_emit : ByteArray := prog_22_method_46_code
def yX5_emit : MethodName := ⟨RX5, "emit", "(II)V"⟩
def dkwX5_emit_1 : List UInt8 := [180, 1, 56, 4, 96, 181, 1, 56, 177]
abbrev dktX5_emit_1 : List UInt8 := dkwX5_emit_1 ++ []
def dkwX5_emit_0 : List UInt8 := [42, 180, 0, 45, 42, 180, 1, 56, 27, 79, 42, 180, 0, 48, 42, 180, 1, 56, 28, 79, 42, 89]
abbrev dktX5_emit_0 : List UInt8 := dkwX5_emit_0 ++ dktX5_emit_1
theorem dksX5_emit_0 : cX5_emit.data.toList.drop 0 = dktX5_emit_0 := by decide +kernel
theorem dksX5_emit_1 : cX5_emit.data.toList.drop 22 = dktX5_emit_1 := dk_seg dksX5_emit_0 22 rfl rfl
theorem dX5_emit_0 : decode cX5_emit 0 = .ok (.aload_n 0, 1) := dk_42 (dk_at dksX5_emit_0 0 rfl rfl)
theorem dX5_emit_1 : decode cX5_emit 1 = .ok (.getfield 45, 3) := dk_180 0 45 (dk_at dksX5_emit_0 1 rfl rfl)
theorem dX5_emit_4 : decode cX5_emit 4 = .ok (.aload_n 0, 1) := dk_42 (dk_at dksX5_emit_0 4 rfl rfl)
theorem dX5_emit_5 : decode cX5_emit 5 = .ok (.getfield 312, 3) := dk_180 1 56 (dk_at dksX5_emit_0 5 rfl rfl)
theorem dX5_emit_8 : decode cX5_emit 8 = .ok (.iload_n 1, 1) := dk_27 (dk_at dksX5_emit_0 8 rfl rfl)
theorem dX5_emit_9 : decode cX5_emit 9 = .ok (.iastore, 1) := dk_79 (dk_at dksX5_emit_0 9 rfl rfl)
theorem dX5_emit_10 : decode cX5_emit 10 = .ok (.aload_n 0, 1) := dk_42 (dk_at dksX5_emit_0 10 rfl rfl)
theorem dX5_emit_11 : decode cX5_emit 11 = .ok (.getfield 48, 3) := dk_180 0 48 (dk_at dksX5_emit_0 11 rfl rfl)
theorem dX5_emit_14 : decode cX5_emit 14 = .ok (.aload_n 0, 1) := dk_42 (dk_at dksX5_emit_0 14 rfl rfl)
theorem dX5_emit_15 : decode cX5_emit 15 = .ok (.getfield 312, 3) := dk_180 1 56 (dk_at dksX5_emit_0 15 rfl rfl)
theorem dX5_emit_18 : decode cX5_emit 18 = .ok (.iload_n 2, 1) := dk_28 (dk_at dksX5_emit_0 18 rfl rfl)
theorem dX5_emit_19 : decode cX5_emit 19 = .ok (.iastore, 1) := dk_79 (dk_at dksX5_emit_0 19 rfl rfl)
theorem dX5_emit_20 : decode cX5_emit 20 = .ok (.aload_n 0, 1) := dk_42 (dk_at dksX5_emit_0 20 rfl rfl)
theorem dX5_emit_21 : decode cX5_emit 21 = .ok (.dup, 1) := dk_89 (dk_at dksX5_emit_0 21 rfl rfl)
theorem dX5_emit_22 : decode cX5_emit 22 = .ok (.getfield 312, 3) := dk_180 1 56 (dk_at dksX5_emit_1 0 rfl rfl)
theorem dX5_emit_25 : decode cX5_emit 25 = .ok (.iconst 1, 1) := dk_4 (dk_at dksX5_emit_1 3 rfl rfl)
theorem dX5_emit_26 : decode cX5_emit 26 = .ok (.iadd, 1) := dk_96 (dk_at dksX5_emit_1 4 rfl rfl)
theorem dX5_emit_27 : decode cX5_emit 27 = .ok (.putfield 312, 3) := dk_181 1 56 (dk_at dksX5_emit_1 5 rfl rfl)
theorem dX5_emit_30 : decode cX5_emit 30 = .ok (.return_, 1) := dk_177 (dk_at dksX5_emit_1 8 rfl rfl)
abbrev cX5_number : ByteArray := prog_22_method_44_code
def yX5_number : MethodName := ⟨RX5, "number", "(JJ)I"⟩
def dkwX5_number_1 : List UInt8 := [184, 0, 195, 153, 0, 7, 4, 167, 0, 4, 3, 182, 1, 52, 21, 5, 172]
abbrev dktX5_number_1 : List UInt8 := dkwX5_number_1 ++ []
def dkwX5_number_0 : List UInt8 := [42, 180, 1, 29, 136, 54, 5, 42, 42, 180, 1, 39, 5, 160, 0, 19, 42, 180, 1, 29, 31, 33]
abbrev dktX5_number_0 : List UInt8 := dkwX5_number_0 ++ dktX5_number_1
theorem dksX5_number_0 : cX5_number.data.toList.drop 0 = dktX5_number_0 := by decide +kernel
theorem dksX5_number_1 : cX5_number.data.toList.drop 22 = dktX5_number_1 := dk_seg dksX5_number_0 22 rfl rfl
theorem dX5_number_0 : decode cX5_number 0 = .ok (.aload_n 0, 1) := dk_42 (dk_at dksX5_number_0 0 rfl rfl)
theorem dX5_number_1 : decode cX5_number 1 = .ok (.getfield 285, 3) := dk_180 1 29 (dk_at dksX5_number_0 1 rfl rfl)
theorem dX5_number_4 : decode cX5_number 4 = .ok (.l2i, 1) := dk_136 (dk_at dksX5_number_0 4 rfl rfl)
theorem dX5_number_5 : decode cX5_number 5 = .ok (.istore 5, 2) := dk_54 5 (dk_at dksX5_number_0 5 rfl rfl)
theorem dX5_number_7 : decode cX5_number 7 = .ok (.aload_n 0, 1) := dk_42 (dk_at dksX5_number_0 7 rfl rfl)
theorem dX5_number_8 : decode cX5_number 8 = .ok (.aload_n 0, 1) := dk_42 (dk_at dksX5_number_0 8 rfl rfl)
theorem dX5_number_9 : decode cX5_number 9 = .ok (.getfield 295, 3) := dk_180 1 39 (dk_at dksX5_number_0 9 rfl rfl)
theorem dX5_number_12 : decode cX5_number 12 = .ok (.iconst 2, 1) := dk_5 (dk_at dksX5_number_0 12 rfl rfl)
theorem dX5_number_13 : decode cX5_number 13 = .ok (.if_icmp .ne 19, 3) := dk_160 0 19 (dk_at dksX5_number_0 13 rfl rfl)
theorem dX5_number_16 : decode cX5_number 16 = .ok (.aload_n 0, 1) := dk_42 (dk_at dksX5_number_0 16 rfl rfl)
theorem dX5_number_17 : decode cX5_number 17 = .ok (.getfield 285, 3) := dk_180 1 29 (dk_at dksX5_number_0 17 rfl rfl)
theorem dX5_number_20 : decode cX5_number 20 = .ok (.lload_n 1, 1) := dk_31 (dk_at dksX5_number_0 20 rfl rfl)
theorem dX5_number_21 : decode cX5_number 21 = .ok (.lload_n 3, 1) := dk_33 (dk_at dksX5_number_0 21 rfl rfl)
theorem dX5_number_22 : decode cX5_number 22 = .ok (.invokestatic 195, 3) := dk_184 0 195 (dk_at dksX5_number_1 0 rfl rfl)
theorem dX5_number_25 : decode cX5_number 25 = .ok (.ifCond .eq 7, 3) := dk_153 0 7 (dk_at dksX5_number_1 3 rfl rfl)
theorem dX5_number_28 : decode cX5_number 28 = .ok (.iconst 1, 1) := dk_4 (dk_at dksX5_number_1 6 rfl rfl)
theorem dX5_number_29 : decode cX5_number 29 = .ok (.goto 4, 3) := dk_167 0 4 (dk_at dksX5_number_1 7 rfl rfl)
theorem dX5_number_32 : decode cX5_number 32 = .ok (.iconst 0, 1) := dk_3 (dk_at dksX5_number_1 10 rfl rfl)
theorem dX5_number_33 : decode cX5_number 33 = .ok (.invokevirtual 308, 3) := dk_182 1 52 (dk_at dksX5_number_1 11 rfl rfl)
theorem dX5_number_36 : decode cX5_number 36 = .ok (.iload 5, 2) := dk_21 5 (dk_at dksX5_number_1 14 rfl rfl)
theorem dX5_number_38 : decode cX5_number 38 = .ok (.ireturn, 1) := dk_172 (dk_at dksX5_number_1 16 rfl rfl)
abbrev cX5_behindSum : ByteArray := prog_22_method_58_code
def yX5_behindSum : MethodName := ⟨RX5, "behindSum", "(Z)I"⟩
def dkwX5_behindSum_10 : List UInt8 := [154, 0, 14, 42, 8, 182, 1, 121, 42, 28, 3, 182, 1, 82, 4, 172]
abbrev dktX5_behindSum_10 : List UInt8 := dkwX5_behindSum_10 ++ []
def dkwX5_behindSum_9 : List UInt8 := [160, 0, 12, 42, 16, 61, 182, 1, 88, 153, 0, 7, 4, 167, 0, 4, 3, 182, 1, 52, 42, 180, 1, 19]
abbrev dktX5_behindSum_9 : List UInt8 := dkwX5_behindSum_9 ++ dktX5_behindSum_10
def dkwX5_behindSum_8 : List UInt8 := [167, 0, 19, 42, 16, 62, 182, 1, 88, 153, 0, 8, 16, 26, 167, 0, 5, 16, 27, 61, 42, 28, 16, 27]
abbrev dktX5_behindSum_8 : List UInt8 := dkwX5_behindSum_8 ++ dktX5_behindSum_9
def dkwX5_behindSum_7 : List UInt8 := [7, 172, 42, 182, 1, 127, 153, 0, 5, 5, 172, 42, 16, 60, 182, 1, 88, 153, 0, 8, 16, 25]
abbrev dktX5_behindSum_7 : List UInt8 := dkwX5_behindSum_7 ++ dktX5_behindSum_8
def dkwX5_behindSum_6 : List UInt8 := [181, 1, 59, 42, 89, 180, 1, 79, 4, 100, 181, 1, 79, 6, 172, 29, 2, 160, 0, 9, 27, 154, 0, 5]
abbrev dktX5_behindSum_6 : List UInt8 := dkwX5_behindSum_6 ++ dktX5_behindSum_7
def dkwX5_behindSum_5 : List UInt8 := [182, 1, 52, 42, 180, 1, 19, 154, 0, 28, 42, 8, 182, 1, 121, 42, 89, 180, 1, 59, 4, 100]
abbrev dktX5_behindSum_5 : List UInt8 := dkwX5_behindSum_5 ++ dktX5_behindSum_6
def dkwX5_behindSum_4 : List UInt8 := [42, 182, 1, 23, 4, 172, 42, 182, 1, 124, 62, 29, 16, 32, 160, 0, 47, 42, 42, 16, 93, 182, 1, 88]
abbrev dktX5_behindSum_4 : List UInt8 := dkwX5_behindSum_4 ++ dktX5_behindSum_5
def dkwX5_behindSum_3 : List UInt8 := [167, 0, 4, 2, 61, 28, 2, 159, 0, 23, 42, 28, 184, 1, 62, 182, 1, 121, 42, 28, 3, 182, 1, 82]
abbrev dktX5_behindSum_3 : List UInt8 := dkwX5_behindSum_3 ++ dktX5_behindSum_4
def dkwX5_behindSum_2 : List UInt8 := [182, 1, 88, 153, 0, 8, 16, 23, 167, 0, 18, 42, 16, 37, 182, 1, 88, 153, 0, 8, 16, 24]
abbrev dktX5_behindSum_2 : List UInt8 := dkwX5_behindSum_2 ++ dktX5_behindSum_3
def dkwX5_behindSum_1 : List UInt8 := [16, 21, 167, 0, 46, 42, 16, 42, 182, 1, 88, 153, 0, 8, 16, 22, 167, 0, 32, 42, 16, 47]
abbrev dktX5_behindSum_1 : List UInt8 := dkwX5_behindSum_1 ++ dktX5_behindSum_2
def dkwX5_behindSum_0 : List UInt8 := [42, 16, 43, 182, 1, 88, 153, 0, 8, 16, 20, 167, 0, 60, 42, 16, 45, 182, 1, 88, 153, 0, 8]
abbrev dktX5_behindSum_0 : List UInt8 := dkwX5_behindSum_0 ++ dktX5_behindSum_1
theorem dksX5_behindSum_0 : cX5_behindSum.data.toList.drop 0 = dktX5_behindSum_0 := by decide +kernel
theorem dksX5_behindSum_1 : cX5_behindSum.data.toList.drop 23 = dktX5_behindSum_1 := dk_seg dksX5_behindSum_0 23 rfl rfl
theorem dksX5_behindSum_2 : cX5_behindSum.data.toList.drop 45 = dktX5_behindSum_2 := dk_seg dksX5_behindSum_1 22 rfl rfl
theorem dksX5_behindSum_3 : cX5_behindSum.data.toList.drop 67 = dktX5_behindSum_3 := dk_seg dksX5_behindSum_2 22 rfl rfl
theorem dksX5_behindSum_4 : cX5_behindSum.data.toList.drop 91 = dktX5_behindSum_4 := dk_seg dksX5_behindSum_3 24 rfl rfl
theorem dksX5_behindSum_5 : cX5_behindSum.data.toList.drop 115 = dktX5_behindSum_5 := dk_seg dksX5_behindSum_4 24 rfl rfl
theorem dksX5_behindSum_6 : cX5_behindSum.data.toList.drop 137 = dktX5_behindSum_6 := dk_seg dksX5_behindSum_5 22 rfl rfl
theorem dksX5_behindSum_7 : cX5_behindSum.data.toList.drop 161 = dktX5_behindSum_7 := dk_seg dksX5_behindSum_6 24 rfl rfl
theorem dksX5_behindSum_8 : cX5_behindSum.data.toList.drop 183 = dktX5_behindSum_8 := dk_seg dksX5_behindSum_7 22 rfl rfl
theorem dksX5_behindSum_9 : cX5_behindSum.data.toList.drop 207 = dktX5_behindSum_9 := dk_seg dksX5_behindSum_8 24 rfl rfl
theorem dksX5_behindSum_10 : cX5_behindSum.data.toList.drop 231 = dktX5_behindSum_10 := dk_seg dksX5_behindSum_9 24 rfl rfl
theorem dX5_behindSum_0 : decode cX5_behindSum 0 = .ok (.aload_n 0, 1) := dk_42 (dk_at dksX5_behindSum_0 0 rfl rfl)
theorem dX5_behindSum_1 : decode cX5_behindSum 1 = .ok (.bipush 43, 2) := dk_16 43 (dk_at dksX5_behindSum_0 1 rfl rfl)
theorem dX5_behindSum_3 : decode cX5_behindSum 3 = .ok (.invokevirtual 344, 3) := dk_182 1 88 (dk_at dksX5_behindSum_0 3 rfl rfl)
theorem dX5_behindSum_6 : decode cX5_behindSum 6 = .ok (.ifCond .eq 8, 3) := dk_153 0 8 (dk_at dksX5_behindSum_0 6 rfl rfl)
theorem dX5_behindSum_9 : decode cX5_behindSum 9 = .ok (.bipush 20, 2) := dk_16 20 (dk_at dksX5_behindSum_0 9 rfl rfl)
theorem dX5_behindSum_11 : decode cX5_behindSum 11 = .ok (.goto 60, 3) := dk_167 0 60 (dk_at dksX5_behindSum_0 11 rfl rfl)
theorem dX5_behindSum_14 : decode cX5_behindSum 14 = .ok (.aload_n 0, 1) := dk_42 (dk_at dksX5_behindSum_0 14 rfl rfl)
theorem dX5_behindSum_15 : decode cX5_behindSum 15 = .ok (.bipush 45, 2) := dk_16 45 (dk_at dksX5_behindSum_0 15 rfl rfl)
theorem dX5_behindSum_17 : decode cX5_behindSum 17 = .ok (.invokevirtual 344, 3) := dk_182 1 88 (dk_at dksX5_behindSum_0 17 rfl rfl)
theorem dX5_behindSum_20 : decode cX5_behindSum 20 = .ok (.ifCond .eq 8, 3) := dk_153 0 8 (dk_at dksX5_behindSum_0 20 rfl rfl)
theorem dX5_behindSum_23 : decode cX5_behindSum 23 = .ok (.bipush 21, 2) := dk_16 21 (dk_at dksX5_behindSum_1 0 rfl rfl)
theorem dX5_behindSum_25 : decode cX5_behindSum 25 = .ok (.goto 46, 3) := dk_167 0 46 (dk_at dksX5_behindSum_1 2 rfl rfl)
theorem dX5_behindSum_28 : decode cX5_behindSum 28 = .ok (.aload_n 0, 1) := dk_42 (dk_at dksX5_behindSum_1 5 rfl rfl)
theorem dX5_behindSum_29 : decode cX5_behindSum 29 = .ok (.bipush 42, 2) := dk_16 42 (dk_at dksX5_behindSum_1 6 rfl rfl)
theorem dX5_behindSum_31 : decode cX5_behindSum 31 = .ok (.invokevirtual 344, 3) := dk_182 1 88 (dk_at dksX5_behindSum_1 8 rfl rfl)
theorem dX5_behindSum_34 : decode cX5_behindSum 34 = .ok (.ifCond .eq 8, 3) := dk_153 0 8 (dk_at dksX5_behindSum_1 11 rfl rfl)
theorem dX5_behindSum_37 : decode cX5_behindSum 37 = .ok (.bipush 22, 2) := dk_16 22 (dk_at dksX5_behindSum_1 14 rfl rfl)
theorem dX5_behindSum_39 : decode cX5_behindSum 39 = .ok (.goto 32, 3) := dk_167 0 32 (dk_at dksX5_behindSum_1 16 rfl rfl)
theorem dX5_behindSum_42 : decode cX5_behindSum 42 = .ok (.aload_n 0, 1) := dk_42 (dk_at dksX5_behindSum_1 19 rfl rfl)
theorem dX5_behindSum_43 : decode cX5_behindSum 43 = .ok (.bipush 47, 2) := dk_16 47 (dk_at dksX5_behindSum_1 20 rfl rfl)
theorem dX5_behindSum_45 : decode cX5_behindSum 45 = .ok (.invokevirtual 344, 3) := dk_182 1 88 (dk_at dksX5_behindSum_2 0 rfl rfl)
theorem dX5_behindSum_48 : decode cX5_behindSum 48 = .ok (.ifCond .eq 8, 3) := dk_153 0 8 (dk_at dksX5_behindSum_2 3 rfl rfl)
theorem dX5_behindSum_51 : decode cX5_behindSum 51 = .ok (.bipush 23, 2) := dk_16 23 (dk_at dksX5_behindSum_2 6 rfl rfl)
theorem dX5_behindSum_53 : decode cX5_behindSum 53 = .ok (.goto 18, 3) := dk_167 0 18 (dk_at dksX5_behindSum_2 8 rfl rfl)
theorem dX5_behindSum_56 : decode cX5_behindSum 56 = .ok (.aload_n 0, 1) := dk_42 (dk_at dksX5_behindSum_2 11 rfl rfl)
theorem dX5_behindSum_57 : decode cX5_behindSum 57 = .ok (.bipush 37, 2) := dk_16 37 (dk_at dksX5_behindSum_2 12 rfl rfl)
theorem dX5_behindSum_59 : decode cX5_behindSum 59 = .ok (.invokevirtual 344, 3) := dk_182 1 88 (dk_at dksX5_behindSum_2 14 rfl rfl)
theorem dX5_behindSum_62 : decode cX5_behindSum 62 = .ok (.ifCond .eq 8, 3) := dk_153 0 8 (dk_at dksX5_behindSum_2 17 rfl rfl)
theorem dX5_behindSum_65 : decode cX5_behindSum 65 = .ok (.bipush 24, 2) := dk_16 24 (dk_at dksX5_behindSum_2 20 rfl rfl)
theorem dX5_behindSum_67 : decode cX5_behindSum 67 = .ok (.goto 4, 3) := dk_167 0 4 (dk_at dksX5_behindSum_3 0 rfl rfl)
theorem dX5_behindSum_70 : decode cX5_behindSum 70 = .ok (.iconst (-1), 1) := dk_2 (dk_at dksX5_behindSum_3 3 rfl rfl)
theorem dX5_behindSum_71 : decode cX5_behindSum 71 = .ok (.istore_n 2, 1) := dk_61 (dk_at dksX5_behindSum_3 4 rfl rfl)
theorem dX5_behindSum_72 : decode cX5_behindSum 72 = .ok (.iload_n 2, 1) := dk_28 (dk_at dksX5_behindSum_3 5 rfl rfl)
theorem dX5_behindSum_73 : decode cX5_behindSum 73 = .ok (.iconst (-1), 1) := dk_2 (dk_at dksX5_behindSum_3 6 rfl rfl)
theorem dX5_behindSum_74 : decode cX5_behindSum 74 = .ok (.if_icmp .eq 23, 3) := dk_159 0 23 (dk_at dksX5_behindSum_3 7 rfl rfl)
theorem dX5_behindSum_77 : decode cX5_behindSum 77 = .ok (.aload_n 0, 1) := dk_42 (dk_at dksX5_behindSum_3 10 rfl rfl)
theorem dX5_behindSum_78 : decode cX5_behindSum 78 = .ok (.iload_n 2, 1) := dk_28 (dk_at dksX5_behindSum_3 11 rfl rfl)
theorem dX5_behindSum_79 : decode cX5_behindSum 79 = .ok (.invokestatic 318, 3) := dk_184 1 62 (dk_at dksX5_behindSum_3 12 rfl rfl)
theorem dX5_behindSum_82 : decode cX5_behindSum 82 = .ok (.invokevirtual 377, 3) := dk_182 1 121 (dk_at dksX5_behindSum_3 15 rfl rfl)
theorem dX5_behindSum_85 : decode cX5_behindSum 85 = .ok (.aload_n 0, 1) := dk_42 (dk_at dksX5_behindSum_3 18 rfl rfl)
theorem dX5_behindSum_86 : decode cX5_behindSum 86 = .ok (.iload_n 2, 1) := dk_28 (dk_at dksX5_behindSum_3 19 rfl rfl)
theorem dX5_behindSum_87 : decode cX5_behindSum 87 = .ok (.iconst 0, 1) := dk_3 (dk_at dksX5_behindSum_3 20 rfl rfl)
theorem dX5_behindSum_88 : decode cX5_behindSum 88 = .ok (.invokevirtual 338, 3) := dk_182 1 82 (dk_at dksX5_behindSum_3 21 rfl rfl)
theorem dX5_behindSum_91 : decode cX5_behindSum 91 = .ok (.aload_n 0, 1) := dk_42 (dk_at dksX5_behindSum_4 0 rfl rfl)
theorem dX5_behindSum_92 : decode cX5_behindSum 92 = .ok (.invokevirtual 279, 3) := dk_182 1 23 (dk_at dksX5_behindSum_4 1 rfl rfl)
theorem dX5_behindSum_95 : decode cX5_behindSum 95 = .ok (.iconst 1, 1) := dk_4 (dk_at dksX5_behindSum_4 4 rfl rfl)
theorem dX5_behindSum_96 : decode cX5_behindSum 96 = .ok (.ireturn, 1) := dk_172 (dk_at dksX5_behindSum_4 5 rfl rfl)
theorem dX5_behindSum_97 : decode cX5_behindSum 97 = .ok (.aload_n 0, 1) := dk_42 (dk_at dksX5_behindSum_4 6 rfl rfl)
theorem dX5_behindSum_98 : decode cX5_behindSum 98 = .ok (.invokevirtual 380, 3) := dk_182 1 124 (dk_at dksX5_behindSum_4 7 rfl rfl)
theorem dX5_behindSum_101 : decode cX5_behindSum 101 = .ok (.istore_n 3, 1) := dk_62 (dk_at dksX5_behindSum_4 10 rfl rfl)
theorem dX5_behindSum_102 : decode cX5_behindSum 102 = .ok (.iload_n 3, 1) := dk_29 (dk_at dksX5_behindSum_4 11 rfl rfl)
theorem dX5_behindSum_103 : decode cX5_behindSum 103 = .ok (.bipush 32, 2) := dk_16 32 (dk_at dksX5_behindSum_4 12 rfl rfl)
theorem dX5_behindSum_105 : decode cX5_behindSum 105 = .ok (.if_icmp .ne 47, 3) := dk_160 0 47 (dk_at dksX5_behindSum_4 14 rfl rfl)
theorem dX5_behindSum_108 : decode cX5_behindSum 108 = .ok (.aload_n 0, 1) := dk_42 (dk_at dksX5_behindSum_4 17 rfl rfl)
theorem dX5_behindSum_109 : decode cX5_behindSum 109 = .ok (.aload_n 0, 1) := dk_42 (dk_at dksX5_behindSum_4 18 rfl rfl)
theorem dX5_behindSum_110 : decode cX5_behindSum 110 = .ok (.bipush 93, 2) := dk_16 93 (dk_at dksX5_behindSum_4 19 rfl rfl)
theorem dX5_behindSum_112 : decode cX5_behindSum 112 = .ok (.invokevirtual 344, 3) := dk_182 1 88 (dk_at dksX5_behindSum_4 21 rfl rfl)
theorem dX5_behindSum_115 : decode cX5_behindSum 115 = .ok (.invokevirtual 308, 3) := dk_182 1 52 (dk_at dksX5_behindSum_5 0 rfl rfl)
theorem dX5_behindSum_118 : decode cX5_behindSum 118 = .ok (.aload_n 0, 1) := dk_42 (dk_at dksX5_behindSum_5 3 rfl rfl)
theorem dX5_behindSum_119 : decode cX5_behindSum 119 = .ok (.getfield 275, 3) := dk_180 1 19 (dk_at dksX5_behindSum_5 4 rfl rfl)
theorem dX5_behindSum_122 : decode cX5_behindSum 122 = .ok (.ifCond .ne 28, 3) := dk_154 0 28 (dk_at dksX5_behindSum_5 7 rfl rfl)
theorem dX5_behindSum_125 : decode cX5_behindSum 125 = .ok (.aload_n 0, 1) := dk_42 (dk_at dksX5_behindSum_5 10 rfl rfl)
theorem dX5_behindSum_126 : decode cX5_behindSum 126 = .ok (.iconst 5, 1) := dk_8 (dk_at dksX5_behindSum_5 11 rfl rfl)
theorem dX5_behindSum_127 : decode cX5_behindSum 127 = .ok (.invokevirtual 377, 3) := dk_182 1 121 (dk_at dksX5_behindSum_5 12 rfl rfl)
theorem dX5_behindSum_130 : decode cX5_behindSum 130 = .ok (.aload_n 0, 1) := dk_42 (dk_at dksX5_behindSum_5 15 rfl rfl)
theorem dX5_behindSum_131 : decode cX5_behindSum 131 = .ok (.dup, 1) := dk_89 (dk_at dksX5_behindSum_5 16 rfl rfl)
theorem dX5_behindSum_132 : decode cX5_behindSum 132 = .ok (.getfield 315, 3) := dk_180 1 59 (dk_at dksX5_behindSum_5 17 rfl rfl)
theorem dX5_behindSum_135 : decode cX5_behindSum 135 = .ok (.iconst 1, 1) := dk_4 (dk_at dksX5_behindSum_5 20 rfl rfl)
theorem dX5_behindSum_136 : decode cX5_behindSum 136 = .ok (.isub, 1) := dk_100 (dk_at dksX5_behindSum_5 21 rfl rfl)
theorem dX5_behindSum_137 : decode cX5_behindSum 137 = .ok (.putfield 315, 3) := dk_181 1 59 (dk_at dksX5_behindSum_6 0 rfl rfl)
theorem dX5_behindSum_140 : decode cX5_behindSum 140 = .ok (.aload_n 0, 1) := dk_42 (dk_at dksX5_behindSum_6 3 rfl rfl)
theorem dX5_behindSum_141 : decode cX5_behindSum 141 = .ok (.dup, 1) := dk_89 (dk_at dksX5_behindSum_6 4 rfl rfl)
theorem dX5_behindSum_142 : decode cX5_behindSum 142 = .ok (.getfield 335, 3) := dk_180 1 79 (dk_at dksX5_behindSum_6 5 rfl rfl)
theorem dX5_behindSum_145 : decode cX5_behindSum 145 = .ok (.iconst 1, 1) := dk_4 (dk_at dksX5_behindSum_6 8 rfl rfl)
theorem dX5_behindSum_146 : decode cX5_behindSum 146 = .ok (.isub, 1) := dk_100 (dk_at dksX5_behindSum_6 9 rfl rfl)
theorem dX5_behindSum_147 : decode cX5_behindSum 147 = .ok (.putfield 335, 3) := dk_181 1 79 (dk_at dksX5_behindSum_6 10 rfl rfl)
theorem dX5_behindSum_150 : decode cX5_behindSum 150 = .ok (.iconst 3, 1) := dk_6 (dk_at dksX5_behindSum_6 13 rfl rfl)
theorem dX5_behindSum_151 : decode cX5_behindSum 151 = .ok (.ireturn, 1) := dk_172 (dk_at dksX5_behindSum_6 14 rfl rfl)
theorem dX5_behindSum_152 : decode cX5_behindSum 152 = .ok (.iload_n 3, 1) := dk_29 (dk_at dksX5_behindSum_6 15 rfl rfl)
theorem dX5_behindSum_153 : decode cX5_behindSum 153 = .ok (.iconst (-1), 1) := dk_2 (dk_at dksX5_behindSum_6 16 rfl rfl)
theorem dX5_behindSum_154 : decode cX5_behindSum 154 = .ok (.if_icmp .ne 9, 3) := dk_160 0 9 (dk_at dksX5_behindSum_6 17 rfl rfl)
theorem dX5_behindSum_157 : decode cX5_behindSum 157 = .ok (.iload_n 1, 1) := dk_27 (dk_at dksX5_behindSum_6 20 rfl rfl)
theorem dX5_behindSum_158 : decode cX5_behindSum 158 = .ok (.ifCond .ne 5, 3) := dk_154 0 5 (dk_at dksX5_behindSum_6 21 rfl rfl)
theorem dX5_behindSum_161 : decode cX5_behindSum 161 = .ok (.iconst 4, 1) := dk_7 (dk_at dksX5_behindSum_7 0 rfl rfl)
theorem dX5_behindSum_162 : decode cX5_behindSum 162 = .ok (.ireturn, 1) := dk_172 (dk_at dksX5_behindSum_7 1 rfl rfl)
theorem dX5_behindSum_163 : decode cX5_behindSum 163 = .ok (.aload_n 0, 1) := dk_42 (dk_at dksX5_behindSum_7 2 rfl rfl)
theorem dX5_behindSum_164 : decode cX5_behindSum 164 = .ok (.invokevirtual 383, 3) := dk_182 1 127 (dk_at dksX5_behindSum_7 3 rfl rfl)
theorem dX5_behindSum_167 : decode cX5_behindSum 167 = .ok (.ifCond .eq 5, 3) := dk_153 0 5 (dk_at dksX5_behindSum_7 6 rfl rfl)
theorem dX5_behindSum_170 : decode cX5_behindSum 170 = .ok (.iconst 2, 1) := dk_5 (dk_at dksX5_behindSum_7 9 rfl rfl)
theorem dX5_behindSum_171 : decode cX5_behindSum 171 = .ok (.ireturn, 1) := dk_172 (dk_at dksX5_behindSum_7 10 rfl rfl)
theorem dX5_behindSum_172 : decode cX5_behindSum 172 = .ok (.aload_n 0, 1) := dk_42 (dk_at dksX5_behindSum_7 11 rfl rfl)
theorem dX5_behindSum_173 : decode cX5_behindSum 173 = .ok (.bipush 60, 2) := dk_16 60 (dk_at dksX5_behindSum_7 12 rfl rfl)
theorem dX5_behindSum_175 : decode cX5_behindSum 175 = .ok (.invokevirtual 344, 3) := dk_182 1 88 (dk_at dksX5_behindSum_7 14 rfl rfl)
theorem dX5_behindSum_178 : decode cX5_behindSum 178 = .ok (.ifCond .eq 8, 3) := dk_153 0 8 (dk_at dksX5_behindSum_7 17 rfl rfl)
theorem dX5_behindSum_181 : decode cX5_behindSum 181 = .ok (.bipush 25, 2) := dk_16 25 (dk_at dksX5_behindSum_7 20 rfl rfl)
theorem dX5_behindSum_183 : decode cX5_behindSum 183 = .ok (.goto 19, 3) := dk_167 0 19 (dk_at dksX5_behindSum_8 0 rfl rfl)
theorem dX5_behindSum_186 : decode cX5_behindSum 186 = .ok (.aload_n 0, 1) := dk_42 (dk_at dksX5_behindSum_8 3 rfl rfl)
theorem dX5_behindSum_187 : decode cX5_behindSum 187 = .ok (.bipush 62, 2) := dk_16 62 (dk_at dksX5_behindSum_8 4 rfl rfl)
theorem dX5_behindSum_189 : decode cX5_behindSum 189 = .ok (.invokevirtual 344, 3) := dk_182 1 88 (dk_at dksX5_behindSum_8 6 rfl rfl)
theorem dX5_behindSum_192 : decode cX5_behindSum 192 = .ok (.ifCond .eq 8, 3) := dk_153 0 8 (dk_at dksX5_behindSum_8 9 rfl rfl)
theorem dX5_behindSum_195 : decode cX5_behindSum 195 = .ok (.bipush 26, 2) := dk_16 26 (dk_at dksX5_behindSum_8 12 rfl rfl)
theorem dX5_behindSum_197 : decode cX5_behindSum 197 = .ok (.goto 5, 3) := dk_167 0 5 (dk_at dksX5_behindSum_8 14 rfl rfl)
theorem dX5_behindSum_200 : decode cX5_behindSum 200 = .ok (.bipush 27, 2) := dk_16 27 (dk_at dksX5_behindSum_8 17 rfl rfl)
theorem dX5_behindSum_202 : decode cX5_behindSum 202 = .ok (.istore_n 2, 1) := dk_61 (dk_at dksX5_behindSum_8 19 rfl rfl)
theorem dX5_behindSum_203 : decode cX5_behindSum 203 = .ok (.aload_n 0, 1) := dk_42 (dk_at dksX5_behindSum_8 20 rfl rfl)
theorem dX5_behindSum_204 : decode cX5_behindSum 204 = .ok (.iload_n 2, 1) := dk_28 (dk_at dksX5_behindSum_8 21 rfl rfl)
theorem dX5_behindSum_205 : decode cX5_behindSum 205 = .ok (.bipush 27, 2) := dk_16 27 (dk_at dksX5_behindSum_8 22 rfl rfl)
theorem dX5_behindSum_207 : decode cX5_behindSum 207 = .ok (.if_icmp .ne 12, 3) := dk_160 0 12 (dk_at dksX5_behindSum_9 0 rfl rfl)
theorem dX5_behindSum_210 : decode cX5_behindSum 210 = .ok (.aload_n 0, 1) := dk_42 (dk_at dksX5_behindSum_9 3 rfl rfl)
theorem dX5_behindSum_211 : decode cX5_behindSum 211 = .ok (.bipush 61, 2) := dk_16 61 (dk_at dksX5_behindSum_9 4 rfl rfl)
theorem dX5_behindSum_213 : decode cX5_behindSum 213 = .ok (.invokevirtual 344, 3) := dk_182 1 88 (dk_at dksX5_behindSum_9 6 rfl rfl)
theorem dX5_behindSum_216 : decode cX5_behindSum 216 = .ok (.ifCond .eq 7, 3) := dk_153 0 7 (dk_at dksX5_behindSum_9 9 rfl rfl)
theorem dX5_behindSum_219 : decode cX5_behindSum 219 = .ok (.iconst 1, 1) := dk_4 (dk_at dksX5_behindSum_9 12 rfl rfl)
theorem dX5_behindSum_220 : decode cX5_behindSum 220 = .ok (.goto 4, 3) := dk_167 0 4 (dk_at dksX5_behindSum_9 13 rfl rfl)
theorem dX5_behindSum_223 : decode cX5_behindSum 223 = .ok (.iconst 0, 1) := dk_3 (dk_at dksX5_behindSum_9 16 rfl rfl)
theorem dX5_behindSum_224 : decode cX5_behindSum 224 = .ok (.invokevirtual 308, 3) := dk_182 1 52 (dk_at dksX5_behindSum_9 17 rfl rfl)
theorem dX5_behindSum_227 : decode cX5_behindSum 227 = .ok (.aload_n 0, 1) := dk_42 (dk_at dksX5_behindSum_9 20 rfl rfl)
theorem dX5_behindSum_228 : decode cX5_behindSum 228 = .ok (.getfield 275, 3) := dk_180 1 19 (dk_at dksX5_behindSum_9 21 rfl rfl)
theorem dX5_behindSum_231 : decode cX5_behindSum 231 = .ok (.ifCond .ne 14, 3) := dk_154 0 14 (dk_at dksX5_behindSum_10 0 rfl rfl)
theorem dX5_behindSum_234 : decode cX5_behindSum 234 = .ok (.aload_n 0, 1) := dk_42 (dk_at dksX5_behindSum_10 3 rfl rfl)
theorem dX5_behindSum_235 : decode cX5_behindSum 235 = .ok (.iconst 5, 1) := dk_8 (dk_at dksX5_behindSum_10 4 rfl rfl)
theorem dX5_behindSum_236 : decode cX5_behindSum 236 = .ok (.invokevirtual 377, 3) := dk_182 1 121 (dk_at dksX5_behindSum_10 5 rfl rfl)
theorem dX5_behindSum_239 : decode cX5_behindSum 239 = .ok (.aload_n 0, 1) := dk_42 (dk_at dksX5_behindSum_10 8 rfl rfl)
theorem dX5_behindSum_240 : decode cX5_behindSum 240 = .ok (.iload_n 2, 1) := dk_28 (dk_at dksX5_behindSum_10 9 rfl rfl)
theorem dX5_behindSum_241 : decode cX5_behindSum 241 = .ok (.iconst 0, 1) := dk_3 (dk_at dksX5_behindSum_10 10 rfl rfl)
theorem dX5_behindSum_242 : decode cX5_behindSum 242 = .ok (.invokevirtual 338, 3) := dk_182 1 82 (dk_at dksX5_behindSum_10 11 rfl rfl)
theorem dX5_behindSum_245 : decode cX5_behindSum 245 = .ok (.iconst 1, 1) := dk_4 (dk_at dksX5_behindSum_10 14 rfl rfl)
theorem dX5_behindSum_246 : decode cX5_behindSum 246 = .ok (.ireturn, 1) := dk_172 (dk_at dksX5_behindSum_10 15 rfl rfl)
abbrev cX5_binds : ByteArray := prog_22_method_48_code
def yX5_binds : MethodName := ⟨RX5, "binds", "(I)I"⟩
def dkwX5_binds_2 : List UInt8 := [167, 0, 15, 26, 16, 22, 161, 0, 8, 16, 6, 167, 0, 4, 8, 172]
abbrev dktX5_binds_2 : List UInt8 := dkwX5_binds_2 ++ []
def dkwX5_binds_1 : List UInt8 := [160, 0, 7, 5, 167, 0, 35, 26, 16, 28, 160, 0, 7, 6, 167, 0, 25, 26, 16, 25, 161, 0, 7, 7]
abbrev dktX5_binds_1 : List UInt8 := dkwX5_binds_1 ++ dktX5_binds_2
def dkwX5_binds_0 : List UInt8 := [26, 16, 31, 161, 0, 7, 3, 167, 0, 55, 26, 16, 30, 160, 0, 7, 4, 167, 0, 45, 26, 16, 29]
abbrev dktX5_binds_0 : List UInt8 := dkwX5_binds_0 ++ dktX5_binds_1
theorem dksX5_binds_0 : cX5_binds.data.toList.drop 0 = dktX5_binds_0 := by decide +kernel
theorem dksX5_binds_1 : cX5_binds.data.toList.drop 23 = dktX5_binds_1 := dk_seg dksX5_binds_0 23 rfl rfl
theorem dksX5_binds_2 : cX5_binds.data.toList.drop 47 = dktX5_binds_2 := dk_seg dksX5_binds_1 24 rfl rfl
theorem dX5_binds_0 : decode cX5_binds 0 = .ok (.iload_n 0, 1) := dk_26 (dk_at dksX5_binds_0 0 rfl rfl)
theorem dX5_binds_1 : decode cX5_binds 1 = .ok (.bipush 31, 2) := dk_16 31 (dk_at dksX5_binds_0 1 rfl rfl)
theorem dX5_binds_3 : decode cX5_binds 3 = .ok (.if_icmp .lt 7, 3) := dk_161 0 7 (dk_at dksX5_binds_0 3 rfl rfl)
theorem dX5_binds_6 : decode cX5_binds 6 = .ok (.iconst 0, 1) := dk_3 (dk_at dksX5_binds_0 6 rfl rfl)
theorem dX5_binds_7 : decode cX5_binds 7 = .ok (.goto 55, 3) := dk_167 0 55 (dk_at dksX5_binds_0 7 rfl rfl)
theorem dX5_binds_10 : decode cX5_binds 10 = .ok (.iload_n 0, 1) := dk_26 (dk_at dksX5_binds_0 10 rfl rfl)
theorem dX5_binds_11 : decode cX5_binds 11 = .ok (.bipush 30, 2) := dk_16 30 (dk_at dksX5_binds_0 11 rfl rfl)
theorem dX5_binds_13 : decode cX5_binds 13 = .ok (.if_icmp .ne 7, 3) := dk_160 0 7 (dk_at dksX5_binds_0 13 rfl rfl)
theorem dX5_binds_16 : decode cX5_binds 16 = .ok (.iconst 1, 1) := dk_4 (dk_at dksX5_binds_0 16 rfl rfl)
theorem dX5_binds_17 : decode cX5_binds 17 = .ok (.goto 45, 3) := dk_167 0 45 (dk_at dksX5_binds_0 17 rfl rfl)
theorem dX5_binds_20 : decode cX5_binds 20 = .ok (.iload_n 0, 1) := dk_26 (dk_at dksX5_binds_0 20 rfl rfl)
theorem dX5_binds_21 : decode cX5_binds 21 = .ok (.bipush 29, 2) := dk_16 29 (dk_at dksX5_binds_0 21 rfl rfl)
theorem dX5_binds_23 : decode cX5_binds 23 = .ok (.if_icmp .ne 7, 3) := dk_160 0 7 (dk_at dksX5_binds_1 0 rfl rfl)
theorem dX5_binds_26 : decode cX5_binds 26 = .ok (.iconst 2, 1) := dk_5 (dk_at dksX5_binds_1 3 rfl rfl)
theorem dX5_binds_27 : decode cX5_binds 27 = .ok (.goto 35, 3) := dk_167 0 35 (dk_at dksX5_binds_1 4 rfl rfl)
theorem dX5_binds_30 : decode cX5_binds 30 = .ok (.iload_n 0, 1) := dk_26 (dk_at dksX5_binds_1 7 rfl rfl)
theorem dX5_binds_31 : decode cX5_binds 31 = .ok (.bipush 28, 2) := dk_16 28 (dk_at dksX5_binds_1 8 rfl rfl)
theorem dX5_binds_33 : decode cX5_binds 33 = .ok (.if_icmp .ne 7, 3) := dk_160 0 7 (dk_at dksX5_binds_1 10 rfl rfl)
theorem dX5_binds_36 : decode cX5_binds 36 = .ok (.iconst 3, 1) := dk_6 (dk_at dksX5_binds_1 13 rfl rfl)
theorem dX5_binds_37 : decode cX5_binds 37 = .ok (.goto 25, 3) := dk_167 0 25 (dk_at dksX5_binds_1 14 rfl rfl)
theorem dX5_binds_40 : decode cX5_binds 40 = .ok (.iload_n 0, 1) := dk_26 (dk_at dksX5_binds_1 17 rfl rfl)
theorem dX5_binds_41 : decode cX5_binds 41 = .ok (.bipush 25, 2) := dk_16 25 (dk_at dksX5_binds_1 18 rfl rfl)
theorem dX5_binds_43 : decode cX5_binds 43 = .ok (.if_icmp .lt 7, 3) := dk_161 0 7 (dk_at dksX5_binds_1 20 rfl rfl)
theorem dX5_binds_46 : decode cX5_binds 46 = .ok (.iconst 4, 1) := dk_7 (dk_at dksX5_binds_1 23 rfl rfl)
theorem dX5_binds_47 : decode cX5_binds 47 = .ok (.goto 15, 3) := dk_167 0 15 (dk_at dksX5_binds_2 0 rfl rfl)
theorem dX5_binds_50 : decode cX5_binds 50 = .ok (.iload_n 0, 1) := dk_26 (dk_at dksX5_binds_2 3 rfl rfl)
theorem dX5_binds_51 : decode cX5_binds 51 = .ok (.bipush 22, 2) := dk_16 22 (dk_at dksX5_binds_2 4 rfl rfl)
theorem dX5_binds_53 : decode cX5_binds 53 = .ok (.if_icmp .lt 8, 3) := dk_161 0 8 (dk_at dksX5_binds_2 6 rfl rfl)
theorem dX5_binds_56 : decode cX5_binds 56 = .ok (.bipush 6, 2) := dk_16 6 (dk_at dksX5_binds_2 9 rfl rfl)
theorem dX5_binds_58 : decode cX5_binds 58 = .ok (.goto 4, 3) := dk_167 0 4 (dk_at dksX5_binds_2 11 rfl rfl)
theorem dX5_binds_61 : decode cX5_binds 61 = .ok (.iconst 5, 1) := dk_8 (dk_at dksX5_binds_2 14 rfl rfl)
theorem dX5_binds_62 : decode cX5_binds 62 = .ok (.ireturn, 1) := dk_172 (dk_at dksX5_binds_2 15 rfl rfl)
abbrev cX5_settle : ByteArray := prog_22_method_49_code
def yX5_settle : MethodName := ⟨RX5, "settle", "(I)V"⟩
def dkwX5_settle_4 : List UInt8 := [180, 1, 59, 46, 3, 182, 1, 65, 167, 255, 158, 177]
abbrev dktX5_settle_4 : List UInt8 := dkwX5_settle_4 ++ []
def dkwX5_settle_3 : List UInt8 := [180, 0, 54, 42, 180, 1, 59, 46, 42, 180, 1, 56, 79, 167, 255, 175, 42, 42, 180, 0, 51, 42]
abbrev dktX5_settle_3 : List UInt8 := dkwX5_settle_3 ++ dktX5_settle_4
def dkwX5_settle_2 : List UInt8 := [159, 0, 17, 42, 180, 0, 51, 42, 180, 1, 59, 46, 16, 30, 160, 0, 24, 42, 180, 0, 48, 42]
abbrev dktX5_settle_2 : List UInt8 := dkwX5_settle_2 ++ dktX5_settle_3
def dkwX5_settle_1 : List UInt8 := [161, 0, 79, 42, 89, 180, 1, 59, 4, 100, 181, 1, 59, 42, 180, 0, 51, 42, 180, 1, 59, 46, 16, 29]
abbrev dktX5_settle_1 : List UInt8 := dkwX5_settle_1 ++ dktX5_settle_2
def dkwX5_settle_0 : List UInt8 := [42, 180, 1, 59, 158, 0, 97, 42, 180, 0, 51, 42, 180, 1, 59, 4, 100, 46, 184, 1, 62, 27]
abbrev dktX5_settle_0 : List UInt8 := dkwX5_settle_0 ++ dktX5_settle_1
theorem dksX5_settle_0 : cX5_settle.data.toList.drop 0 = dktX5_settle_0 := by decide +kernel
theorem dksX5_settle_1 : cX5_settle.data.toList.drop 22 = dktX5_settle_1 := dk_seg dksX5_settle_0 22 rfl rfl
theorem dksX5_settle_2 : cX5_settle.data.toList.drop 46 = dktX5_settle_2 := dk_seg dksX5_settle_1 24 rfl rfl
theorem dksX5_settle_3 : cX5_settle.data.toList.drop 68 = dktX5_settle_3 := dk_seg dksX5_settle_2 22 rfl rfl
theorem dksX5_settle_4 : cX5_settle.data.toList.drop 90 = dktX5_settle_4 := dk_seg dksX5_settle_3 22 rfl rfl
theorem dX5_settle_0 : decode cX5_settle 0 = .ok (.aload_n 0, 1) := dk_42 (dk_at dksX5_settle_0 0 rfl rfl)
theorem dX5_settle_1 : decode cX5_settle 1 = .ok (.getfield 315, 3) := dk_180 1 59 (dk_at dksX5_settle_0 1 rfl rfl)
theorem dX5_settle_4 : decode cX5_settle 4 = .ok (.ifCond .le 97, 3) := dk_158 0 97 (dk_at dksX5_settle_0 4 rfl rfl)
theorem dX5_settle_7 : decode cX5_settle 7 = .ok (.aload_n 0, 1) := dk_42 (dk_at dksX5_settle_0 7 rfl rfl)
theorem dX5_settle_8 : decode cX5_settle 8 = .ok (.getfield 51, 3) := dk_180 0 51 (dk_at dksX5_settle_0 8 rfl rfl)
theorem dX5_settle_11 : decode cX5_settle 11 = .ok (.aload_n 0, 1) := dk_42 (dk_at dksX5_settle_0 11 rfl rfl)
theorem dX5_settle_12 : decode cX5_settle 12 = .ok (.getfield 315, 3) := dk_180 1 59 (dk_at dksX5_settle_0 12 rfl rfl)
theorem dX5_settle_15 : decode cX5_settle 15 = .ok (.iconst 1, 1) := dk_4 (dk_at dksX5_settle_0 15 rfl rfl)
theorem dX5_settle_16 : decode cX5_settle 16 = .ok (.isub, 1) := dk_100 (dk_at dksX5_settle_0 16 rfl rfl)
theorem dX5_settle_17 : decode cX5_settle 17 = .ok (.iaload, 1) := dk_46 (dk_at dksX5_settle_0 17 rfl rfl)
theorem dX5_settle_18 : decode cX5_settle 18 = .ok (.invokestatic 318, 3) := dk_184 1 62 (dk_at dksX5_settle_0 18 rfl rfl)
theorem dX5_settle_21 : decode cX5_settle 21 = .ok (.iload_n 1, 1) := dk_27 (dk_at dksX5_settle_0 21 rfl rfl)
theorem dX5_settle_22 : decode cX5_settle 22 = .ok (.if_icmp .lt 79, 3) := dk_161 0 79 (dk_at dksX5_settle_1 0 rfl rfl)
theorem dX5_settle_25 : decode cX5_settle 25 = .ok (.aload_n 0, 1) := dk_42 (dk_at dksX5_settle_1 3 rfl rfl)
theorem dX5_settle_26 : decode cX5_settle 26 = .ok (.dup, 1) := dk_89 (dk_at dksX5_settle_1 4 rfl rfl)
theorem dX5_settle_27 : decode cX5_settle 27 = .ok (.getfield 315, 3) := dk_180 1 59 (dk_at dksX5_settle_1 5 rfl rfl)
theorem dX5_settle_30 : decode cX5_settle 30 = .ok (.iconst 1, 1) := dk_4 (dk_at dksX5_settle_1 8 rfl rfl)
theorem dX5_settle_31 : decode cX5_settle 31 = .ok (.isub, 1) := dk_100 (dk_at dksX5_settle_1 9 rfl rfl)
theorem dX5_settle_32 : decode cX5_settle 32 = .ok (.putfield 315, 3) := dk_181 1 59 (dk_at dksX5_settle_1 10 rfl rfl)
theorem dX5_settle_35 : decode cX5_settle 35 = .ok (.aload_n 0, 1) := dk_42 (dk_at dksX5_settle_1 13 rfl rfl)
theorem dX5_settle_36 : decode cX5_settle 36 = .ok (.getfield 51, 3) := dk_180 0 51 (dk_at dksX5_settle_1 14 rfl rfl)
theorem dX5_settle_39 : decode cX5_settle 39 = .ok (.aload_n 0, 1) := dk_42 (dk_at dksX5_settle_1 17 rfl rfl)
theorem dX5_settle_40 : decode cX5_settle 40 = .ok (.getfield 315, 3) := dk_180 1 59 (dk_at dksX5_settle_1 18 rfl rfl)
theorem dX5_settle_43 : decode cX5_settle 43 = .ok (.iaload, 1) := dk_46 (dk_at dksX5_settle_1 21 rfl rfl)
theorem dX5_settle_44 : decode cX5_settle 44 = .ok (.bipush 29, 2) := dk_16 29 (dk_at dksX5_settle_1 22 rfl rfl)
theorem dX5_settle_46 : decode cX5_settle 46 = .ok (.if_icmp .eq 17, 3) := dk_159 0 17 (dk_at dksX5_settle_2 0 rfl rfl)
theorem dX5_settle_49 : decode cX5_settle 49 = .ok (.aload_n 0, 1) := dk_42 (dk_at dksX5_settle_2 3 rfl rfl)
theorem dX5_settle_50 : decode cX5_settle 50 = .ok (.getfield 51, 3) := dk_180 0 51 (dk_at dksX5_settle_2 4 rfl rfl)
theorem dX5_settle_53 : decode cX5_settle 53 = .ok (.aload_n 0, 1) := dk_42 (dk_at dksX5_settle_2 7 rfl rfl)
theorem dX5_settle_54 : decode cX5_settle 54 = .ok (.getfield 315, 3) := dk_180 1 59 (dk_at dksX5_settle_2 8 rfl rfl)
theorem dX5_settle_57 : decode cX5_settle 57 = .ok (.iaload, 1) := dk_46 (dk_at dksX5_settle_2 11 rfl rfl)
theorem dX5_settle_58 : decode cX5_settle 58 = .ok (.bipush 30, 2) := dk_16 30 (dk_at dksX5_settle_2 12 rfl rfl)
theorem dX5_settle_60 : decode cX5_settle 60 = .ok (.if_icmp .ne 24, 3) := dk_160 0 24 (dk_at dksX5_settle_2 14 rfl rfl)
theorem dX5_settle_63 : decode cX5_settle 63 = .ok (.aload_n 0, 1) := dk_42 (dk_at dksX5_settle_2 17 rfl rfl)
theorem dX5_settle_64 : decode cX5_settle 64 = .ok (.getfield 48, 3) := dk_180 0 48 (dk_at dksX5_settle_2 18 rfl rfl)
theorem dX5_settle_67 : decode cX5_settle 67 = .ok (.aload_n 0, 1) := dk_42 (dk_at dksX5_settle_2 21 rfl rfl)
theorem dX5_settle_68 : decode cX5_settle 68 = .ok (.getfield 54, 3) := dk_180 0 54 (dk_at dksX5_settle_3 0 rfl rfl)
theorem dX5_settle_71 : decode cX5_settle 71 = .ok (.aload_n 0, 1) := dk_42 (dk_at dksX5_settle_3 3 rfl rfl)
theorem dX5_settle_72 : decode cX5_settle 72 = .ok (.getfield 315, 3) := dk_180 1 59 (dk_at dksX5_settle_3 4 rfl rfl)
theorem dX5_settle_75 : decode cX5_settle 75 = .ok (.iaload, 1) := dk_46 (dk_at dksX5_settle_3 7 rfl rfl)
theorem dX5_settle_76 : decode cX5_settle 76 = .ok (.aload_n 0, 1) := dk_42 (dk_at dksX5_settle_3 8 rfl rfl)
theorem dX5_settle_77 : decode cX5_settle 77 = .ok (.getfield 312, 3) := dk_180 1 56 (dk_at dksX5_settle_3 9 rfl rfl)
theorem dX5_settle_80 : decode cX5_settle 80 = .ok (.iastore, 1) := dk_79 (dk_at dksX5_settle_3 12 rfl rfl)
theorem dX5_settle_81 : decode cX5_settle 81 = .ok (.goto (-81), 3) := dk_167 255 175 (dk_at dksX5_settle_3 13 rfl rfl)
theorem dX5_settle_84 : decode cX5_settle 84 = .ok (.aload_n 0, 1) := dk_42 (dk_at dksX5_settle_3 16 rfl rfl)
theorem dX5_settle_85 : decode cX5_settle 85 = .ok (.aload_n 0, 1) := dk_42 (dk_at dksX5_settle_3 17 rfl rfl)
theorem dX5_settle_86 : decode cX5_settle 86 = .ok (.getfield 51, 3) := dk_180 0 51 (dk_at dksX5_settle_3 18 rfl rfl)
theorem dX5_settle_89 : decode cX5_settle 89 = .ok (.aload_n 0, 1) := dk_42 (dk_at dksX5_settle_3 21 rfl rfl)
theorem dX5_settle_90 : decode cX5_settle 90 = .ok (.getfield 315, 3) := dk_180 1 59 (dk_at dksX5_settle_4 0 rfl rfl)
theorem dX5_settle_93 : decode cX5_settle 93 = .ok (.iaload, 1) := dk_46 (dk_at dksX5_settle_4 3 rfl rfl)
theorem dX5_settle_94 : decode cX5_settle 94 = .ok (.iconst 0, 1) := dk_3 (dk_at dksX5_settle_4 4 rfl rfl)
theorem dX5_settle_95 : decode cX5_settle 95 = .ok (.invokevirtual 321, 3) := dk_182 1 65 (dk_at dksX5_settle_4 5 rfl rfl)
theorem dX5_settle_98 : decode cX5_settle 98 = .ok (.goto (-98), 3) := dk_167 255 158 (dk_at dksX5_settle_4 8 rfl rfl)
theorem dX5_settle_101 : decode cX5_settle 101 = .ok (.return_, 1) := dk_177 (dk_at dksX5_settle_4 11 rfl rfl)
abbrev cX5_inner : ByteArray := prog_22_method_50_code
def yX5_inner : MethodName := ⟨RX5, "inner", "()I"⟩
def dkwX5_inner_1 : List UInt8 := [180, 0, 51, 28, 46, 167, 0, 4, 27, 60, 132, 2, 1, 167, 255, 223, 27, 172]
abbrev dktX5_inner_1 : List UInt8 := dkwX5_inner_1 ++ []
def dkwX5_inner_0 : List UInt8 := [2, 60, 3, 61, 28, 42, 180, 1, 59, 162, 0, 31, 42, 180, 0, 51, 28, 46, 16, 31, 161, 0, 12, 42]
abbrev dktX5_inner_0 : List UInt8 := dkwX5_inner_0 ++ dktX5_inner_1
theorem dksX5_inner_0 : cX5_inner.data.toList.drop 0 = dktX5_inner_0 := by decide +kernel
theorem dksX5_inner_1 : cX5_inner.data.toList.drop 24 = dktX5_inner_1 := dk_seg dksX5_inner_0 24 rfl rfl
theorem dX5_inner_0 : decode cX5_inner 0 = .ok (.iconst (-1), 1) := dk_2 (dk_at dksX5_inner_0 0 rfl rfl)
theorem dX5_inner_1 : decode cX5_inner 1 = .ok (.istore_n 1, 1) := dk_60 (dk_at dksX5_inner_0 1 rfl rfl)
theorem dX5_inner_2 : decode cX5_inner 2 = .ok (.iconst 0, 1) := dk_3 (dk_at dksX5_inner_0 2 rfl rfl)
theorem dX5_inner_3 : decode cX5_inner 3 = .ok (.istore_n 2, 1) := dk_61 (dk_at dksX5_inner_0 3 rfl rfl)
theorem dX5_inner_4 : decode cX5_inner 4 = .ok (.iload_n 2, 1) := dk_28 (dk_at dksX5_inner_0 4 rfl rfl)
theorem dX5_inner_5 : decode cX5_inner 5 = .ok (.aload_n 0, 1) := dk_42 (dk_at dksX5_inner_0 5 rfl rfl)
theorem dX5_inner_6 : decode cX5_inner 6 = .ok (.getfield 315, 3) := dk_180 1 59 (dk_at dksX5_inner_0 6 rfl rfl)
theorem dX5_inner_9 : decode cX5_inner 9 = .ok (.if_icmp .ge 31, 3) := dk_162 0 31 (dk_at dksX5_inner_0 9 rfl rfl)
theorem dX5_inner_12 : decode cX5_inner 12 = .ok (.aload_n 0, 1) := dk_42 (dk_at dksX5_inner_0 12 rfl rfl)
theorem dX5_inner_13 : decode cX5_inner 13 = .ok (.getfield 51, 3) := dk_180 0 51 (dk_at dksX5_inner_0 13 rfl rfl)
theorem dX5_inner_16 : decode cX5_inner 16 = .ok (.iload_n 2, 1) := dk_28 (dk_at dksX5_inner_0 16 rfl rfl)
theorem dX5_inner_17 : decode cX5_inner 17 = .ok (.iaload, 1) := dk_46 (dk_at dksX5_inner_0 17 rfl rfl)
theorem dX5_inner_18 : decode cX5_inner 18 = .ok (.bipush 31, 2) := dk_16 31 (dk_at dksX5_inner_0 18 rfl rfl)
theorem dX5_inner_20 : decode cX5_inner 20 = .ok (.if_icmp .lt 12, 3) := dk_161 0 12 (dk_at dksX5_inner_0 20 rfl rfl)
theorem dX5_inner_23 : decode cX5_inner 23 = .ok (.aload_n 0, 1) := dk_42 (dk_at dksX5_inner_0 23 rfl rfl)
theorem dX5_inner_24 : decode cX5_inner 24 = .ok (.getfield 51, 3) := dk_180 0 51 (dk_at dksX5_inner_1 0 rfl rfl)
theorem dX5_inner_27 : decode cX5_inner 27 = .ok (.iload_n 2, 1) := dk_28 (dk_at dksX5_inner_1 3 rfl rfl)
theorem dX5_inner_28 : decode cX5_inner 28 = .ok (.iaload, 1) := dk_46 (dk_at dksX5_inner_1 4 rfl rfl)
theorem dX5_inner_29 : decode cX5_inner 29 = .ok (.goto 4, 3) := dk_167 0 4 (dk_at dksX5_inner_1 5 rfl rfl)
theorem dX5_inner_32 : decode cX5_inner 32 = .ok (.iload_n 1, 1) := dk_27 (dk_at dksX5_inner_1 8 rfl rfl)
theorem dX5_inner_33 : decode cX5_inner 33 = .ok (.istore_n 1, 1) := dk_60 (dk_at dksX5_inner_1 9 rfl rfl)
theorem dX5_inner_34 : decode cX5_inner 34 = .ok (.iinc 2 1, 3) := dk_132 2 1 (dk_at dksX5_inner_1 10 rfl rfl)
theorem dX5_inner_37 : decode cX5_inner 37 = .ok (.goto (-33), 3) := dk_167 255 223 (dk_at dksX5_inner_1 13 rfl rfl)
theorem dX5_inner_40 : decode cX5_inner 40 = .ok (.iload_n 1, 1) := dk_27 (dk_at dksX5_inner_1 16 rfl rfl)
theorem dX5_inner_41 : decode cX5_inner 41 = .ok (.ireturn, 1) := dk_172 (dk_at dksX5_inner_1 17 rfl rfl)
abbrev cX5_isCompared : ByteArray := prog_22_method_51_code
def yX5_isCompared : MethodName := ⟨RX5, "isCompared", "()Z"⟩
def dkwX5_isCompared_2 : List UInt8 := [20, 1, 71, 20, 1, 73, 184, 0, 195, 153, 0, 7, 4, 167, 0, 4, 3, 172]
abbrev dktX5_isCompared_2 : List UInt8 := dkwX5_isCompared_2 ++ []
def dkwX5_isCompared_1 : List UInt8 := [184, 0, 195, 153, 0, 9, 132, 1, 255, 167, 255, 230, 27, 155, 0, 26, 42, 180, 0, 51, 27, 46, 133]
abbrev dktX5_isCompared_1 : List UInt8 := dkwX5_isCompared_1 ++ dktX5_isCompared_2
def dkwX5_isCompared_0 : List UInt8 := [42, 180, 1, 59, 4, 100, 60, 27, 155, 0, 28, 42, 180, 0, 51, 27, 46, 133, 20, 0, 211, 20, 1, 69]
abbrev dktX5_isCompared_0 : List UInt8 := dkwX5_isCompared_0 ++ dktX5_isCompared_1
theorem dksX5_isCompared_0 : cX5_isCompared.data.toList.drop 0 = dktX5_isCompared_0 := by decide +kernel
theorem dksX5_isCompared_1 : cX5_isCompared.data.toList.drop 24 = dktX5_isCompared_1 := dk_seg dksX5_isCompared_0 24 rfl rfl
theorem dksX5_isCompared_2 : cX5_isCompared.data.toList.drop 47 = dktX5_isCompared_2 := dk_seg dksX5_isCompared_1 23 rfl rfl
theorem dX5_isCompared_0 : decode cX5_isCompared 0 = .ok (.aload_n 0, 1) := dk_42 (dk_at dksX5_isCompared_0 0 rfl rfl)
theorem dX5_isCompared_1 : decode cX5_isCompared 1 = .ok (.getfield 315, 3) := dk_180 1 59 (dk_at dksX5_isCompared_0 1 rfl rfl)
theorem dX5_isCompared_4 : decode cX5_isCompared 4 = .ok (.iconst 1, 1) := dk_4 (dk_at dksX5_isCompared_0 4 rfl rfl)
theorem dX5_isCompared_5 : decode cX5_isCompared 5 = .ok (.isub, 1) := dk_100 (dk_at dksX5_isCompared_0 5 rfl rfl)
theorem dX5_isCompared_6 : decode cX5_isCompared 6 = .ok (.istore_n 1, 1) := dk_60 (dk_at dksX5_isCompared_0 6 rfl rfl)
theorem dX5_isCompared_7 : decode cX5_isCompared 7 = .ok (.iload_n 1, 1) := dk_27 (dk_at dksX5_isCompared_0 7 rfl rfl)
theorem dX5_isCompared_8 : decode cX5_isCompared 8 = .ok (.ifCond .lt 28, 3) := dk_155 0 28 (dk_at dksX5_isCompared_0 8 rfl rfl)
theorem dX5_isCompared_11 : decode cX5_isCompared 11 = .ok (.aload_n 0, 1) := dk_42 (dk_at dksX5_isCompared_0 11 rfl rfl)
theorem dX5_isCompared_12 : decode cX5_isCompared 12 = .ok (.getfield 51, 3) := dk_180 0 51 (dk_at dksX5_isCompared_0 12 rfl rfl)
theorem dX5_isCompared_15 : decode cX5_isCompared 15 = .ok (.iload_n 1, 1) := dk_27 (dk_at dksX5_isCompared_0 15 rfl rfl)
theorem dX5_isCompared_16 : decode cX5_isCompared 16 = .ok (.iaload, 1) := dk_46 (dk_at dksX5_isCompared_0 16 rfl rfl)
theorem dX5_isCompared_17 : decode cX5_isCompared 17 = .ok (.i2l, 1) := dk_133 (dk_at dksX5_isCompared_0 17 rfl rfl)
theorem dX5_isCompared_18 : decode cX5_isCompared 18 = .ok (.ldc2_w 211, 3) := dk_20 0 211 (dk_at dksX5_isCompared_0 18 rfl rfl)
theorem dX5_isCompared_21 : decode cX5_isCompared 21 = .ok (.ldc2_w 325, 3) := dk_20 1 69 (dk_at dksX5_isCompared_0 21 rfl rfl)
theorem dX5_isCompared_24 : decode cX5_isCompared 24 = .ok (.invokestatic 195, 3) := dk_184 0 195 (dk_at dksX5_isCompared_1 0 rfl rfl)
theorem dX5_isCompared_27 : decode cX5_isCompared 27 = .ok (.ifCond .eq 9, 3) := dk_153 0 9 (dk_at dksX5_isCompared_1 3 rfl rfl)
theorem dX5_isCompared_30 : decode cX5_isCompared 30 = .ok (.iinc 1 (-1), 3) := dk_132 1 255 (dk_at dksX5_isCompared_1 6 rfl rfl)
theorem dX5_isCompared_33 : decode cX5_isCompared 33 = .ok (.goto (-26), 3) := dk_167 255 230 (dk_at dksX5_isCompared_1 9 rfl rfl)
theorem dX5_isCompared_36 : decode cX5_isCompared 36 = .ok (.iload_n 1, 1) := dk_27 (dk_at dksX5_isCompared_1 12 rfl rfl)
theorem dX5_isCompared_37 : decode cX5_isCompared 37 = .ok (.ifCond .lt 26, 3) := dk_155 0 26 (dk_at dksX5_isCompared_1 13 rfl rfl)
theorem dX5_isCompared_40 : decode cX5_isCompared 40 = .ok (.aload_n 0, 1) := dk_42 (dk_at dksX5_isCompared_1 16 rfl rfl)
theorem dX5_isCompared_41 : decode cX5_isCompared 41 = .ok (.getfield 51, 3) := dk_180 0 51 (dk_at dksX5_isCompared_1 17 rfl rfl)
theorem dX5_isCompared_44 : decode cX5_isCompared 44 = .ok (.iload_n 1, 1) := dk_27 (dk_at dksX5_isCompared_1 20 rfl rfl)
theorem dX5_isCompared_45 : decode cX5_isCompared 45 = .ok (.iaload, 1) := dk_46 (dk_at dksX5_isCompared_1 21 rfl rfl)
theorem dX5_isCompared_46 : decode cX5_isCompared 46 = .ok (.i2l, 1) := dk_133 (dk_at dksX5_isCompared_1 22 rfl rfl)
theorem dX5_isCompared_47 : decode cX5_isCompared 47 = .ok (.ldc2_w 327, 3) := dk_20 1 71 (dk_at dksX5_isCompared_2 0 rfl rfl)
theorem dX5_isCompared_50 : decode cX5_isCompared 50 = .ok (.ldc2_w 329, 3) := dk_20 1 73 (dk_at dksX5_isCompared_2 3 rfl rfl)
theorem dX5_isCompared_53 : decode cX5_isCompared 53 = .ok (.invokestatic 195, 3) := dk_184 0 195 (dk_at dksX5_isCompared_2 6 rfl rfl)
theorem dX5_isCompared_56 : decode cX5_isCompared 56 = .ok (.ifCond .eq 7, 3) := dk_153 0 7 (dk_at dksX5_isCompared_2 9 rfl rfl)
theorem dX5_isCompared_59 : decode cX5_isCompared 59 = .ok (.iconst 1, 1) := dk_4 (dk_at dksX5_isCompared_2 12 rfl rfl)
theorem dX5_isCompared_60 : decode cX5_isCompared 60 = .ok (.goto 4, 3) := dk_167 0 4 (dk_at dksX5_isCompared_2 13 rfl rfl)
theorem dX5_isCompared_63 : decode cX5_isCompared 63 = .ok (.iconst 0, 1) := dk_3 (dk_at dksX5_isCompared_2 16 rfl rfl)
theorem dX5_isCompared_64 : decode cX5_isCompared 64 = .ok (.ireturn, 1) := dk_172 (dk_at dksX5_isCompared_2 17 rfl rfl)
abbrev cX5_behindTest : ByteArray := prog_22_method_59_code
def yX5_behindTest : MethodName := ⟨RX5, "behindTest", "()I"⟩
def dkwX5_behindTest_5 : List UInt8 := [181, 1, 59, 42, 89, 180, 1, 79, 4, 100, 181, 1, 79, 5, 172]
abbrev dktX5_behindTest_5 : List UInt8 := dkwX5_behindTest_5 ++ []
def dkwX5_behindTest_4 : List UInt8 := [182, 1, 52, 42, 180, 1, 19, 154, 0, 28, 42, 4, 182, 1, 121, 42, 89, 180, 1, 59, 4, 100]
abbrev dktX5_behindTest_4 : List UInt8 := dkwX5_behindTest_4 ++ dktX5_behindTest_5
def dkwX5_behindTest_3 : List UInt8 := [182, 1, 23, 3, 172, 42, 182, 1, 124, 2, 160, 0, 5, 7, 172, 42, 42, 16, 41, 182, 1, 88]
abbrev dktX5_behindTest_3 : List UInt8 := dkwX5_behindTest_3 ++ dktX5_behindTest_4
def dkwX5_behindTest_2 : List UInt8 := [180, 1, 56, 182, 1, 82, 42, 27, 153, 0, 8, 16, 29, 167, 0, 5, 16, 30, 3, 182, 1, 65, 42]
abbrev dktX5_behindTest_2 : List UInt8 := dkwX5_behindTest_2 ++ dktX5_behindTest_3
def dkwX5_behindTest_1 : List UInt8 := [153, 0, 7, 5, 167, 0, 4, 4, 182, 1, 121, 42, 27, 153, 0, 8, 16, 29, 167, 0, 5, 16, 30, 42]
abbrev dktX5_behindTest_1 : List UInt8 := dkwX5_behindTest_1 ++ dktX5_behindTest_2
def dkwX5_behindTest_0 : List UInt8 := [42, 20, 1, 131, 182, 1, 75, 60, 27, 154, 0, 13, 42, 20, 1, 133, 182, 1, 75, 153, 0, 57, 42, 27]
abbrev dktX5_behindTest_0 : List UInt8 := dkwX5_behindTest_0 ++ dktX5_behindTest_1
theorem dksX5_behindTest_0 : cX5_behindTest.data.toList.drop 0 = dktX5_behindTest_0 := by decide +kernel
theorem dksX5_behindTest_1 : cX5_behindTest.data.toList.drop 24 = dktX5_behindTest_1 := dk_seg dksX5_behindTest_0 24 rfl rfl
theorem dksX5_behindTest_2 : cX5_behindTest.data.toList.drop 48 = dktX5_behindTest_2 := dk_seg dksX5_behindTest_1 24 rfl rfl
theorem dksX5_behindTest_3 : cX5_behindTest.data.toList.drop 71 = dktX5_behindTest_3 := dk_seg dksX5_behindTest_2 23 rfl rfl
theorem dksX5_behindTest_4 : cX5_behindTest.data.toList.drop 93 = dktX5_behindTest_4 := dk_seg dksX5_behindTest_3 22 rfl rfl
theorem dksX5_behindTest_5 : cX5_behindTest.data.toList.drop 115 = dktX5_behindTest_5 := dk_seg dksX5_behindTest_4 22 rfl rfl
theorem dX5_behindTest_0 : decode cX5_behindTest 0 = .ok (.aload_n 0, 1) := dk_42 (dk_at dksX5_behindTest_0 0 rfl rfl)
theorem dX5_behindTest_1 : decode cX5_behindTest 1 = .ok (.ldc2_w 387, 3) := dk_20 1 131 (dk_at dksX5_behindTest_0 1 rfl rfl)
theorem dX5_behindTest_4 : decode cX5_behindTest 4 = .ok (.invokevirtual 331, 3) := dk_182 1 75 (dk_at dksX5_behindTest_0 4 rfl rfl)
theorem dX5_behindTest_7 : decode cX5_behindTest 7 = .ok (.istore_n 1, 1) := dk_60 (dk_at dksX5_behindTest_0 7 rfl rfl)
theorem dX5_behindTest_8 : decode cX5_behindTest 8 = .ok (.iload_n 1, 1) := dk_27 (dk_at dksX5_behindTest_0 8 rfl rfl)
theorem dX5_behindTest_9 : decode cX5_behindTest 9 = .ok (.ifCond .ne 13, 3) := dk_154 0 13 (dk_at dksX5_behindTest_0 9 rfl rfl)
theorem dX5_behindTest_12 : decode cX5_behindTest 12 = .ok (.aload_n 0, 1) := dk_42 (dk_at dksX5_behindTest_0 12 rfl rfl)
theorem dX5_behindTest_13 : decode cX5_behindTest 13 = .ok (.ldc2_w 389, 3) := dk_20 1 133 (dk_at dksX5_behindTest_0 13 rfl rfl)
theorem dX5_behindTest_16 : decode cX5_behindTest 16 = .ok (.invokevirtual 331, 3) := dk_182 1 75 (dk_at dksX5_behindTest_0 16 rfl rfl)
theorem dX5_behindTest_19 : decode cX5_behindTest 19 = .ok (.ifCond .eq 57, 3) := dk_153 0 57 (dk_at dksX5_behindTest_0 19 rfl rfl)
theorem dX5_behindTest_22 : decode cX5_behindTest 22 = .ok (.aload_n 0, 1) := dk_42 (dk_at dksX5_behindTest_0 22 rfl rfl)
theorem dX5_behindTest_23 : decode cX5_behindTest 23 = .ok (.iload_n 1, 1) := dk_27 (dk_at dksX5_behindTest_0 23 rfl rfl)
theorem dX5_behindTest_24 : decode cX5_behindTest 24 = .ok (.ifCond .eq 7, 3) := dk_153 0 7 (dk_at dksX5_behindTest_1 0 rfl rfl)
theorem dX5_behindTest_27 : decode cX5_behindTest 27 = .ok (.iconst 2, 1) := dk_5 (dk_at dksX5_behindTest_1 3 rfl rfl)
theorem dX5_behindTest_28 : decode cX5_behindTest 28 = .ok (.goto 4, 3) := dk_167 0 4 (dk_at dksX5_behindTest_1 4 rfl rfl)
theorem dX5_behindTest_31 : decode cX5_behindTest 31 = .ok (.iconst 1, 1) := dk_4 (dk_at dksX5_behindTest_1 7 rfl rfl)
theorem dX5_behindTest_32 : decode cX5_behindTest 32 = .ok (.invokevirtual 377, 3) := dk_182 1 121 (dk_at dksX5_behindTest_1 8 rfl rfl)
theorem dX5_behindTest_35 : decode cX5_behindTest 35 = .ok (.aload_n 0, 1) := dk_42 (dk_at dksX5_behindTest_1 11 rfl rfl)
theorem dX5_behindTest_36 : decode cX5_behindTest 36 = .ok (.iload_n 1, 1) := dk_27 (dk_at dksX5_behindTest_1 12 rfl rfl)
theorem dX5_behindTest_37 : decode cX5_behindTest 37 = .ok (.ifCond .eq 8, 3) := dk_153 0 8 (dk_at dksX5_behindTest_1 13 rfl rfl)
theorem dX5_behindTest_40 : decode cX5_behindTest 40 = .ok (.bipush 29, 2) := dk_16 29 (dk_at dksX5_behindTest_1 16 rfl rfl)
theorem dX5_behindTest_42 : decode cX5_behindTest 42 = .ok (.goto 5, 3) := dk_167 0 5 (dk_at dksX5_behindTest_1 18 rfl rfl)
theorem dX5_behindTest_45 : decode cX5_behindTest 45 = .ok (.bipush 30, 2) := dk_16 30 (dk_at dksX5_behindTest_1 21 rfl rfl)
theorem dX5_behindTest_47 : decode cX5_behindTest 47 = .ok (.aload_n 0, 1) := dk_42 (dk_at dksX5_behindTest_1 23 rfl rfl)
theorem dX5_behindTest_48 : decode cX5_behindTest 48 = .ok (.getfield 312, 3) := dk_180 1 56 (dk_at dksX5_behindTest_2 0 rfl rfl)
theorem dX5_behindTest_51 : decode cX5_behindTest 51 = .ok (.invokevirtual 338, 3) := dk_182 1 82 (dk_at dksX5_behindTest_2 3 rfl rfl)
theorem dX5_behindTest_54 : decode cX5_behindTest 54 = .ok (.aload_n 0, 1) := dk_42 (dk_at dksX5_behindTest_2 6 rfl rfl)
theorem dX5_behindTest_55 : decode cX5_behindTest 55 = .ok (.iload_n 1, 1) := dk_27 (dk_at dksX5_behindTest_2 7 rfl rfl)
theorem dX5_behindTest_56 : decode cX5_behindTest 56 = .ok (.ifCond .eq 8, 3) := dk_153 0 8 (dk_at dksX5_behindTest_2 8 rfl rfl)
theorem dX5_behindTest_59 : decode cX5_behindTest 59 = .ok (.bipush 29, 2) := dk_16 29 (dk_at dksX5_behindTest_2 11 rfl rfl)
theorem dX5_behindTest_61 : decode cX5_behindTest 61 = .ok (.goto 5, 3) := dk_167 0 5 (dk_at dksX5_behindTest_2 13 rfl rfl)
theorem dX5_behindTest_64 : decode cX5_behindTest 64 = .ok (.bipush 30, 2) := dk_16 30 (dk_at dksX5_behindTest_2 16 rfl rfl)
theorem dX5_behindTest_66 : decode cX5_behindTest 66 = .ok (.iconst 0, 1) := dk_3 (dk_at dksX5_behindTest_2 18 rfl rfl)
theorem dX5_behindTest_67 : decode cX5_behindTest 67 = .ok (.invokevirtual 321, 3) := dk_182 1 65 (dk_at dksX5_behindTest_2 19 rfl rfl)
theorem dX5_behindTest_70 : decode cX5_behindTest 70 = .ok (.aload_n 0, 1) := dk_42 (dk_at dksX5_behindTest_2 22 rfl rfl)
theorem dX5_behindTest_71 : decode cX5_behindTest 71 = .ok (.invokevirtual 279, 3) := dk_182 1 23 (dk_at dksX5_behindTest_3 0 rfl rfl)
theorem dX5_behindTest_74 : decode cX5_behindTest 74 = .ok (.iconst 0, 1) := dk_3 (dk_at dksX5_behindTest_3 3 rfl rfl)
theorem dX5_behindTest_75 : decode cX5_behindTest 75 = .ok (.ireturn, 1) := dk_172 (dk_at dksX5_behindTest_3 4 rfl rfl)
theorem dX5_behindTest_76 : decode cX5_behindTest 76 = .ok (.aload_n 0, 1) := dk_42 (dk_at dksX5_behindTest_3 5 rfl rfl)
theorem dX5_behindTest_77 : decode cX5_behindTest 77 = .ok (.invokevirtual 380, 3) := dk_182 1 124 (dk_at dksX5_behindTest_3 6 rfl rfl)
theorem dX5_behindTest_80 : decode cX5_behindTest 80 = .ok (.iconst (-1), 1) := dk_2 (dk_at dksX5_behindTest_3 9 rfl rfl)
theorem dX5_behindTest_81 : decode cX5_behindTest 81 = .ok (.if_icmp .ne 5, 3) := dk_160 0 5 (dk_at dksX5_behindTest_3 10 rfl rfl)
theorem dX5_behindTest_84 : decode cX5_behindTest 84 = .ok (.iconst 4, 1) := dk_7 (dk_at dksX5_behindTest_3 13 rfl rfl)
theorem dX5_behindTest_85 : decode cX5_behindTest 85 = .ok (.ireturn, 1) := dk_172 (dk_at dksX5_behindTest_3 14 rfl rfl)
theorem dX5_behindTest_86 : decode cX5_behindTest 86 = .ok (.aload_n 0, 1) := dk_42 (dk_at dksX5_behindTest_3 15 rfl rfl)
theorem dX5_behindTest_87 : decode cX5_behindTest 87 = .ok (.aload_n 0, 1) := dk_42 (dk_at dksX5_behindTest_3 16 rfl rfl)
theorem dX5_behindTest_88 : decode cX5_behindTest 88 = .ok (.bipush 41, 2) := dk_16 41 (dk_at dksX5_behindTest_3 17 rfl rfl)
theorem dX5_behindTest_90 : decode cX5_behindTest 90 = .ok (.invokevirtual 344, 3) := dk_182 1 88 (dk_at dksX5_behindTest_3 19 rfl rfl)
theorem dX5_behindTest_93 : decode cX5_behindTest 93 = .ok (.invokevirtual 308, 3) := dk_182 1 52 (dk_at dksX5_behindTest_4 0 rfl rfl)
theorem dX5_behindTest_96 : decode cX5_behindTest 96 = .ok (.aload_n 0, 1) := dk_42 (dk_at dksX5_behindTest_4 3 rfl rfl)
theorem dX5_behindTest_97 : decode cX5_behindTest 97 = .ok (.getfield 275, 3) := dk_180 1 19 (dk_at dksX5_behindTest_4 4 rfl rfl)
theorem dX5_behindTest_100 : decode cX5_behindTest 100 = .ok (.ifCond .ne 28, 3) := dk_154 0 28 (dk_at dksX5_behindTest_4 7 rfl rfl)
theorem dX5_behindTest_103 : decode cX5_behindTest 103 = .ok (.aload_n 0, 1) := dk_42 (dk_at dksX5_behindTest_4 10 rfl rfl)
theorem dX5_behindTest_104 : decode cX5_behindTest 104 = .ok (.iconst 1, 1) := dk_4 (dk_at dksX5_behindTest_4 11 rfl rfl)
theorem dX5_behindTest_105 : decode cX5_behindTest 105 = .ok (.invokevirtual 377, 3) := dk_182 1 121 (dk_at dksX5_behindTest_4 12 rfl rfl)
theorem dX5_behindTest_108 : decode cX5_behindTest 108 = .ok (.aload_n 0, 1) := dk_42 (dk_at dksX5_behindTest_4 15 rfl rfl)
theorem dX5_behindTest_109 : decode cX5_behindTest 109 = .ok (.dup, 1) := dk_89 (dk_at dksX5_behindTest_4 16 rfl rfl)
theorem dX5_behindTest_110 : decode cX5_behindTest 110 = .ok (.getfield 315, 3) := dk_180 1 59 (dk_at dksX5_behindTest_4 17 rfl rfl)
theorem dX5_behindTest_113 : decode cX5_behindTest 113 = .ok (.iconst 1, 1) := dk_4 (dk_at dksX5_behindTest_4 20 rfl rfl)
theorem dX5_behindTest_114 : decode cX5_behindTest 114 = .ok (.isub, 1) := dk_100 (dk_at dksX5_behindTest_4 21 rfl rfl)
theorem dX5_behindTest_115 : decode cX5_behindTest 115 = .ok (.putfield 315, 3) := dk_181 1 59 (dk_at dksX5_behindTest_5 0 rfl rfl)
theorem dX5_behindTest_118 : decode cX5_behindTest 118 = .ok (.aload_n 0, 1) := dk_42 (dk_at dksX5_behindTest_5 3 rfl rfl)
theorem dX5_behindTest_119 : decode cX5_behindTest 119 = .ok (.dup, 1) := dk_89 (dk_at dksX5_behindTest_5 4 rfl rfl)
theorem dX5_behindTest_120 : decode cX5_behindTest 120 = .ok (.getfield 335, 3) := dk_180 1 79 (dk_at dksX5_behindTest_5 5 rfl rfl)
theorem dX5_behindTest_123 : decode cX5_behindTest 123 = .ok (.iconst 1, 1) := dk_4 (dk_at dksX5_behindTest_5 8 rfl rfl)
theorem dX5_behindTest_124 : decode cX5_behindTest 124 = .ok (.isub, 1) := dk_100 (dk_at dksX5_behindTest_5 9 rfl rfl)
theorem dX5_behindTest_125 : decode cX5_behindTest 125 = .ok (.putfield 335, 3) := dk_181 1 79 (dk_at dksX5_behindTest_5 10 rfl rfl)
theorem dX5_behindTest_128 : decode cX5_behindTest 128 = .ok (.iconst 2, 1) := dk_5 (dk_at dksX5_behindTest_5 13 rfl rfl)
theorem dX5_behindTest_129 : decode cX5_behindTest 129 = .ok (.ireturn, 1) := dk_172 (dk_at dksX5_behindTest_5 14 rfl rfl)
abbrev cX5_endText : ByteArray := prog_22_method_62_code
def yX5_endText : MethodName := ⟨RX5, "endText", "()V"⟩
def dkwX5_endText_1 : List UInt8 := [42, 3, 181, 1, 7, 177]
abbrev dktX5_endText_1 : List UInt8 := dkwX5_endText_1 ++ []
def dkwX5_endText_0 : List UInt8 := [42, 180, 1, 19, 154, 0, 15, 42, 180, 1, 39, 153, 0, 8, 42, 3, 182, 1, 52, 42, 3, 181, 1, 94]
abbrev dktX5_endText_0 : List UInt8 := dkwX5_endText_0 ++ dktX5_endText_1
theorem dksX5_endText_0 : cX5_endText.data.toList.drop 0 = dktX5_endText_0 := by decide +kernel
theorem dksX5_endText_1 : cX5_endText.data.toList.drop 24 = dktX5_endText_1 := dk_seg dksX5_endText_0 24 rfl rfl
theorem dX5_endText_0 : decode cX5_endText 0 = .ok (.aload_n 0, 1) := dk_42 (dk_at dksX5_endText_0 0 rfl rfl)
theorem dX5_endText_1 : decode cX5_endText 1 = .ok (.getfield 275, 3) := dk_180 1 19 (dk_at dksX5_endText_0 1 rfl rfl)
theorem dX5_endText_4 : decode cX5_endText 4 = .ok (.ifCond .ne 15, 3) := dk_154 0 15 (dk_at dksX5_endText_0 4 rfl rfl)
theorem dX5_endText_7 : decode cX5_endText 7 = .ok (.aload_n 0, 1) := dk_42 (dk_at dksX5_endText_0 7 rfl rfl)
theorem dX5_endText_8 : decode cX5_endText 8 = .ok (.getfield 295, 3) := dk_180 1 39 (dk_at dksX5_endText_0 8 rfl rfl)
theorem dX5_endText_11 : decode cX5_endText 11 = .ok (.ifCond .eq 8, 3) := dk_153 0 8 (dk_at dksX5_endText_0 11 rfl rfl)
theorem dX5_endText_14 : decode cX5_endText 14 = .ok (.aload_n 0, 1) := dk_42 (dk_at dksX5_endText_0 14 rfl rfl)
theorem dX5_endText_15 : decode cX5_endText 15 = .ok (.iconst 0, 1) := dk_3 (dk_at dksX5_endText_0 15 rfl rfl)
theorem dX5_endText_16 : decode cX5_endText 16 = .ok (.invokevirtual 308, 3) := dk_182 1 52 (dk_at dksX5_endText_0 16 rfl rfl)
theorem dX5_endText_19 : decode cX5_endText 19 = .ok (.aload_n 0, 1) := dk_42 (dk_at dksX5_endText_0 19 rfl rfl)
theorem dX5_endText_20 : decode cX5_endText 20 = .ok (.iconst 0, 1) := dk_3 (dk_at dksX5_endText_0 20 rfl rfl)
theorem dX5_endText_21 : decode cX5_endText 21 = .ok (.putfield 350, 3) := dk_181 1 94 (dk_at dksX5_endText_0 21 rfl rfl)
theorem dX5_endText_24 : decode cX5_endText 24 = .ok (.aload_n 0, 1) := dk_42 (dk_at dksX5_endText_1 0 rfl rfl)
theorem dX5_endText_25 : decode cX5_endText 25 = .ok (.iconst 0, 1) := dk_3 (dk_at dksX5_endText_1 1 rfl rfl)
theorem dX5_endText_26 : decode cX5_endText 26 = .ok (.putfield 263, 3) := dk_181 1 7 (dk_at dksX5_endText_1 2 rfl rfl)
theorem dX5_endText_29 : decode cX5_endText 29 = .ok (.return_, 1) := dk_177 (dk_at dksX5_endText_1 5 rfl rfl)
abbrev cX5_force : ByteArray := prog_22_method_66_code
def yX5_force : MethodName := ⟨RX5, "force", "(I)I"⟩
def dkwX5_force_1 : List UInt8 := [16, 254, 182, 0, 184, 172]
abbrev dktX5_force_1 : List UInt8 := dkwX5_force_1 ++ []
def dkwX5_force_0 : List UInt8 := [42, 3, 181, 0, 175, 42, 27, 182, 1, 165, 153, 0, 12, 42, 7, 27, 182, 0, 233, 167, 0, 9, 42]
abbrev dktX5_force_0 : List UInt8 := dkwX5_force_0 ++ dktX5_force_1
theorem dksX5_force_0 : cX5_force.data.toList.drop 0 = dktX5_force_0 := by decide +kernel
theorem dksX5_force_1 : cX5_force.data.toList.drop 23 = dktX5_force_1 := dk_seg dksX5_force_0 23 rfl rfl
theorem dX5_force_0 : decode cX5_force 0 = .ok (.aload_n 0, 1) := dk_42 (dk_at dksX5_force_0 0 rfl rfl)
theorem dX5_force_1 : decode cX5_force 1 = .ok (.iconst 0, 1) := dk_3 (dk_at dksX5_force_0 1 rfl rfl)
theorem dX5_force_2 : decode cX5_force 2 = .ok (.putfield 175, 3) := dk_181 0 175 (dk_at dksX5_force_0 2 rfl rfl)
theorem dX5_force_5 : decode cX5_force 5 = .ok (.aload_n 0, 1) := dk_42 (dk_at dksX5_force_0 5 rfl rfl)
theorem dX5_force_6 : decode cX5_force 6 = .ok (.iload_n 1, 1) := dk_27 (dk_at dksX5_force_0 6 rfl rfl)
theorem dX5_force_7 : decode cX5_force 7 = .ok (.invokevirtual 421, 3) := dk_182 1 165 (dk_at dksX5_force_0 7 rfl rfl)
theorem dX5_force_10 : decode cX5_force 10 = .ok (.ifCond .eq 12, 3) := dk_153 0 12 (dk_at dksX5_force_0 10 rfl rfl)
theorem dX5_force_13 : decode cX5_force 13 = .ok (.aload_n 0, 1) := dk_42 (dk_at dksX5_force_0 13 rfl rfl)
theorem dX5_force_14 : decode cX5_force 14 = .ok (.iconst 4, 1) := dk_7 (dk_at dksX5_force_0 14 rfl rfl)
theorem dX5_force_15 : decode cX5_force 15 = .ok (.iload_n 1, 1) := dk_27 (dk_at dksX5_force_0 15 rfl rfl)
theorem dX5_force_16 : decode cX5_force 16 = .ok (.invokevirtual 233, 3) := dk_182 0 233 (dk_at dksX5_force_0 16 rfl rfl)
theorem dX5_force_19 : decode cX5_force 19 = .ok (.goto 9, 3) := dk_167 0 9 (dk_at dksX5_force_0 19 rfl rfl)
theorem dX5_force_22 : decode cX5_force 22 = .ok (.aload_n 0, 1) := dk_42 (dk_at dksX5_force_0 22 rfl rfl)
theorem dX5_force_23 : decode cX5_force 23 = .ok (.bipush (-2), 2) := dk_16 254 (dk_at dksX5_force_1 0 rfl rfl)
theorem dX5_force_25 : decode cX5_force 25 = .ok (.invokevirtual 184, 3) := dk_182 0 184 (dk_at dksX5_force_1 2 rfl rfl)
theorem dX5_force_28 : decode cX5_force 28 = .ok (.ireturn, 1) := dk_172 (dk_at dksX5_force_1 5 rfl rfl)
abbrev cX5_isLaw : ByteArray := prog_22_method_65_code
def yX5_isLaw : MethodName := ⟨RX5, "isLaw", "(I)Z"⟩
def dkwX5_isLaw_1 : List UInt8 := [167, 0, 4, 3, 172]
abbrev dktX5_isLaw_1 : List UInt8 := dkwX5_isLaw_1 ++ []
def dkwX5_isLaw_0 : List UInt8 := [27, 2, 159, 0, 21, 27, 133, 9, 42, 180, 0, 13, 6, 46, 133, 10, 101, 184, 0, 195, 153, 0, 7, 4]
abbrev dktX5_isLaw_0 : List UInt8 := dkwX5_isLaw_0 ++ dktX5_isLaw_1
theorem dksX5_isLaw_0 : cX5_isLaw.data.toList.drop 0 = dktX5_isLaw_0 := by decide +kernel
theorem dksX5_isLaw_1 : cX5_isLaw.data.toList.drop 24 = dktX5_isLaw_1 := dk_seg dksX5_isLaw_0 24 rfl rfl
theorem dX5_isLaw_0 : decode cX5_isLaw 0 = .ok (.iload_n 1, 1) := dk_27 (dk_at dksX5_isLaw_0 0 rfl rfl)
theorem dX5_isLaw_1 : decode cX5_isLaw 1 = .ok (.iconst (-1), 1) := dk_2 (dk_at dksX5_isLaw_0 1 rfl rfl)
theorem dX5_isLaw_2 : decode cX5_isLaw 2 = .ok (.if_icmp .eq 21, 3) := dk_159 0 21 (dk_at dksX5_isLaw_0 2 rfl rfl)
theorem dX5_isLaw_5 : decode cX5_isLaw 5 = .ok (.iload_n 1, 1) := dk_27 (dk_at dksX5_isLaw_0 5 rfl rfl)
theorem dX5_isLaw_6 : decode cX5_isLaw 6 = .ok (.i2l, 1) := dk_133 (dk_at dksX5_isLaw_0 6 rfl rfl)
theorem dX5_isLaw_7 : decode cX5_isLaw 7 = .ok (.lconst 0, 1) := dk_9 (dk_at dksX5_isLaw_0 7 rfl rfl)
theorem dX5_isLaw_8 : decode cX5_isLaw 8 = .ok (.aload_n 0, 1) := dk_42 (dk_at dksX5_isLaw_0 8 rfl rfl)
theorem dX5_isLaw_9 : decode cX5_isLaw 9 = .ok (.getfield 13, 3) := dk_180 0 13 (dk_at dksX5_isLaw_0 9 rfl rfl)
theorem dX5_isLaw_12 : decode cX5_isLaw 12 = .ok (.iconst 3, 1) := dk_6 (dk_at dksX5_isLaw_0 12 rfl rfl)
theorem dX5_isLaw_13 : decode cX5_isLaw 13 = .ok (.iaload, 1) := dk_46 (dk_at dksX5_isLaw_0 13 rfl rfl)
theorem dX5_isLaw_14 : decode cX5_isLaw 14 = .ok (.i2l, 1) := dk_133 (dk_at dksX5_isLaw_0 14 rfl rfl)
theorem dX5_isLaw_15 : decode cX5_isLaw 15 = .ok (.lconst 1, 1) := dk_10 (dk_at dksX5_isLaw_0 15 rfl rfl)
theorem dX5_isLaw_16 : decode cX5_isLaw 16 = .ok (.lsub, 1) := dk_101 (dk_at dksX5_isLaw_0 16 rfl rfl)
theorem dX5_isLaw_17 : decode cX5_isLaw 17 = .ok (.invokestatic 195, 3) := dk_184 0 195 (dk_at dksX5_isLaw_0 17 rfl rfl)
theorem dX5_isLaw_20 : decode cX5_isLaw 20 = .ok (.ifCond .eq 7, 3) := dk_153 0 7 (dk_at dksX5_isLaw_0 20 rfl rfl)
theorem dX5_isLaw_23 : decode cX5_isLaw 23 = .ok (.iconst 1, 1) := dk_4 (dk_at dksX5_isLaw_0 23 rfl rfl)
theorem dX5_isLaw_24 : decode cX5_isLaw 24 = .ok (.goto 4, 3) := dk_167 0 4 (dk_at dksX5_isLaw_1 0 rfl rfl)
theorem dX5_isLaw_27 : decode cX5_isLaw 27 = .ok (.iconst 0, 1) := dk_3 (dk_at dksX5_isLaw_1 3 rfl rfl)
theorem dX5_isLaw_28 : decode cX5_isLaw 28 = .ok (.ireturn, 1) := dk_172 (dk_at dksX5_isLaw_1 4 rfl rfl)
abbrev cX5_pull : ByteArray := prog_22_method_77_code
def yX5_pull : MethodName := ⟨RX5, "pull", "(III)I"⟩
def dkwX5_pull_0 : List UInt8 := [42, 3, 181, 0, 175, 42, 42, 27, 28, 29, 182, 1, 212, 182, 0, 184, 172]
abbrev dktX5_pull_0 : List UInt8 := dkwX5_pull_0 ++ []
theorem dksX5_pull_0 : cX5_pull.data.toList.drop 0 = dktX5_pull_0 := by decide +kernel
theorem dX5_pull_0 : decode cX5_pull 0 = .ok (.aload_n 0, 1) := dk_42 (dk_at dksX5_pull_0 0 rfl rfl)
theorem dX5_pull_1 : decode cX5_pull 1 = .ok (.iconst 0, 1) := dk_3 (dk_at dksX5_pull_0 1 rfl rfl)
theorem dX5_pull_2 : decode cX5_pull 2 = .ok (.putfield 175, 3) := dk_181 0 175 (dk_at dksX5_pull_0 2 rfl rfl)
theorem dX5_pull_5 : decode cX5_pull 5 = .ok (.aload_n 0, 1) := dk_42 (dk_at dksX5_pull_0 5 rfl rfl)
theorem dX5_pull_6 : decode cX5_pull 6 = .ok (.aload_n 0, 1) := dk_42 (dk_at dksX5_pull_0 6 rfl rfl)
theorem dX5_pull_7 : decode cX5_pull 7 = .ok (.iload_n 1, 1) := dk_27 (dk_at dksX5_pull_0 7 rfl rfl)
theorem dX5_pull_8 : decode cX5_pull 8 = .ok (.iload_n 2, 1) := dk_28 (dk_at dksX5_pull_0 8 rfl rfl)
theorem dX5_pull_9 : decode cX5_pull 9 = .ok (.iload_n 3, 1) := dk_29 (dk_at dksX5_pull_0 9 rfl rfl)
theorem dX5_pull_10 : decode cX5_pull 10 = .ok (.invokevirtual 468, 3) := dk_182 1 212 (dk_at dksX5_pull_0 10 rfl rfl)
theorem dX5_pull_13 : decode cX5_pull 13 = .ok (.invokevirtual 184, 3) := dk_182 0 184 (dk_at dksX5_pull_0 13 rfl rfl)
theorem dX5_pull_16 : decode cX5_pull 16 = .ok (.ireturn, 1) := dk_172 (dk_at dksX5_pull_0 16 rfl rfl)
abbrev cX5_pullNow : ByteArray := prog_22_method_76_code
def yX5_pullNow : MethodName := ⟨RX5, "pullNow", "(III)I"⟩
def dkwX5_pullNow_3 : List UInt8 := [172]
abbrev dktX5_pullNow_3 : List UInt8 := dkwX5_pullNow_3 ++ []
def dkwX5_pullNow_2 : List UInt8 := [180, 0, 13, 16, 8, 16, 8, 29, 104, 96, 28, 96, 92, 46, 4, 27, 120, 100, 79, 42, 29, 182, 0, 219]
abbrev dktX5_pullNow_2 : List UInt8 := dkwX5_pullNow_2 ++ dktX5_pullNow_3
def dkwX5_pullNow_1 : List UInt8 := [16, 254, 172, 42, 27, 28, 29, 182, 1, 205, 154, 0, 6, 16, 253, 172, 42, 3, 182, 1, 209, 42]
abbrev dktX5_pullNow_1 : List UInt8 := dkwX5_pullNow_1 ++ dktX5_pullNow_2
def dkwX5_pullNow_0 : List UInt8 := [27, 184, 0, 236, 153, 0, 10, 28, 184, 0, 228, 154, 0, 5, 2, 172, 42, 29, 182, 0, 213, 154, 0, 6]
abbrev dktX5_pullNow_0 : List UInt8 := dkwX5_pullNow_0 ++ dktX5_pullNow_1
theorem dksX5_pullNow_0 : cX5_pullNow.data.toList.drop 0 = dktX5_pullNow_0 := by decide +kernel
theorem dksX5_pullNow_1 : cX5_pullNow.data.toList.drop 24 = dktX5_pullNow_1 := dk_seg dksX5_pullNow_0 24 rfl rfl
theorem dksX5_pullNow_2 : cX5_pullNow.data.toList.drop 46 = dktX5_pullNow_2 := dk_seg dksX5_pullNow_1 22 rfl rfl
theorem dksX5_pullNow_3 : cX5_pullNow.data.toList.drop 70 = dktX5_pullNow_3 := dk_seg dksX5_pullNow_2 24 rfl rfl
theorem dX5_pullNow_0 : decode cX5_pullNow 0 = .ok (.iload_n 1, 1) := dk_27 (dk_at dksX5_pullNow_0 0 rfl rfl)
theorem dX5_pullNow_1 : decode cX5_pullNow 1 = .ok (.invokestatic 236, 3) := dk_184 0 236 (dk_at dksX5_pullNow_0 1 rfl rfl)
theorem dX5_pullNow_4 : decode cX5_pullNow 4 = .ok (.ifCond .eq 10, 3) := dk_153 0 10 (dk_at dksX5_pullNow_0 4 rfl rfl)
theorem dX5_pullNow_7 : decode cX5_pullNow 7 = .ok (.iload_n 2, 1) := dk_28 (dk_at dksX5_pullNow_0 7 rfl rfl)
theorem dX5_pullNow_8 : decode cX5_pullNow 8 = .ok (.invokestatic 228, 3) := dk_184 0 228 (dk_at dksX5_pullNow_0 8 rfl rfl)
theorem dX5_pullNow_11 : decode cX5_pullNow 11 = .ok (.ifCond .ne 5, 3) := dk_154 0 5 (dk_at dksX5_pullNow_0 11 rfl rfl)
theorem dX5_pullNow_14 : decode cX5_pullNow 14 = .ok (.iconst (-1), 1) := dk_2 (dk_at dksX5_pullNow_0 14 rfl rfl)
theorem dX5_pullNow_15 : decode cX5_pullNow 15 = .ok (.ireturn, 1) := dk_172 (dk_at dksX5_pullNow_0 15 rfl rfl)
theorem dX5_pullNow_16 : decode cX5_pullNow 16 = .ok (.aload_n 0, 1) := dk_42 (dk_at dksX5_pullNow_0 16 rfl rfl)
theorem dX5_pullNow_17 : decode cX5_pullNow 17 = .ok (.iload_n 3, 1) := dk_29 (dk_at dksX5_pullNow_0 17 rfl rfl)
theorem dX5_pullNow_18 : decode cX5_pullNow 18 = .ok (.invokevirtual 213, 3) := dk_182 0 213 (dk_at dksX5_pullNow_0 18 rfl rfl)
theorem dX5_pullNow_21 : decode cX5_pullNow 21 = .ok (.ifCond .ne 6, 3) := dk_154 0 6 (dk_at dksX5_pullNow_0 21 rfl rfl)
theorem dX5_pullNow_24 : decode cX5_pullNow 24 = .ok (.bipush (-2), 2) := dk_16 254 (dk_at dksX5_pullNow_1 0 rfl rfl)
theorem dX5_pullNow_26 : decode cX5_pullNow 26 = .ok (.ireturn, 1) := dk_172 (dk_at dksX5_pullNow_1 2 rfl rfl)
theorem dX5_pullNow_27 : decode cX5_pullNow 27 = .ok (.aload_n 0, 1) := dk_42 (dk_at dksX5_pullNow_1 3 rfl rfl)
theorem dX5_pullNow_28 : decode cX5_pullNow 28 = .ok (.iload_n 1, 1) := dk_27 (dk_at dksX5_pullNow_1 4 rfl rfl)
theorem dX5_pullNow_29 : decode cX5_pullNow 29 = .ok (.iload_n 2, 1) := dk_28 (dk_at dksX5_pullNow_1 5 rfl rfl)
theorem dX5_pullNow_30 : decode cX5_pullNow 30 = .ok (.iload_n 3, 1) := dk_29 (dk_at dksX5_pullNow_1 6 rfl rfl)
theorem dX5_pullNow_31 : decode cX5_pullNow 31 = .ok (.invokevirtual 461, 3) := dk_182 1 205 (dk_at dksX5_pullNow_1 7 rfl rfl)
theorem dX5_pullNow_34 : decode cX5_pullNow 34 = .ok (.ifCond .ne 6, 3) := dk_154 0 6 (dk_at dksX5_pullNow_1 10 rfl rfl)
theorem dX5_pullNow_37 : decode cX5_pullNow 37 = .ok (.bipush (-3), 2) := dk_16 253 (dk_at dksX5_pullNow_1 13 rfl rfl)
theorem dX5_pullNow_39 : decode cX5_pullNow 39 = .ok (.ireturn, 1) := dk_172 (dk_at dksX5_pullNow_1 15 rfl rfl)
theorem dX5_pullNow_40 : decode cX5_pullNow 40 = .ok (.aload_n 0, 1) := dk_42 (dk_at dksX5_pullNow_1 16 rfl rfl)
theorem dX5_pullNow_41 : decode cX5_pullNow 41 = .ok (.iconst 0, 1) := dk_3 (dk_at dksX5_pullNow_1 17 rfl rfl)
theorem dX5_pullNow_42 : decode cX5_pullNow 42 = .ok (.invokevirtual 465, 3) := dk_182 1 209 (dk_at dksX5_pullNow_1 18 rfl rfl)
theorem dX5_pullNow_45 : decode cX5_pullNow 45 = .ok (.aload_n 0, 1) := dk_42 (dk_at dksX5_pullNow_1 21 rfl rfl)
theorem dX5_pullNow_46 : decode cX5_pullNow 46 = .ok (.getfield 13, 3) := dk_180 0 13 (dk_at dksX5_pullNow_2 0 rfl rfl)
theorem dX5_pullNow_49 : decode cX5_pullNow 49 = .ok (.bipush 8, 2) := dk_16 8 (dk_at dksX5_pullNow_2 3 rfl rfl)
theorem dX5_pullNow_51 : decode cX5_pullNow 51 = .ok (.bipush 8, 2) := dk_16 8 (dk_at dksX5_pullNow_2 5 rfl rfl)
theorem dX5_pullNow_53 : decode cX5_pullNow 53 = .ok (.iload_n 3, 1) := dk_29 (dk_at dksX5_pullNow_2 7 rfl rfl)
theorem dX5_pullNow_54 : decode cX5_pullNow 54 = .ok (.imul, 1) := dk_104 (dk_at dksX5_pullNow_2 8 rfl rfl)
theorem dX5_pullNow_55 : decode cX5_pullNow 55 = .ok (.iadd, 1) := dk_96 (dk_at dksX5_pullNow_2 9 rfl rfl)
theorem dX5_pullNow_56 : decode cX5_pullNow 56 = .ok (.iload_n 2, 1) := dk_28 (dk_at dksX5_pullNow_2 10 rfl rfl)
theorem dX5_pullNow_57 : decode cX5_pullNow 57 = .ok (.iadd, 1) := dk_96 (dk_at dksX5_pullNow_2 11 rfl rfl)
theorem dX5_pullNow_58 : decode cX5_pullNow 58 = .ok (.dup2, 1) := dk_92 (dk_at dksX5_pullNow_2 12 rfl rfl)
theorem dX5_pullNow_59 : decode cX5_pullNow 59 = .ok (.iaload, 1) := dk_46 (dk_at dksX5_pullNow_2 13 rfl rfl)
theorem dX5_pullNow_60 : decode cX5_pullNow 60 = .ok (.iconst 1, 1) := dk_4 (dk_at dksX5_pullNow_2 14 rfl rfl)
theorem dX5_pullNow_61 : decode cX5_pullNow 61 = .ok (.iload_n 1, 1) := dk_27 (dk_at dksX5_pullNow_2 15 rfl rfl)
theorem dX5_pullNow_62 : decode cX5_pullNow 62 = .ok (.ishl, 1) := dk_120 (dk_at dksX5_pullNow_2 16 rfl rfl)
theorem dX5_pullNow_63 : decode cX5_pullNow 63 = .ok (.isub, 1) := dk_100 (dk_at dksX5_pullNow_2 17 rfl rfl)
theorem dX5_pullNow_64 : decode cX5_pullNow 64 = .ok (.iastore, 1) := dk_79 (dk_at dksX5_pullNow_2 18 rfl rfl)
theorem dX5_pullNow_65 : decode cX5_pullNow 65 = .ok (.aload_n 0, 1) := dk_42 (dk_at dksX5_pullNow_2 19 rfl rfl)
theorem dX5_pullNow_66 : decode cX5_pullNow 66 = .ok (.iload_n 3, 1) := dk_29 (dk_at dksX5_pullNow_2 20 rfl rfl)
theorem dX5_pullNow_67 : decode cX5_pullNow 67 = .ok (.invokevirtual 219, 3) := dk_182 0 219 (dk_at dksX5_pullNow_2 21 rfl rfl)
theorem dX5_pullNow_70 : decode cX5_pullNow 70 = .ok (.ireturn, 1) := dk_172 (dk_at dksX5_pullNow_3 0 rfl rfl)
abbrev cX5_canPull : ByteArray := prog_22_method_75_code
def yX5_canPull : MethodName := ⟨RX5, "canPull", "(III)Z"⟩
def dkwX5_canPull_0 : List UInt8 := [42, 180, 0, 13, 16, 8, 16, 8, 29, 104, 96, 28, 96, 46, 27, 184, 1, 202, 172]
abbrev dktX5_canPull_0 : List UInt8 := dkwX5_canPull_0 ++ []
theorem dksX5_canPull_0 : cX5_canPull.data.toList.drop 0 = dktX5_canPull_0 := by decide +kernel
theorem dX5_canPull_0 : decode cX5_canPull 0 = .ok (.aload_n 0, 1) := dk_42 (dk_at dksX5_canPull_0 0 rfl rfl)
theorem dX5_canPull_1 : decode cX5_canPull 1 = .ok (.getfield 13, 3) := dk_180 0 13 (dk_at dksX5_canPull_0 1 rfl rfl)
theorem dX5_canPull_4 : decode cX5_canPull 4 = .ok (.bipush 8, 2) := dk_16 8 (dk_at dksX5_canPull_0 4 rfl rfl)
theorem dX5_canPull_6 : decode cX5_canPull 6 = .ok (.bipush 8, 2) := dk_16 8 (dk_at dksX5_canPull_0 6 rfl rfl)
theorem dX5_canPull_8 : decode cX5_canPull 8 = .ok (.iload_n 3, 1) := dk_29 (dk_at dksX5_canPull_0 8 rfl rfl)
theorem dX5_canPull_9 : decode cX5_canPull 9 = .ok (.imul, 1) := dk_104 (dk_at dksX5_canPull_0 9 rfl rfl)
theorem dX5_canPull_10 : decode cX5_canPull 10 = .ok (.iadd, 1) := dk_96 (dk_at dksX5_canPull_0 10 rfl rfl)
theorem dX5_canPull_11 : decode cX5_canPull 11 = .ok (.iload_n 2, 1) := dk_28 (dk_at dksX5_canPull_0 11 rfl rfl)
theorem dX5_canPull_12 : decode cX5_canPull 12 = .ok (.iadd, 1) := dk_96 (dk_at dksX5_canPull_0 12 rfl rfl)
theorem dX5_canPull_13 : decode cX5_canPull 13 = .ok (.iaload, 1) := dk_46 (dk_at dksX5_canPull_0 13 rfl rfl)
theorem dX5_canPull_14 : decode cX5_canPull 14 = .ok (.iload_n 1, 1) := dk_27 (dk_at dksX5_canPull_0 14 rfl rfl)
theorem dX5_canPull_15 : decode cX5_canPull 15 = .ok (.invokestatic 458, 3) := dk_184 1 202 (dk_at dksX5_canPull_0 15 rfl rfl)
theorem dX5_canPull_18 : decode cX5_canPull 18 = .ok (.ireturn, 1) := dk_172 (dk_at dksX5_canPull_0 18 rfl rfl)
abbrev cX5_is : ByteArray := prog_22_method_4_code
def yX5_is : MethodName := ⟨RX5, "is", "(II)Z"⟩
def dkwX5_is_0 : List UInt8 := [26, 27, 122, 4, 126, 4, 160, 0, 7, 4, 167, 0, 4, 3, 172]
abbrev dktX5_is_0 : List UInt8 := dkwX5_is_0 ++ []
theorem dksX5_is_0 : cX5_is.data.toList.drop 0 = dktX5_is_0 := by decide +kernel
theorem dX5_is_0 : decode cX5_is 0 = .ok (.iload_n 0, 1) := dk_26 (dk_at dksX5_is_0 0 rfl rfl)
theorem dX5_is_1 : decode cX5_is 1 = .ok (.iload_n 1, 1) := dk_27 (dk_at dksX5_is_0 1 rfl rfl)
theorem dX5_is_2 : decode cX5_is 2 = .ok (.ishr, 1) := dk_122 (dk_at dksX5_is_0 2 rfl rfl)
theorem dX5_is_3 : decode cX5_is 3 = .ok (.iconst 1, 1) := dk_4 (dk_at dksX5_is_0 3 rfl rfl)
theorem dX5_is_4 : decode cX5_is 4 = .ok (.iand, 1) := dk_126 (dk_at dksX5_is_0 4 rfl rfl)
theorem dX5_is_5 : decode cX5_is 5 = .ok (.iconst 1, 1) := dk_4 (dk_at dksX5_is_0 5 rfl rfl)
theorem dX5_is_6 : decode cX5_is 6 = .ok (.if_icmp .ne 7, 3) := dk_160 0 7 (dk_at dksX5_is_0 6 rfl rfl)
theorem dX5_is_9 : decode cX5_is 9 = .ok (.iconst 1, 1) := dk_4 (dk_at dksX5_is_0 9 rfl rfl)
theorem dX5_is_10 : decode cX5_is 10 = .ok (.goto 4, 3) := dk_167 0 4 (dk_at dksX5_is_0 10 rfl rfl)
theorem dX5_is_13 : decode cX5_is 13 = .ok (.iconst 0, 1) := dk_3 (dk_at dksX5_is_0 13 rfl rfl)
theorem dX5_is_14 : decode cX5_is 14 = .ok (.ireturn, 1) := dk_172 (dk_at dksX5_is_0 14 rfl rfl)
abbrev cX5_remember : ByteArray := prog_22_method_12_code
def yX5_remember : MethodName := ⟨RX5, "remember", "(I)V"⟩
def dkwX5_remember_4 : List UInt8 := [89, 180, 0, 181, 4, 96, 181, 0, 181, 177]
abbrev dktX5_remember_4 : List UInt8 := dkwX5_remember_4 ++ []
def dkwX5_remember_3 : List UInt8 := [4, 100, 181, 0, 181, 42, 42, 180, 0, 181, 182, 0, 188, 42, 180, 0, 26, 42, 180, 0, 181, 27, 79, 42]
abbrev dktX5_remember_3 : List UInt8 := dkwX5_remember_3 ++ dktX5_remember_4
def dkwX5_remember_2 : List UInt8 := [180, 0, 26, 28, 42, 180, 0, 26, 28, 4, 96, 46, 79, 132, 2, 1, 167, 255, 233, 42, 89, 180, 0, 181]
abbrev dktX5_remember_2 : List UInt8 := dkwX5_remember_2 ++ dktX5_remember_3
def dkwX5_remember_1 : List UInt8 := [180, 0, 23, 28, 16, 75, 96, 46, 79, 132, 2, 1, 167, 255, 231, 3, 61, 28, 16, 15, 162, 0, 23, 42]
abbrev dktX5_remember_1 : List UInt8 := dkwX5_remember_1 ++ dktX5_remember_2
def dkwX5_remember_0 : List UInt8 := [42, 180, 0, 181, 16, 16, 160, 0, 71, 3, 61, 28, 17, 4, 101, 162, 0, 24, 42, 180, 0, 23, 28, 42]
abbrev dktX5_remember_0 : List UInt8 := dkwX5_remember_0 ++ dktX5_remember_1
theorem dksX5_remember_0 : cX5_remember.data.toList.drop 0 = dktX5_remember_0 := by decide +kernel
theorem dksX5_remember_1 : cX5_remember.data.toList.drop 24 = dktX5_remember_1 := dk_seg dksX5_remember_0 24 rfl rfl
theorem dksX5_remember_2 : cX5_remember.data.toList.drop 48 = dktX5_remember_2 := dk_seg dksX5_remember_1 24 rfl rfl
theorem dksX5_remember_3 : cX5_remember.data.toList.drop 72 = dktX5_remember_3 := dk_seg dksX5_remember_2 24 rfl rfl
theorem dksX5_remember_4 : cX5_remember.data.toList.drop 96 = dktX5_remember_4 := dk_seg dksX5_remember_3 24 rfl rfl
theorem dX5_remember_0 : decode cX5_remember 0 = .ok (.aload_n 0, 1) := dk_42 (dk_at dksX5_remember_0 0 rfl rfl)
theorem dX5_remember_1 : decode cX5_remember 1 = .ok (.getfield 181, 3) := dk_180 0 181 (dk_at dksX5_remember_0 1 rfl rfl)
theorem dX5_remember_4 : decode cX5_remember 4 = .ok (.bipush 16, 2) := dk_16 16 (dk_at dksX5_remember_0 4 rfl rfl)
theorem dX5_remember_6 : decode cX5_remember 6 = .ok (.if_icmp .ne 71, 3) := dk_160 0 71 (dk_at dksX5_remember_0 6 rfl rfl)
theorem dX5_remember_9 : decode cX5_remember 9 = .ok (.iconst 0, 1) := dk_3 (dk_at dksX5_remember_0 9 rfl rfl)
theorem dX5_remember_10 : decode cX5_remember 10 = .ok (.istore_n 2, 1) := dk_61 (dk_at dksX5_remember_0 10 rfl rfl)
theorem dX5_remember_11 : decode cX5_remember 11 = .ok (.iload_n 2, 1) := dk_28 (dk_at dksX5_remember_0 11 rfl rfl)
theorem dX5_remember_12 : decode cX5_remember 12 = .ok (.sipush 1125, 3) := dk_17 4 101 (dk_at dksX5_remember_0 12 rfl rfl)
theorem dX5_remember_15 : decode cX5_remember 15 = .ok (.if_icmp .ge 24, 3) := dk_162 0 24 (dk_at dksX5_remember_0 15 rfl rfl)
theorem dX5_remember_18 : decode cX5_remember 18 = .ok (.aload_n 0, 1) := dk_42 (dk_at dksX5_remember_0 18 rfl rfl)
theorem dX5_remember_19 : decode cX5_remember 19 = .ok (.getfield 23, 3) := dk_180 0 23 (dk_at dksX5_remember_0 19 rfl rfl)
theorem dX5_remember_22 : decode cX5_remember 22 = .ok (.iload_n 2, 1) := dk_28 (dk_at dksX5_remember_0 22 rfl rfl)
theorem dX5_remember_23 : decode cX5_remember 23 = .ok (.aload_n 0, 1) := dk_42 (dk_at dksX5_remember_0 23 rfl rfl)
theorem dX5_remember_24 : decode cX5_remember 24 = .ok (.getfield 23, 3) := dk_180 0 23 (dk_at dksX5_remember_1 0 rfl rfl)
theorem dX5_remember_27 : decode cX5_remember 27 = .ok (.iload_n 2, 1) := dk_28 (dk_at dksX5_remember_1 3 rfl rfl)
theorem dX5_remember_28 : decode cX5_remember 28 = .ok (.bipush 75, 2) := dk_16 75 (dk_at dksX5_remember_1 4 rfl rfl)
theorem dX5_remember_30 : decode cX5_remember 30 = .ok (.iadd, 1) := dk_96 (dk_at dksX5_remember_1 6 rfl rfl)
theorem dX5_remember_31 : decode cX5_remember 31 = .ok (.iaload, 1) := dk_46 (dk_at dksX5_remember_1 7 rfl rfl)
theorem dX5_remember_32 : decode cX5_remember 32 = .ok (.iastore, 1) := dk_79 (dk_at dksX5_remember_1 8 rfl rfl)
theorem dX5_remember_33 : decode cX5_remember 33 = .ok (.iinc 2 1, 3) := dk_132 2 1 (dk_at dksX5_remember_1 9 rfl rfl)
theorem dX5_remember_36 : decode cX5_remember 36 = .ok (.goto (-25), 3) := dk_167 255 231 (dk_at dksX5_remember_1 12 rfl rfl)
theorem dX5_remember_39 : decode cX5_remember 39 = .ok (.iconst 0, 1) := dk_3 (dk_at dksX5_remember_1 15 rfl rfl)
theorem dX5_remember_40 : decode cX5_remember 40 = .ok (.istore_n 2, 1) := dk_61 (dk_at dksX5_remember_1 16 rfl rfl)
theorem dX5_remember_41 : decode cX5_remember 41 = .ok (.iload_n 2, 1) := dk_28 (dk_at dksX5_remember_1 17 rfl rfl)
theorem dX5_remember_42 : decode cX5_remember 42 = .ok (.bipush 15, 2) := dk_16 15 (dk_at dksX5_remember_1 18 rfl rfl)
theorem dX5_remember_44 : decode cX5_remember 44 = .ok (.if_icmp .ge 23, 3) := dk_162 0 23 (dk_at dksX5_remember_1 20 rfl rfl)
theorem dX5_remember_47 : decode cX5_remember 47 = .ok (.aload_n 0, 1) := dk_42 (dk_at dksX5_remember_1 23 rfl rfl)
theorem dX5_remember_48 : decode cX5_remember 48 = .ok (.getfield 26, 3) := dk_180 0 26 (dk_at dksX5_remember_2 0 rfl rfl)
theorem dX5_remember_51 : decode cX5_remember 51 = .ok (.iload_n 2, 1) := dk_28 (dk_at dksX5_remember_2 3 rfl rfl)
theorem dX5_remember_52 : decode cX5_remember 52 = .ok (.aload_n 0, 1) := dk_42 (dk_at dksX5_remember_2 4 rfl rfl)
theorem dX5_remember_53 : decode cX5_remember 53 = .ok (.getfield 26, 3) := dk_180 0 26 (dk_at dksX5_remember_2 5 rfl rfl)
theorem dX5_remember_56 : decode cX5_remember 56 = .ok (.iload_n 2, 1) := dk_28 (dk_at dksX5_remember_2 8 rfl rfl)
theorem dX5_remember_57 : decode cX5_remember 57 = .ok (.iconst 1, 1) := dk_4 (dk_at dksX5_remember_2 9 rfl rfl)
theorem dX5_remember_58 : decode cX5_remember 58 = .ok (.iadd, 1) := dk_96 (dk_at dksX5_remember_2 10 rfl rfl)
theorem dX5_remember_59 : decode cX5_remember 59 = .ok (.iaload, 1) := dk_46 (dk_at dksX5_remember_2 11 rfl rfl)
theorem dX5_remember_60 : decode cX5_remember 60 = .ok (.iastore, 1) := dk_79 (dk_at dksX5_remember_2 12 rfl rfl)
theorem dX5_remember_61 : decode cX5_remember 61 = .ok (.iinc 2 1, 3) := dk_132 2 1 (dk_at dksX5_remember_2 13 rfl rfl)
theorem dX5_remember_64 : decode cX5_remember 64 = .ok (.goto (-23), 3) := dk_167 255 233 (dk_at dksX5_remember_2 16 rfl rfl)
theorem dX5_remember_67 : decode cX5_remember 67 = .ok (.aload_n 0, 1) := dk_42 (dk_at dksX5_remember_2 19 rfl rfl)
theorem dX5_remember_68 : decode cX5_remember 68 = .ok (.dup, 1) := dk_89 (dk_at dksX5_remember_2 20 rfl rfl)
theorem dX5_remember_69 : decode cX5_remember 69 = .ok (.getfield 181, 3) := dk_180 0 181 (dk_at dksX5_remember_2 21 rfl rfl)
theorem dX5_remember_72 : decode cX5_remember 72 = .ok (.iconst 1, 1) := dk_4 (dk_at dksX5_remember_3 0 rfl rfl)
theorem dX5_remember_73 : decode cX5_remember 73 = .ok (.isub, 1) := dk_100 (dk_at dksX5_remember_3 1 rfl rfl)
theorem dX5_remember_74 : decode cX5_remember 74 = .ok (.putfield 181, 3) := dk_181 0 181 (dk_at dksX5_remember_3 2 rfl rfl)
theorem dX5_remember_77 : decode cX5_remember 77 = .ok (.aload_n 0, 1) := dk_42 (dk_at dksX5_remember_3 5 rfl rfl)
theorem dX5_remember_78 : decode cX5_remember 78 = .ok (.aload_n 0, 1) := dk_42 (dk_at dksX5_remember_3 6 rfl rfl)
theorem dX5_remember_79 : decode cX5_remember 79 = .ok (.getfield 181, 3) := dk_180 0 181 (dk_at dksX5_remember_3 7 rfl rfl)
theorem dX5_remember_82 : decode cX5_remember 82 = .ok (.invokevirtual 188, 3) := dk_182 0 188 (dk_at dksX5_remember_3 10 rfl rfl)
theorem dX5_remember_85 : decode cX5_remember 85 = .ok (.aload_n 0, 1) := dk_42 (dk_at dksX5_remember_3 13 rfl rfl)
theorem dX5_remember_86 : decode cX5_remember 86 = .ok (.getfield 26, 3) := dk_180 0 26 (dk_at dksX5_remember_3 14 rfl rfl)
theorem dX5_remember_89 : decode cX5_remember 89 = .ok (.aload_n 0, 1) := dk_42 (dk_at dksX5_remember_3 17 rfl rfl)
theorem dX5_remember_90 : decode cX5_remember 90 = .ok (.getfield 181, 3) := dk_180 0 181 (dk_at dksX5_remember_3 18 rfl rfl)
theorem dX5_remember_93 : decode cX5_remember 93 = .ok (.iload_n 1, 1) := dk_27 (dk_at dksX5_remember_3 21 rfl rfl)
theorem dX5_remember_94 : decode cX5_remember 94 = .ok (.iastore, 1) := dk_79 (dk_at dksX5_remember_3 22 rfl rfl)
theorem dX5_remember_95 : decode cX5_remember 95 = .ok (.aload_n 0, 1) := dk_42 (dk_at dksX5_remember_3 23 rfl rfl)
theorem dX5_remember_96 : decode cX5_remember 96 = .ok (.dup, 1) := dk_89 (dk_at dksX5_remember_4 0 rfl rfl)
theorem dX5_remember_97 : decode cX5_remember 97 = .ok (.getfield 181, 3) := dk_180 0 181 (dk_at dksX5_remember_4 1 rfl rfl)
theorem dX5_remember_100 : decode cX5_remember 100 = .ok (.iconst 1, 1) := dk_4 (dk_at dksX5_remember_4 4 rfl rfl)
theorem dX5_remember_101 : decode cX5_remember 101 = .ok (.iadd, 1) := dk_96 (dk_at dksX5_remember_4 5 rfl rfl)
theorem dX5_remember_102 : decode cX5_remember 102 = .ok (.putfield 181, 3) := dk_181 0 181 (dk_at dksX5_remember_4 6 rfl rfl)
theorem dX5_remember_105 : decode cX5_remember 105 = .ok (.return_, 1) := dk_177 (dk_at dksX5_remember_4 9 rfl rfl)
abbrev cX5_keepAll : ByteArray := prog_22_method_10_code
def yX5_keepAll : MethodName := ⟨RX5, "keepAll", "(I)V"⟩
def dkwX5_keepAll_1 : List UInt8 := [96, 46, 79, 132, 2, 1, 167, 255, 228, 177]
abbrev dktX5_keepAll_1 : List UInt8 := dkwX5_keepAll_1 ++ []
def dkwX5_keepAll_0 : List UInt8 := [3, 61, 28, 16, 75, 162, 0, 28, 42, 180, 0, 23, 16, 75, 27, 104, 28, 96, 42, 180, 0, 13, 8, 28]
abbrev dktX5_keepAll_0 : List UInt8 := dkwX5_keepAll_0 ++ dktX5_keepAll_1
theorem dksX5_keepAll_0 : cX5_keepAll.data.toList.drop 0 = dktX5_keepAll_0 := by decide +kernel
theorem dksX5_keepAll_1 : cX5_keepAll.data.toList.drop 24 = dktX5_keepAll_1 := dk_seg dksX5_keepAll_0 24 rfl rfl
theorem dX5_keepAll_0 : decode cX5_keepAll 0 = .ok (.iconst 0, 1) := dk_3 (dk_at dksX5_keepAll_0 0 rfl rfl)
theorem dX5_keepAll_1 : decode cX5_keepAll 1 = .ok (.istore_n 2, 1) := dk_61 (dk_at dksX5_keepAll_0 1 rfl rfl)
theorem dX5_keepAll_2 : decode cX5_keepAll 2 = .ok (.iload_n 2, 1) := dk_28 (dk_at dksX5_keepAll_0 2 rfl rfl)
theorem dX5_keepAll_3 : decode cX5_keepAll 3 = .ok (.bipush 75, 2) := dk_16 75 (dk_at dksX5_keepAll_0 3 rfl rfl)
theorem dX5_keepAll_5 : decode cX5_keepAll 5 = .ok (.if_icmp .ge 28, 3) := dk_162 0 28 (dk_at dksX5_keepAll_0 5 rfl rfl)
theorem dX5_keepAll_8 : decode cX5_keepAll 8 = .ok (.aload_n 0, 1) := dk_42 (dk_at dksX5_keepAll_0 8 rfl rfl)
theorem dX5_keepAll_9 : decode cX5_keepAll 9 = .ok (.getfield 23, 3) := dk_180 0 23 (dk_at dksX5_keepAll_0 9 rfl rfl)
theorem dX5_keepAll_12 : decode cX5_keepAll 12 = .ok (.bipush 75, 2) := dk_16 75 (dk_at dksX5_keepAll_0 12 rfl rfl)
theorem dX5_keepAll_14 : decode cX5_keepAll 14 = .ok (.iload_n 1, 1) := dk_27 (dk_at dksX5_keepAll_0 14 rfl rfl)
theorem dX5_keepAll_15 : decode cX5_keepAll 15 = .ok (.imul, 1) := dk_104 (dk_at dksX5_keepAll_0 15 rfl rfl)
theorem dX5_keepAll_16 : decode cX5_keepAll 16 = .ok (.iload_n 2, 1) := dk_28 (dk_at dksX5_keepAll_0 16 rfl rfl)
theorem dX5_keepAll_17 : decode cX5_keepAll 17 = .ok (.iadd, 1) := dk_96 (dk_at dksX5_keepAll_0 17 rfl rfl)
theorem dX5_keepAll_18 : decode cX5_keepAll 18 = .ok (.aload_n 0, 1) := dk_42 (dk_at dksX5_keepAll_0 18 rfl rfl)
theorem dX5_keepAll_19 : decode cX5_keepAll 19 = .ok (.getfield 13, 3) := dk_180 0 13 (dk_at dksX5_keepAll_0 19 rfl rfl)
theorem dX5_keepAll_22 : decode cX5_keepAll 22 = .ok (.iconst 5, 1) := dk_8 (dk_at dksX5_keepAll_0 22 rfl rfl)
theorem dX5_keepAll_23 : decode cX5_keepAll 23 = .ok (.iload_n 2, 1) := dk_28 (dk_at dksX5_keepAll_0 23 rfl rfl)
theorem dX5_keepAll_24 : decode cX5_keepAll 24 = .ok (.iadd, 1) := dk_96 (dk_at dksX5_keepAll_1 0 rfl rfl)
theorem dX5_keepAll_25 : decode cX5_keepAll 25 = .ok (.iaload, 1) := dk_46 (dk_at dksX5_keepAll_1 1 rfl rfl)
theorem dX5_keepAll_26 : decode cX5_keepAll 26 = .ok (.iastore, 1) := dk_79 (dk_at dksX5_keepAll_1 2 rfl rfl)
theorem dX5_keepAll_27 : decode cX5_keepAll 27 = .ok (.iinc 2 1, 3) := dk_132 2 1 (dk_at dksX5_keepAll_1 3 rfl rfl)
theorem dX5_keepAll_30 : decode cX5_keepAll 30 = .ok (.goto (-28), 3) := dk_167 255 228 (dk_at dksX5_keepAll_1 6 rfl rfl)
theorem dX5_keepAll_33 : decode cX5_keepAll 33 = .ok (.return_, 1) := dk_177 (dk_at dksX5_keepAll_1 9 rfl rfl)
abbrev cX5_snap : ByteArray := prog_22_method_79_code
def yX5_snap : MethodName := ⟨RX5, "snap", "(II)I"⟩
def dkwX5_snap_0 : List UInt8 := [42, 3, 181, 0, 175, 42, 42, 27, 28, 182, 1, 216, 182, 0, 184, 172]
abbrev dktX5_snap_0 : List UInt8 := dkwX5_snap_0 ++ []
theorem dksX5_snap_0 : cX5_snap.data.toList.drop 0 = dktX5_snap_0 := by decide +kernel
theorem dX5_snap_0 : decode cX5_snap 0 = .ok (.aload_n 0, 1) := dk_42 (dk_at dksX5_snap_0 0 rfl rfl)
theorem dX5_snap_1 : decode cX5_snap 1 = .ok (.iconst 0, 1) := dk_3 (dk_at dksX5_snap_0 1 rfl rfl)
theorem dX5_snap_2 : decode cX5_snap 2 = .ok (.putfield 175, 3) := dk_181 0 175 (dk_at dksX5_snap_0 2 rfl rfl)
theorem dX5_snap_5 : decode cX5_snap 5 = .ok (.aload_n 0, 1) := dk_42 (dk_at dksX5_snap_0 5 rfl rfl)
theorem dX5_snap_6 : decode cX5_snap 6 = .ok (.aload_n 0, 1) := dk_42 (dk_at dksX5_snap_0 6 rfl rfl)
theorem dX5_snap_7 : decode cX5_snap 7 = .ok (.iload_n 1, 1) := dk_27 (dk_at dksX5_snap_0 7 rfl rfl)
theorem dX5_snap_8 : decode cX5_snap 8 = .ok (.iload_n 2, 1) := dk_28 (dk_at dksX5_snap_0 8 rfl rfl)
theorem dX5_snap_9 : decode cX5_snap 9 = .ok (.invokevirtual 472, 3) := dk_182 1 216 (dk_at dksX5_snap_0 9 rfl rfl)
theorem dX5_snap_12 : decode cX5_snap 12 = .ok (.invokevirtual 184, 3) := dk_182 0 184 (dk_at dksX5_snap_0 12 rfl rfl)
theorem dX5_snap_15 : decode cX5_snap 15 = .ok (.ireturn, 1) := dk_172 (dk_at dksX5_snap_0 15 rfl rfl)
abbrev cX5_snapNow : ByteArray := prog_22_method_78_code
def yX5_snapNow : MethodName := ⟨RX5, "snapNow", "(II)I"⟩
def dkwX5_snapNow_2 : List UInt8 := [16, 56, 28, 96, 92, 46, 4, 27, 120, 96, 79, 42, 28, 182, 0, 219, 172]
abbrev dktX5_snapNow_2 : List UInt8 := dkwX5_snapNow_2 ++ []
def dkwX5_snapNow_1 : List UInt8 := [16, 56, 28, 96, 46, 27, 184, 1, 202, 153, 0, 6, 16, 253, 172, 42, 4, 182, 1, 209, 42, 180, 0, 13]
abbrev dktX5_snapNow_1 : List UInt8 := dkwX5_snapNow_1 ++ dktX5_snapNow_2
def dkwX5_snapNow_0 : List UInt8 := [27, 184, 0, 236, 154, 0, 5, 2, 172, 42, 28, 182, 0, 213, 154, 0, 6, 16, 254, 172, 42, 180, 0, 13]
abbrev dktX5_snapNow_0 : List UInt8 := dkwX5_snapNow_0 ++ dktX5_snapNow_1
theorem dksX5_snapNow_0 : cX5_snapNow.data.toList.drop 0 = dktX5_snapNow_0 := by decide +kernel
theorem dksX5_snapNow_1 : cX5_snapNow.data.toList.drop 24 = dktX5_snapNow_1 := dk_seg dksX5_snapNow_0 24 rfl rfl
theorem dksX5_snapNow_2 : cX5_snapNow.data.toList.drop 48 = dktX5_snapNow_2 := dk_seg dksX5_snapNow_1 24 rfl rfl
theorem dX5_snapNow_0 : decode cX5_snapNow 0 = .ok (.iload_n 1, 1) := dk_27 (dk_at dksX5_snapNow_0 0 rfl rfl)
theorem dX5_snapNow_1 : decode cX5_snapNow 1 = .ok (.invokestatic 236, 3) := dk_184 0 236 (dk_at dksX5_snapNow_0 1 rfl rfl)
theorem dX5_snapNow_4 : decode cX5_snapNow 4 = .ok (.ifCond .ne 5, 3) := dk_154 0 5 (dk_at dksX5_snapNow_0 4 rfl rfl)
theorem dX5_snapNow_7 : decode cX5_snapNow 7 = .ok (.iconst (-1), 1) := dk_2 (dk_at dksX5_snapNow_0 7 rfl rfl)
theorem dX5_snapNow_8 : decode cX5_snapNow 8 = .ok (.ireturn, 1) := dk_172 (dk_at dksX5_snapNow_0 8 rfl rfl)
theorem dX5_snapNow_9 : decode cX5_snapNow 9 = .ok (.aload_n 0, 1) := dk_42 (dk_at dksX5_snapNow_0 9 rfl rfl)
theorem dX5_snapNow_10 : decode cX5_snapNow 10 = .ok (.iload_n 2, 1) := dk_28 (dk_at dksX5_snapNow_0 10 rfl rfl)
theorem dX5_snapNow_11 : decode cX5_snapNow 11 = .ok (.invokevirtual 213, 3) := dk_182 0 213 (dk_at dksX5_snapNow_0 11 rfl rfl)
theorem dX5_snapNow_14 : decode cX5_snapNow 14 = .ok (.ifCond .ne 6, 3) := dk_154 0 6 (dk_at dksX5_snapNow_0 14 rfl rfl)
theorem dX5_snapNow_17 : decode cX5_snapNow 17 = .ok (.bipush (-2), 2) := dk_16 254 (dk_at dksX5_snapNow_0 17 rfl rfl)
theorem dX5_snapNow_19 : decode cX5_snapNow 19 = .ok (.ireturn, 1) := dk_172 (dk_at dksX5_snapNow_0 19 rfl rfl)
theorem dX5_snapNow_20 : decode cX5_snapNow 20 = .ok (.aload_n 0, 1) := dk_42 (dk_at dksX5_snapNow_0 20 rfl rfl)
theorem dX5_snapNow_21 : decode cX5_snapNow 21 = .ok (.getfield 13, 3) := dk_180 0 13 (dk_at dksX5_snapNow_0 21 rfl rfl)
theorem dX5_snapNow_24 : decode cX5_snapNow 24 = .ok (.bipush 56, 2) := dk_16 56 (dk_at dksX5_snapNow_1 0 rfl rfl)
theorem dX5_snapNow_26 : decode cX5_snapNow 26 = .ok (.iload_n 2, 1) := dk_28 (dk_at dksX5_snapNow_1 2 rfl rfl)
theorem dX5_snapNow_27 : decode cX5_snapNow 27 = .ok (.iadd, 1) := dk_96 (dk_at dksX5_snapNow_1 3 rfl rfl)
theorem dX5_snapNow_28 : decode cX5_snapNow 28 = .ok (.iaload, 1) := dk_46 (dk_at dksX5_snapNow_1 4 rfl rfl)
theorem dX5_snapNow_29 : decode cX5_snapNow 29 = .ok (.iload_n 1, 1) := dk_27 (dk_at dksX5_snapNow_1 5 rfl rfl)
theorem dX5_snapNow_30 : decode cX5_snapNow 30 = .ok (.invokestatic 458, 3) := dk_184 1 202 (dk_at dksX5_snapNow_1 6 rfl rfl)
theorem dX5_snapNow_33 : decode cX5_snapNow 33 = .ok (.ifCond .eq 6, 3) := dk_153 0 6 (dk_at dksX5_snapNow_1 9 rfl rfl)
theorem dX5_snapNow_36 : decode cX5_snapNow 36 = .ok (.bipush (-3), 2) := dk_16 253 (dk_at dksX5_snapNow_1 12 rfl rfl)
theorem dX5_snapNow_38 : decode cX5_snapNow 38 = .ok (.ireturn, 1) := dk_172 (dk_at dksX5_snapNow_1 14 rfl rfl)
theorem dX5_snapNow_39 : decode cX5_snapNow 39 = .ok (.aload_n 0, 1) := dk_42 (dk_at dksX5_snapNow_1 15 rfl rfl)
theorem dX5_snapNow_40 : decode cX5_snapNow 40 = .ok (.iconst 1, 1) := dk_4 (dk_at dksX5_snapNow_1 16 rfl rfl)
theorem dX5_snapNow_41 : decode cX5_snapNow 41 = .ok (.invokevirtual 465, 3) := dk_182 1 209 (dk_at dksX5_snapNow_1 17 rfl rfl)
theorem dX5_snapNow_44 : decode cX5_snapNow 44 = .ok (.aload_n 0, 1) := dk_42 (dk_at dksX5_snapNow_1 20 rfl rfl)
theorem dX5_snapNow_45 : decode cX5_snapNow 45 = .ok (.getfield 13, 3) := dk_180 0 13 (dk_at dksX5_snapNow_1 21 rfl rfl)
theorem dX5_snapNow_48 : decode cX5_snapNow 48 = .ok (.bipush 56, 2) := dk_16 56 (dk_at dksX5_snapNow_2 0 rfl rfl)
theorem dX5_snapNow_50 : decode cX5_snapNow 50 = .ok (.iload_n 2, 1) := dk_28 (dk_at dksX5_snapNow_2 2 rfl rfl)
theorem dX5_snapNow_51 : decode cX5_snapNow 51 = .ok (.iadd, 1) := dk_96 (dk_at dksX5_snapNow_2 3 rfl rfl)
theorem dX5_snapNow_52 : decode cX5_snapNow 52 = .ok (.dup2, 1) := dk_92 (dk_at dksX5_snapNow_2 4 rfl rfl)
theorem dX5_snapNow_53 : decode cX5_snapNow 53 = .ok (.iaload, 1) := dk_46 (dk_at dksX5_snapNow_2 5 rfl rfl)
theorem dX5_snapNow_54 : decode cX5_snapNow 54 = .ok (.iconst 1, 1) := dk_4 (dk_at dksX5_snapNow_2 6 rfl rfl)
theorem dX5_snapNow_55 : decode cX5_snapNow 55 = .ok (.iload_n 1, 1) := dk_27 (dk_at dksX5_snapNow_2 7 rfl rfl)
theorem dX5_snapNow_56 : decode cX5_snapNow 56 = .ok (.ishl, 1) := dk_120 (dk_at dksX5_snapNow_2 8 rfl rfl)
theorem dX5_snapNow_57 : decode cX5_snapNow 57 = .ok (.iadd, 1) := dk_96 (dk_at dksX5_snapNow_2 9 rfl rfl)
theorem dX5_snapNow_58 : decode cX5_snapNow 58 = .ok (.iastore, 1) := dk_79 (dk_at dksX5_snapNow_2 10 rfl rfl)
theorem dX5_snapNow_59 : decode cX5_snapNow 59 = .ok (.aload_n 0, 1) := dk_42 (dk_at dksX5_snapNow_2 11 rfl rfl)
theorem dX5_snapNow_60 : decode cX5_snapNow 60 = .ok (.iload_n 2, 1) := dk_28 (dk_at dksX5_snapNow_2 12 rfl rfl)
theorem dX5_snapNow_61 : decode cX5_snapNow 61 = .ok (.invokevirtual 219, 3) := dk_182 0 219 (dk_at dksX5_snapNow_2 13 rfl rfl)
theorem dX5_snapNow_64 : decode cX5_snapNow 64 = .ok (.ireturn, 1) := dk_172 (dk_at dksX5_snapNow_2 16 rfl rfl)
abbrev cX5_wed : ByteArray := prog_22_method_81_code
def yX5_wed : MethodName := ⟨RX5, "wed", "(II)I"⟩
def dkwX5_wed_0 : List UInt8 := [42, 3, 181, 0, 175, 42, 42, 27, 28, 182, 1, 219, 182, 0, 184, 172]
abbrev dktX5_wed_0 : List UInt8 := dkwX5_wed_0 ++ []
theorem dksX5_wed_0 : cX5_wed.data.toList.drop 0 = dktX5_wed_0 := by decide +kernel
theorem dX5_wed_0 : decode cX5_wed 0 = .ok (.aload_n 0, 1) := dk_42 (dk_at dksX5_wed_0 0 rfl rfl)
theorem dX5_wed_1 : decode cX5_wed 1 = .ok (.iconst 0, 1) := dk_3 (dk_at dksX5_wed_0 1 rfl rfl)
theorem dX5_wed_2 : decode cX5_wed 2 = .ok (.putfield 175, 3) := dk_181 0 175 (dk_at dksX5_wed_0 2 rfl rfl)
theorem dX5_wed_5 : decode cX5_wed 5 = .ok (.aload_n 0, 1) := dk_42 (dk_at dksX5_wed_0 5 rfl rfl)
theorem dX5_wed_6 : decode cX5_wed 6 = .ok (.aload_n 0, 1) := dk_42 (dk_at dksX5_wed_0 6 rfl rfl)
theorem dX5_wed_7 : decode cX5_wed 7 = .ok (.iload_n 1, 1) := dk_27 (dk_at dksX5_wed_0 7 rfl rfl)
theorem dX5_wed_8 : decode cX5_wed 8 = .ok (.iload_n 2, 1) := dk_28 (dk_at dksX5_wed_0 8 rfl rfl)
theorem dX5_wed_9 : decode cX5_wed 9 = .ok (.invokevirtual 475, 3) := dk_182 1 219 (dk_at dksX5_wed_0 9 rfl rfl)
theorem dX5_wed_12 : decode cX5_wed 12 = .ok (.invokevirtual 184, 3) := dk_182 0 184 (dk_at dksX5_wed_0 12 rfl rfl)
theorem dX5_wed_15 : decode cX5_wed 15 = .ok (.ireturn, 1) := dk_172 (dk_at dksX5_wed_0 15 rfl rfl)
abbrev cX5_wedNow : ByteArray := prog_22_method_80_code
def yX5_wedNow : MethodName := ⟨RX5, "wedNow", "(II)I"⟩
def dkwX5_wedNow_3 : List UInt8 := [16, 68, 27, 96, 28, 79, 42, 180, 0, 13, 16, 74, 27, 96, 29, 79, 29, 172]
abbrev dktX5_wedNow_3 : List UInt8 := dkwX5_wedNow_3 ++ []
def dkwX5_wedNow_2 : List UInt8 := [27, 28, 182, 0, 253, 154, 0, 7, 29, 154, 0, 6, 16, 253, 172, 42, 5, 182, 1, 209, 42, 180, 0, 13]
abbrev dktX5_wedNow_2 : List UInt8 := dkwX5_wedNow_2 ++ dktX5_wedNow_3
def dkwX5_wedNow_1 : List UInt8 := [62, 42, 180, 0, 13, 16, 68, 27, 96, 46, 2, 160, 0, 25, 42, 28, 182, 0, 244, 2, 160, 0, 16, 42]
abbrev dktX5_wedNow_1 : List UInt8 := dkwX5_wedNow_1 ++ dktX5_wedNow_2
def dkwX5_wedNow_0 : List UInt8 := [42, 27, 182, 0, 213, 153, 0, 11, 42, 28, 182, 0, 241, 154, 0, 6, 16, 254, 172, 42, 27, 182, 0, 222]
abbrev dktX5_wedNow_0 : List UInt8 := dkwX5_wedNow_0 ++ dktX5_wedNow_1
theorem dksX5_wedNow_0 : cX5_wedNow.data.toList.drop 0 = dktX5_wedNow_0 := by decide +kernel
theorem dksX5_wedNow_1 : cX5_wedNow.data.toList.drop 24 = dktX5_wedNow_1 := dk_seg dksX5_wedNow_0 24 rfl rfl
theorem dksX5_wedNow_2 : cX5_wedNow.data.toList.drop 48 = dktX5_wedNow_2 := dk_seg dksX5_wedNow_1 24 rfl rfl
theorem dksX5_wedNow_3 : cX5_wedNow.data.toList.drop 72 = dktX5_wedNow_3 := dk_seg dksX5_wedNow_2 24 rfl rfl
theorem dX5_wedNow_0 : decode cX5_wedNow 0 = .ok (.aload_n 0, 1) := dk_42 (dk_at dksX5_wedNow_0 0 rfl rfl)
theorem dX5_wedNow_1 : decode cX5_wedNow 1 = .ok (.iload_n 1, 1) := dk_27 (dk_at dksX5_wedNow_0 1 rfl rfl)
theorem dX5_wedNow_2 : decode cX5_wedNow 2 = .ok (.invokevirtual 213, 3) := dk_182 0 213 (dk_at dksX5_wedNow_0 2 rfl rfl)
theorem dX5_wedNow_5 : decode cX5_wedNow 5 = .ok (.ifCond .eq 11, 3) := dk_153 0 11 (dk_at dksX5_wedNow_0 5 rfl rfl)
theorem dX5_wedNow_8 : decode cX5_wedNow 8 = .ok (.aload_n 0, 1) := dk_42 (dk_at dksX5_wedNow_0 8 rfl rfl)
theorem dX5_wedNow_9 : decode cX5_wedNow 9 = .ok (.iload_n 2, 1) := dk_28 (dk_at dksX5_wedNow_0 9 rfl rfl)
theorem dX5_wedNow_10 : decode cX5_wedNow 10 = .ok (.invokevirtual 241, 3) := dk_182 0 241 (dk_at dksX5_wedNow_0 10 rfl rfl)
theorem dX5_wedNow_13 : decode cX5_wedNow 13 = .ok (.ifCond .ne 6, 3) := dk_154 0 6 (dk_at dksX5_wedNow_0 13 rfl rfl)
theorem dX5_wedNow_16 : decode cX5_wedNow 16 = .ok (.bipush (-2), 2) := dk_16 254 (dk_at dksX5_wedNow_0 16 rfl rfl)
theorem dX5_wedNow_18 : decode cX5_wedNow 18 = .ok (.ireturn, 1) := dk_172 (dk_at dksX5_wedNow_0 18 rfl rfl)
theorem dX5_wedNow_19 : decode cX5_wedNow 19 = .ok (.aload_n 0, 1) := dk_42 (dk_at dksX5_wedNow_0 19 rfl rfl)
theorem dX5_wedNow_20 : decode cX5_wedNow 20 = .ok (.iload_n 1, 1) := dk_27 (dk_at dksX5_wedNow_0 20 rfl rfl)
theorem dX5_wedNow_21 : decode cX5_wedNow 21 = .ok (.invokevirtual 222, 3) := dk_182 0 222 (dk_at dksX5_wedNow_0 21 rfl rfl)
theorem dX5_wedNow_24 : decode cX5_wedNow 24 = .ok (.istore_n 3, 1) := dk_62 (dk_at dksX5_wedNow_1 0 rfl rfl)
theorem dX5_wedNow_25 : decode cX5_wedNow 25 = .ok (.aload_n 0, 1) := dk_42 (dk_at dksX5_wedNow_1 1 rfl rfl)
theorem dX5_wedNow_26 : decode cX5_wedNow 26 = .ok (.getfield 13, 3) := dk_180 0 13 (dk_at dksX5_wedNow_1 2 rfl rfl)
theorem dX5_wedNow_29 : decode cX5_wedNow 29 = .ok (.bipush 68, 2) := dk_16 68 (dk_at dksX5_wedNow_1 5 rfl rfl)
theorem dX5_wedNow_31 : decode cX5_wedNow 31 = .ok (.iload_n 1, 1) := dk_27 (dk_at dksX5_wedNow_1 7 rfl rfl)
theorem dX5_wedNow_32 : decode cX5_wedNow 32 = .ok (.iadd, 1) := dk_96 (dk_at dksX5_wedNow_1 8 rfl rfl)
theorem dX5_wedNow_33 : decode cX5_wedNow 33 = .ok (.iaload, 1) := dk_46 (dk_at dksX5_wedNow_1 9 rfl rfl)
theorem dX5_wedNow_34 : decode cX5_wedNow 34 = .ok (.iconst (-1), 1) := dk_2 (dk_at dksX5_wedNow_1 10 rfl rfl)
theorem dX5_wedNow_35 : decode cX5_wedNow 35 = .ok (.if_icmp .ne 25, 3) := dk_160 0 25 (dk_at dksX5_wedNow_1 11 rfl rfl)
theorem dX5_wedNow_38 : decode cX5_wedNow 38 = .ok (.aload_n 0, 1) := dk_42 (dk_at dksX5_wedNow_1 14 rfl rfl)
theorem dX5_wedNow_39 : decode cX5_wedNow 39 = .ok (.iload_n 2, 1) := dk_28 (dk_at dksX5_wedNow_1 15 rfl rfl)
theorem dX5_wedNow_40 : decode cX5_wedNow 40 = .ok (.invokevirtual 244, 3) := dk_182 0 244 (dk_at dksX5_wedNow_1 16 rfl rfl)
theorem dX5_wedNow_43 : decode cX5_wedNow 43 = .ok (.iconst (-1), 1) := dk_2 (dk_at dksX5_wedNow_1 19 rfl rfl)
theorem dX5_wedNow_44 : decode cX5_wedNow 44 = .ok (.if_icmp .ne 16, 3) := dk_160 0 16 (dk_at dksX5_wedNow_1 20 rfl rfl)
theorem dX5_wedNow_47 : decode cX5_wedNow 47 = .ok (.aload_n 0, 1) := dk_42 (dk_at dksX5_wedNow_1 23 rfl rfl)
theorem dX5_wedNow_48 : decode cX5_wedNow 48 = .ok (.iload_n 1, 1) := dk_27 (dk_at dksX5_wedNow_2 0 rfl rfl)
theorem dX5_wedNow_49 : decode cX5_wedNow 49 = .ok (.iload_n 2, 1) := dk_28 (dk_at dksX5_wedNow_2 1 rfl rfl)
theorem dX5_wedNow_50 : decode cX5_wedNow 50 = .ok (.invokevirtual 253, 3) := dk_182 0 253 (dk_at dksX5_wedNow_2 2 rfl rfl)
theorem dX5_wedNow_53 : decode cX5_wedNow 53 = .ok (.ifCond .ne 7, 3) := dk_154 0 7 (dk_at dksX5_wedNow_2 5 rfl rfl)
theorem dX5_wedNow_56 : decode cX5_wedNow 56 = .ok (.iload_n 3, 1) := dk_29 (dk_at dksX5_wedNow_2 8 rfl rfl)
theorem dX5_wedNow_57 : decode cX5_wedNow 57 = .ok (.ifCond .ne 6, 3) := dk_154 0 6 (dk_at dksX5_wedNow_2 9 rfl rfl)
theorem dX5_wedNow_60 : decode cX5_wedNow 60 = .ok (.bipush (-3), 2) := dk_16 253 (dk_at dksX5_wedNow_2 12 rfl rfl)
theorem dX5_wedNow_62 : decode cX5_wedNow 62 = .ok (.ireturn, 1) := dk_172 (dk_at dksX5_wedNow_2 14 rfl rfl)
theorem dX5_wedNow_63 : decode cX5_wedNow 63 = .ok (.aload_n 0, 1) := dk_42 (dk_at dksX5_wedNow_2 15 rfl rfl)
theorem dX5_wedNow_64 : decode cX5_wedNow 64 = .ok (.iconst 2, 1) := dk_5 (dk_at dksX5_wedNow_2 16 rfl rfl)
theorem dX5_wedNow_65 : decode cX5_wedNow 65 = .ok (.invokevirtual 465, 3) := dk_182 1 209 (dk_at dksX5_wedNow_2 17 rfl rfl)
theorem dX5_wedNow_68 : decode cX5_wedNow 68 = .ok (.aload_n 0, 1) := dk_42 (dk_at dksX5_wedNow_2 20 rfl rfl)
theorem dX5_wedNow_69 : decode cX5_wedNow 69 = .ok (.getfield 13, 3) := dk_180 0 13 (dk_at dksX5_wedNow_2 21 rfl rfl)
theorem dX5_wedNow_72 : decode cX5_wedNow 72 = .ok (.bipush 68, 2) := dk_16 68 (dk_at dksX5_wedNow_3 0 rfl rfl)
theorem dX5_wedNow_74 : decode cX5_wedNow 74 = .ok (.iload_n 1, 1) := dk_27 (dk_at dksX5_wedNow_3 2 rfl rfl)
theorem dX5_wedNow_75 : decode cX5_wedNow 75 = .ok (.iadd, 1) := dk_96 (dk_at dksX5_wedNow_3 3 rfl rfl)
theorem dX5_wedNow_76 : decode cX5_wedNow 76 = .ok (.iload_n 2, 1) := dk_28 (dk_at dksX5_wedNow_3 4 rfl rfl)
theorem dX5_wedNow_77 : decode cX5_wedNow 77 = .ok (.iastore, 1) := dk_79 (dk_at dksX5_wedNow_3 5 rfl rfl)
theorem dX5_wedNow_78 : decode cX5_wedNow 78 = .ok (.aload_n 0, 1) := dk_42 (dk_at dksX5_wedNow_3 6 rfl rfl)
theorem dX5_wedNow_79 : decode cX5_wedNow 79 = .ok (.getfield 13, 3) := dk_180 0 13 (dk_at dksX5_wedNow_3 7 rfl rfl)
theorem dX5_wedNow_82 : decode cX5_wedNow 82 = .ok (.bipush 74, 2) := dk_16 74 (dk_at dksX5_wedNow_3 10 rfl rfl)
theorem dX5_wedNow_84 : decode cX5_wedNow 84 = .ok (.iload_n 1, 1) := dk_27 (dk_at dksX5_wedNow_3 12 rfl rfl)
theorem dX5_wedNow_85 : decode cX5_wedNow 85 = .ok (.iadd, 1) := dk_96 (dk_at dksX5_wedNow_3 13 rfl rfl)
theorem dX5_wedNow_86 : decode cX5_wedNow 86 = .ok (.iload_n 3, 1) := dk_29 (dk_at dksX5_wedNow_3 14 rfl rfl)
theorem dX5_wedNow_87 : decode cX5_wedNow 87 = .ok (.iastore, 1) := dk_79 (dk_at dksX5_wedNow_3 15 rfl rfl)
theorem dX5_wedNow_88 : decode cX5_wedNow 88 = .ok (.iload_n 3, 1) := dk_29 (dk_at dksX5_wedNow_3 16 rfl rfl)
theorem dX5_wedNow_89 : decode cX5_wedNow 89 = .ok (.ireturn, 1) := dk_172 (dk_at dksX5_wedNow_3 17 rfl rfl)
abbrev cX5_pass : ByteArray := prog_22_method_84_code
def yX5_pass : MethodName := ⟨RX5, "pass", "()I"⟩
def dkwX5_pass_0 : List UInt8 := [42, 3, 181, 0, 175, 42, 42, 182, 1, 225, 182, 0, 184, 172]
abbrev dktX5_pass_0 : List UInt8 := dkwX5_pass_0 ++ []
theorem dksX5_pass_0 : cX5_pass.data.toList.drop 0 = dktX5_pass_0 := by decide +kernel
theorem dX5_pass_0 : decode cX5_pass 0 = .ok (.aload_n 0, 1) := dk_42 (dk_at dksX5_pass_0 0 rfl rfl)
theorem dX5_pass_1 : decode cX5_pass 1 = .ok (.iconst 0, 1) := dk_3 (dk_at dksX5_pass_0 1 rfl rfl)
theorem dX5_pass_2 : decode cX5_pass 2 = .ok (.putfield 175, 3) := dk_181 0 175 (dk_at dksX5_pass_0 2 rfl rfl)
theorem dX5_pass_5 : decode cX5_pass 5 = .ok (.aload_n 0, 1) := dk_42 (dk_at dksX5_pass_0 5 rfl rfl)
theorem dX5_pass_6 : decode cX5_pass 6 = .ok (.aload_n 0, 1) := dk_42 (dk_at dksX5_pass_0 6 rfl rfl)
theorem dX5_pass_7 : decode cX5_pass 7 = .ok (.invokevirtual 481, 3) := dk_182 1 225 (dk_at dksX5_pass_0 7 rfl rfl)
theorem dX5_pass_10 : decode cX5_pass 10 = .ok (.invokevirtual 184, 3) := dk_182 0 184 (dk_at dksX5_pass_0 10 rfl rfl)
theorem dX5_pass_13 : decode cX5_pass 13 = .ok (.ireturn, 1) := dk_172 (dk_at dksX5_pass_0 13 rfl rfl)
abbrev cX5_passNow : ByteArray := prog_22_method_83_code
def yX5_passNow : MethodName := ⟨RX5, "passNow", "()I"⟩
def dkwX5_passNow_1 : List UInt8 := [87, 42, 180, 0, 13, 8, 46, 172]
abbrev dktX5_passNow_1 : List UInt8 := dkwX5_passNow_1 ++ []
def dkwX5_passNow_0 : List UInt8 := [42, 180, 0, 13, 8, 46, 17, 3, 231, 160, 0, 6, 16, 253, 172, 42, 6, 182, 1, 209, 42, 182, 1, 222]
abbrev dktX5_passNow_0 : List UInt8 := dkwX5_passNow_0 ++ dktX5_passNow_1
theorem dksX5_passNow_0 : cX5_passNow.data.toList.drop 0 = dktX5_passNow_0 := by decide +kernel
theorem dksX5_passNow_1 : cX5_passNow.data.toList.drop 24 = dktX5_passNow_1 := dk_seg dksX5_passNow_0 24 rfl rfl
theorem dX5_passNow_0 : decode cX5_passNow 0 = .ok (.aload_n 0, 1) := dk_42 (dk_at dksX5_passNow_0 0 rfl rfl)
theorem dX5_passNow_1 : decode cX5_passNow 1 = .ok (.getfield 13, 3) := dk_180 0 13 (dk_at dksX5_passNow_0 1 rfl rfl)
theorem dX5_passNow_4 : decode cX5_passNow 4 = .ok (.iconst 5, 1) := dk_8 (dk_at dksX5_passNow_0 4 rfl rfl)
theorem dX5_passNow_5 : decode cX5_passNow 5 = .ok (.iaload, 1) := dk_46 (dk_at dksX5_passNow_0 5 rfl rfl)
theorem dX5_passNow_6 : decode cX5_passNow 6 = .ok (.sipush 999, 3) := dk_17 3 231 (dk_at dksX5_passNow_0 6 rfl rfl)
theorem dX5_passNow_9 : decode cX5_passNow 9 = .ok (.if_icmp .ne 6, 3) := dk_160 0 6 (dk_at dksX5_passNow_0 9 rfl rfl)
theorem dX5_passNow_12 : decode cX5_passNow 12 = .ok (.bipush (-3), 2) := dk_16 253 (dk_at dksX5_passNow_0 12 rfl rfl)
theorem dX5_passNow_14 : decode cX5_passNow 14 = .ok (.ireturn, 1) := dk_172 (dk_at dksX5_passNow_0 14 rfl rfl)
theorem dX5_passNow_15 : decode cX5_passNow 15 = .ok (.aload_n 0, 1) := dk_42 (dk_at dksX5_passNow_0 15 rfl rfl)
theorem dX5_passNow_16 : decode cX5_passNow 16 = .ok (.iconst 3, 1) := dk_6 (dk_at dksX5_passNow_0 16 rfl rfl)
theorem dX5_passNow_17 : decode cX5_passNow 17 = .ok (.invokevirtual 465, 3) := dk_182 1 209 (dk_at dksX5_passNow_0 17 rfl rfl)
theorem dX5_passNow_20 : decode cX5_passNow 20 = .ok (.aload_n 0, 1) := dk_42 (dk_at dksX5_passNow_0 20 rfl rfl)
theorem dX5_passNow_21 : decode cX5_passNow 21 = .ok (.invokevirtual 478, 3) := dk_182 1 222 (dk_at dksX5_passNow_0 21 rfl rfl)
theorem dX5_passNow_24 : decode cX5_passNow 24 = .ok (.pop, 1) := dk_87 (dk_at dksX5_passNow_1 0 rfl rfl)
theorem dX5_passNow_25 : decode cX5_passNow 25 = .ok (.aload_n 0, 1) := dk_42 (dk_at dksX5_passNow_1 1 rfl rfl)
theorem dX5_passNow_26 : decode cX5_passNow 26 = .ok (.getfield 13, 3) := dk_180 0 13 (dk_at dksX5_passNow_1 2 rfl rfl)
theorem dX5_passNow_29 : decode cX5_passNow 29 = .ok (.iconst 5, 1) := dk_8 (dk_at dksX5_passNow_1 5 rfl rfl)
theorem dX5_passNow_30 : decode cX5_passNow 30 = .ok (.iaload, 1) := dk_46 (dk_at dksX5_passNow_1 6 rfl rfl)
theorem dX5_passNow_31 : decode cX5_passNow 31 = .ok (.ireturn, 1) := dk_172 (dk_at dksX5_passNow_1 7 rfl rfl)
abbrev cX5_passIt : ByteArray := prog_22_method_82_code
def yX5_passIt : MethodName := ⟨RX5, "passIt", "()I"⟩
def dkwX5_passIt_7 : List UInt8 := [92, 46, 4, 96, 79, 27, 172]
abbrev dktX5_passIt_7 : List UInt8 := dkwX5_passIt_7 ++ []
def dkwX5_passIt_6 : List UInt8 := [167, 0, 12, 42, 180, 0, 13, 16, 68, 28, 96, 46, 79, 132, 2, 1, 167, 255, 131, 42, 180, 0, 13, 8]
abbrev dktX5_passIt_6 : List UInt8 := dkwX5_passIt_6 ++ dktX5_passIt_7
def dkwX5_passIt_5 : List UInt8 := [96, 60, 42, 180, 0, 13, 16, 68, 28, 96, 42, 180, 0, 13, 16, 74, 28, 96, 46, 154, 0, 7, 2]
abbrev dktX5_passIt_5 : List UInt8 := dkwX5_passIt_5 ++ dktX5_passIt_6
def dkwX5_passIt_4 : List UInt8 := [96, 92, 46, 4, 100, 79, 27, 42, 180, 0, 13, 16, 74, 28, 96, 46, 154, 0, 7, 4, 167, 0, 4, 3]
abbrev dktX5_passIt_4 : List UInt8 := dkwX5_passIt_4 ++ dktX5_passIt_5
def dkwX5_passIt_3 : List UInt8 := [184, 1, 198, 79, 42, 180, 0, 13, 16, 68, 28, 96, 46, 2, 159, 0, 70, 42, 180, 0, 13, 16, 74, 28]
abbrev dktX5_passIt_3 : List UInt8 := dkwX5_passIt_3 ++ dktX5_passIt_4
def dkwX5_passIt_2 : List UInt8 := [16, 62, 28, 96, 42, 180, 0, 13, 16, 62, 28, 96, 46, 42, 180, 0, 110, 28, 46, 100, 133, 3, 16, 20]
abbrev dktX5_passIt_2 : List UInt8 := dkwX5_passIt_2 ++ dktX5_passIt_3
def dkwX5_passIt_1 : List UInt8 := [132, 1, 1, 167, 255, 232, 3, 60, 3, 61, 28, 42, 180, 0, 13, 3, 46, 162, 0, 121, 42, 180, 0, 13]
abbrev dktX5_passIt_1 : List UInt8 := dkwX5_passIt_1 ++ dktX5_passIt_2
def dkwX5_passIt_0 : List UInt8 := [3, 60, 27, 42, 180, 0, 13, 3, 46, 162, 0, 20, 42, 180, 0, 110, 27, 42, 27, 182, 0, 225, 79]
abbrev dktX5_passIt_0 : List UInt8 := dkwX5_passIt_0 ++ dktX5_passIt_1
theorem dksX5_passIt_0 : cX5_passIt.data.toList.drop 0 = dktX5_passIt_0 := by decide +kernel
theorem dksX5_passIt_1 : cX5_passIt.data.toList.drop 23 = dktX5_passIt_1 := dk_seg dksX5_passIt_0 23 rfl rfl
theorem dksX5_passIt_2 : cX5_passIt.data.toList.drop 47 = dktX5_passIt_2 := dk_seg dksX5_passIt_1 24 rfl rfl
theorem dksX5_passIt_3 : cX5_passIt.data.toList.drop 71 = dktX5_passIt_3 := dk_seg dksX5_passIt_2 24 rfl rfl
theorem dksX5_passIt_4 : cX5_passIt.data.toList.drop 95 = dktX5_passIt_4 := dk_seg dksX5_passIt_3 24 rfl rfl
theorem dksX5_passIt_5 : cX5_passIt.data.toList.drop 119 = dktX5_passIt_5 := dk_seg dksX5_passIt_4 24 rfl rfl
theorem dksX5_passIt_6 : cX5_passIt.data.toList.drop 142 = dktX5_passIt_6 := dk_seg dksX5_passIt_5 23 rfl rfl
theorem dksX5_passIt_7 : cX5_passIt.data.toList.drop 166 = dktX5_passIt_7 := dk_seg dksX5_passIt_6 24 rfl rfl
theorem dX5_passIt_0 : decode cX5_passIt 0 = .ok (.iconst 0, 1) := dk_3 (dk_at dksX5_passIt_0 0 rfl rfl)
theorem dX5_passIt_1 : decode cX5_passIt 1 = .ok (.istore_n 1, 1) := dk_60 (dk_at dksX5_passIt_0 1 rfl rfl)
theorem dX5_passIt_2 : decode cX5_passIt 2 = .ok (.iload_n 1, 1) := dk_27 (dk_at dksX5_passIt_0 2 rfl rfl)
theorem dX5_passIt_3 : decode cX5_passIt 3 = .ok (.aload_n 0, 1) := dk_42 (dk_at dksX5_passIt_0 3 rfl rfl)
theorem dX5_passIt_4 : decode cX5_passIt 4 = .ok (.getfield 13, 3) := dk_180 0 13 (dk_at dksX5_passIt_0 4 rfl rfl)
theorem dX5_passIt_7 : decode cX5_passIt 7 = .ok (.iconst 0, 1) := dk_3 (dk_at dksX5_passIt_0 7 rfl rfl)
theorem dX5_passIt_8 : decode cX5_passIt 8 = .ok (.iaload, 1) := dk_46 (dk_at dksX5_passIt_0 8 rfl rfl)
theorem dX5_passIt_9 : decode cX5_passIt 9 = .ok (.if_icmp .ge 20, 3) := dk_162 0 20 (dk_at dksX5_passIt_0 9 rfl rfl)
theorem dX5_passIt_12 : decode cX5_passIt 12 = .ok (.aload_n 0, 1) := dk_42 (dk_at dksX5_passIt_0 12 rfl rfl)
theorem dX5_passIt_13 : decode cX5_passIt 13 = .ok (.getfield 110, 3) := dk_180 0 110 (dk_at dksX5_passIt_0 13 rfl rfl)
theorem dX5_passIt_16 : decode cX5_passIt 16 = .ok (.iload_n 1, 1) := dk_27 (dk_at dksX5_passIt_0 16 rfl rfl)
theorem dX5_passIt_17 : decode cX5_passIt 17 = .ok (.aload_n 0, 1) := dk_42 (dk_at dksX5_passIt_0 17 rfl rfl)
theorem dX5_passIt_18 : decode cX5_passIt 18 = .ok (.iload_n 1, 1) := dk_27 (dk_at dksX5_passIt_0 18 rfl rfl)
theorem dX5_passIt_19 : decode cX5_passIt 19 = .ok (.invokevirtual 225, 3) := dk_182 0 225 (dk_at dksX5_passIt_0 19 rfl rfl)
theorem dX5_passIt_22 : decode cX5_passIt 22 = .ok (.iastore, 1) := dk_79 (dk_at dksX5_passIt_0 22 rfl rfl)
theorem dX5_passIt_23 : decode cX5_passIt 23 = .ok (.iinc 1 1, 3) := dk_132 1 1 (dk_at dksX5_passIt_1 0 rfl rfl)
theorem dX5_passIt_26 : decode cX5_passIt 26 = .ok (.goto (-24), 3) := dk_167 255 232 (dk_at dksX5_passIt_1 3 rfl rfl)
theorem dX5_passIt_29 : decode cX5_passIt 29 = .ok (.iconst 0, 1) := dk_3 (dk_at dksX5_passIt_1 6 rfl rfl)
theorem dX5_passIt_30 : decode cX5_passIt 30 = .ok (.istore_n 1, 1) := dk_60 (dk_at dksX5_passIt_1 7 rfl rfl)
theorem dX5_passIt_31 : decode cX5_passIt 31 = .ok (.iconst 0, 1) := dk_3 (dk_at dksX5_passIt_1 8 rfl rfl)
theorem dX5_passIt_32 : decode cX5_passIt 32 = .ok (.istore_n 2, 1) := dk_61 (dk_at dksX5_passIt_1 9 rfl rfl)
theorem dX5_passIt_33 : decode cX5_passIt 33 = .ok (.iload_n 2, 1) := dk_28 (dk_at dksX5_passIt_1 10 rfl rfl)
theorem dX5_passIt_34 : decode cX5_passIt 34 = .ok (.aload_n 0, 1) := dk_42 (dk_at dksX5_passIt_1 11 rfl rfl)
theorem dX5_passIt_35 : decode cX5_passIt 35 = .ok (.getfield 13, 3) := dk_180 0 13 (dk_at dksX5_passIt_1 12 rfl rfl)
theorem dX5_passIt_38 : decode cX5_passIt 38 = .ok (.iconst 0, 1) := dk_3 (dk_at dksX5_passIt_1 15 rfl rfl)
theorem dX5_passIt_39 : decode cX5_passIt 39 = .ok (.iaload, 1) := dk_46 (dk_at dksX5_passIt_1 16 rfl rfl)
theorem dX5_passIt_40 : decode cX5_passIt 40 = .ok (.if_icmp .ge 121, 3) := dk_162 0 121 (dk_at dksX5_passIt_1 17 rfl rfl)
theorem dX5_passIt_43 : decode cX5_passIt 43 = .ok (.aload_n 0, 1) := dk_42 (dk_at dksX5_passIt_1 20 rfl rfl)
theorem dX5_passIt_44 : decode cX5_passIt 44 = .ok (.getfield 13, 3) := dk_180 0 13 (dk_at dksX5_passIt_1 21 rfl rfl)
theorem dX5_passIt_47 : decode cX5_passIt 47 = .ok (.bipush 62, 2) := dk_16 62 (dk_at dksX5_passIt_2 0 rfl rfl)
theorem dX5_passIt_49 : decode cX5_passIt 49 = .ok (.iload_n 2, 1) := dk_28 (dk_at dksX5_passIt_2 2 rfl rfl)
theorem dX5_passIt_50 : decode cX5_passIt 50 = .ok (.iadd, 1) := dk_96 (dk_at dksX5_passIt_2 3 rfl rfl)
theorem dX5_passIt_51 : decode cX5_passIt 51 = .ok (.aload_n 0, 1) := dk_42 (dk_at dksX5_passIt_2 4 rfl rfl)
theorem dX5_passIt_52 : decode cX5_passIt 52 = .ok (.getfield 13, 3) := dk_180 0 13 (dk_at dksX5_passIt_2 5 rfl rfl)
theorem dX5_passIt_55 : decode cX5_passIt 55 = .ok (.bipush 62, 2) := dk_16 62 (dk_at dksX5_passIt_2 8 rfl rfl)
theorem dX5_passIt_57 : decode cX5_passIt 57 = .ok (.iload_n 2, 1) := dk_28 (dk_at dksX5_passIt_2 10 rfl rfl)
theorem dX5_passIt_58 : decode cX5_passIt 58 = .ok (.iadd, 1) := dk_96 (dk_at dksX5_passIt_2 11 rfl rfl)
theorem dX5_passIt_59 : decode cX5_passIt 59 = .ok (.iaload, 1) := dk_46 (dk_at dksX5_passIt_2 12 rfl rfl)
theorem dX5_passIt_60 : decode cX5_passIt 60 = .ok (.aload_n 0, 1) := dk_42 (dk_at dksX5_passIt_2 13 rfl rfl)
theorem dX5_passIt_61 : decode cX5_passIt 61 = .ok (.getfield 110, 3) := dk_180 0 110 (dk_at dksX5_passIt_2 14 rfl rfl)
theorem dX5_passIt_64 : decode cX5_passIt 64 = .ok (.iload_n 2, 1) := dk_28 (dk_at dksX5_passIt_2 17 rfl rfl)
theorem dX5_passIt_65 : decode cX5_passIt 65 = .ok (.iaload, 1) := dk_46 (dk_at dksX5_passIt_2 18 rfl rfl)
theorem dX5_passIt_66 : decode cX5_passIt 66 = .ok (.isub, 1) := dk_100 (dk_at dksX5_passIt_2 19 rfl rfl)
theorem dX5_passIt_67 : decode cX5_passIt 67 = .ok (.i2l, 1) := dk_133 (dk_at dksX5_passIt_2 20 rfl rfl)
theorem dX5_passIt_68 : decode cX5_passIt 68 = .ok (.iconst 0, 1) := dk_3 (dk_at dksX5_passIt_2 21 rfl rfl)
theorem dX5_passIt_69 : decode cX5_passIt 69 = .ok (.bipush 20, 2) := dk_16 20 (dk_at dksX5_passIt_2 22 rfl rfl)
theorem dX5_passIt_71 : decode cX5_passIt 71 = .ok (.invokestatic 454, 3) := dk_184 1 198 (dk_at dksX5_passIt_3 0 rfl rfl)
theorem dX5_passIt_74 : decode cX5_passIt 74 = .ok (.iastore, 1) := dk_79 (dk_at dksX5_passIt_3 3 rfl rfl)
theorem dX5_passIt_75 : decode cX5_passIt 75 = .ok (.aload_n 0, 1) := dk_42 (dk_at dksX5_passIt_3 4 rfl rfl)
theorem dX5_passIt_76 : decode cX5_passIt 76 = .ok (.getfield 13, 3) := dk_180 0 13 (dk_at dksX5_passIt_3 5 rfl rfl)
theorem dX5_passIt_79 : decode cX5_passIt 79 = .ok (.bipush 68, 2) := dk_16 68 (dk_at dksX5_passIt_3 8 rfl rfl)
theorem dX5_passIt_81 : decode cX5_passIt 81 = .ok (.iload_n 2, 1) := dk_28 (dk_at dksX5_passIt_3 10 rfl rfl)
theorem dX5_passIt_82 : decode cX5_passIt 82 = .ok (.iadd, 1) := dk_96 (dk_at dksX5_passIt_3 11 rfl rfl)
theorem dX5_passIt_83 : decode cX5_passIt 83 = .ok (.iaload, 1) := dk_46 (dk_at dksX5_passIt_3 12 rfl rfl)
theorem dX5_passIt_84 : decode cX5_passIt 84 = .ok (.iconst (-1), 1) := dk_2 (dk_at dksX5_passIt_3 13 rfl rfl)
theorem dX5_passIt_85 : decode cX5_passIt 85 = .ok (.if_icmp .eq 70, 3) := dk_159 0 70 (dk_at dksX5_passIt_3 14 rfl rfl)
theorem dX5_passIt_88 : decode cX5_passIt 88 = .ok (.aload_n 0, 1) := dk_42 (dk_at dksX5_passIt_3 17 rfl rfl)
theorem dX5_passIt_89 : decode cX5_passIt 89 = .ok (.getfield 13, 3) := dk_180 0 13 (dk_at dksX5_passIt_3 18 rfl rfl)
theorem dX5_passIt_92 : decode cX5_passIt 92 = .ok (.bipush 74, 2) := dk_16 74 (dk_at dksX5_passIt_3 21 rfl rfl)
theorem dX5_passIt_94 : decode cX5_passIt 94 = .ok (.iload_n 2, 1) := dk_28 (dk_at dksX5_passIt_3 23 rfl rfl)
theorem dX5_passIt_95 : decode cX5_passIt 95 = .ok (.iadd, 1) := dk_96 (dk_at dksX5_passIt_4 0 rfl rfl)
theorem dX5_passIt_96 : decode cX5_passIt 96 = .ok (.dup2, 1) := dk_92 (dk_at dksX5_passIt_4 1 rfl rfl)
theorem dX5_passIt_97 : decode cX5_passIt 97 = .ok (.iaload, 1) := dk_46 (dk_at dksX5_passIt_4 2 rfl rfl)
theorem dX5_passIt_98 : decode cX5_passIt 98 = .ok (.iconst 1, 1) := dk_4 (dk_at dksX5_passIt_4 3 rfl rfl)
theorem dX5_passIt_99 : decode cX5_passIt 99 = .ok (.isub, 1) := dk_100 (dk_at dksX5_passIt_4 4 rfl rfl)
theorem dX5_passIt_100 : decode cX5_passIt 100 = .ok (.iastore, 1) := dk_79 (dk_at dksX5_passIt_4 5 rfl rfl)
theorem dX5_passIt_101 : decode cX5_passIt 101 = .ok (.iload_n 1, 1) := dk_27 (dk_at dksX5_passIt_4 6 rfl rfl)
theorem dX5_passIt_102 : decode cX5_passIt 102 = .ok (.aload_n 0, 1) := dk_42 (dk_at dksX5_passIt_4 7 rfl rfl)
theorem dX5_passIt_103 : decode cX5_passIt 103 = .ok (.getfield 13, 3) := dk_180 0 13 (dk_at dksX5_passIt_4 8 rfl rfl)
theorem dX5_passIt_106 : decode cX5_passIt 106 = .ok (.bipush 74, 2) := dk_16 74 (dk_at dksX5_passIt_4 11 rfl rfl)
theorem dX5_passIt_108 : decode cX5_passIt 108 = .ok (.iload_n 2, 1) := dk_28 (dk_at dksX5_passIt_4 13 rfl rfl)
theorem dX5_passIt_109 : decode cX5_passIt 109 = .ok (.iadd, 1) := dk_96 (dk_at dksX5_passIt_4 14 rfl rfl)
theorem dX5_passIt_110 : decode cX5_passIt 110 = .ok (.iaload, 1) := dk_46 (dk_at dksX5_passIt_4 15 rfl rfl)
theorem dX5_passIt_111 : decode cX5_passIt 111 = .ok (.ifCond .ne 7, 3) := dk_154 0 7 (dk_at dksX5_passIt_4 16 rfl rfl)
theorem dX5_passIt_114 : decode cX5_passIt 114 = .ok (.iconst 1, 1) := dk_4 (dk_at dksX5_passIt_4 19 rfl rfl)
theorem dX5_passIt_115 : decode cX5_passIt 115 = .ok (.goto 4, 3) := dk_167 0 4 (dk_at dksX5_passIt_4 20 rfl rfl)
theorem dX5_passIt_118 : decode cX5_passIt 118 = .ok (.iconst 0, 1) := dk_3 (dk_at dksX5_passIt_4 23 rfl rfl)
theorem dX5_passIt_119 : decode cX5_passIt 119 = .ok (.iadd, 1) := dk_96 (dk_at dksX5_passIt_5 0 rfl rfl)
theorem dX5_passIt_120 : decode cX5_passIt 120 = .ok (.istore_n 1, 1) := dk_60 (dk_at dksX5_passIt_5 1 rfl rfl)
theorem dX5_passIt_121 : decode cX5_passIt 121 = .ok (.aload_n 0, 1) := dk_42 (dk_at dksX5_passIt_5 2 rfl rfl)
theorem dX5_passIt_122 : decode cX5_passIt 122 = .ok (.getfield 13, 3) := dk_180 0 13 (dk_at dksX5_passIt_5 3 rfl rfl)
theorem dX5_passIt_125 : decode cX5_passIt 125 = .ok (.bipush 68, 2) := dk_16 68 (dk_at dksX5_passIt_5 6 rfl rfl)
theorem dX5_passIt_127 : decode cX5_passIt 127 = .ok (.iload_n 2, 1) := dk_28 (dk_at dksX5_passIt_5 8 rfl rfl)
theorem dX5_passIt_128 : decode cX5_passIt 128 = .ok (.iadd, 1) := dk_96 (dk_at dksX5_passIt_5 9 rfl rfl)
theorem dX5_passIt_129 : decode cX5_passIt 129 = .ok (.aload_n 0, 1) := dk_42 (dk_at dksX5_passIt_5 10 rfl rfl)
theorem dX5_passIt_130 : decode cX5_passIt 130 = .ok (.getfield 13, 3) := dk_180 0 13 (dk_at dksX5_passIt_5 11 rfl rfl)
theorem dX5_passIt_133 : decode cX5_passIt 133 = .ok (.bipush 74, 2) := dk_16 74 (dk_at dksX5_passIt_5 14 rfl rfl)
theorem dX5_passIt_135 : decode cX5_passIt 135 = .ok (.iload_n 2, 1) := dk_28 (dk_at dksX5_passIt_5 16 rfl rfl)
theorem dX5_passIt_136 : decode cX5_passIt 136 = .ok (.iadd, 1) := dk_96 (dk_at dksX5_passIt_5 17 rfl rfl)
theorem dX5_passIt_137 : decode cX5_passIt 137 = .ok (.iaload, 1) := dk_46 (dk_at dksX5_passIt_5 18 rfl rfl)
theorem dX5_passIt_138 : decode cX5_passIt 138 = .ok (.ifCond .ne 7, 3) := dk_154 0 7 (dk_at dksX5_passIt_5 19 rfl rfl)
theorem dX5_passIt_141 : decode cX5_passIt 141 = .ok (.iconst (-1), 1) := dk_2 (dk_at dksX5_passIt_5 22 rfl rfl)
theorem dX5_passIt_142 : decode cX5_passIt 142 = .ok (.goto 12, 3) := dk_167 0 12 (dk_at dksX5_passIt_6 0 rfl rfl)
theorem dX5_passIt_145 : decode cX5_passIt 145 = .ok (.aload_n 0, 1) := dk_42 (dk_at dksX5_passIt_6 3 rfl rfl)
theorem dX5_passIt_146 : decode cX5_passIt 146 = .ok (.getfield 13, 3) := dk_180 0 13 (dk_at dksX5_passIt_6 4 rfl rfl)
theorem dX5_passIt_149 : decode cX5_passIt 149 = .ok (.bipush 68, 2) := dk_16 68 (dk_at dksX5_passIt_6 7 rfl rfl)
theorem dX5_passIt_151 : decode cX5_passIt 151 = .ok (.iload_n 2, 1) := dk_28 (dk_at dksX5_passIt_6 9 rfl rfl)
theorem dX5_passIt_152 : decode cX5_passIt 152 = .ok (.iadd, 1) := dk_96 (dk_at dksX5_passIt_6 10 rfl rfl)
theorem dX5_passIt_153 : decode cX5_passIt 153 = .ok (.iaload, 1) := dk_46 (dk_at dksX5_passIt_6 11 rfl rfl)
theorem dX5_passIt_154 : decode cX5_passIt 154 = .ok (.iastore, 1) := dk_79 (dk_at dksX5_passIt_6 12 rfl rfl)
theorem dX5_passIt_155 : decode cX5_passIt 155 = .ok (.iinc 2 1, 3) := dk_132 2 1 (dk_at dksX5_passIt_6 13 rfl rfl)
theorem dX5_passIt_158 : decode cX5_passIt 158 = .ok (.goto (-125), 3) := dk_167 255 131 (dk_at dksX5_passIt_6 16 rfl rfl)
theorem dX5_passIt_161 : decode cX5_passIt 161 = .ok (.aload_n 0, 1) := dk_42 (dk_at dksX5_passIt_6 19 rfl rfl)
theorem dX5_passIt_162 : decode cX5_passIt 162 = .ok (.getfield 13, 3) := dk_180 0 13 (dk_at dksX5_passIt_6 20 rfl rfl)
theorem dX5_passIt_165 : decode cX5_passIt 165 = .ok (.iconst 5, 1) := dk_8 (dk_at dksX5_passIt_6 23 rfl rfl)
theorem dX5_passIt_166 : decode cX5_passIt 166 = .ok (.dup2, 1) := dk_92 (dk_at dksX5_passIt_7 0 rfl rfl)
theorem dX5_passIt_167 : decode cX5_passIt 167 = .ok (.iaload, 1) := dk_46 (dk_at dksX5_passIt_7 1 rfl rfl)
theorem dX5_passIt_168 : decode cX5_passIt 168 = .ok (.iconst 1, 1) := dk_4 (dk_at dksX5_passIt_7 2 rfl rfl)
theorem dX5_passIt_169 : decode cX5_passIt 169 = .ok (.iadd, 1) := dk_96 (dk_at dksX5_passIt_7 3 rfl rfl)
theorem dX5_passIt_170 : decode cX5_passIt 170 = .ok (.iastore, 1) := dk_79 (dk_at dksX5_passIt_7 4 rfl rfl)
theorem dX5_passIt_171 : decode cX5_passIt 171 = .ok (.iload_n 1, 1) := dk_27 (dk_at dksX5_passIt_7 5 rfl rfl)
theorem dX5_passIt_172 : decode cX5_passIt 172 = .ok (.ireturn, 1) := dk_172 (dk_at dksX5_passIt_7 6 rfl rfl)
abbrev cX5_hear : ByteArray := prog_22_method_85_code
def yX5_hear : MethodName := ⟨RX5, "hear", "(III)I"⟩
def dkwX5_hear_4 : List UInt8 := [96, 5, 96, 29, 79, 42, 180, 0, 13, 5, 92, 46, 4, 96, 79, 42, 21, 4, 4, 96, 182, 0, 184, 172]
abbrev dktX5_hear_4 : List UInt8 := dkwX5_hear_4 ++ []
def dkwX5_hear_3 : List UInt8 := [180, 0, 13, 16, 92, 6, 21, 4, 104, 96, 4, 96, 28, 79, 42, 180, 0, 13, 16, 92, 6, 21, 4, 104]
abbrev dktX5_hear_3 : List UInt8 := dkwX5_hear_3 ++ dktX5_hear_4
def dkwX5_hear_2 : List UInt8 := [160, 0, 10, 42, 16, 251, 182, 0, 184, 172, 42, 180, 0, 13, 16, 92, 6, 21, 4, 104, 96, 27, 79, 42]
abbrev dktX5_hear_2 : List UInt8 := dkwX5_hear_2 ++ dktX5_hear_3
def dkwX5_hear_1 : List UInt8 := [184, 0, 195, 154, 0, 9, 42, 2, 182, 0, 184, 172, 42, 180, 0, 13, 5, 46, 54, 4, 21, 4, 16, 8]
abbrev dktX5_hear_1 : List UInt8 := dkwX5_hear_1 ++ dktX5_hear_2
def dkwX5_hear_0 : List UInt8 := [42, 3, 181, 0, 175, 27, 184, 0, 228, 153, 0, 20, 28, 184, 0, 236, 153, 0, 13, 29, 133, 9, 10]
abbrev dktX5_hear_0 : List UInt8 := dkwX5_hear_0 ++ dktX5_hear_1
theorem dksX5_hear_0 : cX5_hear.data.toList.drop 0 = dktX5_hear_0 := by decide +kernel
theorem dksX5_hear_1 : cX5_hear.data.toList.drop 23 = dktX5_hear_1 := dk_seg dksX5_hear_0 23 rfl rfl
theorem dksX5_hear_2 : cX5_hear.data.toList.drop 47 = dktX5_hear_2 := dk_seg dksX5_hear_1 24 rfl rfl
theorem dksX5_hear_3 : cX5_hear.data.toList.drop 71 = dktX5_hear_3 := dk_seg dksX5_hear_2 24 rfl rfl
theorem dksX5_hear_4 : cX5_hear.data.toList.drop 95 = dktX5_hear_4 := dk_seg dksX5_hear_3 24 rfl rfl
theorem dX5_hear_0 : decode cX5_hear 0 = .ok (.aload_n 0, 1) := dk_42 (dk_at dksX5_hear_0 0 rfl rfl)
theorem dX5_hear_1 : decode cX5_hear 1 = .ok (.iconst 0, 1) := dk_3 (dk_at dksX5_hear_0 1 rfl rfl)
theorem dX5_hear_2 : decode cX5_hear 2 = .ok (.putfield 175, 3) := dk_181 0 175 (dk_at dksX5_hear_0 2 rfl rfl)
theorem dX5_hear_5 : decode cX5_hear 5 = .ok (.iload_n 1, 1) := dk_27 (dk_at dksX5_hear_0 5 rfl rfl)
theorem dX5_hear_6 : decode cX5_hear 6 = .ok (.invokestatic 228, 3) := dk_184 0 228 (dk_at dksX5_hear_0 6 rfl rfl)
theorem dX5_hear_9 : decode cX5_hear 9 = .ok (.ifCond .eq 20, 3) := dk_153 0 20 (dk_at dksX5_hear_0 9 rfl rfl)
theorem dX5_hear_12 : decode cX5_hear 12 = .ok (.iload_n 2, 1) := dk_28 (dk_at dksX5_hear_0 12 rfl rfl)
theorem dX5_hear_13 : decode cX5_hear 13 = .ok (.invokestatic 236, 3) := dk_184 0 236 (dk_at dksX5_hear_0 13 rfl rfl)
theorem dX5_hear_16 : decode cX5_hear 16 = .ok (.ifCond .eq 13, 3) := dk_153 0 13 (dk_at dksX5_hear_0 16 rfl rfl)
theorem dX5_hear_19 : decode cX5_hear 19 = .ok (.iload_n 3, 1) := dk_29 (dk_at dksX5_hear_0 19 rfl rfl)
theorem dX5_hear_20 : decode cX5_hear 20 = .ok (.i2l, 1) := dk_133 (dk_at dksX5_hear_0 20 rfl rfl)
theorem dX5_hear_21 : decode cX5_hear 21 = .ok (.lconst 0, 1) := dk_9 (dk_at dksX5_hear_0 21 rfl rfl)
theorem dX5_hear_22 : decode cX5_hear 22 = .ok (.lconst 1, 1) := dk_10 (dk_at dksX5_hear_0 22 rfl rfl)
theorem dX5_hear_23 : decode cX5_hear 23 = .ok (.invokestatic 195, 3) := dk_184 0 195 (dk_at dksX5_hear_1 0 rfl rfl)
theorem dX5_hear_26 : decode cX5_hear 26 = .ok (.ifCond .ne 9, 3) := dk_154 0 9 (dk_at dksX5_hear_1 3 rfl rfl)
theorem dX5_hear_29 : decode cX5_hear 29 = .ok (.aload_n 0, 1) := dk_42 (dk_at dksX5_hear_1 6 rfl rfl)
theorem dX5_hear_30 : decode cX5_hear 30 = .ok (.iconst (-1), 1) := dk_2 (dk_at dksX5_hear_1 7 rfl rfl)
theorem dX5_hear_31 : decode cX5_hear 31 = .ok (.invokevirtual 184, 3) := dk_182 0 184 (dk_at dksX5_hear_1 8 rfl rfl)
theorem dX5_hear_34 : decode cX5_hear 34 = .ok (.ireturn, 1) := dk_172 (dk_at dksX5_hear_1 11 rfl rfl)
theorem dX5_hear_35 : decode cX5_hear 35 = .ok (.aload_n 0, 1) := dk_42 (dk_at dksX5_hear_1 12 rfl rfl)
theorem dX5_hear_36 : decode cX5_hear 36 = .ok (.getfield 13, 3) := dk_180 0 13 (dk_at dksX5_hear_1 13 rfl rfl)
theorem dX5_hear_39 : decode cX5_hear 39 = .ok (.iconst 2, 1) := dk_5 (dk_at dksX5_hear_1 16 rfl rfl)
theorem dX5_hear_40 : decode cX5_hear 40 = .ok (.iaload, 1) := dk_46 (dk_at dksX5_hear_1 17 rfl rfl)
theorem dX5_hear_41 : decode cX5_hear 41 = .ok (.istore 4, 2) := dk_54 4 (dk_at dksX5_hear_1 18 rfl rfl)
theorem dX5_hear_43 : decode cX5_hear 43 = .ok (.iload 4, 2) := dk_21 4 (dk_at dksX5_hear_1 20 rfl rfl)
theorem dX5_hear_45 : decode cX5_hear 45 = .ok (.bipush 8, 2) := dk_16 8 (dk_at dksX5_hear_1 22 rfl rfl)
theorem dX5_hear_47 : decode cX5_hear 47 = .ok (.if_icmp .ne 10, 3) := dk_160 0 10 (dk_at dksX5_hear_2 0 rfl rfl)
theorem dX5_hear_50 : decode cX5_hear 50 = .ok (.aload_n 0, 1) := dk_42 (dk_at dksX5_hear_2 3 rfl rfl)
theorem dX5_hear_51 : decode cX5_hear 51 = .ok (.bipush (-5), 2) := dk_16 251 (dk_at dksX5_hear_2 4 rfl rfl)
theorem dX5_hear_53 : decode cX5_hear 53 = .ok (.invokevirtual 184, 3) := dk_182 0 184 (dk_at dksX5_hear_2 6 rfl rfl)
theorem dX5_hear_56 : decode cX5_hear 56 = .ok (.ireturn, 1) := dk_172 (dk_at dksX5_hear_2 9 rfl rfl)
theorem dX5_hear_57 : decode cX5_hear 57 = .ok (.aload_n 0, 1) := dk_42 (dk_at dksX5_hear_2 10 rfl rfl)
theorem dX5_hear_58 : decode cX5_hear 58 = .ok (.getfield 13, 3) := dk_180 0 13 (dk_at dksX5_hear_2 11 rfl rfl)
theorem dX5_hear_61 : decode cX5_hear 61 = .ok (.bipush 92, 2) := dk_16 92 (dk_at dksX5_hear_2 14 rfl rfl)
theorem dX5_hear_63 : decode cX5_hear 63 = .ok (.iconst 3, 1) := dk_6 (dk_at dksX5_hear_2 16 rfl rfl)
theorem dX5_hear_64 : decode cX5_hear 64 = .ok (.iload 4, 2) := dk_21 4 (dk_at dksX5_hear_2 17 rfl rfl)
theorem dX5_hear_66 : decode cX5_hear 66 = .ok (.imul, 1) := dk_104 (dk_at dksX5_hear_2 19 rfl rfl)
theorem dX5_hear_67 : decode cX5_hear 67 = .ok (.iadd, 1) := dk_96 (dk_at dksX5_hear_2 20 rfl rfl)
theorem dX5_hear_68 : decode cX5_hear 68 = .ok (.iload_n 1, 1) := dk_27 (dk_at dksX5_hear_2 21 rfl rfl)
theorem dX5_hear_69 : decode cX5_hear 69 = .ok (.iastore, 1) := dk_79 (dk_at dksX5_hear_2 22 rfl rfl)
theorem dX5_hear_70 : decode cX5_hear 70 = .ok (.aload_n 0, 1) := dk_42 (dk_at dksX5_hear_2 23 rfl rfl)
theorem dX5_hear_71 : decode cX5_hear 71 = .ok (.getfield 13, 3) := dk_180 0 13 (dk_at dksX5_hear_3 0 rfl rfl)
theorem dX5_hear_74 : decode cX5_hear 74 = .ok (.bipush 92, 2) := dk_16 92 (dk_at dksX5_hear_3 3 rfl rfl)
theorem dX5_hear_76 : decode cX5_hear 76 = .ok (.iconst 3, 1) := dk_6 (dk_at dksX5_hear_3 5 rfl rfl)
theorem dX5_hear_77 : decode cX5_hear 77 = .ok (.iload 4, 2) := dk_21 4 (dk_at dksX5_hear_3 6 rfl rfl)
theorem dX5_hear_79 : decode cX5_hear 79 = .ok (.imul, 1) := dk_104 (dk_at dksX5_hear_3 8 rfl rfl)
theorem dX5_hear_80 : decode cX5_hear 80 = .ok (.iadd, 1) := dk_96 (dk_at dksX5_hear_3 9 rfl rfl)
theorem dX5_hear_81 : decode cX5_hear 81 = .ok (.iconst 1, 1) := dk_4 (dk_at dksX5_hear_3 10 rfl rfl)
theorem dX5_hear_82 : decode cX5_hear 82 = .ok (.iadd, 1) := dk_96 (dk_at dksX5_hear_3 11 rfl rfl)
theorem dX5_hear_83 : decode cX5_hear 83 = .ok (.iload_n 2, 1) := dk_28 (dk_at dksX5_hear_3 12 rfl rfl)
theorem dX5_hear_84 : decode cX5_hear 84 = .ok (.iastore, 1) := dk_79 (dk_at dksX5_hear_3 13 rfl rfl)
theorem dX5_hear_85 : decode cX5_hear 85 = .ok (.aload_n 0, 1) := dk_42 (dk_at dksX5_hear_3 14 rfl rfl)
theorem dX5_hear_86 : decode cX5_hear 86 = .ok (.getfield 13, 3) := dk_180 0 13 (dk_at dksX5_hear_3 15 rfl rfl)
theorem dX5_hear_89 : decode cX5_hear 89 = .ok (.bipush 92, 2) := dk_16 92 (dk_at dksX5_hear_3 18 rfl rfl)
theorem dX5_hear_91 : decode cX5_hear 91 = .ok (.iconst 3, 1) := dk_6 (dk_at dksX5_hear_3 20 rfl rfl)
theorem dX5_hear_92 : decode cX5_hear 92 = .ok (.iload 4, 2) := dk_21 4 (dk_at dksX5_hear_3 21 rfl rfl)
theorem dX5_hear_94 : decode cX5_hear 94 = .ok (.imul, 1) := dk_104 (dk_at dksX5_hear_3 23 rfl rfl)
theorem dX5_hear_95 : decode cX5_hear 95 = .ok (.iadd, 1) := dk_96 (dk_at dksX5_hear_4 0 rfl rfl)
theorem dX5_hear_96 : decode cX5_hear 96 = .ok (.iconst 2, 1) := dk_5 (dk_at dksX5_hear_4 1 rfl rfl)
theorem dX5_hear_97 : decode cX5_hear 97 = .ok (.iadd, 1) := dk_96 (dk_at dksX5_hear_4 2 rfl rfl)
theorem dX5_hear_98 : decode cX5_hear 98 = .ok (.iload_n 3, 1) := dk_29 (dk_at dksX5_hear_4 3 rfl rfl)
theorem dX5_hear_99 : decode cX5_hear 99 = .ok (.iastore, 1) := dk_79 (dk_at dksX5_hear_4 4 rfl rfl)
theorem dX5_hear_100 : decode cX5_hear 100 = .ok (.aload_n 0, 1) := dk_42 (dk_at dksX5_hear_4 5 rfl rfl)
theorem dX5_hear_101 : decode cX5_hear 101 = .ok (.getfield 13, 3) := dk_180 0 13 (dk_at dksX5_hear_4 6 rfl rfl)
theorem dX5_hear_104 : decode cX5_hear 104 = .ok (.iconst 2, 1) := dk_5 (dk_at dksX5_hear_4 9 rfl rfl)
theorem dX5_hear_105 : decode cX5_hear 105 = .ok (.dup2, 1) := dk_92 (dk_at dksX5_hear_4 10 rfl rfl)
theorem dX5_hear_106 : decode cX5_hear 106 = .ok (.iaload, 1) := dk_46 (dk_at dksX5_hear_4 11 rfl rfl)
theorem dX5_hear_107 : decode cX5_hear 107 = .ok (.iconst 1, 1) := dk_4 (dk_at dksX5_hear_4 12 rfl rfl)
theorem dX5_hear_108 : decode cX5_hear 108 = .ok (.iadd, 1) := dk_96 (dk_at dksX5_hear_4 13 rfl rfl)
theorem dX5_hear_109 : decode cX5_hear 109 = .ok (.iastore, 1) := dk_79 (dk_at dksX5_hear_4 14 rfl rfl)
theorem dX5_hear_110 : decode cX5_hear 110 = .ok (.aload_n 0, 1) := dk_42 (dk_at dksX5_hear_4 15 rfl rfl)
theorem dX5_hear_111 : decode cX5_hear 111 = .ok (.iload 4, 2) := dk_21 4 (dk_at dksX5_hear_4 16 rfl rfl)
theorem dX5_hear_113 : decode cX5_hear 113 = .ok (.iconst 1, 1) := dk_4 (dk_at dksX5_hear_4 18 rfl rfl)
theorem dX5_hear_114 : decode cX5_hear 114 = .ok (.iadd, 1) := dk_96 (dk_at dksX5_hear_4 19 rfl rfl)
theorem dX5_hear_115 : decode cX5_hear 115 = .ok (.invokevirtual 184, 3) := dk_182 0 184 (dk_at dksX5_hear_4 20 rfl rfl)
theorem dX5_hear_118 : decode cX5_hear 118 = .ok (.ireturn, 1) := dk_172 (dk_at dksX5_hear_4 23 rfl rfl)
abbrev cX5_forget : ByteArray := prog_22_method_86_code
def yX5_forget : MethodName := ⟨RX5, "forget", "()I"⟩
def dkwX5_forget_0 : List UInt8 := [42, 3, 181, 0, 175, 42, 180, 0, 13, 5, 46, 60, 42, 180, 0, 13, 5, 3, 79, 27, 172]
abbrev dktX5_forget_0 : List UInt8 := dkwX5_forget_0 ++ []
theorem dksX5_forget_0 : cX5_forget.data.toList.drop 0 = dktX5_forget_0 := by decide +kernel
theorem dX5_forget_0 : decode cX5_forget 0 = .ok (.aload_n 0, 1) := dk_42 (dk_at dksX5_forget_0 0 rfl rfl)
theorem dX5_forget_1 : decode cX5_forget 1 = .ok (.iconst 0, 1) := dk_3 (dk_at dksX5_forget_0 1 rfl rfl)
theorem dX5_forget_2 : decode cX5_forget 2 = .ok (.putfield 175, 3) := dk_181 0 175 (dk_at dksX5_forget_0 2 rfl rfl)
theorem dX5_forget_5 : decode cX5_forget 5 = .ok (.aload_n 0, 1) := dk_42 (dk_at dksX5_forget_0 5 rfl rfl)
theorem dX5_forget_6 : decode cX5_forget 6 = .ok (.getfield 13, 3) := dk_180 0 13 (dk_at dksX5_forget_0 6 rfl rfl)
theorem dX5_forget_9 : decode cX5_forget 9 = .ok (.iconst 2, 1) := dk_5 (dk_at dksX5_forget_0 9 rfl rfl)
theorem dX5_forget_10 : decode cX5_forget 10 = .ok (.iaload, 1) := dk_46 (dk_at dksX5_forget_0 10 rfl rfl)
theorem dX5_forget_11 : decode cX5_forget 11 = .ok (.istore_n 1, 1) := dk_60 (dk_at dksX5_forget_0 11 rfl rfl)
theorem dX5_forget_12 : decode cX5_forget 12 = .ok (.aload_n 0, 1) := dk_42 (dk_at dksX5_forget_0 12 rfl rfl)
theorem dX5_forget_13 : decode cX5_forget 13 = .ok (.getfield 13, 3) := dk_180 0 13 (dk_at dksX5_forget_0 13 rfl rfl)
theorem dX5_forget_16 : decode cX5_forget 16 = .ok (.iconst 2, 1) := dk_5 (dk_at dksX5_forget_0 16 rfl rfl)
theorem dX5_forget_17 : decode cX5_forget 17 = .ok (.iconst 0, 1) := dk_3 (dk_at dksX5_forget_0 17 rfl rfl)
theorem dX5_forget_18 : decode cX5_forget 18 = .ok (.iastore, 1) := dk_79 (dk_at dksX5_forget_0 18 rfl rfl)
theorem dX5_forget_19 : decode cX5_forget 19 = .ok (.iload_n 1, 1) := dk_27 (dk_at dksX5_forget_0 19 rfl rfl)
theorem dX5_forget_20 : decode cX5_forget 20 = .ok (.ireturn, 1) := dk_172 (dk_at dksX5_forget_0 20 rfl rfl)
abbrev cX5_which : ByteArray := prog_22_method_88_code
def yX5_which : MethodName := ⟨RX5, "which", "()I"⟩
def dkwX5_which_0 : List UInt8 := [42, 3, 181, 0, 175, 42, 182, 1, 228, 172]
abbrev dktX5_which_0 : List UInt8 := dkwX5_which_0 ++ []
theorem dksX5_which_0 : cX5_which.data.toList.drop 0 = dktX5_which_0 := by decide +kernel
theorem dX5_which_0 : decode cX5_which 0 = .ok (.aload_n 0, 1) := dk_42 (dk_at dksX5_which_0 0 rfl rfl)
theorem dX5_which_1 : decode cX5_which 1 = .ok (.iconst 0, 1) := dk_3 (dk_at dksX5_which_0 1 rfl rfl)
theorem dX5_which_2 : decode cX5_which 2 = .ok (.putfield 175, 3) := dk_181 0 175 (dk_at dksX5_which_0 2 rfl rfl)
theorem dX5_which_5 : decode cX5_which 5 = .ok (.aload_n 0, 1) := dk_42 (dk_at dksX5_which_0 5 rfl rfl)
theorem dX5_which_6 : decode cX5_which 6 = .ok (.invokevirtual 484, 3) := dk_182 1 228 (dk_at dksX5_which_0 6 rfl rfl)
theorem dX5_which_9 : decode cX5_which 9 = .ok (.ireturn, 1) := dk_172 (dk_at dksX5_which_0 9 rfl rfl)
abbrev cX5_whichAre : ByteArray := prog_22_method_87_code
def yX5_whichAre : MethodName := ⟨RX5, "whichAre", "()I"⟩
def dkwX5_whichAre_5 : List UInt8 := [167, 255, 146, 27, 172]
abbrev dktX5_whichAre_5 : List UInt8 := dkwX5_whichAre_5 ++ []
def dkwX5_whichAre_4 : List UInt8 := [132, 4, 1, 167, 255, 181, 27, 29, 153, 0, 9, 4, 28, 120, 167, 0, 4, 3, 128, 60, 132, 2, 1]
abbrev dktX5_whichAre_4 : List UInt8 := dkwX5_whichAre_4 ++ dktX5_whichAre_5
def dkwX5_whichAre_3 : List UInt8 := [180, 0, 13, 16, 92, 6, 21, 4, 104, 96, 5, 96, 46, 160, 0, 7, 4, 167, 0, 4, 3, 62]
abbrev dktX5_whichAre_3 : List UInt8 := dkwX5_whichAre_3 ++ dktX5_whichAre_4
def dkwX5_whichAre_2 : List UInt8 := [96, 46, 182, 0, 204, 42, 180, 0, 13, 16, 92, 6, 21, 4, 104, 96, 4, 96, 46, 122, 4, 126, 42]
abbrev dktX5_whichAre_2 : List UInt8 := dkwX5_whichAre_2 ++ dktX5_whichAre_3
def dkwX5_whichAre_1 : List UInt8 := [180, 0, 13, 5, 46, 162, 0, 70, 29, 153, 0, 58, 42, 28, 42, 180, 0, 13, 16, 92, 6, 21, 4, 104]
abbrev dktX5_whichAre_1 : List UInt8 := dkwX5_whichAre_1 ++ dktX5_whichAre_2
def dkwX5_whichAre_0 : List UInt8 := [3, 60, 3, 61, 28, 42, 180, 0, 13, 3, 46, 162, 0, 106, 4, 62, 3, 54, 4, 21, 4, 42]
abbrev dktX5_whichAre_0 : List UInt8 := dkwX5_whichAre_0 ++ dktX5_whichAre_1
theorem dksX5_whichAre_0 : cX5_whichAre.data.toList.drop 0 = dktX5_whichAre_0 := by decide +kernel
theorem dksX5_whichAre_1 : cX5_whichAre.data.toList.drop 22 = dktX5_whichAre_1 := dk_seg dksX5_whichAre_0 22 rfl rfl
theorem dksX5_whichAre_2 : cX5_whichAre.data.toList.drop 46 = dktX5_whichAre_2 := dk_seg dksX5_whichAre_1 24 rfl rfl
theorem dksX5_whichAre_3 : cX5_whichAre.data.toList.drop 69 = dktX5_whichAre_3 := dk_seg dksX5_whichAre_2 23 rfl rfl
theorem dksX5_whichAre_4 : cX5_whichAre.data.toList.drop 91 = dktX5_whichAre_4 := dk_seg dksX5_whichAre_3 22 rfl rfl
theorem dksX5_whichAre_5 : cX5_whichAre.data.toList.drop 114 = dktX5_whichAre_5 := dk_seg dksX5_whichAre_4 23 rfl rfl
theorem dX5_whichAre_0 : decode cX5_whichAre 0 = .ok (.iconst 0, 1) := dk_3 (dk_at dksX5_whichAre_0 0 rfl rfl)
theorem dX5_whichAre_1 : decode cX5_whichAre 1 = .ok (.istore_n 1, 1) := dk_60 (dk_at dksX5_whichAre_0 1 rfl rfl)
theorem dX5_whichAre_2 : decode cX5_whichAre 2 = .ok (.iconst 0, 1) := dk_3 (dk_at dksX5_whichAre_0 2 rfl rfl)
theorem dX5_whichAre_3 : decode cX5_whichAre 3 = .ok (.istore_n 2, 1) := dk_61 (dk_at dksX5_whichAre_0 3 rfl rfl)
theorem dX5_whichAre_4 : decode cX5_whichAre 4 = .ok (.iload_n 2, 1) := dk_28 (dk_at dksX5_whichAre_0 4 rfl rfl)
theorem dX5_whichAre_5 : decode cX5_whichAre 5 = .ok (.aload_n 0, 1) := dk_42 (dk_at dksX5_whichAre_0 5 rfl rfl)
theorem dX5_whichAre_6 : decode cX5_whichAre 6 = .ok (.getfield 13, 3) := dk_180 0 13 (dk_at dksX5_whichAre_0 6 rfl rfl)
theorem dX5_whichAre_9 : decode cX5_whichAre 9 = .ok (.iconst 0, 1) := dk_3 (dk_at dksX5_whichAre_0 9 rfl rfl)
theorem dX5_whichAre_10 : decode cX5_whichAre 10 = .ok (.iaload, 1) := dk_46 (dk_at dksX5_whichAre_0 10 rfl rfl)
theorem dX5_whichAre_11 : decode cX5_whichAre 11 = .ok (.if_icmp .ge 106, 3) := dk_162 0 106 (dk_at dksX5_whichAre_0 11 rfl rfl)
theorem dX5_whichAre_14 : decode cX5_whichAre 14 = .ok (.iconst 1, 1) := dk_4 (dk_at dksX5_whichAre_0 14 rfl rfl)
theorem dX5_whichAre_15 : decode cX5_whichAre 15 = .ok (.istore_n 3, 1) := dk_62 (dk_at dksX5_whichAre_0 15 rfl rfl)
theorem dX5_whichAre_16 : decode cX5_whichAre 16 = .ok (.iconst 0, 1) := dk_3 (dk_at dksX5_whichAre_0 16 rfl rfl)
theorem dX5_whichAre_17 : decode cX5_whichAre 17 = .ok (.istore 4, 2) := dk_54 4 (dk_at dksX5_whichAre_0 17 rfl rfl)
theorem dX5_whichAre_19 : decode cX5_whichAre 19 = .ok (.iload 4, 2) := dk_21 4 (dk_at dksX5_whichAre_0 19 rfl rfl)
theorem dX5_whichAre_21 : decode cX5_whichAre 21 = .ok (.aload_n 0, 1) := dk_42 (dk_at dksX5_whichAre_0 21 rfl rfl)
theorem dX5_whichAre_22 : decode cX5_whichAre 22 = .ok (.getfield 13, 3) := dk_180 0 13 (dk_at dksX5_whichAre_1 0 rfl rfl)
theorem dX5_whichAre_25 : decode cX5_whichAre 25 = .ok (.iconst 2, 1) := dk_5 (dk_at dksX5_whichAre_1 3 rfl rfl)
theorem dX5_whichAre_26 : decode cX5_whichAre 26 = .ok (.iaload, 1) := dk_46 (dk_at dksX5_whichAre_1 4 rfl rfl)
theorem dX5_whichAre_27 : decode cX5_whichAre 27 = .ok (.if_icmp .ge 70, 3) := dk_162 0 70 (dk_at dksX5_whichAre_1 5 rfl rfl)
theorem dX5_whichAre_30 : decode cX5_whichAre 30 = .ok (.iload_n 3, 1) := dk_29 (dk_at dksX5_whichAre_1 8 rfl rfl)
theorem dX5_whichAre_31 : decode cX5_whichAre 31 = .ok (.ifCond .eq 58, 3) := dk_153 0 58 (dk_at dksX5_whichAre_1 9 rfl rfl)
theorem dX5_whichAre_34 : decode cX5_whichAre 34 = .ok (.aload_n 0, 1) := dk_42 (dk_at dksX5_whichAre_1 12 rfl rfl)
theorem dX5_whichAre_35 : decode cX5_whichAre 35 = .ok (.iload_n 2, 1) := dk_28 (dk_at dksX5_whichAre_1 13 rfl rfl)
theorem dX5_whichAre_36 : decode cX5_whichAre 36 = .ok (.aload_n 0, 1) := dk_42 (dk_at dksX5_whichAre_1 14 rfl rfl)
theorem dX5_whichAre_37 : decode cX5_whichAre 37 = .ok (.getfield 13, 3) := dk_180 0 13 (dk_at dksX5_whichAre_1 15 rfl rfl)
theorem dX5_whichAre_40 : decode cX5_whichAre 40 = .ok (.bipush 92, 2) := dk_16 92 (dk_at dksX5_whichAre_1 18 rfl rfl)
theorem dX5_whichAre_42 : decode cX5_whichAre 42 = .ok (.iconst 3, 1) := dk_6 (dk_at dksX5_whichAre_1 20 rfl rfl)
theorem dX5_whichAre_43 : decode cX5_whichAre 43 = .ok (.iload 4, 2) := dk_21 4 (dk_at dksX5_whichAre_1 21 rfl rfl)
theorem dX5_whichAre_45 : decode cX5_whichAre 45 = .ok (.imul, 1) := dk_104 (dk_at dksX5_whichAre_1 23 rfl rfl)
theorem dX5_whichAre_46 : decode cX5_whichAre 46 = .ok (.iadd, 1) := dk_96 (dk_at dksX5_whichAre_2 0 rfl rfl)
theorem dX5_whichAre_47 : decode cX5_whichAre 47 = .ok (.iaload, 1) := dk_46 (dk_at dksX5_whichAre_2 1 rfl rfl)
theorem dX5_whichAre_48 : decode cX5_whichAre 48 = .ok (.invokevirtual 204, 3) := dk_182 0 204 (dk_at dksX5_whichAre_2 2 rfl rfl)
theorem dX5_whichAre_51 : decode cX5_whichAre 51 = .ok (.aload_n 0, 1) := dk_42 (dk_at dksX5_whichAre_2 5 rfl rfl)
theorem dX5_whichAre_52 : decode cX5_whichAre 52 = .ok (.getfield 13, 3) := dk_180 0 13 (dk_at dksX5_whichAre_2 6 rfl rfl)
theorem dX5_whichAre_55 : decode cX5_whichAre 55 = .ok (.bipush 92, 2) := dk_16 92 (dk_at dksX5_whichAre_2 9 rfl rfl)
theorem dX5_whichAre_57 : decode cX5_whichAre 57 = .ok (.iconst 3, 1) := dk_6 (dk_at dksX5_whichAre_2 11 rfl rfl)
theorem dX5_whichAre_58 : decode cX5_whichAre 58 = .ok (.iload 4, 2) := dk_21 4 (dk_at dksX5_whichAre_2 12 rfl rfl)
theorem dX5_whichAre_60 : decode cX5_whichAre 60 = .ok (.imul, 1) := dk_104 (dk_at dksX5_whichAre_2 14 rfl rfl)
theorem dX5_whichAre_61 : decode cX5_whichAre 61 = .ok (.iadd, 1) := dk_96 (dk_at dksX5_whichAre_2 15 rfl rfl)
theorem dX5_whichAre_62 : decode cX5_whichAre 62 = .ok (.iconst 1, 1) := dk_4 (dk_at dksX5_whichAre_2 16 rfl rfl)
theorem dX5_whichAre_63 : decode cX5_whichAre 63 = .ok (.iadd, 1) := dk_96 (dk_at dksX5_whichAre_2 17 rfl rfl)
theorem dX5_whichAre_64 : decode cX5_whichAre 64 = .ok (.iaload, 1) := dk_46 (dk_at dksX5_whichAre_2 18 rfl rfl)
theorem dX5_whichAre_65 : decode cX5_whichAre 65 = .ok (.ishr, 1) := dk_122 (dk_at dksX5_whichAre_2 19 rfl rfl)
theorem dX5_whichAre_66 : decode cX5_whichAre 66 = .ok (.iconst 1, 1) := dk_4 (dk_at dksX5_whichAre_2 20 rfl rfl)
theorem dX5_whichAre_67 : decode cX5_whichAre 67 = .ok (.iand, 1) := dk_126 (dk_at dksX5_whichAre_2 21 rfl rfl)
theorem dX5_whichAre_68 : decode cX5_whichAre 68 = .ok (.aload_n 0, 1) := dk_42 (dk_at dksX5_whichAre_2 22 rfl rfl)
theorem dX5_whichAre_69 : decode cX5_whichAre 69 = .ok (.getfield 13, 3) := dk_180 0 13 (dk_at dksX5_whichAre_3 0 rfl rfl)
theorem dX5_whichAre_72 : decode cX5_whichAre 72 = .ok (.bipush 92, 2) := dk_16 92 (dk_at dksX5_whichAre_3 3 rfl rfl)
theorem dX5_whichAre_74 : decode cX5_whichAre 74 = .ok (.iconst 3, 1) := dk_6 (dk_at dksX5_whichAre_3 5 rfl rfl)
theorem dX5_whichAre_75 : decode cX5_whichAre 75 = .ok (.iload 4, 2) := dk_21 4 (dk_at dksX5_whichAre_3 6 rfl rfl)
theorem dX5_whichAre_77 : decode cX5_whichAre 77 = .ok (.imul, 1) := dk_104 (dk_at dksX5_whichAre_3 8 rfl rfl)
theorem dX5_whichAre_78 : decode cX5_whichAre 78 = .ok (.iadd, 1) := dk_96 (dk_at dksX5_whichAre_3 9 rfl rfl)
theorem dX5_whichAre_79 : decode cX5_whichAre 79 = .ok (.iconst 2, 1) := dk_5 (dk_at dksX5_whichAre_3 10 rfl rfl)
theorem dX5_whichAre_80 : decode cX5_whichAre 80 = .ok (.iadd, 1) := dk_96 (dk_at dksX5_whichAre_3 11 rfl rfl)
theorem dX5_whichAre_81 : decode cX5_whichAre 81 = .ok (.iaload, 1) := dk_46 (dk_at dksX5_whichAre_3 12 rfl rfl)
theorem dX5_whichAre_82 : decode cX5_whichAre 82 = .ok (.if_icmp .ne 7, 3) := dk_160 0 7 (dk_at dksX5_whichAre_3 13 rfl rfl)
theorem dX5_whichAre_85 : decode cX5_whichAre 85 = .ok (.iconst 1, 1) := dk_4 (dk_at dksX5_whichAre_3 16 rfl rfl)
theorem dX5_whichAre_86 : decode cX5_whichAre 86 = .ok (.goto 4, 3) := dk_167 0 4 (dk_at dksX5_whichAre_3 17 rfl rfl)
theorem dX5_whichAre_89 : decode cX5_whichAre 89 = .ok (.iconst 0, 1) := dk_3 (dk_at dksX5_whichAre_3 20 rfl rfl)
theorem dX5_whichAre_90 : decode cX5_whichAre 90 = .ok (.istore_n 3, 1) := dk_62 (dk_at dksX5_whichAre_3 21 rfl rfl)
theorem dX5_whichAre_91 : decode cX5_whichAre 91 = .ok (.iinc 4 1, 3) := dk_132 4 1 (dk_at dksX5_whichAre_4 0 rfl rfl)
theorem dX5_whichAre_94 : decode cX5_whichAre 94 = .ok (.goto (-75), 3) := dk_167 255 181 (dk_at dksX5_whichAre_4 3 rfl rfl)
theorem dX5_whichAre_97 : decode cX5_whichAre 97 = .ok (.iload_n 1, 1) := dk_27 (dk_at dksX5_whichAre_4 6 rfl rfl)
theorem dX5_whichAre_98 : decode cX5_whichAre 98 = .ok (.iload_n 3, 1) := dk_29 (dk_at dksX5_whichAre_4 7 rfl rfl)
theorem dX5_whichAre_99 : decode cX5_whichAre 99 = .ok (.ifCond .eq 9, 3) := dk_153 0 9 (dk_at dksX5_whichAre_4 8 rfl rfl)
theorem dX5_whichAre_102 : decode cX5_whichAre 102 = .ok (.iconst 1, 1) := dk_4 (dk_at dksX5_whichAre_4 11 rfl rfl)
theorem dX5_whichAre_103 : decode cX5_whichAre 103 = .ok (.iload_n 2, 1) := dk_28 (dk_at dksX5_whichAre_4 12 rfl rfl)
theorem dX5_whichAre_104 : decode cX5_whichAre 104 = .ok (.ishl, 1) := dk_120 (dk_at dksX5_whichAre_4 13 rfl rfl)
theorem dX5_whichAre_105 : decode cX5_whichAre 105 = .ok (.goto 4, 3) := dk_167 0 4 (dk_at dksX5_whichAre_4 14 rfl rfl)
theorem dX5_whichAre_108 : decode cX5_whichAre 108 = .ok (.iconst 0, 1) := dk_3 (dk_at dksX5_whichAre_4 17 rfl rfl)
theorem dX5_whichAre_109 : decode cX5_whichAre 109 = .ok (.ior, 1) := dk_128 (dk_at dksX5_whichAre_4 18 rfl rfl)
theorem dX5_whichAre_110 : decode cX5_whichAre 110 = .ok (.istore_n 1, 1) := dk_60 (dk_at dksX5_whichAre_4 19 rfl rfl)
theorem dX5_whichAre_111 : decode cX5_whichAre 111 = .ok (.iinc 2 1, 3) := dk_132 2 1 (dk_at dksX5_whichAre_4 20 rfl rfl)
theorem dX5_whichAre_114 : decode cX5_whichAre 114 = .ok (.goto (-110), 3) := dk_167 255 146 (dk_at dksX5_whichAre_5 0 rfl rfl)
theorem dX5_whichAre_117 : decode cX5_whichAre 117 = .ok (.iload_n 1, 1) := dk_27 (dk_at dksX5_whichAre_5 3 rfl rfl)
theorem dX5_whichAre_118 : decode cX5_whichAre 118 = .ok (.ireturn, 1) := dk_172 (dk_at dksX5_whichAre_5 4 rfl rfl)
abbrev cX5_listen : ByteArray := prog_22_method_89_code
def yX5_listen : MethodName := ⟨RX5, "listen", "(I)I"⟩
def dkwX5_listen_7 : List UInt8 := [167, 0, 4, 29, 62, 132, 5, 1, 167, 255, 120, 27, 154, 0, 8, 21, 4, 167, 0, 4, 29, 172]
abbrev dktX5_listen_7 : List UInt8 := dkwX5_listen_7 ++ []
def dkwX5_listen_6 : List UInt8 := [108, 104, 21, 5, 16, 8, 112, 96, 167, 0, 5, 21, 4, 54, 4, 21, 7, 29, 162, 0, 8, 21, 7]
abbrev dktX5_listen_6 : List UInt8 := dkwX5_listen_6 ++ dktX5_listen_7
def dkwX5_listen_5 : List UInt8 := [167, 0, 10, 28, 184, 0, 208, 21, 6, 100, 54, 7, 21, 7, 29, 162, 0, 20, 16, 10, 21, 5, 16, 8]
abbrev dktX5_listen_5 : List UInt8 := dkwX5_listen_5 ++ dktX5_listen_6
def dkwX5_listen_4 : List UInt8 := [54, 6, 132, 7, 1, 167, 255, 205, 21, 6, 28, 184, 0, 208, 21, 6, 100, 164, 0, 8, 21, 6]
abbrev dktX5_listen_4 : List UInt8 := dkwX5_listen_4 ++ dktX5_listen_5
def dkwX5_listen_3 : List UInt8 := [42, 21, 7, 21, 5, 16, 8, 108, 182, 0, 204, 21, 5, 16, 8, 112, 122, 4, 126, 167, 0, 4, 3, 96]
abbrev dktX5_listen_3 : List UInt8 := dkwX5_listen_3 ++ dktX5_listen_4
def dkwX5_listen_2 : List UInt8 := [54, 7, 21, 7, 42, 180, 0, 13, 3, 46, 162, 0, 46, 21, 6, 28, 21, 7, 184, 1, 202, 153, 0, 25]
abbrev dktX5_listen_2 : List UInt8 := dkwX5_listen_2 ++ dktX5_listen_3
def dkwX5_listen_1 : List UInt8 := [2, 172, 19, 1, 231, 62, 2, 54, 4, 3, 54, 5, 21, 5, 16, 64, 162, 0, 135, 3, 54, 6, 3]
abbrev dktX5_listen_1 : List UInt8 := dkwX5_listen_1 ++ dktX5_listen_2
def dkwX5_listen_0 : List UInt8 := [42, 3, 181, 0, 175, 42, 182, 1, 228, 61, 27, 133, 9, 10, 184, 0, 195, 153, 0, 7, 28, 154, 0, 5]
abbrev dktX5_listen_0 : List UInt8 := dkwX5_listen_0 ++ dktX5_listen_1
theorem dksX5_listen_0 : cX5_listen.data.toList.drop 0 = dktX5_listen_0 := by decide +kernel
theorem dksX5_listen_1 : cX5_listen.data.toList.drop 24 = dktX5_listen_1 := dk_seg dksX5_listen_0 24 rfl rfl
theorem dksX5_listen_2 : cX5_listen.data.toList.drop 47 = dktX5_listen_2 := dk_seg dksX5_listen_1 23 rfl rfl
theorem dksX5_listen_3 : cX5_listen.data.toList.drop 71 = dktX5_listen_3 := dk_seg dksX5_listen_2 24 rfl rfl
theorem dksX5_listen_4 : cX5_listen.data.toList.drop 95 = dktX5_listen_4 := dk_seg dksX5_listen_3 24 rfl rfl
theorem dksX5_listen_5 : cX5_listen.data.toList.drop 117 = dktX5_listen_5 := dk_seg dksX5_listen_4 22 rfl rfl
theorem dksX5_listen_6 : cX5_listen.data.toList.drop 141 = dktX5_listen_6 := dk_seg dksX5_listen_5 24 rfl rfl
theorem dksX5_listen_7 : cX5_listen.data.toList.drop 164 = dktX5_listen_7 := dk_seg dksX5_listen_6 23 rfl rfl
theorem dX5_listen_0 : decode cX5_listen 0 = .ok (.aload_n 0, 1) := dk_42 (dk_at dksX5_listen_0 0 rfl rfl)
theorem dX5_listen_1 : decode cX5_listen 1 = .ok (.iconst 0, 1) := dk_3 (dk_at dksX5_listen_0 1 rfl rfl)
theorem dX5_listen_2 : decode cX5_listen 2 = .ok (.putfield 175, 3) := dk_181 0 175 (dk_at dksX5_listen_0 2 rfl rfl)
theorem dX5_listen_5 : decode cX5_listen 5 = .ok (.aload_n 0, 1) := dk_42 (dk_at dksX5_listen_0 5 rfl rfl)
theorem dX5_listen_6 : decode cX5_listen 6 = .ok (.invokevirtual 484, 3) := dk_182 1 228 (dk_at dksX5_listen_0 6 rfl rfl)
theorem dX5_listen_9 : decode cX5_listen 9 = .ok (.istore_n 2, 1) := dk_61 (dk_at dksX5_listen_0 9 rfl rfl)
theorem dX5_listen_10 : decode cX5_listen 10 = .ok (.iload_n 1, 1) := dk_27 (dk_at dksX5_listen_0 10 rfl rfl)
theorem dX5_listen_11 : decode cX5_listen 11 = .ok (.i2l, 1) := dk_133 (dk_at dksX5_listen_0 11 rfl rfl)
theorem dX5_listen_12 : decode cX5_listen 12 = .ok (.lconst 0, 1) := dk_9 (dk_at dksX5_listen_0 12 rfl rfl)
theorem dX5_listen_13 : decode cX5_listen 13 = .ok (.lconst 1, 1) := dk_10 (dk_at dksX5_listen_0 13 rfl rfl)
theorem dX5_listen_14 : decode cX5_listen 14 = .ok (.invokestatic 195, 3) := dk_184 0 195 (dk_at dksX5_listen_0 14 rfl rfl)
theorem dX5_listen_17 : decode cX5_listen 17 = .ok (.ifCond .eq 7, 3) := dk_153 0 7 (dk_at dksX5_listen_0 17 rfl rfl)
theorem dX5_listen_20 : decode cX5_listen 20 = .ok (.iload_n 2, 1) := dk_28 (dk_at dksX5_listen_0 20 rfl rfl)
theorem dX5_listen_21 : decode cX5_listen 21 = .ok (.ifCond .ne 5, 3) := dk_154 0 5 (dk_at dksX5_listen_0 21 rfl rfl)
theorem dX5_listen_24 : decode cX5_listen 24 = .ok (.iconst (-1), 1) := dk_2 (dk_at dksX5_listen_1 0 rfl rfl)
theorem dX5_listen_25 : decode cX5_listen 25 = .ok (.ireturn, 1) := dk_172 (dk_at dksX5_listen_1 1 rfl rfl)
theorem dX5_listen_26 : decode cX5_listen 26 = .ok (.ldc_w 487, 3) := dk_19 1 231 (dk_at dksX5_listen_1 2 rfl rfl)
theorem dX5_listen_29 : decode cX5_listen 29 = .ok (.istore_n 3, 1) := dk_62 (dk_at dksX5_listen_1 5 rfl rfl)
theorem dX5_listen_30 : decode cX5_listen 30 = .ok (.iconst (-1), 1) := dk_2 (dk_at dksX5_listen_1 6 rfl rfl)
theorem dX5_listen_31 : decode cX5_listen 31 = .ok (.istore 4, 2) := dk_54 4 (dk_at dksX5_listen_1 7 rfl rfl)
theorem dX5_listen_33 : decode cX5_listen 33 = .ok (.iconst 0, 1) := dk_3 (dk_at dksX5_listen_1 9 rfl rfl)
theorem dX5_listen_34 : decode cX5_listen 34 = .ok (.istore 5, 2) := dk_54 5 (dk_at dksX5_listen_1 10 rfl rfl)
theorem dX5_listen_36 : decode cX5_listen 36 = .ok (.iload 5, 2) := dk_21 5 (dk_at dksX5_listen_1 12 rfl rfl)
theorem dX5_listen_38 : decode cX5_listen 38 = .ok (.bipush 64, 2) := dk_16 64 (dk_at dksX5_listen_1 14 rfl rfl)
theorem dX5_listen_40 : decode cX5_listen 40 = .ok (.if_icmp .ge 135, 3) := dk_162 0 135 (dk_at dksX5_listen_1 16 rfl rfl)
theorem dX5_listen_43 : decode cX5_listen 43 = .ok (.iconst 0, 1) := dk_3 (dk_at dksX5_listen_1 19 rfl rfl)
theorem dX5_listen_44 : decode cX5_listen 44 = .ok (.istore 6, 2) := dk_54 6 (dk_at dksX5_listen_1 20 rfl rfl)
theorem dX5_listen_46 : decode cX5_listen 46 = .ok (.iconst 0, 1) := dk_3 (dk_at dksX5_listen_1 22 rfl rfl)
theorem dX5_listen_47 : decode cX5_listen 47 = .ok (.istore 7, 2) := dk_54 7 (dk_at dksX5_listen_2 0 rfl rfl)
theorem dX5_listen_49 : decode cX5_listen 49 = .ok (.iload 7, 2) := dk_21 7 (dk_at dksX5_listen_2 2 rfl rfl)
theorem dX5_listen_51 : decode cX5_listen 51 = .ok (.aload_n 0, 1) := dk_42 (dk_at dksX5_listen_2 4 rfl rfl)
theorem dX5_listen_52 : decode cX5_listen 52 = .ok (.getfield 13, 3) := dk_180 0 13 (dk_at dksX5_listen_2 5 rfl rfl)
theorem dX5_listen_55 : decode cX5_listen 55 = .ok (.iconst 0, 1) := dk_3 (dk_at dksX5_listen_2 8 rfl rfl)
theorem dX5_listen_56 : decode cX5_listen 56 = .ok (.iaload, 1) := dk_46 (dk_at dksX5_listen_2 9 rfl rfl)
theorem dX5_listen_57 : decode cX5_listen 57 = .ok (.if_icmp .ge 46, 3) := dk_162 0 46 (dk_at dksX5_listen_2 10 rfl rfl)
theorem dX5_listen_60 : decode cX5_listen 60 = .ok (.iload 6, 2) := dk_21 6 (dk_at dksX5_listen_2 13 rfl rfl)
theorem dX5_listen_62 : decode cX5_listen 62 = .ok (.iload_n 2, 1) := dk_28 (dk_at dksX5_listen_2 15 rfl rfl)
theorem dX5_listen_63 : decode cX5_listen 63 = .ok (.iload 7, 2) := dk_21 7 (dk_at dksX5_listen_2 16 rfl rfl)
theorem dX5_listen_65 : decode cX5_listen 65 = .ok (.invokestatic 458, 3) := dk_184 1 202 (dk_at dksX5_listen_2 18 rfl rfl)
theorem dX5_listen_68 : decode cX5_listen 68 = .ok (.ifCond .eq 25, 3) := dk_153 0 25 (dk_at dksX5_listen_2 21 rfl rfl)
theorem dX5_listen_71 : decode cX5_listen 71 = .ok (.aload_n 0, 1) := dk_42 (dk_at dksX5_listen_3 0 rfl rfl)
theorem dX5_listen_72 : decode cX5_listen 72 = .ok (.iload 7, 2) := dk_21 7 (dk_at dksX5_listen_3 1 rfl rfl)
theorem dX5_listen_74 : decode cX5_listen 74 = .ok (.iload 5, 2) := dk_21 5 (dk_at dksX5_listen_3 3 rfl rfl)
theorem dX5_listen_76 : decode cX5_listen 76 = .ok (.bipush 8, 2) := dk_16 8 (dk_at dksX5_listen_3 5 rfl rfl)
theorem dX5_listen_78 : decode cX5_listen 78 = .ok (.idiv, 1) := dk_108 (dk_at dksX5_listen_3 7 rfl rfl)
theorem dX5_listen_79 : decode cX5_listen 79 = .ok (.invokevirtual 204, 3) := dk_182 0 204 (dk_at dksX5_listen_3 8 rfl rfl)
theorem dX5_listen_82 : decode cX5_listen 82 = .ok (.iload 5, 2) := dk_21 5 (dk_at dksX5_listen_3 11 rfl rfl)
theorem dX5_listen_84 : decode cX5_listen 84 = .ok (.bipush 8, 2) := dk_16 8 (dk_at dksX5_listen_3 13 rfl rfl)
theorem dX5_listen_86 : decode cX5_listen 86 = .ok (.irem, 1) := dk_112 (dk_at dksX5_listen_3 15 rfl rfl)
theorem dX5_listen_87 : decode cX5_listen 87 = .ok (.ishr, 1) := dk_122 (dk_at dksX5_listen_3 16 rfl rfl)
theorem dX5_listen_88 : decode cX5_listen 88 = .ok (.iconst 1, 1) := dk_4 (dk_at dksX5_listen_3 17 rfl rfl)
theorem dX5_listen_89 : decode cX5_listen 89 = .ok (.iand, 1) := dk_126 (dk_at dksX5_listen_3 18 rfl rfl)
theorem dX5_listen_90 : decode cX5_listen 90 = .ok (.goto 4, 3) := dk_167 0 4 (dk_at dksX5_listen_3 19 rfl rfl)
theorem dX5_listen_93 : decode cX5_listen 93 = .ok (.iconst 0, 1) := dk_3 (dk_at dksX5_listen_3 22 rfl rfl)
theorem dX5_listen_94 : decode cX5_listen 94 = .ok (.iadd, 1) := dk_96 (dk_at dksX5_listen_3 23 rfl rfl)
theorem dX5_listen_95 : decode cX5_listen 95 = .ok (.istore 6, 2) := dk_54 6 (dk_at dksX5_listen_4 0 rfl rfl)
theorem dX5_listen_97 : decode cX5_listen 97 = .ok (.iinc 7 1, 3) := dk_132 7 1 (dk_at dksX5_listen_4 2 rfl rfl)
theorem dX5_listen_100 : decode cX5_listen 100 = .ok (.goto (-51), 3) := dk_167 255 205 (dk_at dksX5_listen_4 5 rfl rfl)
theorem dX5_listen_103 : decode cX5_listen 103 = .ok (.iload 6, 2) := dk_21 6 (dk_at dksX5_listen_4 8 rfl rfl)
theorem dX5_listen_105 : decode cX5_listen 105 = .ok (.iload_n 2, 1) := dk_28 (dk_at dksX5_listen_4 10 rfl rfl)
theorem dX5_listen_106 : decode cX5_listen 106 = .ok (.invokestatic 208, 3) := dk_184 0 208 (dk_at dksX5_listen_4 11 rfl rfl)
theorem dX5_listen_109 : decode cX5_listen 109 = .ok (.iload 6, 2) := dk_21 6 (dk_at dksX5_listen_4 14 rfl rfl)
theorem dX5_listen_111 : decode cX5_listen 111 = .ok (.isub, 1) := dk_100 (dk_at dksX5_listen_4 16 rfl rfl)
theorem dX5_listen_112 : decode cX5_listen 112 = .ok (.if_icmp .le 8, 3) := dk_164 0 8 (dk_at dksX5_listen_4 17 rfl rfl)
theorem dX5_listen_115 : decode cX5_listen 115 = .ok (.iload 6, 2) := dk_21 6 (dk_at dksX5_listen_4 20 rfl rfl)
theorem dX5_listen_117 : decode cX5_listen 117 = .ok (.goto 10, 3) := dk_167 0 10 (dk_at dksX5_listen_5 0 rfl rfl)
theorem dX5_listen_120 : decode cX5_listen 120 = .ok (.iload_n 2, 1) := dk_28 (dk_at dksX5_listen_5 3 rfl rfl)
theorem dX5_listen_121 : decode cX5_listen 121 = .ok (.invokestatic 208, 3) := dk_184 0 208 (dk_at dksX5_listen_5 4 rfl rfl)
theorem dX5_listen_124 : decode cX5_listen 124 = .ok (.iload 6, 2) := dk_21 6 (dk_at dksX5_listen_5 7 rfl rfl)
theorem dX5_listen_126 : decode cX5_listen 126 = .ok (.isub, 1) := dk_100 (dk_at dksX5_listen_5 9 rfl rfl)
theorem dX5_listen_127 : decode cX5_listen 127 = .ok (.istore 7, 2) := dk_54 7 (dk_at dksX5_listen_5 10 rfl rfl)
theorem dX5_listen_129 : decode cX5_listen 129 = .ok (.iload 7, 2) := dk_21 7 (dk_at dksX5_listen_5 12 rfl rfl)
theorem dX5_listen_131 : decode cX5_listen 131 = .ok (.iload_n 3, 1) := dk_29 (dk_at dksX5_listen_5 14 rfl rfl)
theorem dX5_listen_132 : decode cX5_listen 132 = .ok (.if_icmp .ge 20, 3) := dk_162 0 20 (dk_at dksX5_listen_5 15 rfl rfl)
theorem dX5_listen_135 : decode cX5_listen 135 = .ok (.bipush 10, 2) := dk_16 10 (dk_at dksX5_listen_5 18 rfl rfl)
theorem dX5_listen_137 : decode cX5_listen 137 = .ok (.iload 5, 2) := dk_21 5 (dk_at dksX5_listen_5 20 rfl rfl)
theorem dX5_listen_139 : decode cX5_listen 139 = .ok (.bipush 8, 2) := dk_16 8 (dk_at dksX5_listen_5 22 rfl rfl)
theorem dX5_listen_141 : decode cX5_listen 141 = .ok (.idiv, 1) := dk_108 (dk_at dksX5_listen_6 0 rfl rfl)
theorem dX5_listen_142 : decode cX5_listen 142 = .ok (.imul, 1) := dk_104 (dk_at dksX5_listen_6 1 rfl rfl)
theorem dX5_listen_143 : decode cX5_listen 143 = .ok (.iload 5, 2) := dk_21 5 (dk_at dksX5_listen_6 2 rfl rfl)
theorem dX5_listen_145 : decode cX5_listen 145 = .ok (.bipush 8, 2) := dk_16 8 (dk_at dksX5_listen_6 4 rfl rfl)
theorem dX5_listen_147 : decode cX5_listen 147 = .ok (.irem, 1) := dk_112 (dk_at dksX5_listen_6 6 rfl rfl)
theorem dX5_listen_148 : decode cX5_listen 148 = .ok (.iadd, 1) := dk_96 (dk_at dksX5_listen_6 7 rfl rfl)
theorem dX5_listen_149 : decode cX5_listen 149 = .ok (.goto 5, 3) := dk_167 0 5 (dk_at dksX5_listen_6 8 rfl rfl)
theorem dX5_listen_152 : decode cX5_listen 152 = .ok (.iload 4, 2) := dk_21 4 (dk_at dksX5_listen_6 11 rfl rfl)
theorem dX5_listen_154 : decode cX5_listen 154 = .ok (.istore 4, 2) := dk_54 4 (dk_at dksX5_listen_6 13 rfl rfl)
theorem dX5_listen_156 : decode cX5_listen 156 = .ok (.iload 7, 2) := dk_21 7 (dk_at dksX5_listen_6 15 rfl rfl)
theorem dX5_listen_158 : decode cX5_listen 158 = .ok (.iload_n 3, 1) := dk_29 (dk_at dksX5_listen_6 17 rfl rfl)
theorem dX5_listen_159 : decode cX5_listen 159 = .ok (.if_icmp .ge 8, 3) := dk_162 0 8 (dk_at dksX5_listen_6 18 rfl rfl)
theorem dX5_listen_162 : decode cX5_listen 162 = .ok (.iload 7, 2) := dk_21 7 (dk_at dksX5_listen_6 21 rfl rfl)
theorem dX5_listen_164 : decode cX5_listen 164 = .ok (.goto 4, 3) := dk_167 0 4 (dk_at dksX5_listen_7 0 rfl rfl)
theorem dX5_listen_167 : decode cX5_listen 167 = .ok (.iload_n 3, 1) := dk_29 (dk_at dksX5_listen_7 3 rfl rfl)
theorem dX5_listen_168 : decode cX5_listen 168 = .ok (.istore_n 3, 1) := dk_62 (dk_at dksX5_listen_7 4 rfl rfl)
theorem dX5_listen_169 : decode cX5_listen 169 = .ok (.iinc 5 1, 3) := dk_132 5 1 (dk_at dksX5_listen_7 5 rfl rfl)
theorem dX5_listen_172 : decode cX5_listen 172 = .ok (.goto (-136), 3) := dk_167 255 120 (dk_at dksX5_listen_7 8 rfl rfl)
theorem dX5_listen_175 : decode cX5_listen 175 = .ok (.iload_n 1, 1) := dk_27 (dk_at dksX5_listen_7 11 rfl rfl)
theorem dX5_listen_176 : decode cX5_listen 176 = .ok (.ifCond .ne 8, 3) := dk_154 0 8 (dk_at dksX5_listen_7 12 rfl rfl)
theorem dX5_listen_179 : decode cX5_listen 179 = .ok (.iload 4, 2) := dk_21 4 (dk_at dksX5_listen_7 15 rfl rfl)
theorem dX5_listen_181 : decode cX5_listen 181 = .ok (.goto 4, 3) := dk_167 0 4 (dk_at dksX5_listen_7 17 rfl rfl)
theorem dX5_listen_184 : decode cX5_listen 184 = .ok (.iload_n 3, 1) := dk_29 (dk_at dksX5_listen_7 20 rfl rfl)
theorem dX5_listen_185 : decode cX5_listen 185 = .ok (.ireturn, 1) := dk_172 (dk_at dksX5_listen_7 21 rfl rfl)
abbrev cX5_steady : ByteArray := prog_22_method_94_code
def yX5_steady : MethodName := ⟨RX5, "steady", "(I)I"⟩
def dkwX5_steady_1 : List UInt8 := [46, 172]
abbrev dktX5_steady_1 : List UInt8 := dkwX5_steady_1 ++ []
def dkwX5_steady_0 : List UInt8 := [42, 3, 181, 0, 175, 42, 27, 182, 0, 213, 154, 0, 5, 2, 172, 42, 182, 1, 241, 42, 180, 0, 119, 27]
abbrev dktX5_steady_0 : List UInt8 := dkwX5_steady_0 ++ dktX5_steady_1
theorem dksX5_steady_0 : cX5_steady.data.toList.drop 0 = dktX5_steady_0 := by decide +kernel
theorem dksX5_steady_1 : cX5_steady.data.toList.drop 24 = dktX5_steady_1 := dk_seg dksX5_steady_0 24 rfl rfl
theorem dX5_steady_0 : decode cX5_steady 0 = .ok (.aload_n 0, 1) := dk_42 (dk_at dksX5_steady_0 0 rfl rfl)
theorem dX5_steady_1 : decode cX5_steady 1 = .ok (.iconst 0, 1) := dk_3 (dk_at dksX5_steady_0 1 rfl rfl)
theorem dX5_steady_2 : decode cX5_steady 2 = .ok (.putfield 175, 3) := dk_181 0 175 (dk_at dksX5_steady_0 2 rfl rfl)
theorem dX5_steady_5 : decode cX5_steady 5 = .ok (.aload_n 0, 1) := dk_42 (dk_at dksX5_steady_0 5 rfl rfl)
theorem dX5_steady_6 : decode cX5_steady 6 = .ok (.iload_n 1, 1) := dk_27 (dk_at dksX5_steady_0 6 rfl rfl)
theorem dX5_steady_7 : decode cX5_steady 7 = .ok (.invokevirtual 213, 3) := dk_182 0 213 (dk_at dksX5_steady_0 7 rfl rfl)
theorem dX5_steady_10 : decode cX5_steady 10 = .ok (.ifCond .ne 5, 3) := dk_154 0 5 (dk_at dksX5_steady_0 10 rfl rfl)
theorem dX5_steady_13 : decode cX5_steady 13 = .ok (.iconst (-1), 1) := dk_2 (dk_at dksX5_steady_0 13 rfl rfl)
theorem dX5_steady_14 : decode cX5_steady 14 = .ok (.ireturn, 1) := dk_172 (dk_at dksX5_steady_0 14 rfl rfl)
theorem dX5_steady_15 : decode cX5_steady 15 = .ok (.aload_n 0, 1) := dk_42 (dk_at dksX5_steady_0 15 rfl rfl)
theorem dX5_steady_16 : decode cX5_steady 16 = .ok (.invokevirtual 497, 3) := dk_182 1 241 (dk_at dksX5_steady_0 16 rfl rfl)
theorem dX5_steady_19 : decode cX5_steady 19 = .ok (.aload_n 0, 1) := dk_42 (dk_at dksX5_steady_0 19 rfl rfl)
theorem dX5_steady_20 : decode cX5_steady 20 = .ok (.getfield 119, 3) := dk_180 0 119 (dk_at dksX5_steady_0 20 rfl rfl)
theorem dX5_steady_23 : decode cX5_steady 23 = .ok (.iload_n 1, 1) := dk_27 (dk_at dksX5_steady_0 23 rfl rfl)
theorem dX5_steady_24 : decode cX5_steady 24 = .ok (.iaload, 1) := dk_46 (dk_at dksX5_steady_1 0 rfl rfl)
theorem dX5_steady_25 : decode cX5_steady 25 = .ok (.ireturn, 1) := dk_172 (dk_at dksX5_steady_1 1 rfl rfl)
abbrev cX5_laySteady : ByteArray := prog_22_method_93_code
def yX5_laySteady : MethodName := ⟨RX5, "laySteady", "()V"⟩
def dkwX5_laySteady_4 : List UInt8 := [167, 255, 168, 177]
abbrev dktX5_laySteady_4 : List UInt8 := dkwX5_laySteady_4 ++ []
def dkwX5_laySteady_3 : List UInt8 := [159, 0, 17, 42, 180, 0, 122, 16, 6, 28, 104, 29, 96, 4, 84, 4, 60, 132, 2, 1, 167, 255, 208]
abbrev dktX5_laySteady_3 : List UInt8 := dkwX5_laySteady_3 ++ dktX5_laySteady_4
def dkwX5_laySteady_2 : List UInt8 := [3, 46, 162, 0, 44, 42, 180, 0, 119, 28, 46, 62, 29, 2, 159, 0, 26, 42, 29, 182, 1, 238, 28]
abbrev dktX5_laySteady_2 : List UInt8 := dkwX5_laySteady_2 ++ dktX5_laySteady_3
def dkwX5_laySteady_1 : List UInt8 := [42, 180, 0, 119, 28, 42, 28, 182, 1, 235, 79, 132, 2, 1, 167, 255, 232, 3, 61, 28, 42, 180, 0, 13]
abbrev dktX5_laySteady_1 : List UInt8 := dkwX5_laySteady_1 ++ dktX5_laySteady_2
def dkwX5_laySteady_0 : List UInt8 := [42, 182, 1, 232, 4, 60, 27, 153, 0, 90, 3, 60, 3, 61, 28, 42, 180, 0, 13, 3, 46, 162, 0, 20]
abbrev dktX5_laySteady_0 : List UInt8 := dkwX5_laySteady_0 ++ dktX5_laySteady_1
theorem dksX5_laySteady_0 : cX5_laySteady.data.toList.drop 0 = dktX5_laySteady_0 := by decide +kernel
theorem dksX5_laySteady_1 : cX5_laySteady.data.toList.drop 24 = dktX5_laySteady_1 := dk_seg dksX5_laySteady_0 24 rfl rfl
theorem dksX5_laySteady_2 : cX5_laySteady.data.toList.drop 48 = dktX5_laySteady_2 := dk_seg dksX5_laySteady_1 24 rfl rfl
theorem dksX5_laySteady_3 : cX5_laySteady.data.toList.drop 71 = dktX5_laySteady_3 := dk_seg dksX5_laySteady_2 23 rfl rfl
theorem dksX5_laySteady_4 : cX5_laySteady.data.toList.drop 94 = dktX5_laySteady_4 := dk_seg dksX5_laySteady_3 23 rfl rfl
theorem dX5_laySteady_0 : decode cX5_laySteady 0 = .ok (.aload_n 0, 1) := dk_42 (dk_at dksX5_laySteady_0 0 rfl rfl)
theorem dX5_laySteady_1 : decode cX5_laySteady 1 = .ok (.invokevirtual 488, 3) := dk_182 1 232 (dk_at dksX5_laySteady_0 1 rfl rfl)
theorem dX5_laySteady_4 : decode cX5_laySteady 4 = .ok (.iconst 1, 1) := dk_4 (dk_at dksX5_laySteady_0 4 rfl rfl)
theorem dX5_laySteady_5 : decode cX5_laySteady 5 = .ok (.istore_n 1, 1) := dk_60 (dk_at dksX5_laySteady_0 5 rfl rfl)
theorem dX5_laySteady_6 : decode cX5_laySteady 6 = .ok (.iload_n 1, 1) := dk_27 (dk_at dksX5_laySteady_0 6 rfl rfl)
theorem dX5_laySteady_7 : decode cX5_laySteady 7 = .ok (.ifCond .eq 90, 3) := dk_153 0 90 (dk_at dksX5_laySteady_0 7 rfl rfl)
theorem dX5_laySteady_10 : decode cX5_laySteady 10 = .ok (.iconst 0, 1) := dk_3 (dk_at dksX5_laySteady_0 10 rfl rfl)
theorem dX5_laySteady_11 : decode cX5_laySteady 11 = .ok (.istore_n 1, 1) := dk_60 (dk_at dksX5_laySteady_0 11 rfl rfl)
theorem dX5_laySteady_12 : decode cX5_laySteady 12 = .ok (.iconst 0, 1) := dk_3 (dk_at dksX5_laySteady_0 12 rfl rfl)
theorem dX5_laySteady_13 : decode cX5_laySteady 13 = .ok (.istore_n 2, 1) := dk_61 (dk_at dksX5_laySteady_0 13 rfl rfl)
theorem dX5_laySteady_14 : decode cX5_laySteady 14 = .ok (.iload_n 2, 1) := dk_28 (dk_at dksX5_laySteady_0 14 rfl rfl)
theorem dX5_laySteady_15 : decode cX5_laySteady 15 = .ok (.aload_n 0, 1) := dk_42 (dk_at dksX5_laySteady_0 15 rfl rfl)
theorem dX5_laySteady_16 : decode cX5_laySteady 16 = .ok (.getfield 13, 3) := dk_180 0 13 (dk_at dksX5_laySteady_0 16 rfl rfl)
theorem dX5_laySteady_19 : decode cX5_laySteady 19 = .ok (.iconst 0, 1) := dk_3 (dk_at dksX5_laySteady_0 19 rfl rfl)
theorem dX5_laySteady_20 : decode cX5_laySteady 20 = .ok (.iaload, 1) := dk_46 (dk_at dksX5_laySteady_0 20 rfl rfl)
theorem dX5_laySteady_21 : decode cX5_laySteady 21 = .ok (.if_icmp .ge 20, 3) := dk_162 0 20 (dk_at dksX5_laySteady_0 21 rfl rfl)
theorem dX5_laySteady_24 : decode cX5_laySteady 24 = .ok (.aload_n 0, 1) := dk_42 (dk_at dksX5_laySteady_1 0 rfl rfl)
theorem dX5_laySteady_25 : decode cX5_laySteady 25 = .ok (.getfield 119, 3) := dk_180 0 119 (dk_at dksX5_laySteady_1 1 rfl rfl)
theorem dX5_laySteady_28 : decode cX5_laySteady 28 = .ok (.iload_n 2, 1) := dk_28 (dk_at dksX5_laySteady_1 4 rfl rfl)
theorem dX5_laySteady_29 : decode cX5_laySteady 29 = .ok (.aload_n 0, 1) := dk_42 (dk_at dksX5_laySteady_1 5 rfl rfl)
theorem dX5_laySteady_30 : decode cX5_laySteady 30 = .ok (.iload_n 2, 1) := dk_28 (dk_at dksX5_laySteady_1 6 rfl rfl)
theorem dX5_laySteady_31 : decode cX5_laySteady 31 = .ok (.invokevirtual 491, 3) := dk_182 1 235 (dk_at dksX5_laySteady_1 7 rfl rfl)
theorem dX5_laySteady_34 : decode cX5_laySteady 34 = .ok (.iastore, 1) := dk_79 (dk_at dksX5_laySteady_1 10 rfl rfl)
theorem dX5_laySteady_35 : decode cX5_laySteady 35 = .ok (.iinc 2 1, 3) := dk_132 2 1 (dk_at dksX5_laySteady_1 11 rfl rfl)
theorem dX5_laySteady_38 : decode cX5_laySteady 38 = .ok (.goto (-24), 3) := dk_167 255 232 (dk_at dksX5_laySteady_1 14 rfl rfl)
theorem dX5_laySteady_41 : decode cX5_laySteady 41 = .ok (.iconst 0, 1) := dk_3 (dk_at dksX5_laySteady_1 17 rfl rfl)
theorem dX5_laySteady_42 : decode cX5_laySteady 42 = .ok (.istore_n 2, 1) := dk_61 (dk_at dksX5_laySteady_1 18 rfl rfl)
theorem dX5_laySteady_43 : decode cX5_laySteady 43 = .ok (.iload_n 2, 1) := dk_28 (dk_at dksX5_laySteady_1 19 rfl rfl)
theorem dX5_laySteady_44 : decode cX5_laySteady 44 = .ok (.aload_n 0, 1) := dk_42 (dk_at dksX5_laySteady_1 20 rfl rfl)
theorem dX5_laySteady_45 : decode cX5_laySteady 45 = .ok (.getfield 13, 3) := dk_180 0 13 (dk_at dksX5_laySteady_1 21 rfl rfl)
theorem dX5_laySteady_48 : decode cX5_laySteady 48 = .ok (.iconst 0, 1) := dk_3 (dk_at dksX5_laySteady_2 0 rfl rfl)
theorem dX5_laySteady_49 : decode cX5_laySteady 49 = .ok (.iaload, 1) := dk_46 (dk_at dksX5_laySteady_2 1 rfl rfl)
theorem dX5_laySteady_50 : decode cX5_laySteady 50 = .ok (.if_icmp .ge 44, 3) := dk_162 0 44 (dk_at dksX5_laySteady_2 2 rfl rfl)
theorem dX5_laySteady_53 : decode cX5_laySteady 53 = .ok (.aload_n 0, 1) := dk_42 (dk_at dksX5_laySteady_2 5 rfl rfl)
theorem dX5_laySteady_54 : decode cX5_laySteady 54 = .ok (.getfield 119, 3) := dk_180 0 119 (dk_at dksX5_laySteady_2 6 rfl rfl)
theorem dX5_laySteady_57 : decode cX5_laySteady 57 = .ok (.iload_n 2, 1) := dk_28 (dk_at dksX5_laySteady_2 9 rfl rfl)
theorem dX5_laySteady_58 : decode cX5_laySteady 58 = .ok (.iaload, 1) := dk_46 (dk_at dksX5_laySteady_2 10 rfl rfl)
theorem dX5_laySteady_59 : decode cX5_laySteady 59 = .ok (.istore_n 3, 1) := dk_62 (dk_at dksX5_laySteady_2 11 rfl rfl)
theorem dX5_laySteady_60 : decode cX5_laySteady 60 = .ok (.iload_n 3, 1) := dk_29 (dk_at dksX5_laySteady_2 12 rfl rfl)
theorem dX5_laySteady_61 : decode cX5_laySteady 61 = .ok (.iconst (-1), 1) := dk_2 (dk_at dksX5_laySteady_2 13 rfl rfl)
theorem dX5_laySteady_62 : decode cX5_laySteady 62 = .ok (.if_icmp .eq 26, 3) := dk_159 0 26 (dk_at dksX5_laySteady_2 14 rfl rfl)
theorem dX5_laySteady_65 : decode cX5_laySteady 65 = .ok (.aload_n 0, 1) := dk_42 (dk_at dksX5_laySteady_2 17 rfl rfl)
theorem dX5_laySteady_66 : decode cX5_laySteady 66 = .ok (.iload_n 3, 1) := dk_29 (dk_at dksX5_laySteady_2 18 rfl rfl)
theorem dX5_laySteady_67 : decode cX5_laySteady 67 = .ok (.invokevirtual 494, 3) := dk_182 1 238 (dk_at dksX5_laySteady_2 19 rfl rfl)
theorem dX5_laySteady_70 : decode cX5_laySteady 70 = .ok (.iload_n 2, 1) := dk_28 (dk_at dksX5_laySteady_2 22 rfl rfl)
theorem dX5_laySteady_71 : decode cX5_laySteady 71 = .ok (.if_icmp .eq 17, 3) := dk_159 0 17 (dk_at dksX5_laySteady_3 0 rfl rfl)
theorem dX5_laySteady_74 : decode cX5_laySteady 74 = .ok (.aload_n 0, 1) := dk_42 (dk_at dksX5_laySteady_3 3 rfl rfl)
theorem dX5_laySteady_75 : decode cX5_laySteady 75 = .ok (.getfield 122, 3) := dk_180 0 122 (dk_at dksX5_laySteady_3 4 rfl rfl)
theorem dX5_laySteady_78 : decode cX5_laySteady 78 = .ok (.bipush 6, 2) := dk_16 6 (dk_at dksX5_laySteady_3 7 rfl rfl)
theorem dX5_laySteady_80 : decode cX5_laySteady 80 = .ok (.iload_n 2, 1) := dk_28 (dk_at dksX5_laySteady_3 9 rfl rfl)
theorem dX5_laySteady_81 : decode cX5_laySteady 81 = .ok (.imul, 1) := dk_104 (dk_at dksX5_laySteady_3 10 rfl rfl)
theorem dX5_laySteady_82 : decode cX5_laySteady 82 = .ok (.iload_n 3, 1) := dk_29 (dk_at dksX5_laySteady_3 11 rfl rfl)
theorem dX5_laySteady_83 : decode cX5_laySteady 83 = .ok (.iadd, 1) := dk_96 (dk_at dksX5_laySteady_3 12 rfl rfl)
theorem dX5_laySteady_84 : decode cX5_laySteady 84 = .ok (.iconst 1, 1) := dk_4 (dk_at dksX5_laySteady_3 13 rfl rfl)
theorem dX5_laySteady_85 : decode cX5_laySteady 85 = .ok (.bastore, 1) := dk_84 (dk_at dksX5_laySteady_3 14 rfl rfl)
theorem dX5_laySteady_86 : decode cX5_laySteady 86 = .ok (.iconst 1, 1) := dk_4 (dk_at dksX5_laySteady_3 15 rfl rfl)
theorem dX5_laySteady_87 : decode cX5_laySteady 87 = .ok (.istore_n 1, 1) := dk_60 (dk_at dksX5_laySteady_3 16 rfl rfl)
theorem dX5_laySteady_88 : decode cX5_laySteady 88 = .ok (.iinc 2 1, 3) := dk_132 2 1 (dk_at dksX5_laySteady_3 17 rfl rfl)
theorem dX5_laySteady_91 : decode cX5_laySteady 91 = .ok (.goto (-48), 3) := dk_167 255 208 (dk_at dksX5_laySteady_3 20 rfl rfl)
theorem dX5_laySteady_94 : decode cX5_laySteady 94 = .ok (.goto (-88), 3) := dk_167 255 168 (dk_at dksX5_laySteady_4 0 rfl rfl)
theorem dX5_laySteady_97 : decode cX5_laySteady 97 = .ok (.return_, 1) := dk_177 (dk_at dksX5_laySteady_4 3 rfl rfl)
abbrev cX5_layTwos : ByteArray := prog_22_method_90_code
def yX5_layTwos : MethodName := ⟨RX5, "layTwos", "()V"⟩
def dkwX5_layTwos_6 : List UInt8 := [167, 0, 4, 3, 84, 132, 2, 1, 167, 255, 120, 132, 1, 1, 167, 255, 102, 177]
abbrev dktX5_layTwos_6 : List UInt8 := dkwX5_layTwos_6 ++ []
def dkwX5_layTwos_5 : List UInt8 := [28, 96, 42, 27, 28, 182, 0, 250, 79, 42, 180, 0, 122, 16, 6, 27, 104, 28, 96, 29, 154, 0, 7, 4]
abbrev dktX5_layTwos_5 : List UInt8 := dkwX5_layTwos_5 ++ dktX5_layTwos_6
def dkwX5_layTwos_4 : List UInt8 := [156, 0, 9, 21, 4, 116, 167, 0, 9, 21, 4, 167, 0, 4, 2, 79, 42, 180, 0, 116, 16, 6, 27, 104]
abbrev dktX5_layTwos_4 : List UInt8 := dkwX5_layTwos_4 ++ dktX5_layTwos_5
def dkwX5_layTwos_3 : List UInt8 := [28, 96, 46, 100, 54, 4, 42, 180, 0, 113, 16, 6, 27, 104, 28, 96, 29, 153, 0, 19, 21, 4]
abbrev dktX5_layTwos_3 : List UInt8 := dkwX5_layTwos_3 ++ dktX5_layTwos_4
def dkwX5_layTwos_2 : List UInt8 := [28, 182, 0, 253, 154, 0, 7, 4, 167, 0, 4, 3, 62, 42, 27, 182, 0, 222, 42, 180, 0, 13, 16, 86]
abbrev dktX5_layTwos_2 : List UInt8 := dkwX5_layTwos_2 ++ dktX5_layTwos_3
def dkwX5_layTwos_1 : List UInt8 := [42, 180, 0, 13, 16, 68, 27, 96, 46, 2, 160, 0, 25, 42, 28, 182, 0, 244, 2, 160, 0, 16, 42, 27]
abbrev dktX5_layTwos_1 : List UInt8 := dkwX5_layTwos_1 ++ dktX5_layTwos_2
def dkwX5_layTwos_0 : List UInt8 := [3, 60, 27, 42, 180, 0, 13, 3, 46, 162, 0, 150, 3, 61, 28, 42, 180, 0, 13, 4, 46, 162, 0, 132]
abbrev dktX5_layTwos_0 : List UInt8 := dkwX5_layTwos_0 ++ dktX5_layTwos_1
theorem dksX5_layTwos_0 : cX5_layTwos.data.toList.drop 0 = dktX5_layTwos_0 := by decide +kernel
theorem dksX5_layTwos_1 : cX5_layTwos.data.toList.drop 24 = dktX5_layTwos_1 := dk_seg dksX5_layTwos_0 24 rfl rfl
theorem dksX5_layTwos_2 : cX5_layTwos.data.toList.drop 48 = dktX5_layTwos_2 := dk_seg dksX5_layTwos_1 24 rfl rfl
theorem dksX5_layTwos_3 : cX5_layTwos.data.toList.drop 72 = dktX5_layTwos_3 := dk_seg dksX5_layTwos_2 24 rfl rfl
theorem dksX5_layTwos_4 : cX5_layTwos.data.toList.drop 94 = dktX5_layTwos_4 := dk_seg dksX5_layTwos_3 22 rfl rfl
theorem dksX5_layTwos_5 : cX5_layTwos.data.toList.drop 118 = dktX5_layTwos_5 := dk_seg dksX5_layTwos_4 24 rfl rfl
theorem dksX5_layTwos_6 : cX5_layTwos.data.toList.drop 142 = dktX5_layTwos_6 := dk_seg dksX5_layTwos_5 24 rfl rfl
theorem dX5_layTwos_0 : decode cX5_layTwos 0 = .ok (.iconst 0, 1) := dk_3 (dk_at dksX5_layTwos_0 0 rfl rfl)
theorem dX5_layTwos_1 : decode cX5_layTwos 1 = .ok (.istore_n 1, 1) := dk_60 (dk_at dksX5_layTwos_0 1 rfl rfl)
theorem dX5_layTwos_2 : decode cX5_layTwos 2 = .ok (.iload_n 1, 1) := dk_27 (dk_at dksX5_layTwos_0 2 rfl rfl)
theorem dX5_layTwos_3 : decode cX5_layTwos 3 = .ok (.aload_n 0, 1) := dk_42 (dk_at dksX5_layTwos_0 3 rfl rfl)
theorem dX5_layTwos_4 : decode cX5_layTwos 4 = .ok (.getfield 13, 3) := dk_180 0 13 (dk_at dksX5_layTwos_0 4 rfl rfl)
theorem dX5_layTwos_7 : decode cX5_layTwos 7 = .ok (.iconst 0, 1) := dk_3 (dk_at dksX5_layTwos_0 7 rfl rfl)
theorem dX5_layTwos_8 : decode cX5_layTwos 8 = .ok (.iaload, 1) := dk_46 (dk_at dksX5_layTwos_0 8 rfl rfl)
theorem dX5_layTwos_9 : decode cX5_layTwos 9 = .ok (.if_icmp .ge 150, 3) := dk_162 0 150 (dk_at dksX5_layTwos_0 9 rfl rfl)
theorem dX5_layTwos_12 : decode cX5_layTwos 12 = .ok (.iconst 0, 1) := dk_3 (dk_at dksX5_layTwos_0 12 rfl rfl)
theorem dX5_layTwos_13 : decode cX5_layTwos 13 = .ok (.istore_n 2, 1) := dk_61 (dk_at dksX5_layTwos_0 13 rfl rfl)
theorem dX5_layTwos_14 : decode cX5_layTwos 14 = .ok (.iload_n 2, 1) := dk_28 (dk_at dksX5_layTwos_0 14 rfl rfl)
theorem dX5_layTwos_15 : decode cX5_layTwos 15 = .ok (.aload_n 0, 1) := dk_42 (dk_at dksX5_layTwos_0 15 rfl rfl)
theorem dX5_layTwos_16 : decode cX5_layTwos 16 = .ok (.getfield 13, 3) := dk_180 0 13 (dk_at dksX5_layTwos_0 16 rfl rfl)
theorem dX5_layTwos_19 : decode cX5_layTwos 19 = .ok (.iconst 1, 1) := dk_4 (dk_at dksX5_layTwos_0 19 rfl rfl)
theorem dX5_layTwos_20 : decode cX5_layTwos 20 = .ok (.iaload, 1) := dk_46 (dk_at dksX5_layTwos_0 20 rfl rfl)
theorem dX5_layTwos_21 : decode cX5_layTwos 21 = .ok (.if_icmp .ge 132, 3) := dk_162 0 132 (dk_at dksX5_layTwos_0 21 rfl rfl)
theorem dX5_layTwos_24 : decode cX5_layTwos 24 = .ok (.aload_n 0, 1) := dk_42 (dk_at dksX5_layTwos_1 0 rfl rfl)
theorem dX5_layTwos_25 : decode cX5_layTwos 25 = .ok (.getfield 13, 3) := dk_180 0 13 (dk_at dksX5_layTwos_1 1 rfl rfl)
theorem dX5_layTwos_28 : decode cX5_layTwos 28 = .ok (.bipush 68, 2) := dk_16 68 (dk_at dksX5_layTwos_1 4 rfl rfl)
theorem dX5_layTwos_30 : decode cX5_layTwos 30 = .ok (.iload_n 1, 1) := dk_27 (dk_at dksX5_layTwos_1 6 rfl rfl)
theorem dX5_layTwos_31 : decode cX5_layTwos 31 = .ok (.iadd, 1) := dk_96 (dk_at dksX5_layTwos_1 7 rfl rfl)
theorem dX5_layTwos_32 : decode cX5_layTwos 32 = .ok (.iaload, 1) := dk_46 (dk_at dksX5_layTwos_1 8 rfl rfl)
theorem dX5_layTwos_33 : decode cX5_layTwos 33 = .ok (.iconst (-1), 1) := dk_2 (dk_at dksX5_layTwos_1 9 rfl rfl)
theorem dX5_layTwos_34 : decode cX5_layTwos 34 = .ok (.if_icmp .ne 25, 3) := dk_160 0 25 (dk_at dksX5_layTwos_1 10 rfl rfl)
theorem dX5_layTwos_37 : decode cX5_layTwos 37 = .ok (.aload_n 0, 1) := dk_42 (dk_at dksX5_layTwos_1 13 rfl rfl)
theorem dX5_layTwos_38 : decode cX5_layTwos 38 = .ok (.iload_n 2, 1) := dk_28 (dk_at dksX5_layTwos_1 14 rfl rfl)
theorem dX5_layTwos_39 : decode cX5_layTwos 39 = .ok (.invokevirtual 244, 3) := dk_182 0 244 (dk_at dksX5_layTwos_1 15 rfl rfl)
theorem dX5_layTwos_42 : decode cX5_layTwos 42 = .ok (.iconst (-1), 1) := dk_2 (dk_at dksX5_layTwos_1 18 rfl rfl)
theorem dX5_layTwos_43 : decode cX5_layTwos 43 = .ok (.if_icmp .ne 16, 3) := dk_160 0 16 (dk_at dksX5_layTwos_1 19 rfl rfl)
theorem dX5_layTwos_46 : decode cX5_layTwos 46 = .ok (.aload_n 0, 1) := dk_42 (dk_at dksX5_layTwos_1 22 rfl rfl)
theorem dX5_layTwos_47 : decode cX5_layTwos 47 = .ok (.iload_n 1, 1) := dk_27 (dk_at dksX5_layTwos_1 23 rfl rfl)
theorem dX5_layTwos_48 : decode cX5_layTwos 48 = .ok (.iload_n 2, 1) := dk_28 (dk_at dksX5_layTwos_2 0 rfl rfl)
theorem dX5_layTwos_49 : decode cX5_layTwos 49 = .ok (.invokevirtual 253, 3) := dk_182 0 253 (dk_at dksX5_layTwos_2 1 rfl rfl)
theorem dX5_layTwos_52 : decode cX5_layTwos 52 = .ok (.ifCond .ne 7, 3) := dk_154 0 7 (dk_at dksX5_layTwos_2 4 rfl rfl)
theorem dX5_layTwos_55 : decode cX5_layTwos 55 = .ok (.iconst 1, 1) := dk_4 (dk_at dksX5_layTwos_2 7 rfl rfl)
theorem dX5_layTwos_56 : decode cX5_layTwos 56 = .ok (.goto 4, 3) := dk_167 0 4 (dk_at dksX5_layTwos_2 8 rfl rfl)
theorem dX5_layTwos_59 : decode cX5_layTwos 59 = .ok (.iconst 0, 1) := dk_3 (dk_at dksX5_layTwos_2 11 rfl rfl)
theorem dX5_layTwos_60 : decode cX5_layTwos 60 = .ok (.istore_n 3, 1) := dk_62 (dk_at dksX5_layTwos_2 12 rfl rfl)
theorem dX5_layTwos_61 : decode cX5_layTwos 61 = .ok (.aload_n 0, 1) := dk_42 (dk_at dksX5_layTwos_2 13 rfl rfl)
theorem dX5_layTwos_62 : decode cX5_layTwos 62 = .ok (.iload_n 1, 1) := dk_27 (dk_at dksX5_layTwos_2 14 rfl rfl)
theorem dX5_layTwos_63 : decode cX5_layTwos 63 = .ok (.invokevirtual 222, 3) := dk_182 0 222 (dk_at dksX5_layTwos_2 15 rfl rfl)
theorem dX5_layTwos_66 : decode cX5_layTwos 66 = .ok (.aload_n 0, 1) := dk_42 (dk_at dksX5_layTwos_2 18 rfl rfl)
theorem dX5_layTwos_67 : decode cX5_layTwos 67 = .ok (.getfield 13, 3) := dk_180 0 13 (dk_at dksX5_layTwos_2 19 rfl rfl)
theorem dX5_layTwos_70 : decode cX5_layTwos 70 = .ok (.bipush 86, 2) := dk_16 86 (dk_at dksX5_layTwos_2 22 rfl rfl)
theorem dX5_layTwos_72 : decode cX5_layTwos 72 = .ok (.iload_n 2, 1) := dk_28 (dk_at dksX5_layTwos_3 0 rfl rfl)
theorem dX5_layTwos_73 : decode cX5_layTwos 73 = .ok (.iadd, 1) := dk_96 (dk_at dksX5_layTwos_3 1 rfl rfl)
theorem dX5_layTwos_74 : decode cX5_layTwos 74 = .ok (.iaload, 1) := dk_46 (dk_at dksX5_layTwos_3 2 rfl rfl)
theorem dX5_layTwos_75 : decode cX5_layTwos 75 = .ok (.isub, 1) := dk_100 (dk_at dksX5_layTwos_3 3 rfl rfl)
theorem dX5_layTwos_76 : decode cX5_layTwos 76 = .ok (.istore 4, 2) := dk_54 4 (dk_at dksX5_layTwos_3 4 rfl rfl)
theorem dX5_layTwos_78 : decode cX5_layTwos 78 = .ok (.aload_n 0, 1) := dk_42 (dk_at dksX5_layTwos_3 6 rfl rfl)
theorem dX5_layTwos_79 : decode cX5_layTwos 79 = .ok (.getfield 113, 3) := dk_180 0 113 (dk_at dksX5_layTwos_3 7 rfl rfl)
theorem dX5_layTwos_82 : decode cX5_layTwos 82 = .ok (.bipush 6, 2) := dk_16 6 (dk_at dksX5_layTwos_3 10 rfl rfl)
theorem dX5_layTwos_84 : decode cX5_layTwos 84 = .ok (.iload_n 1, 1) := dk_27 (dk_at dksX5_layTwos_3 12 rfl rfl)
theorem dX5_layTwos_85 : decode cX5_layTwos 85 = .ok (.imul, 1) := dk_104 (dk_at dksX5_layTwos_3 13 rfl rfl)
theorem dX5_layTwos_86 : decode cX5_layTwos 86 = .ok (.iload_n 2, 1) := dk_28 (dk_at dksX5_layTwos_3 14 rfl rfl)
theorem dX5_layTwos_87 : decode cX5_layTwos 87 = .ok (.iadd, 1) := dk_96 (dk_at dksX5_layTwos_3 15 rfl rfl)
theorem dX5_layTwos_88 : decode cX5_layTwos 88 = .ok (.iload_n 3, 1) := dk_29 (dk_at dksX5_layTwos_3 16 rfl rfl)
theorem dX5_layTwos_89 : decode cX5_layTwos 89 = .ok (.ifCond .eq 19, 3) := dk_153 0 19 (dk_at dksX5_layTwos_3 17 rfl rfl)
theorem dX5_layTwos_92 : decode cX5_layTwos 92 = .ok (.iload 4, 2) := dk_21 4 (dk_at dksX5_layTwos_3 20 rfl rfl)
theorem dX5_layTwos_94 : decode cX5_layTwos 94 = .ok (.ifCond .ge 9, 3) := dk_156 0 9 (dk_at dksX5_layTwos_4 0 rfl rfl)
theorem dX5_layTwos_97 : decode cX5_layTwos 97 = .ok (.iload 4, 2) := dk_21 4 (dk_at dksX5_layTwos_4 3 rfl rfl)
theorem dX5_layTwos_99 : decode cX5_layTwos 99 = .ok (.ineg, 1) := dk_116 (dk_at dksX5_layTwos_4 5 rfl rfl)
theorem dX5_layTwos_100 : decode cX5_layTwos 100 = .ok (.goto 9, 3) := dk_167 0 9 (dk_at dksX5_layTwos_4 6 rfl rfl)
theorem dX5_layTwos_103 : decode cX5_layTwos 103 = .ok (.iload 4, 2) := dk_21 4 (dk_at dksX5_layTwos_4 9 rfl rfl)
theorem dX5_layTwos_105 : decode cX5_layTwos 105 = .ok (.goto 4, 3) := dk_167 0 4 (dk_at dksX5_layTwos_4 11 rfl rfl)
theorem dX5_layTwos_108 : decode cX5_layTwos 108 = .ok (.iconst (-1), 1) := dk_2 (dk_at dksX5_layTwos_4 14 rfl rfl)
theorem dX5_layTwos_109 : decode cX5_layTwos 109 = .ok (.iastore, 1) := dk_79 (dk_at dksX5_layTwos_4 15 rfl rfl)
theorem dX5_layTwos_110 : decode cX5_layTwos 110 = .ok (.aload_n 0, 1) := dk_42 (dk_at dksX5_layTwos_4 16 rfl rfl)
theorem dX5_layTwos_111 : decode cX5_layTwos 111 = .ok (.getfield 116, 3) := dk_180 0 116 (dk_at dksX5_layTwos_4 17 rfl rfl)
theorem dX5_layTwos_114 : decode cX5_layTwos 114 = .ok (.bipush 6, 2) := dk_16 6 (dk_at dksX5_layTwos_4 20 rfl rfl)
theorem dX5_layTwos_116 : decode cX5_layTwos 116 = .ok (.iload_n 1, 1) := dk_27 (dk_at dksX5_layTwos_4 22 rfl rfl)
theorem dX5_layTwos_117 : decode cX5_layTwos 117 = .ok (.imul, 1) := dk_104 (dk_at dksX5_layTwos_4 23 rfl rfl)
theorem dX5_layTwos_118 : decode cX5_layTwos 118 = .ok (.iload_n 2, 1) := dk_28 (dk_at dksX5_layTwos_5 0 rfl rfl)
theorem dX5_layTwos_119 : decode cX5_layTwos 119 = .ok (.iadd, 1) := dk_96 (dk_at dksX5_layTwos_5 1 rfl rfl)
theorem dX5_layTwos_120 : decode cX5_layTwos 120 = .ok (.aload_n 0, 1) := dk_42 (dk_at dksX5_layTwos_5 2 rfl rfl)
theorem dX5_layTwos_121 : decode cX5_layTwos 121 = .ok (.iload_n 1, 1) := dk_27 (dk_at dksX5_layTwos_5 3 rfl rfl)
theorem dX5_layTwos_122 : decode cX5_layTwos 122 = .ok (.iload_n 2, 1) := dk_28 (dk_at dksX5_layTwos_5 4 rfl rfl)
theorem dX5_layTwos_123 : decode cX5_layTwos 123 = .ok (.invokevirtual 250, 3) := dk_182 0 250 (dk_at dksX5_layTwos_5 5 rfl rfl)
theorem dX5_layTwos_126 : decode cX5_layTwos 126 = .ok (.iastore, 1) := dk_79 (dk_at dksX5_layTwos_5 8 rfl rfl)
theorem dX5_layTwos_127 : decode cX5_layTwos 127 = .ok (.aload_n 0, 1) := dk_42 (dk_at dksX5_layTwos_5 9 rfl rfl)
theorem dX5_layTwos_128 : decode cX5_layTwos 128 = .ok (.getfield 122, 3) := dk_180 0 122 (dk_at dksX5_layTwos_5 10 rfl rfl)
theorem dX5_layTwos_131 : decode cX5_layTwos 131 = .ok (.bipush 6, 2) := dk_16 6 (dk_at dksX5_layTwos_5 13 rfl rfl)
theorem dX5_layTwos_133 : decode cX5_layTwos 133 = .ok (.iload_n 1, 1) := dk_27 (dk_at dksX5_layTwos_5 15 rfl rfl)
theorem dX5_layTwos_134 : decode cX5_layTwos 134 = .ok (.imul, 1) := dk_104 (dk_at dksX5_layTwos_5 16 rfl rfl)
theorem dX5_layTwos_135 : decode cX5_layTwos 135 = .ok (.iload_n 2, 1) := dk_28 (dk_at dksX5_layTwos_5 17 rfl rfl)
theorem dX5_layTwos_136 : decode cX5_layTwos 136 = .ok (.iadd, 1) := dk_96 (dk_at dksX5_layTwos_5 18 rfl rfl)
theorem dX5_layTwos_137 : decode cX5_layTwos 137 = .ok (.iload_n 3, 1) := dk_29 (dk_at dksX5_layTwos_5 19 rfl rfl)
theorem dX5_layTwos_138 : decode cX5_layTwos 138 = .ok (.ifCond .ne 7, 3) := dk_154 0 7 (dk_at dksX5_layTwos_5 20 rfl rfl)
theorem dX5_layTwos_141 : decode cX5_layTwos 141 = .ok (.iconst 1, 1) := dk_4 (dk_at dksX5_layTwos_5 23 rfl rfl)
theorem dX5_layTwos_142 : decode cX5_layTwos 142 = .ok (.goto 4, 3) := dk_167 0 4 (dk_at dksX5_layTwos_6 0 rfl rfl)
theorem dX5_layTwos_145 : decode cX5_layTwos 145 = .ok (.iconst 0, 1) := dk_3 (dk_at dksX5_layTwos_6 3 rfl rfl)
theorem dX5_layTwos_146 : decode cX5_layTwos 146 = .ok (.bastore, 1) := dk_84 (dk_at dksX5_layTwos_6 4 rfl rfl)
theorem dX5_layTwos_147 : decode cX5_layTwos 147 = .ok (.iinc 2 1, 3) := dk_132 2 1 (dk_at dksX5_layTwos_6 5 rfl rfl)
theorem dX5_layTwos_150 : decode cX5_layTwos 150 = .ok (.goto (-136), 3) := dk_167 255 120 (dk_at dksX5_layTwos_6 8 rfl rfl)
theorem dX5_layTwos_153 : decode cX5_layTwos 153 = .ok (.iinc 1 1, 3) := dk_132 1 1 (dk_at dksX5_layTwos_6 11 rfl rfl)
theorem dX5_layTwos_156 : decode cX5_layTwos 156 = .ok (.goto (-154), 3) := dk_167 255 102 (dk_at dksX5_layTwos_6 14 rfl rfl)
theorem dX5_layTwos_159 : decode cX5_layTwos 159 = .ok (.return_, 1) := dk_177 (dk_at dksX5_layTwos_6 17 rfl rfl)
abbrev cX5_nearest : ByteArray := prog_22_method_91_code
def yX5_nearest : MethodName := ⟨RX5, "nearest", "(I)I"⟩
def dkwX5_nearest_2 : List UInt8 := [16, 6, 27, 104, 28, 96, 46, 162, 0, 7, 29, 167, 0, 4, 28, 61, 132, 3, 1, 167, 255, 193, 28, 172]
abbrev dktX5_nearest_2 : List UInt8 := dkwX5_nearest_2 ++ []
def dkwX5_nearest_1 : List UInt8 := [51, 154, 0, 37, 28, 2, 159, 0, 28, 42, 180, 0, 113, 16, 6, 27, 104, 29, 96, 46, 42, 180, 0, 113]
abbrev dktX5_nearest_1 : List UInt8 := dkwX5_nearest_1 ++ dktX5_nearest_2
def dkwX5_nearest_0 : List UInt8 := [2, 61, 3, 62, 29, 42, 180, 0, 13, 4, 46, 162, 0, 59, 42, 180, 0, 122, 16, 6, 27, 104, 29, 96]
abbrev dktX5_nearest_0 : List UInt8 := dkwX5_nearest_0 ++ dktX5_nearest_1
theorem dksX5_nearest_0 : cX5_nearest.data.toList.drop 0 = dktX5_nearest_0 := by decide +kernel
theorem dksX5_nearest_1 : cX5_nearest.data.toList.drop 24 = dktX5_nearest_1 := dk_seg dksX5_nearest_0 24 rfl rfl
theorem dksX5_nearest_2 : cX5_nearest.data.toList.drop 48 = dktX5_nearest_2 := dk_seg dksX5_nearest_1 24 rfl rfl
theorem dX5_nearest_0 : decode cX5_nearest 0 = .ok (.iconst (-1), 1) := dk_2 (dk_at dksX5_nearest_0 0 rfl rfl)
theorem dX5_nearest_1 : decode cX5_nearest 1 = .ok (.istore_n 2, 1) := dk_61 (dk_at dksX5_nearest_0 1 rfl rfl)
theorem dX5_nearest_2 : decode cX5_nearest 2 = .ok (.iconst 0, 1) := dk_3 (dk_at dksX5_nearest_0 2 rfl rfl)
theorem dX5_nearest_3 : decode cX5_nearest 3 = .ok (.istore_n 3, 1) := dk_62 (dk_at dksX5_nearest_0 3 rfl rfl)
theorem dX5_nearest_4 : decode cX5_nearest 4 = .ok (.iload_n 3, 1) := dk_29 (dk_at dksX5_nearest_0 4 rfl rfl)
theorem dX5_nearest_5 : decode cX5_nearest 5 = .ok (.aload_n 0, 1) := dk_42 (dk_at dksX5_nearest_0 5 rfl rfl)
theorem dX5_nearest_6 : decode cX5_nearest 6 = .ok (.getfield 13, 3) := dk_180 0 13 (dk_at dksX5_nearest_0 6 rfl rfl)
theorem dX5_nearest_9 : decode cX5_nearest 9 = .ok (.iconst 1, 1) := dk_4 (dk_at dksX5_nearest_0 9 rfl rfl)
theorem dX5_nearest_10 : decode cX5_nearest 10 = .ok (.iaload, 1) := dk_46 (dk_at dksX5_nearest_0 10 rfl rfl)
theorem dX5_nearest_11 : decode cX5_nearest 11 = .ok (.if_icmp .ge 59, 3) := dk_162 0 59 (dk_at dksX5_nearest_0 11 rfl rfl)
theorem dX5_nearest_14 : decode cX5_nearest 14 = .ok (.aload_n 0, 1) := dk_42 (dk_at dksX5_nearest_0 14 rfl rfl)
theorem dX5_nearest_15 : decode cX5_nearest 15 = .ok (.getfield 122, 3) := dk_180 0 122 (dk_at dksX5_nearest_0 15 rfl rfl)
theorem dX5_nearest_18 : decode cX5_nearest 18 = .ok (.bipush 6, 2) := dk_16 6 (dk_at dksX5_nearest_0 18 rfl rfl)
theorem dX5_nearest_20 : decode cX5_nearest 20 = .ok (.iload_n 1, 1) := dk_27 (dk_at dksX5_nearest_0 20 rfl rfl)
theorem dX5_nearest_21 : decode cX5_nearest 21 = .ok (.imul, 1) := dk_104 (dk_at dksX5_nearest_0 21 rfl rfl)
theorem dX5_nearest_22 : decode cX5_nearest 22 = .ok (.iload_n 3, 1) := dk_29 (dk_at dksX5_nearest_0 22 rfl rfl)
theorem dX5_nearest_23 : decode cX5_nearest 23 = .ok (.iadd, 1) := dk_96 (dk_at dksX5_nearest_0 23 rfl rfl)
theorem dX5_nearest_24 : decode cX5_nearest 24 = .ok (.baload, 1) := dk_51 (dk_at dksX5_nearest_1 0 rfl rfl)
theorem dX5_nearest_25 : decode cX5_nearest 25 = .ok (.ifCond .ne 37, 3) := dk_154 0 37 (dk_at dksX5_nearest_1 1 rfl rfl)
theorem dX5_nearest_28 : decode cX5_nearest 28 = .ok (.iload_n 2, 1) := dk_28 (dk_at dksX5_nearest_1 4 rfl rfl)
theorem dX5_nearest_29 : decode cX5_nearest 29 = .ok (.iconst (-1), 1) := dk_2 (dk_at dksX5_nearest_1 5 rfl rfl)
theorem dX5_nearest_30 : decode cX5_nearest 30 = .ok (.if_icmp .eq 28, 3) := dk_159 0 28 (dk_at dksX5_nearest_1 6 rfl rfl)
theorem dX5_nearest_33 : decode cX5_nearest 33 = .ok (.aload_n 0, 1) := dk_42 (dk_at dksX5_nearest_1 9 rfl rfl)
theorem dX5_nearest_34 : decode cX5_nearest 34 = .ok (.getfield 113, 3) := dk_180 0 113 (dk_at dksX5_nearest_1 10 rfl rfl)
theorem dX5_nearest_37 : decode cX5_nearest 37 = .ok (.bipush 6, 2) := dk_16 6 (dk_at dksX5_nearest_1 13 rfl rfl)
theorem dX5_nearest_39 : decode cX5_nearest 39 = .ok (.iload_n 1, 1) := dk_27 (dk_at dksX5_nearest_1 15 rfl rfl)
theorem dX5_nearest_40 : decode cX5_nearest 40 = .ok (.imul, 1) := dk_104 (dk_at dksX5_nearest_1 16 rfl rfl)
theorem dX5_nearest_41 : decode cX5_nearest 41 = .ok (.iload_n 3, 1) := dk_29 (dk_at dksX5_nearest_1 17 rfl rfl)
theorem dX5_nearest_42 : decode cX5_nearest 42 = .ok (.iadd, 1) := dk_96 (dk_at dksX5_nearest_1 18 rfl rfl)
theorem dX5_nearest_43 : decode cX5_nearest 43 = .ok (.iaload, 1) := dk_46 (dk_at dksX5_nearest_1 19 rfl rfl)
theorem dX5_nearest_44 : decode cX5_nearest 44 = .ok (.aload_n 0, 1) := dk_42 (dk_at dksX5_nearest_1 20 rfl rfl)
theorem dX5_nearest_45 : decode cX5_nearest 45 = .ok (.getfield 113, 3) := dk_180 0 113 (dk_at dksX5_nearest_1 21 rfl rfl)
theorem dX5_nearest_48 : decode cX5_nearest 48 = .ok (.bipush 6, 2) := dk_16 6 (dk_at dksX5_nearest_2 0 rfl rfl)
theorem dX5_nearest_50 : decode cX5_nearest 50 = .ok (.iload_n 1, 1) := dk_27 (dk_at dksX5_nearest_2 2 rfl rfl)
theorem dX5_nearest_51 : decode cX5_nearest 51 = .ok (.imul, 1) := dk_104 (dk_at dksX5_nearest_2 3 rfl rfl)
theorem dX5_nearest_52 : decode cX5_nearest 52 = .ok (.iload_n 2, 1) := dk_28 (dk_at dksX5_nearest_2 4 rfl rfl)
theorem dX5_nearest_53 : decode cX5_nearest 53 = .ok (.iadd, 1) := dk_96 (dk_at dksX5_nearest_2 5 rfl rfl)
theorem dX5_nearest_54 : decode cX5_nearest 54 = .ok (.iaload, 1) := dk_46 (dk_at dksX5_nearest_2 6 rfl rfl)
theorem dX5_nearest_55 : decode cX5_nearest 55 = .ok (.if_icmp .ge 7, 3) := dk_162 0 7 (dk_at dksX5_nearest_2 7 rfl rfl)
theorem dX5_nearest_58 : decode cX5_nearest 58 = .ok (.iload_n 3, 1) := dk_29 (dk_at dksX5_nearest_2 10 rfl rfl)
theorem dX5_nearest_59 : decode cX5_nearest 59 = .ok (.goto 4, 3) := dk_167 0 4 (dk_at dksX5_nearest_2 11 rfl rfl)
theorem dX5_nearest_62 : decode cX5_nearest 62 = .ok (.iload_n 2, 1) := dk_28 (dk_at dksX5_nearest_2 14 rfl rfl)
theorem dX5_nearest_63 : decode cX5_nearest 63 = .ok (.istore_n 2, 1) := dk_61 (dk_at dksX5_nearest_2 15 rfl rfl)
theorem dX5_nearest_64 : decode cX5_nearest 64 = .ok (.iinc 3 1, 3) := dk_132 3 1 (dk_at dksX5_nearest_2 16 rfl rfl)
theorem dX5_nearest_67 : decode cX5_nearest 67 = .ok (.goto (-63), 3) := dk_167 255 193 (dk_at dksX5_nearest_2 19 rfl rfl)
theorem dX5_nearest_70 : decode cX5_nearest 70 = .ok (.iload_n 2, 1) := dk_28 (dk_at dksX5_nearest_2 22 rfl rfl)
theorem dX5_nearest_71 : decode cX5_nearest 71 = .ok (.ireturn, 1) := dk_172 (dk_at dksX5_nearest_2 23 rfl rfl)
abbrev cX5_keptBy : ByteArray := prog_22_method_92_code
def yX5_keptBy : MethodName := ⟨RX5, "keptBy", "(I)I"⟩
def dkwX5_keptBy_2 : List UInt8 := [27, 96, 46, 164, 0, 7, 29, 167, 0, 4, 28, 61, 132, 3, 1, 167, 255, 197, 28, 172]
abbrev dktX5_keptBy_2 : List UInt8 := dkwX5_keptBy_2 ++ []
def dkwX5_keptBy_1 : List UInt8 := [28, 2, 159, 0, 28, 42, 180, 0, 116, 16, 6, 29, 104, 27, 96, 46, 42, 180, 0, 116, 16, 6, 28, 104]
abbrev dktX5_keptBy_1 : List UInt8 := dkwX5_keptBy_1 ++ dktX5_keptBy_2
def dkwX5_keptBy_0 : List UInt8 := [2, 61, 3, 62, 29, 42, 180, 0, 13, 3, 46, 162, 0, 55, 42, 180, 0, 119, 29, 46, 27, 160, 0, 37]
abbrev dktX5_keptBy_0 : List UInt8 := dkwX5_keptBy_0 ++ dktX5_keptBy_1
theorem dksX5_keptBy_0 : cX5_keptBy.data.toList.drop 0 = dktX5_keptBy_0 := by decide +kernel
theorem dksX5_keptBy_1 : cX5_keptBy.data.toList.drop 24 = dktX5_keptBy_1 := dk_seg dksX5_keptBy_0 24 rfl rfl
theorem dksX5_keptBy_2 : cX5_keptBy.data.toList.drop 48 = dktX5_keptBy_2 := dk_seg dksX5_keptBy_1 24 rfl rfl
theorem dX5_keptBy_0 : decode cX5_keptBy 0 = .ok (.iconst (-1), 1) := dk_2 (dk_at dksX5_keptBy_0 0 rfl rfl)
theorem dX5_keptBy_1 : decode cX5_keptBy 1 = .ok (.istore_n 2, 1) := dk_61 (dk_at dksX5_keptBy_0 1 rfl rfl)
theorem dX5_keptBy_2 : decode cX5_keptBy 2 = .ok (.iconst 0, 1) := dk_3 (dk_at dksX5_keptBy_0 2 rfl rfl)
theorem dX5_keptBy_3 : decode cX5_keptBy 3 = .ok (.istore_n 3, 1) := dk_62 (dk_at dksX5_keptBy_0 3 rfl rfl)
theorem dX5_keptBy_4 : decode cX5_keptBy 4 = .ok (.iload_n 3, 1) := dk_29 (dk_at dksX5_keptBy_0 4 rfl rfl)
theorem dX5_keptBy_5 : decode cX5_keptBy 5 = .ok (.aload_n 0, 1) := dk_42 (dk_at dksX5_keptBy_0 5 rfl rfl)
theorem dX5_keptBy_6 : decode cX5_keptBy 6 = .ok (.getfield 13, 3) := dk_180 0 13 (dk_at dksX5_keptBy_0 6 rfl rfl)
theorem dX5_keptBy_9 : decode cX5_keptBy 9 = .ok (.iconst 0, 1) := dk_3 (dk_at dksX5_keptBy_0 9 rfl rfl)
theorem dX5_keptBy_10 : decode cX5_keptBy 10 = .ok (.iaload, 1) := dk_46 (dk_at dksX5_keptBy_0 10 rfl rfl)
theorem dX5_keptBy_11 : decode cX5_keptBy 11 = .ok (.if_icmp .ge 55, 3) := dk_162 0 55 (dk_at dksX5_keptBy_0 11 rfl rfl)
theorem dX5_keptBy_14 : decode cX5_keptBy 14 = .ok (.aload_n 0, 1) := dk_42 (dk_at dksX5_keptBy_0 14 rfl rfl)
theorem dX5_keptBy_15 : decode cX5_keptBy 15 = .ok (.getfield 119, 3) := dk_180 0 119 (dk_at dksX5_keptBy_0 15 rfl rfl)
theorem dX5_keptBy_18 : decode cX5_keptBy 18 = .ok (.iload_n 3, 1) := dk_29 (dk_at dksX5_keptBy_0 18 rfl rfl)
theorem dX5_keptBy_19 : decode cX5_keptBy 19 = .ok (.iaload, 1) := dk_46 (dk_at dksX5_keptBy_0 19 rfl rfl)
theorem dX5_keptBy_20 : decode cX5_keptBy 20 = .ok (.iload_n 1, 1) := dk_27 (dk_at dksX5_keptBy_0 20 rfl rfl)
theorem dX5_keptBy_21 : decode cX5_keptBy 21 = .ok (.if_icmp .ne 37, 3) := dk_160 0 37 (dk_at dksX5_keptBy_0 21 rfl rfl)
theorem dX5_keptBy_24 : decode cX5_keptBy 24 = .ok (.iload_n 2, 1) := dk_28 (dk_at dksX5_keptBy_1 0 rfl rfl)
theorem dX5_keptBy_25 : decode cX5_keptBy 25 = .ok (.iconst (-1), 1) := dk_2 (dk_at dksX5_keptBy_1 1 rfl rfl)
theorem dX5_keptBy_26 : decode cX5_keptBy 26 = .ok (.if_icmp .eq 28, 3) := dk_159 0 28 (dk_at dksX5_keptBy_1 2 rfl rfl)
theorem dX5_keptBy_29 : decode cX5_keptBy 29 = .ok (.aload_n 0, 1) := dk_42 (dk_at dksX5_keptBy_1 5 rfl rfl)
theorem dX5_keptBy_30 : decode cX5_keptBy 30 = .ok (.getfield 116, 3) := dk_180 0 116 (dk_at dksX5_keptBy_1 6 rfl rfl)
theorem dX5_keptBy_33 : decode cX5_keptBy 33 = .ok (.bipush 6, 2) := dk_16 6 (dk_at dksX5_keptBy_1 9 rfl rfl)
theorem dX5_keptBy_35 : decode cX5_keptBy 35 = .ok (.iload_n 3, 1) := dk_29 (dk_at dksX5_keptBy_1 11 rfl rfl)
theorem dX5_keptBy_36 : decode cX5_keptBy 36 = .ok (.imul, 1) := dk_104 (dk_at dksX5_keptBy_1 12 rfl rfl)
theorem dX5_keptBy_37 : decode cX5_keptBy 37 = .ok (.iload_n 1, 1) := dk_27 (dk_at dksX5_keptBy_1 13 rfl rfl)
theorem dX5_keptBy_38 : decode cX5_keptBy 38 = .ok (.iadd, 1) := dk_96 (dk_at dksX5_keptBy_1 14 rfl rfl)
theorem dX5_keptBy_39 : decode cX5_keptBy 39 = .ok (.iaload, 1) := dk_46 (dk_at dksX5_keptBy_1 15 rfl rfl)
theorem dX5_keptBy_40 : decode cX5_keptBy 40 = .ok (.aload_n 0, 1) := dk_42 (dk_at dksX5_keptBy_1 16 rfl rfl)
theorem dX5_keptBy_41 : decode cX5_keptBy 41 = .ok (.getfield 116, 3) := dk_180 0 116 (dk_at dksX5_keptBy_1 17 rfl rfl)
theorem dX5_keptBy_44 : decode cX5_keptBy 44 = .ok (.bipush 6, 2) := dk_16 6 (dk_at dksX5_keptBy_1 20 rfl rfl)
theorem dX5_keptBy_46 : decode cX5_keptBy 46 = .ok (.iload_n 2, 1) := dk_28 (dk_at dksX5_keptBy_1 22 rfl rfl)
theorem dX5_keptBy_47 : decode cX5_keptBy 47 = .ok (.imul, 1) := dk_104 (dk_at dksX5_keptBy_1 23 rfl rfl)
theorem dX5_keptBy_48 : decode cX5_keptBy 48 = .ok (.iload_n 1, 1) := dk_27 (dk_at dksX5_keptBy_2 0 rfl rfl)
theorem dX5_keptBy_49 : decode cX5_keptBy 49 = .ok (.iadd, 1) := dk_96 (dk_at dksX5_keptBy_2 1 rfl rfl)
theorem dX5_keptBy_50 : decode cX5_keptBy 50 = .ok (.iaload, 1) := dk_46 (dk_at dksX5_keptBy_2 2 rfl rfl)
theorem dX5_keptBy_51 : decode cX5_keptBy 51 = .ok (.if_icmp .le 7, 3) := dk_164 0 7 (dk_at dksX5_keptBy_2 3 rfl rfl)
theorem dX5_keptBy_54 : decode cX5_keptBy 54 = .ok (.iload_n 3, 1) := dk_29 (dk_at dksX5_keptBy_2 6 rfl rfl)
theorem dX5_keptBy_55 : decode cX5_keptBy 55 = .ok (.goto 4, 3) := dk_167 0 4 (dk_at dksX5_keptBy_2 7 rfl rfl)
theorem dX5_keptBy_58 : decode cX5_keptBy 58 = .ok (.iload_n 2, 1) := dk_28 (dk_at dksX5_keptBy_2 10 rfl rfl)
theorem dX5_keptBy_59 : decode cX5_keptBy 59 = .ok (.istore_n 2, 1) := dk_61 (dk_at dksX5_keptBy_2 11 rfl rfl)
theorem dX5_keptBy_60 : decode cX5_keptBy 60 = .ok (.iinc 3 1, 3) := dk_132 3 1 (dk_at dksX5_keptBy_2 12 rfl rfl)
theorem dX5_keptBy_63 : decode cX5_keptBy 63 = .ok (.goto (-59), 3) := dk_167 255 197 (dk_at dksX5_keptBy_2 15 rfl rfl)
theorem dX5_keptBy_66 : decode cX5_keptBy 66 = .ok (.iload_n 2, 1) := dk_28 (dk_at dksX5_keptBy_2 18 rfl rfl)
theorem dX5_keptBy_67 : decode cX5_keptBy 67 = .ok (.ireturn, 1) := dk_172 (dk_at dksX5_keptBy_2 19 rfl rfl)
abbrev cX5_about : ByteArray := prog_22_method_97_code
def yX5_about : MethodName := ⟨RX5, "about", "(II)I"⟩
def dkwX5_about_9 : List UInt8 := [132, 6, 1, 167, 255, 136, 21, 5, 172]
abbrev dktX5_about_9 : List UInt8 := dkwX5_about_9 ++ []
def dkwX5_about_8 : List UInt8 := [21, 4, 21, 7, 42, 180, 0, 13, 4, 46, 162, 0, 10, 4, 21, 7, 120, 167, 0, 4, 3, 128, 54, 4]
abbrev dktX5_about_8 : List UInt8 := dkwX5_about_8 ++ dktX5_about_9
def dkwX5_about_7 : List UInt8 := [167, 0, 21, 21, 7, 42, 180, 0, 13, 4, 46, 162, 0, 8, 21, 7, 167, 0, 5, 16, 100, 54, 5]
abbrev dktX5_about_7 : List UInt8 := dkwX5_about_7 ++ dktX5_about_8
def dkwX5_about_6 : List UInt8 := [159, 0, 9, 132, 7, 1, 167, 255, 215, 42, 180, 0, 13, 16, 68, 21, 6, 96, 46, 2, 159, 0, 7, 2]
abbrev dktX5_about_6 : List UInt8 := dkwX5_about_6 ++ dktX5_about_7
def dkwX5_about_5 : List UInt8 := [42, 21, 6, 21, 4, 21, 7, 27, 182, 1, 245, 42, 180, 0, 125, 16, 64, 21, 6, 104, 21, 4, 96, 46]
abbrev dktX5_about_5 : List UInt8 := dkwX5_about_5 ++ dktX5_about_6
def dkwX5_about_4 : List UInt8 := [54, 6, 21, 6, 28, 5, 100, 163, 0, 118, 3, 54, 7, 21, 7, 42, 180, 0, 13, 4, 46, 162, 0, 36]
abbrev dktX5_about_4 : List UInt8 := dkwX5_about_4 ++ dktX5_about_5
def dkwX5_about_3 : List UInt8 := [167, 0, 15, 17, 3, 232, 29, 104, 42, 180, 0, 125, 3, 46, 100, 172, 3, 54, 4, 2, 54, 5, 3]
abbrev dktX5_about_3 : List UInt8 := dkwX5_about_3 ++ dktX5_about_4
def dkwX5_about_2 : List UInt8 := [3, 46, 17, 3, 232, 96, 4, 100, 17, 3, 232, 108, 62, 28, 5, 162, 0, 24, 28, 154, 0, 7, 29]
abbrev dktX5_about_2 : List UInt8 := dkwX5_about_2 ++ dktX5_about_3
def dkwX5_about_1 : List UInt8 := [180, 0, 13, 3, 46, 133, 97, 184, 0, 195, 154, 0, 5, 2, 172, 42, 27, 182, 1, 249, 42, 180, 0, 125]
abbrev dktX5_about_1 : List UInt8 := dkwX5_about_1 ++ dktX5_about_2
def dkwX5_about_0 : List UInt8 := [42, 3, 181, 0, 175, 27, 133, 9, 20, 0, 239, 184, 0, 195, 153, 0, 21, 28, 133, 9, 10, 42]
abbrev dktX5_about_0 : List UInt8 := dkwX5_about_0 ++ dktX5_about_1
theorem dksX5_about_0 : cX5_about.data.toList.drop 0 = dktX5_about_0 := by decide +kernel
theorem dksX5_about_1 : cX5_about.data.toList.drop 22 = dktX5_about_1 := dk_seg dksX5_about_0 22 rfl rfl
theorem dksX5_about_2 : cX5_about.data.toList.drop 46 = dktX5_about_2 := dk_seg dksX5_about_1 24 rfl rfl
theorem dksX5_about_3 : cX5_about.data.toList.drop 69 = dktX5_about_3 := dk_seg dksX5_about_2 23 rfl rfl
theorem dksX5_about_4 : cX5_about.data.toList.drop 92 = dktX5_about_4 := dk_seg dksX5_about_3 23 rfl rfl
theorem dksX5_about_5 : cX5_about.data.toList.drop 116 = dktX5_about_5 := dk_seg dksX5_about_4 24 rfl rfl
theorem dksX5_about_6 : cX5_about.data.toList.drop 140 = dktX5_about_6 := dk_seg dksX5_about_5 24 rfl rfl
theorem dksX5_about_7 : cX5_about.data.toList.drop 164 = dktX5_about_7 := dk_seg dksX5_about_6 24 rfl rfl
theorem dksX5_about_8 : cX5_about.data.toList.drop 187 = dktX5_about_8 := dk_seg dksX5_about_7 23 rfl rfl
theorem dksX5_about_9 : cX5_about.data.toList.drop 211 = dktX5_about_9 := dk_seg dksX5_about_8 24 rfl rfl
theorem dX5_about_0 : decode cX5_about 0 = .ok (.aload_n 0, 1) := dk_42 (dk_at dksX5_about_0 0 rfl rfl)
theorem dX5_about_1 : decode cX5_about 1 = .ok (.iconst 0, 1) := dk_3 (dk_at dksX5_about_0 1 rfl rfl)
theorem dX5_about_2 : decode cX5_about 2 = .ok (.putfield 175, 3) := dk_181 0 175 (dk_at dksX5_about_0 2 rfl rfl)
theorem dX5_about_5 : decode cX5_about 5 = .ok (.iload_n 1, 1) := dk_27 (dk_at dksX5_about_0 5 rfl rfl)
theorem dX5_about_6 : decode cX5_about 6 = .ok (.i2l, 1) := dk_133 (dk_at dksX5_about_0 6 rfl rfl)
theorem dX5_about_7 : decode cX5_about 7 = .ok (.lconst 0, 1) := dk_9 (dk_at dksX5_about_0 7 rfl rfl)
theorem dX5_about_8 : decode cX5_about 8 = .ok (.ldc2_w 239, 3) := dk_20 0 239 (dk_at dksX5_about_0 8 rfl rfl)
theorem dX5_about_11 : decode cX5_about 11 = .ok (.invokestatic 195, 3) := dk_184 0 195 (dk_at dksX5_about_0 11 rfl rfl)
theorem dX5_about_14 : decode cX5_about 14 = .ok (.ifCond .eq 21, 3) := dk_153 0 21 (dk_at dksX5_about_0 14 rfl rfl)
theorem dX5_about_17 : decode cX5_about 17 = .ok (.iload_n 2, 1) := dk_28 (dk_at dksX5_about_0 17 rfl rfl)
theorem dX5_about_18 : decode cX5_about 18 = .ok (.i2l, 1) := dk_133 (dk_at dksX5_about_0 18 rfl rfl)
theorem dX5_about_19 : decode cX5_about 19 = .ok (.lconst 0, 1) := dk_9 (dk_at dksX5_about_0 19 rfl rfl)
theorem dX5_about_20 : decode cX5_about 20 = .ok (.lconst 1, 1) := dk_10 (dk_at dksX5_about_0 20 rfl rfl)
theorem dX5_about_21 : decode cX5_about 21 = .ok (.aload_n 0, 1) := dk_42 (dk_at dksX5_about_0 21 rfl rfl)
theorem dX5_about_22 : decode cX5_about 22 = .ok (.getfield 13, 3) := dk_180 0 13 (dk_at dksX5_about_1 0 rfl rfl)
theorem dX5_about_25 : decode cX5_about 25 = .ok (.iconst 0, 1) := dk_3 (dk_at dksX5_about_1 3 rfl rfl)
theorem dX5_about_26 : decode cX5_about 26 = .ok (.iaload, 1) := dk_46 (dk_at dksX5_about_1 4 rfl rfl)
theorem dX5_about_27 : decode cX5_about 27 = .ok (.i2l, 1) := dk_133 (dk_at dksX5_about_1 5 rfl rfl)
theorem dX5_about_28 : decode cX5_about 28 = .ok (.ladd, 1) := dk_97 (dk_at dksX5_about_1 6 rfl rfl)
theorem dX5_about_29 : decode cX5_about 29 = .ok (.invokestatic 195, 3) := dk_184 0 195 (dk_at dksX5_about_1 7 rfl rfl)
theorem dX5_about_32 : decode cX5_about 32 = .ok (.ifCond .ne 5, 3) := dk_154 0 5 (dk_at dksX5_about_1 10 rfl rfl)
theorem dX5_about_35 : decode cX5_about 35 = .ok (.iconst (-1), 1) := dk_2 (dk_at dksX5_about_1 13 rfl rfl)
theorem dX5_about_36 : decode cX5_about 36 = .ok (.ireturn, 1) := dk_172 (dk_at dksX5_about_1 14 rfl rfl)
theorem dX5_about_37 : decode cX5_about 37 = .ok (.aload_n 0, 1) := dk_42 (dk_at dksX5_about_1 15 rfl rfl)
theorem dX5_about_38 : decode cX5_about 38 = .ok (.iload_n 1, 1) := dk_27 (dk_at dksX5_about_1 16 rfl rfl)
theorem dX5_about_39 : decode cX5_about 39 = .ok (.invokevirtual 505, 3) := dk_182 1 249 (dk_at dksX5_about_1 17 rfl rfl)
theorem dX5_about_42 : decode cX5_about 42 = .ok (.aload_n 0, 1) := dk_42 (dk_at dksX5_about_1 20 rfl rfl)
theorem dX5_about_43 : decode cX5_about 43 = .ok (.getfield 125, 3) := dk_180 0 125 (dk_at dksX5_about_1 21 rfl rfl)
theorem dX5_about_46 : decode cX5_about 46 = .ok (.iconst 0, 1) := dk_3 (dk_at dksX5_about_2 0 rfl rfl)
theorem dX5_about_47 : decode cX5_about 47 = .ok (.iaload, 1) := dk_46 (dk_at dksX5_about_2 1 rfl rfl)
theorem dX5_about_48 : decode cX5_about 48 = .ok (.sipush 1000, 3) := dk_17 3 232 (dk_at dksX5_about_2 2 rfl rfl)
theorem dX5_about_51 : decode cX5_about 51 = .ok (.iadd, 1) := dk_96 (dk_at dksX5_about_2 5 rfl rfl)
theorem dX5_about_52 : decode cX5_about 52 = .ok (.iconst 1, 1) := dk_4 (dk_at dksX5_about_2 6 rfl rfl)
theorem dX5_about_53 : decode cX5_about 53 = .ok (.isub, 1) := dk_100 (dk_at dksX5_about_2 7 rfl rfl)
theorem dX5_about_54 : decode cX5_about 54 = .ok (.sipush 1000, 3) := dk_17 3 232 (dk_at dksX5_about_2 8 rfl rfl)
theorem dX5_about_57 : decode cX5_about 57 = .ok (.idiv, 1) := dk_108 (dk_at dksX5_about_2 11 rfl rfl)
theorem dX5_about_58 : decode cX5_about 58 = .ok (.istore_n 3, 1) := dk_62 (dk_at dksX5_about_2 12 rfl rfl)
theorem dX5_about_59 : decode cX5_about 59 = .ok (.iload_n 2, 1) := dk_28 (dk_at dksX5_about_2 13 rfl rfl)
theorem dX5_about_60 : decode cX5_about 60 = .ok (.iconst 2, 1) := dk_5 (dk_at dksX5_about_2 14 rfl rfl)
theorem dX5_about_61 : decode cX5_about 61 = .ok (.if_icmp .ge 24, 3) := dk_162 0 24 (dk_at dksX5_about_2 15 rfl rfl)
theorem dX5_about_64 : decode cX5_about 64 = .ok (.iload_n 2, 1) := dk_28 (dk_at dksX5_about_2 18 rfl rfl)
theorem dX5_about_65 : decode cX5_about 65 = .ok (.ifCond .ne 7, 3) := dk_154 0 7 (dk_at dksX5_about_2 19 rfl rfl)
theorem dX5_about_68 : decode cX5_about 68 = .ok (.iload_n 3, 1) := dk_29 (dk_at dksX5_about_2 22 rfl rfl)
theorem dX5_about_69 : decode cX5_about 69 = .ok (.goto 15, 3) := dk_167 0 15 (dk_at dksX5_about_3 0 rfl rfl)
theorem dX5_about_72 : decode cX5_about 72 = .ok (.sipush 1000, 3) := dk_17 3 232 (dk_at dksX5_about_3 3 rfl rfl)
theorem dX5_about_75 : decode cX5_about 75 = .ok (.iload_n 3, 1) := dk_29 (dk_at dksX5_about_3 6 rfl rfl)
theorem dX5_about_76 : decode cX5_about 76 = .ok (.imul, 1) := dk_104 (dk_at dksX5_about_3 7 rfl rfl)
theorem dX5_about_77 : decode cX5_about 77 = .ok (.aload_n 0, 1) := dk_42 (dk_at dksX5_about_3 8 rfl rfl)
theorem dX5_about_78 : decode cX5_about 78 = .ok (.getfield 125, 3) := dk_180 0 125 (dk_at dksX5_about_3 9 rfl rfl)
theorem dX5_about_81 : decode cX5_about 81 = .ok (.iconst 0, 1) := dk_3 (dk_at dksX5_about_3 12 rfl rfl)
theorem dX5_about_82 : decode cX5_about 82 = .ok (.iaload, 1) := dk_46 (dk_at dksX5_about_3 13 rfl rfl)
theorem dX5_about_83 : decode cX5_about 83 = .ok (.isub, 1) := dk_100 (dk_at dksX5_about_3 14 rfl rfl)
theorem dX5_about_84 : decode cX5_about 84 = .ok (.ireturn, 1) := dk_172 (dk_at dksX5_about_3 15 rfl rfl)
theorem dX5_about_85 : decode cX5_about 85 = .ok (.iconst 0, 1) := dk_3 (dk_at dksX5_about_3 16 rfl rfl)
theorem dX5_about_86 : decode cX5_about 86 = .ok (.istore 4, 2) := dk_54 4 (dk_at dksX5_about_3 17 rfl rfl)
theorem dX5_about_88 : decode cX5_about 88 = .ok (.iconst (-1), 1) := dk_2 (dk_at dksX5_about_3 19 rfl rfl)
theorem dX5_about_89 : decode cX5_about 89 = .ok (.istore 5, 2) := dk_54 5 (dk_at dksX5_about_3 20 rfl rfl)
theorem dX5_about_91 : decode cX5_about 91 = .ok (.iconst 0, 1) := dk_3 (dk_at dksX5_about_3 22 rfl rfl)
theorem dX5_about_92 : decode cX5_about 92 = .ok (.istore 6, 2) := dk_54 6 (dk_at dksX5_about_4 0 rfl rfl)
theorem dX5_about_94 : decode cX5_about 94 = .ok (.iload 6, 2) := dk_21 6 (dk_at dksX5_about_4 2 rfl rfl)
theorem dX5_about_96 : decode cX5_about 96 = .ok (.iload_n 2, 1) := dk_28 (dk_at dksX5_about_4 4 rfl rfl)
theorem dX5_about_97 : decode cX5_about 97 = .ok (.iconst 2, 1) := dk_5 (dk_at dksX5_about_4 5 rfl rfl)
theorem dX5_about_98 : decode cX5_about 98 = .ok (.isub, 1) := dk_100 (dk_at dksX5_about_4 6 rfl rfl)
theorem dX5_about_99 : decode cX5_about 99 = .ok (.if_icmp .gt 118, 3) := dk_163 0 118 (dk_at dksX5_about_4 7 rfl rfl)
theorem dX5_about_102 : decode cX5_about 102 = .ok (.iconst 0, 1) := dk_3 (dk_at dksX5_about_4 10 rfl rfl)
theorem dX5_about_103 : decode cX5_about 103 = .ok (.istore 7, 2) := dk_54 7 (dk_at dksX5_about_4 11 rfl rfl)
theorem dX5_about_105 : decode cX5_about 105 = .ok (.iload 7, 2) := dk_21 7 (dk_at dksX5_about_4 13 rfl rfl)
theorem dX5_about_107 : decode cX5_about 107 = .ok (.aload_n 0, 1) := dk_42 (dk_at dksX5_about_4 15 rfl rfl)
theorem dX5_about_108 : decode cX5_about 108 = .ok (.getfield 13, 3) := dk_180 0 13 (dk_at dksX5_about_4 16 rfl rfl)
theorem dX5_about_111 : decode cX5_about 111 = .ok (.iconst 1, 1) := dk_4 (dk_at dksX5_about_4 19 rfl rfl)
theorem dX5_about_112 : decode cX5_about 112 = .ok (.iaload, 1) := dk_46 (dk_at dksX5_about_4 20 rfl rfl)
theorem dX5_about_113 : decode cX5_about 113 = .ok (.if_icmp .ge 36, 3) := dk_162 0 36 (dk_at dksX5_about_4 21 rfl rfl)
theorem dX5_about_116 : decode cX5_about 116 = .ok (.aload_n 0, 1) := dk_42 (dk_at dksX5_about_5 0 rfl rfl)
theorem dX5_about_117 : decode cX5_about 117 = .ok (.iload 6, 2) := dk_21 6 (dk_at dksX5_about_5 1 rfl rfl)
theorem dX5_about_119 : decode cX5_about 119 = .ok (.iload 4, 2) := dk_21 4 (dk_at dksX5_about_5 3 rfl rfl)
theorem dX5_about_121 : decode cX5_about 121 = .ok (.iload 7, 2) := dk_21 7 (dk_at dksX5_about_5 5 rfl rfl)
theorem dX5_about_123 : decode cX5_about 123 = .ok (.iload_n 1, 1) := dk_27 (dk_at dksX5_about_5 7 rfl rfl)
theorem dX5_about_124 : decode cX5_about 124 = .ok (.invokevirtual 501, 3) := dk_182 1 245 (dk_at dksX5_about_5 8 rfl rfl)
theorem dX5_about_127 : decode cX5_about 127 = .ok (.aload_n 0, 1) := dk_42 (dk_at dksX5_about_5 11 rfl rfl)
theorem dX5_about_128 : decode cX5_about 128 = .ok (.getfield 125, 3) := dk_180 0 125 (dk_at dksX5_about_5 12 rfl rfl)
theorem dX5_about_131 : decode cX5_about 131 = .ok (.bipush 64, 2) := dk_16 64 (dk_at dksX5_about_5 15 rfl rfl)
theorem dX5_about_133 : decode cX5_about 133 = .ok (.iload 6, 2) := dk_21 6 (dk_at dksX5_about_5 17 rfl rfl)
theorem dX5_about_135 : decode cX5_about 135 = .ok (.imul, 1) := dk_104 (dk_at dksX5_about_5 19 rfl rfl)
theorem dX5_about_136 : decode cX5_about 136 = .ok (.iload 4, 2) := dk_21 4 (dk_at dksX5_about_5 20 rfl rfl)
theorem dX5_about_138 : decode cX5_about 138 = .ok (.iadd, 1) := dk_96 (dk_at dksX5_about_5 22 rfl rfl)
theorem dX5_about_139 : decode cX5_about 139 = .ok (.iaload, 1) := dk_46 (dk_at dksX5_about_5 23 rfl rfl)
theorem dX5_about_140 : decode cX5_about 140 = .ok (.if_icmp .eq 9, 3) := dk_159 0 9 (dk_at dksX5_about_6 0 rfl rfl)
theorem dX5_about_143 : decode cX5_about 143 = .ok (.iinc 7 1, 3) := dk_132 7 1 (dk_at dksX5_about_6 3 rfl rfl)
theorem dX5_about_146 : decode cX5_about 146 = .ok (.goto (-41), 3) := dk_167 255 215 (dk_at dksX5_about_6 6 rfl rfl)
theorem dX5_about_149 : decode cX5_about 149 = .ok (.aload_n 0, 1) := dk_42 (dk_at dksX5_about_6 9 rfl rfl)
theorem dX5_about_150 : decode cX5_about 150 = .ok (.getfield 13, 3) := dk_180 0 13 (dk_at dksX5_about_6 10 rfl rfl)
theorem dX5_about_153 : decode cX5_about 153 = .ok (.bipush 68, 2) := dk_16 68 (dk_at dksX5_about_6 13 rfl rfl)
theorem dX5_about_155 : decode cX5_about 155 = .ok (.iload 6, 2) := dk_21 6 (dk_at dksX5_about_6 15 rfl rfl)
theorem dX5_about_157 : decode cX5_about 157 = .ok (.iadd, 1) := dk_96 (dk_at dksX5_about_6 17 rfl rfl)
theorem dX5_about_158 : decode cX5_about 158 = .ok (.iaload, 1) := dk_46 (dk_at dksX5_about_6 18 rfl rfl)
theorem dX5_about_159 : decode cX5_about 159 = .ok (.iconst (-1), 1) := dk_2 (dk_at dksX5_about_6 19 rfl rfl)
theorem dX5_about_160 : decode cX5_about 160 = .ok (.if_icmp .eq 7, 3) := dk_159 0 7 (dk_at dksX5_about_6 20 rfl rfl)
theorem dX5_about_163 : decode cX5_about 163 = .ok (.iconst (-1), 1) := dk_2 (dk_at dksX5_about_6 23 rfl rfl)
theorem dX5_about_164 : decode cX5_about 164 = .ok (.goto 21, 3) := dk_167 0 21 (dk_at dksX5_about_7 0 rfl rfl)
theorem dX5_about_167 : decode cX5_about 167 = .ok (.iload 7, 2) := dk_21 7 (dk_at dksX5_about_7 3 rfl rfl)
theorem dX5_about_169 : decode cX5_about 169 = .ok (.aload_n 0, 1) := dk_42 (dk_at dksX5_about_7 5 rfl rfl)
theorem dX5_about_170 : decode cX5_about 170 = .ok (.getfield 13, 3) := dk_180 0 13 (dk_at dksX5_about_7 6 rfl rfl)
theorem dX5_about_173 : decode cX5_about 173 = .ok (.iconst 1, 1) := dk_4 (dk_at dksX5_about_7 9 rfl rfl)
theorem dX5_about_174 : decode cX5_about 174 = .ok (.iaload, 1) := dk_46 (dk_at dksX5_about_7 10 rfl rfl)
theorem dX5_about_175 : decode cX5_about 175 = .ok (.if_icmp .ge 8, 3) := dk_162 0 8 (dk_at dksX5_about_7 11 rfl rfl)
theorem dX5_about_178 : decode cX5_about 178 = .ok (.iload 7, 2) := dk_21 7 (dk_at dksX5_about_7 14 rfl rfl)
theorem dX5_about_180 : decode cX5_about 180 = .ok (.goto 5, 3) := dk_167 0 5 (dk_at dksX5_about_7 16 rfl rfl)
theorem dX5_about_183 : decode cX5_about 183 = .ok (.bipush 100, 2) := dk_16 100 (dk_at dksX5_about_7 19 rfl rfl)
theorem dX5_about_185 : decode cX5_about 185 = .ok (.istore 5, 2) := dk_54 5 (dk_at dksX5_about_7 21 rfl rfl)
theorem dX5_about_187 : decode cX5_about 187 = .ok (.iload 4, 2) := dk_21 4 (dk_at dksX5_about_8 0 rfl rfl)
theorem dX5_about_189 : decode cX5_about 189 = .ok (.iload 7, 2) := dk_21 7 (dk_at dksX5_about_8 2 rfl rfl)
theorem dX5_about_191 : decode cX5_about 191 = .ok (.aload_n 0, 1) := dk_42 (dk_at dksX5_about_8 4 rfl rfl)
theorem dX5_about_192 : decode cX5_about 192 = .ok (.getfield 13, 3) := dk_180 0 13 (dk_at dksX5_about_8 5 rfl rfl)
theorem dX5_about_195 : decode cX5_about 195 = .ok (.iconst 1, 1) := dk_4 (dk_at dksX5_about_8 8 rfl rfl)
theorem dX5_about_196 : decode cX5_about 196 = .ok (.iaload, 1) := dk_46 (dk_at dksX5_about_8 9 rfl rfl)
theorem dX5_about_197 : decode cX5_about 197 = .ok (.if_icmp .ge 10, 3) := dk_162 0 10 (dk_at dksX5_about_8 10 rfl rfl)
theorem dX5_about_200 : decode cX5_about 200 = .ok (.iconst 1, 1) := dk_4 (dk_at dksX5_about_8 13 rfl rfl)
theorem dX5_about_201 : decode cX5_about 201 = .ok (.iload 7, 2) := dk_21 7 (dk_at dksX5_about_8 14 rfl rfl)
theorem dX5_about_203 : decode cX5_about 203 = .ok (.ishl, 1) := dk_120 (dk_at dksX5_about_8 16 rfl rfl)
theorem dX5_about_204 : decode cX5_about 204 = .ok (.goto 4, 3) := dk_167 0 4 (dk_at dksX5_about_8 17 rfl rfl)
theorem dX5_about_207 : decode cX5_about 207 = .ok (.iconst 0, 1) := dk_3 (dk_at dksX5_about_8 20 rfl rfl)
theorem dX5_about_208 : decode cX5_about 208 = .ok (.ior, 1) := dk_128 (dk_at dksX5_about_8 21 rfl rfl)
theorem dX5_about_209 : decode cX5_about 209 = .ok (.istore 4, 2) := dk_54 4 (dk_at dksX5_about_8 22 rfl rfl)
theorem dX5_about_211 : decode cX5_about 211 = .ok (.iinc 6 1, 3) := dk_132 6 1 (dk_at dksX5_about_9 0 rfl rfl)
theorem dX5_about_214 : decode cX5_about 214 = .ok (.goto (-120), 3) := dk_167 255 136 (dk_at dksX5_about_9 3 rfl rfl)
theorem dX5_about_217 : decode cX5_about 217 = .ok (.iload 5, 2) := dk_21 5 (dk_at dksX5_about_9 6 rfl rfl)
theorem dX5_about_219 : decode cX5_about 219 = .ok (.ireturn, 1) := dk_172 (dk_at dksX5_about_9 8 rfl rfl)
abbrev cX5_layAbout : ByteArray := prog_22_method_96_code
def yX5_layAbout : MethodName := ⟨RX5, "layAbout", "(I)V"⟩
def dkwX5_layAbout_5 : List UInt8 := [21, 4, 79, 132, 3, 1, 167, 255, 148, 132, 2, 255, 167, 255, 136, 177]
abbrev dktX5_layAbout_5 : List UInt8 := dkwX5_layAbout_5 ++ []
def dkwX5_layAbout_4 : List UInt8 := [167, 0, 5, 21, 4, 54, 4, 132, 5, 1, 167, 255, 205, 42, 180, 0, 125, 16, 64, 28, 104, 29, 96]
abbrev dktX5_layAbout_4 : List UInt8 := dkwX5_layAbout_4 ++ dktX5_layAbout_5
def dkwX5_layAbout_3 : List UInt8 := [46, 162, 0, 36, 42, 28, 29, 21, 5, 27, 182, 1, 245, 54, 6, 21, 6, 21, 4, 164, 0, 8, 21, 6]
abbrev dktX5_layAbout_3 : List UInt8 := dkwX5_layAbout_3 ++ dktX5_layAbout_4
def dkwX5_layAbout_2 : List UInt8 := [96, 46, 54, 4, 3, 54, 5, 21, 5, 42, 180, 0, 13, 4, 46, 162, 0, 46, 28, 42, 180, 0, 13, 3]
abbrev dktX5_layAbout_2 : List UInt8 := dkwX5_layAbout_2 ++ dktX5_layAbout_3
def dkwX5_layAbout_1 : List UInt8 := [42, 180, 0, 13, 3, 46, 160, 0, 7, 3, 167, 0, 16, 42, 180, 0, 125, 16, 64, 28, 4, 96, 104, 29]
abbrev dktX5_layAbout_1 : List UInt8 := dkwX5_layAbout_1 ++ dktX5_layAbout_2
def dkwX5_layAbout_0 : List UInt8 := [42, 182, 1, 232, 42, 180, 0, 13, 3, 46, 61, 28, 155, 0, 122, 3, 62, 29, 16, 64, 162, 0, 108, 28]
abbrev dktX5_layAbout_0 : List UInt8 := dkwX5_layAbout_0 ++ dktX5_layAbout_1
theorem dksX5_layAbout_0 : cX5_layAbout.data.toList.drop 0 = dktX5_layAbout_0 := by decide +kernel
theorem dksX5_layAbout_1 : cX5_layAbout.data.toList.drop 24 = dktX5_layAbout_1 := dk_seg dksX5_layAbout_0 24 rfl rfl
theorem dksX5_layAbout_2 : cX5_layAbout.data.toList.drop 48 = dktX5_layAbout_2 := dk_seg dksX5_layAbout_1 24 rfl rfl
theorem dksX5_layAbout_3 : cX5_layAbout.data.toList.drop 72 = dktX5_layAbout_3 := dk_seg dksX5_layAbout_2 24 rfl rfl
theorem dksX5_layAbout_4 : cX5_layAbout.data.toList.drop 96 = dktX5_layAbout_4 := dk_seg dksX5_layAbout_3 24 rfl rfl
theorem dksX5_layAbout_5 : cX5_layAbout.data.toList.drop 119 = dktX5_layAbout_5 := dk_seg dksX5_layAbout_4 23 rfl rfl
theorem dX5_layAbout_0 : decode cX5_layAbout 0 = .ok (.aload_n 0, 1) := dk_42 (dk_at dksX5_layAbout_0 0 rfl rfl)
theorem dX5_layAbout_1 : decode cX5_layAbout 1 = .ok (.invokevirtual 488, 3) := dk_182 1 232 (dk_at dksX5_layAbout_0 1 rfl rfl)
theorem dX5_layAbout_4 : decode cX5_layAbout 4 = .ok (.aload_n 0, 1) := dk_42 (dk_at dksX5_layAbout_0 4 rfl rfl)
theorem dX5_layAbout_5 : decode cX5_layAbout 5 = .ok (.getfield 13, 3) := dk_180 0 13 (dk_at dksX5_layAbout_0 5 rfl rfl)
theorem dX5_layAbout_8 : decode cX5_layAbout 8 = .ok (.iconst 0, 1) := dk_3 (dk_at dksX5_layAbout_0 8 rfl rfl)
theorem dX5_layAbout_9 : decode cX5_layAbout 9 = .ok (.iaload, 1) := dk_46 (dk_at dksX5_layAbout_0 9 rfl rfl)
theorem dX5_layAbout_10 : decode cX5_layAbout 10 = .ok (.istore_n 2, 1) := dk_61 (dk_at dksX5_layAbout_0 10 rfl rfl)
theorem dX5_layAbout_11 : decode cX5_layAbout 11 = .ok (.iload_n 2, 1) := dk_28 (dk_at dksX5_layAbout_0 11 rfl rfl)
theorem dX5_layAbout_12 : decode cX5_layAbout 12 = .ok (.ifCond .lt 122, 3) := dk_155 0 122 (dk_at dksX5_layAbout_0 12 rfl rfl)
theorem dX5_layAbout_15 : decode cX5_layAbout 15 = .ok (.iconst 0, 1) := dk_3 (dk_at dksX5_layAbout_0 15 rfl rfl)
theorem dX5_layAbout_16 : decode cX5_layAbout 16 = .ok (.istore_n 3, 1) := dk_62 (dk_at dksX5_layAbout_0 16 rfl rfl)
theorem dX5_layAbout_17 : decode cX5_layAbout 17 = .ok (.iload_n 3, 1) := dk_29 (dk_at dksX5_layAbout_0 17 rfl rfl)
theorem dX5_layAbout_18 : decode cX5_layAbout 18 = .ok (.bipush 64, 2) := dk_16 64 (dk_at dksX5_layAbout_0 18 rfl rfl)
theorem dX5_layAbout_20 : decode cX5_layAbout 20 = .ok (.if_icmp .ge 108, 3) := dk_162 0 108 (dk_at dksX5_layAbout_0 20 rfl rfl)
theorem dX5_layAbout_23 : decode cX5_layAbout 23 = .ok (.iload_n 2, 1) := dk_28 (dk_at dksX5_layAbout_0 23 rfl rfl)
theorem dX5_layAbout_24 : decode cX5_layAbout 24 = .ok (.aload_n 0, 1) := dk_42 (dk_at dksX5_layAbout_1 0 rfl rfl)
theorem dX5_layAbout_25 : decode cX5_layAbout 25 = .ok (.getfield 13, 3) := dk_180 0 13 (dk_at dksX5_layAbout_1 1 rfl rfl)
theorem dX5_layAbout_28 : decode cX5_layAbout 28 = .ok (.iconst 0, 1) := dk_3 (dk_at dksX5_layAbout_1 4 rfl rfl)
theorem dX5_layAbout_29 : decode cX5_layAbout 29 = .ok (.iaload, 1) := dk_46 (dk_at dksX5_layAbout_1 5 rfl rfl)
theorem dX5_layAbout_30 : decode cX5_layAbout 30 = .ok (.if_icmp .ne 7, 3) := dk_160 0 7 (dk_at dksX5_layAbout_1 6 rfl rfl)
theorem dX5_layAbout_33 : decode cX5_layAbout 33 = .ok (.iconst 0, 1) := dk_3 (dk_at dksX5_layAbout_1 9 rfl rfl)
theorem dX5_layAbout_34 : decode cX5_layAbout 34 = .ok (.goto 16, 3) := dk_167 0 16 (dk_at dksX5_layAbout_1 10 rfl rfl)
theorem dX5_layAbout_37 : decode cX5_layAbout 37 = .ok (.aload_n 0, 1) := dk_42 (dk_at dksX5_layAbout_1 13 rfl rfl)
theorem dX5_layAbout_38 : decode cX5_layAbout 38 = .ok (.getfield 125, 3) := dk_180 0 125 (dk_at dksX5_layAbout_1 14 rfl rfl)
theorem dX5_layAbout_41 : decode cX5_layAbout 41 = .ok (.bipush 64, 2) := dk_16 64 (dk_at dksX5_layAbout_1 17 rfl rfl)
theorem dX5_layAbout_43 : decode cX5_layAbout 43 = .ok (.iload_n 2, 1) := dk_28 (dk_at dksX5_layAbout_1 19 rfl rfl)
theorem dX5_layAbout_44 : decode cX5_layAbout 44 = .ok (.iconst 1, 1) := dk_4 (dk_at dksX5_layAbout_1 20 rfl rfl)
theorem dX5_layAbout_45 : decode cX5_layAbout 45 = .ok (.iadd, 1) := dk_96 (dk_at dksX5_layAbout_1 21 rfl rfl)
theorem dX5_layAbout_46 : decode cX5_layAbout 46 = .ok (.imul, 1) := dk_104 (dk_at dksX5_layAbout_1 22 rfl rfl)
theorem dX5_layAbout_47 : decode cX5_layAbout 47 = .ok (.iload_n 3, 1) := dk_29 (dk_at dksX5_layAbout_1 23 rfl rfl)
theorem dX5_layAbout_48 : decode cX5_layAbout 48 = .ok (.iadd, 1) := dk_96 (dk_at dksX5_layAbout_2 0 rfl rfl)
theorem dX5_layAbout_49 : decode cX5_layAbout 49 = .ok (.iaload, 1) := dk_46 (dk_at dksX5_layAbout_2 1 rfl rfl)
theorem dX5_layAbout_50 : decode cX5_layAbout 50 = .ok (.istore 4, 2) := dk_54 4 (dk_at dksX5_layAbout_2 2 rfl rfl)
theorem dX5_layAbout_52 : decode cX5_layAbout 52 = .ok (.iconst 0, 1) := dk_3 (dk_at dksX5_layAbout_2 4 rfl rfl)
theorem dX5_layAbout_53 : decode cX5_layAbout 53 = .ok (.istore 5, 2) := dk_54 5 (dk_at dksX5_layAbout_2 5 rfl rfl)
theorem dX5_layAbout_55 : decode cX5_layAbout 55 = .ok (.iload 5, 2) := dk_21 5 (dk_at dksX5_layAbout_2 7 rfl rfl)
theorem dX5_layAbout_57 : decode cX5_layAbout 57 = .ok (.aload_n 0, 1) := dk_42 (dk_at dksX5_layAbout_2 9 rfl rfl)
theorem dX5_layAbout_58 : decode cX5_layAbout 58 = .ok (.getfield 13, 3) := dk_180 0 13 (dk_at dksX5_layAbout_2 10 rfl rfl)
theorem dX5_layAbout_61 : decode cX5_layAbout 61 = .ok (.iconst 1, 1) := dk_4 (dk_at dksX5_layAbout_2 13 rfl rfl)
theorem dX5_layAbout_62 : decode cX5_layAbout 62 = .ok (.iaload, 1) := dk_46 (dk_at dksX5_layAbout_2 14 rfl rfl)
theorem dX5_layAbout_63 : decode cX5_layAbout 63 = .ok (.if_icmp .ge 46, 3) := dk_162 0 46 (dk_at dksX5_layAbout_2 15 rfl rfl)
theorem dX5_layAbout_66 : decode cX5_layAbout 66 = .ok (.iload_n 2, 1) := dk_28 (dk_at dksX5_layAbout_2 18 rfl rfl)
theorem dX5_layAbout_67 : decode cX5_layAbout 67 = .ok (.aload_n 0, 1) := dk_42 (dk_at dksX5_layAbout_2 19 rfl rfl)
theorem dX5_layAbout_68 : decode cX5_layAbout 68 = .ok (.getfield 13, 3) := dk_180 0 13 (dk_at dksX5_layAbout_2 20 rfl rfl)
theorem dX5_layAbout_71 : decode cX5_layAbout 71 = .ok (.iconst 0, 1) := dk_3 (dk_at dksX5_layAbout_2 23 rfl rfl)
theorem dX5_layAbout_72 : decode cX5_layAbout 72 = .ok (.iaload, 1) := dk_46 (dk_at dksX5_layAbout_3 0 rfl rfl)
theorem dX5_layAbout_73 : decode cX5_layAbout 73 = .ok (.if_icmp .ge 36, 3) := dk_162 0 36 (dk_at dksX5_layAbout_3 1 rfl rfl)
theorem dX5_layAbout_76 : decode cX5_layAbout 76 = .ok (.aload_n 0, 1) := dk_42 (dk_at dksX5_layAbout_3 4 rfl rfl)
theorem dX5_layAbout_77 : decode cX5_layAbout 77 = .ok (.iload_n 2, 1) := dk_28 (dk_at dksX5_layAbout_3 5 rfl rfl)
theorem dX5_layAbout_78 : decode cX5_layAbout 78 = .ok (.iload_n 3, 1) := dk_29 (dk_at dksX5_layAbout_3 6 rfl rfl)
theorem dX5_layAbout_79 : decode cX5_layAbout 79 = .ok (.iload 5, 2) := dk_21 5 (dk_at dksX5_layAbout_3 7 rfl rfl)
theorem dX5_layAbout_81 : decode cX5_layAbout 81 = .ok (.iload_n 1, 1) := dk_27 (dk_at dksX5_layAbout_3 9 rfl rfl)
theorem dX5_layAbout_82 : decode cX5_layAbout 82 = .ok (.invokevirtual 501, 3) := dk_182 1 245 (dk_at dksX5_layAbout_3 10 rfl rfl)
theorem dX5_layAbout_85 : decode cX5_layAbout 85 = .ok (.istore 6, 2) := dk_54 6 (dk_at dksX5_layAbout_3 13 rfl rfl)
theorem dX5_layAbout_87 : decode cX5_layAbout 87 = .ok (.iload 6, 2) := dk_21 6 (dk_at dksX5_layAbout_3 15 rfl rfl)
theorem dX5_layAbout_89 : decode cX5_layAbout 89 = .ok (.iload 4, 2) := dk_21 4 (dk_at dksX5_layAbout_3 17 rfl rfl)
theorem dX5_layAbout_91 : decode cX5_layAbout 91 = .ok (.if_icmp .le 8, 3) := dk_164 0 8 (dk_at dksX5_layAbout_3 19 rfl rfl)
theorem dX5_layAbout_94 : decode cX5_layAbout 94 = .ok (.iload 6, 2) := dk_21 6 (dk_at dksX5_layAbout_3 22 rfl rfl)
theorem dX5_layAbout_96 : decode cX5_layAbout 96 = .ok (.goto 5, 3) := dk_167 0 5 (dk_at dksX5_layAbout_4 0 rfl rfl)
theorem dX5_layAbout_99 : decode cX5_layAbout 99 = .ok (.iload 4, 2) := dk_21 4 (dk_at dksX5_layAbout_4 3 rfl rfl)
theorem dX5_layAbout_101 : decode cX5_layAbout 101 = .ok (.istore 4, 2) := dk_54 4 (dk_at dksX5_layAbout_4 5 rfl rfl)
theorem dX5_layAbout_103 : decode cX5_layAbout 103 = .ok (.iinc 5 1, 3) := dk_132 5 1 (dk_at dksX5_layAbout_4 7 rfl rfl)
theorem dX5_layAbout_106 : decode cX5_layAbout 106 = .ok (.goto (-51), 3) := dk_167 255 205 (dk_at dksX5_layAbout_4 10 rfl rfl)
theorem dX5_layAbout_109 : decode cX5_layAbout 109 = .ok (.aload_n 0, 1) := dk_42 (dk_at dksX5_layAbout_4 13 rfl rfl)
theorem dX5_layAbout_110 : decode cX5_layAbout 110 = .ok (.getfield 125, 3) := dk_180 0 125 (dk_at dksX5_layAbout_4 14 rfl rfl)
theorem dX5_layAbout_113 : decode cX5_layAbout 113 = .ok (.bipush 64, 2) := dk_16 64 (dk_at dksX5_layAbout_4 17 rfl rfl)
theorem dX5_layAbout_115 : decode cX5_layAbout 115 = .ok (.iload_n 2, 1) := dk_28 (dk_at dksX5_layAbout_4 19 rfl rfl)
theorem dX5_layAbout_116 : decode cX5_layAbout 116 = .ok (.imul, 1) := dk_104 (dk_at dksX5_layAbout_4 20 rfl rfl)
theorem dX5_layAbout_117 : decode cX5_layAbout 117 = .ok (.iload_n 3, 1) := dk_29 (dk_at dksX5_layAbout_4 21 rfl rfl)
theorem dX5_layAbout_118 : decode cX5_layAbout 118 = .ok (.iadd, 1) := dk_96 (dk_at dksX5_layAbout_4 22 rfl rfl)
theorem dX5_layAbout_119 : decode cX5_layAbout 119 = .ok (.iload 4, 2) := dk_21 4 (dk_at dksX5_layAbout_5 0 rfl rfl)
theorem dX5_layAbout_121 : decode cX5_layAbout 121 = .ok (.iastore, 1) := dk_79 (dk_at dksX5_layAbout_5 2 rfl rfl)
theorem dX5_layAbout_122 : decode cX5_layAbout 122 = .ok (.iinc 3 1, 3) := dk_132 3 1 (dk_at dksX5_layAbout_5 3 rfl rfl)
theorem dX5_layAbout_125 : decode cX5_layAbout 125 = .ok (.goto (-108), 3) := dk_167 255 148 (dk_at dksX5_layAbout_5 6 rfl rfl)
theorem dX5_layAbout_128 : decode cX5_layAbout 128 = .ok (.iinc 2 (-1), 3) := dk_132 2 255 (dk_at dksX5_layAbout_5 9 rfl rfl)
theorem dX5_layAbout_131 : decode cX5_layAbout 131 = .ok (.goto (-120), 3) := dk_167 255 136 (dk_at dksX5_layAbout_5 12 rfl rfl)
theorem dX5_layAbout_134 : decode cX5_layAbout 134 = .ok (.return_, 1) := dk_177 (dk_at dksX5_layAbout_5 15 rfl rfl)
abbrev cX5_withSuitor : ByteArray := prog_22_method_95_code
def yX5_withSuitor : MethodName := ⟨RX5, "withSuitor", "(IIII)I"⟩
def dkwX5_withSuitor_2 : List UInt8 := [180, 0, 125, 16, 64, 27, 4, 96, 104, 28, 4, 29, 120, 128, 96, 46, 96, 172]
abbrev dktX5_withSuitor_2 : List UInt8 := dkwX5_withSuitor_2 ++ []
def dkwX5_withSuitor_1 : List UInt8 := [163, 0, 11, 28, 29, 184, 1, 202, 153, 0, 9, 19, 1, 244, 167, 0, 27, 17, 3, 232, 21, 5, 100, 42]
abbrev dktX5_withSuitor_1 : List UInt8 := dkwX5_withSuitor_1 ++ dktX5_withSuitor_2
def dkwX5_withSuitor_0 : List UInt8 := [42, 180, 0, 113, 16, 6, 27, 104, 29, 96, 46, 54, 5, 21, 5, 2, 159, 0, 18, 21, 5, 21, 4]
abbrev dktX5_withSuitor_0 : List UInt8 := dkwX5_withSuitor_0 ++ dktX5_withSuitor_1
theorem dksX5_withSuitor_0 : cX5_withSuitor.data.toList.drop 0 = dktX5_withSuitor_0 := by decide +kernel
theorem dksX5_withSuitor_1 : cX5_withSuitor.data.toList.drop 23 = dktX5_withSuitor_1 := dk_seg dksX5_withSuitor_0 23 rfl rfl
theorem dksX5_withSuitor_2 : cX5_withSuitor.data.toList.drop 47 = dktX5_withSuitor_2 := dk_seg dksX5_withSuitor_1 24 rfl rfl
theorem dX5_withSuitor_0 : decode cX5_withSuitor 0 = .ok (.aload_n 0, 1) := dk_42 (dk_at dksX5_withSuitor_0 0 rfl rfl)
theorem dX5_withSuitor_1 : decode cX5_withSuitor 1 = .ok (.getfield 113, 3) := dk_180 0 113 (dk_at dksX5_withSuitor_0 1 rfl rfl)
theorem dX5_withSuitor_4 : decode cX5_withSuitor 4 = .ok (.bipush 6, 2) := dk_16 6 (dk_at dksX5_withSuitor_0 4 rfl rfl)
theorem dX5_withSuitor_6 : decode cX5_withSuitor 6 = .ok (.iload_n 1, 1) := dk_27 (dk_at dksX5_withSuitor_0 6 rfl rfl)
theorem dX5_withSuitor_7 : decode cX5_withSuitor 7 = .ok (.imul, 1) := dk_104 (dk_at dksX5_withSuitor_0 7 rfl rfl)
theorem dX5_withSuitor_8 : decode cX5_withSuitor 8 = .ok (.iload_n 3, 1) := dk_29 (dk_at dksX5_withSuitor_0 8 rfl rfl)
theorem dX5_withSuitor_9 : decode cX5_withSuitor 9 = .ok (.iadd, 1) := dk_96 (dk_at dksX5_withSuitor_0 9 rfl rfl)
theorem dX5_withSuitor_10 : decode cX5_withSuitor 10 = .ok (.iaload, 1) := dk_46 (dk_at dksX5_withSuitor_0 10 rfl rfl)
theorem dX5_withSuitor_11 : decode cX5_withSuitor 11 = .ok (.istore 5, 2) := dk_54 5 (dk_at dksX5_withSuitor_0 11 rfl rfl)
theorem dX5_withSuitor_13 : decode cX5_withSuitor 13 = .ok (.iload 5, 2) := dk_21 5 (dk_at dksX5_withSuitor_0 13 rfl rfl)
theorem dX5_withSuitor_15 : decode cX5_withSuitor 15 = .ok (.iconst (-1), 1) := dk_2 (dk_at dksX5_withSuitor_0 15 rfl rfl)
theorem dX5_withSuitor_16 : decode cX5_withSuitor 16 = .ok (.if_icmp .eq 18, 3) := dk_159 0 18 (dk_at dksX5_withSuitor_0 16 rfl rfl)
theorem dX5_withSuitor_19 : decode cX5_withSuitor 19 = .ok (.iload 5, 2) := dk_21 5 (dk_at dksX5_withSuitor_0 19 rfl rfl)
theorem dX5_withSuitor_21 : decode cX5_withSuitor 21 = .ok (.iload 4, 2) := dk_21 4 (dk_at dksX5_withSuitor_0 21 rfl rfl)
theorem dX5_withSuitor_23 : decode cX5_withSuitor 23 = .ok (.if_icmp .gt 11, 3) := dk_163 0 11 (dk_at dksX5_withSuitor_1 0 rfl rfl)
theorem dX5_withSuitor_26 : decode cX5_withSuitor 26 = .ok (.iload_n 2, 1) := dk_28 (dk_at dksX5_withSuitor_1 3 rfl rfl)
theorem dX5_withSuitor_27 : decode cX5_withSuitor 27 = .ok (.iload_n 3, 1) := dk_29 (dk_at dksX5_withSuitor_1 4 rfl rfl)
theorem dX5_withSuitor_28 : decode cX5_withSuitor 28 = .ok (.invokestatic 458, 3) := dk_184 1 202 (dk_at dksX5_withSuitor_1 5 rfl rfl)
theorem dX5_withSuitor_31 : decode cX5_withSuitor 31 = .ok (.ifCond .eq 9, 3) := dk_153 0 9 (dk_at dksX5_withSuitor_1 8 rfl rfl)
theorem dX5_withSuitor_34 : decode cX5_withSuitor 34 = .ok (.ldc_w 500, 3) := dk_19 1 244 (dk_at dksX5_withSuitor_1 11 rfl rfl)
theorem dX5_withSuitor_37 : decode cX5_withSuitor 37 = .ok (.goto 27, 3) := dk_167 0 27 (dk_at dksX5_withSuitor_1 14 rfl rfl)
theorem dX5_withSuitor_40 : decode cX5_withSuitor 40 = .ok (.sipush 1000, 3) := dk_17 3 232 (dk_at dksX5_withSuitor_1 17 rfl rfl)
theorem dX5_withSuitor_43 : decode cX5_withSuitor 43 = .ok (.iload 5, 2) := dk_21 5 (dk_at dksX5_withSuitor_1 20 rfl rfl)
theorem dX5_withSuitor_45 : decode cX5_withSuitor 45 = .ok (.isub, 1) := dk_100 (dk_at dksX5_withSuitor_1 22 rfl rfl)
theorem dX5_withSuitor_46 : decode cX5_withSuitor 46 = .ok (.aload_n 0, 1) := dk_42 (dk_at dksX5_withSuitor_1 23 rfl rfl)
theorem dX5_withSuitor_47 : decode cX5_withSuitor 47 = .ok (.getfield 125, 3) := dk_180 0 125 (dk_at dksX5_withSuitor_2 0 rfl rfl)
theorem dX5_withSuitor_50 : decode cX5_withSuitor 50 = .ok (.bipush 64, 2) := dk_16 64 (dk_at dksX5_withSuitor_2 3 rfl rfl)
theorem dX5_withSuitor_52 : decode cX5_withSuitor 52 = .ok (.iload_n 1, 1) := dk_27 (dk_at dksX5_withSuitor_2 5 rfl rfl)
theorem dX5_withSuitor_53 : decode cX5_withSuitor 53 = .ok (.iconst 1, 1) := dk_4 (dk_at dksX5_withSuitor_2 6 rfl rfl)
theorem dX5_withSuitor_54 : decode cX5_withSuitor 54 = .ok (.iadd, 1) := dk_96 (dk_at dksX5_withSuitor_2 7 rfl rfl)
theorem dX5_withSuitor_55 : decode cX5_withSuitor 55 = .ok (.imul, 1) := dk_104 (dk_at dksX5_withSuitor_2 8 rfl rfl)
theorem dX5_withSuitor_56 : decode cX5_withSuitor 56 = .ok (.iload_n 2, 1) := dk_28 (dk_at dksX5_withSuitor_2 9 rfl rfl)
theorem dX5_withSuitor_57 : decode cX5_withSuitor 57 = .ok (.iconst 1, 1) := dk_4 (dk_at dksX5_withSuitor_2 10 rfl rfl)
theorem dX5_withSuitor_58 : decode cX5_withSuitor 58 = .ok (.iload_n 3, 1) := dk_29 (dk_at dksX5_withSuitor_2 11 rfl rfl)
theorem dX5_withSuitor_59 : decode cX5_withSuitor 59 = .ok (.ishl, 1) := dk_120 (dk_at dksX5_withSuitor_2 12 rfl rfl)
theorem dX5_withSuitor_60 : decode cX5_withSuitor 60 = .ok (.ior, 1) := dk_128 (dk_at dksX5_withSuitor_2 13 rfl rfl)
theorem dX5_withSuitor_61 : decode cX5_withSuitor 61 = .ok (.iadd, 1) := dk_96 (dk_at dksX5_withSuitor_2 14 rfl rfl)
theorem dX5_withSuitor_62 : decode cX5_withSuitor 62 = .ok (.iaload, 1) := dk_46 (dk_at dksX5_withSuitor_2 15 rfl rfl)
theorem dX5_withSuitor_63 : decode cX5_withSuitor 63 = .ok (.iadd, 1) := dk_96 (dk_at dksX5_withSuitor_2 16 rfl rfl)
theorem dX5_withSuitor_64 : decode cX5_withSuitor 64 = .ok (.ireturn, 1) := dk_172 (dk_at dksX5_withSuitor_2 17 rfl rfl)
abbrev cX5_keep : ByteArray := prog_22_method_100_code
def yX5_keep : MethodName := ⟨RX5, "keep", "(III)I"⟩
def dkwX5_keep_8 : List UInt8 := [54, 4, 21, 8, 54, 6, 21, 8, 54, 5, 132, 7, 1, 167, 255, 165, 21, 5, 172]
abbrev dktX5_keep_8 : List UInt8 := dkwX5_keep_8 ++ []
def dkwX5_keep_7 : List UInt8 := [184, 0, 208, 42, 180, 0, 13, 16, 8, 16, 8, 27, 104, 96, 21, 7, 96, 46, 184, 0, 208, 100, 100]
abbrev dktX5_keep_7 : List UInt8 := dkwX5_keep_7 ++ dktX5_keep_8
def dkwX5_keep_6 : List UInt8 := [21, 6, 21, 8, 130, 184, 0, 208, 28, 164, 0, 9, 132, 8, 1, 167, 255, 217, 21, 4, 21, 8]
abbrev dktX5_keep_6 : List UInt8 := dkwX5_keep_6 ++ dktX5_keep_7
def dkwX5_keep_5 : List UInt8 := [180, 0, 128, 17, 1, 0, 21, 7, 104, 21, 8, 96, 46, 21, 4, 160, 0, 20, 21, 7, 158, 0, 21]
abbrev dktX5_keep_5 : List UInt8 := dkwX5_keep_5 ++ dktX5_keep_6
def dkwX5_keep_4 : List UInt8 := [167, 255, 219, 21, 4, 54, 5, 3, 54, 6, 3, 54, 7, 21, 7, 29, 163, 0, 91, 3, 54, 8, 42]
abbrev dktX5_keep_4 : List UInt8 := dkwX5_keep_4 ++ dktX5_keep_5
def dkwX5_keep_3 : List UInt8 := [21, 4, 162, 0, 13, 42, 180, 0, 128, 21, 5, 46, 167, 0, 5, 21, 4, 54, 4, 132, 5, 1]
abbrev dktX5_keep_3 : List UInt8 := dkwX5_keep_3 ++ dktX5_keep_4
def dkwX5_keep_2 : List UInt8 := [19, 1, 231, 54, 4, 3, 54, 5, 21, 5, 17, 1, 0, 162, 0, 35, 42, 180, 0, 128, 21, 5, 46]
abbrev dktX5_keep_2 : List UInt8 := dkwX5_keep_2 ++ dktX5_keep_3
def dkwX5_keep_1 : List UInt8 := [153, 0, 15, 29, 2, 159, 0, 12, 29, 184, 0, 228, 154, 0, 5, 2, 172, 42, 27, 28, 182, 2, 1]
abbrev dktX5_keep_1 : List UInt8 := dkwX5_keep_1 ++ dktX5_keep_2
def dkwX5_keep_0 : List UInt8 := [42, 3, 181, 0, 175, 42, 27, 182, 0, 213, 153, 0, 27, 28, 133, 9, 20, 1, 255, 184, 0, 195]
abbrev dktX5_keep_0 : List UInt8 := dkwX5_keep_0 ++ dktX5_keep_1
theorem dksX5_keep_0 : cX5_keep.data.toList.drop 0 = dktX5_keep_0 := by decide +kernel
theorem dksX5_keep_1 : cX5_keep.data.toList.drop 22 = dktX5_keep_1 := dk_seg dksX5_keep_0 22 rfl rfl
theorem dksX5_keep_2 : cX5_keep.data.toList.drop 45 = dktX5_keep_2 := dk_seg dksX5_keep_1 23 rfl rfl
theorem dksX5_keep_3 : cX5_keep.data.toList.drop 68 = dktX5_keep_3 := dk_seg dksX5_keep_2 23 rfl rfl
theorem dksX5_keep_4 : cX5_keep.data.toList.drop 90 = dktX5_keep_4 := dk_seg dksX5_keep_3 22 rfl rfl
theorem dksX5_keep_5 : cX5_keep.data.toList.drop 113 = dktX5_keep_5 := dk_seg dksX5_keep_4 23 rfl rfl
theorem dksX5_keep_6 : cX5_keep.data.toList.drop 136 = dktX5_keep_6 := dk_seg dksX5_keep_5 23 rfl rfl
theorem dksX5_keep_7 : cX5_keep.data.toList.drop 158 = dktX5_keep_7 := dk_seg dksX5_keep_6 22 rfl rfl
theorem dksX5_keep_8 : cX5_keep.data.toList.drop 181 = dktX5_keep_8 := dk_seg dksX5_keep_7 23 rfl rfl
theorem dX5_keep_0 : decode cX5_keep 0 = .ok (.aload_n 0, 1) := dk_42 (dk_at dksX5_keep_0 0 rfl rfl)
theorem dX5_keep_1 : decode cX5_keep 1 = .ok (.iconst 0, 1) := dk_3 (dk_at dksX5_keep_0 1 rfl rfl)
theorem dX5_keep_2 : decode cX5_keep 2 = .ok (.putfield 175, 3) := dk_181 0 175 (dk_at dksX5_keep_0 2 rfl rfl)
theorem dX5_keep_5 : decode cX5_keep 5 = .ok (.aload_n 0, 1) := dk_42 (dk_at dksX5_keep_0 5 rfl rfl)
theorem dX5_keep_6 : decode cX5_keep 6 = .ok (.iload_n 1, 1) := dk_27 (dk_at dksX5_keep_0 6 rfl rfl)
theorem dX5_keep_7 : decode cX5_keep 7 = .ok (.invokevirtual 213, 3) := dk_182 0 213 (dk_at dksX5_keep_0 7 rfl rfl)
theorem dX5_keep_10 : decode cX5_keep 10 = .ok (.ifCond .eq 27, 3) := dk_153 0 27 (dk_at dksX5_keep_0 10 rfl rfl)
theorem dX5_keep_13 : decode cX5_keep 13 = .ok (.iload_n 2, 1) := dk_28 (dk_at dksX5_keep_0 13 rfl rfl)
theorem dX5_keep_14 : decode cX5_keep 14 = .ok (.i2l, 1) := dk_133 (dk_at dksX5_keep_0 14 rfl rfl)
theorem dX5_keep_15 : decode cX5_keep 15 = .ok (.lconst 0, 1) := dk_9 (dk_at dksX5_keep_0 15 rfl rfl)
theorem dX5_keep_16 : decode cX5_keep 16 = .ok (.ldc2_w 511, 3) := dk_20 1 255 (dk_at dksX5_keep_0 16 rfl rfl)
theorem dX5_keep_19 : decode cX5_keep 19 = .ok (.invokestatic 195, 3) := dk_184 0 195 (dk_at dksX5_keep_0 19 rfl rfl)
theorem dX5_keep_22 : decode cX5_keep 22 = .ok (.ifCond .eq 15, 3) := dk_153 0 15 (dk_at dksX5_keep_1 0 rfl rfl)
theorem dX5_keep_25 : decode cX5_keep 25 = .ok (.iload_n 3, 1) := dk_29 (dk_at dksX5_keep_1 3 rfl rfl)
theorem dX5_keep_26 : decode cX5_keep 26 = .ok (.iconst (-1), 1) := dk_2 (dk_at dksX5_keep_1 4 rfl rfl)
theorem dX5_keep_27 : decode cX5_keep 27 = .ok (.if_icmp .eq 12, 3) := dk_159 0 12 (dk_at dksX5_keep_1 5 rfl rfl)
theorem dX5_keep_30 : decode cX5_keep 30 = .ok (.iload_n 3, 1) := dk_29 (dk_at dksX5_keep_1 8 rfl rfl)
theorem dX5_keep_31 : decode cX5_keep 31 = .ok (.invokestatic 228, 3) := dk_184 0 228 (dk_at dksX5_keep_1 9 rfl rfl)
theorem dX5_keep_34 : decode cX5_keep 34 = .ok (.ifCond .ne 5, 3) := dk_154 0 5 (dk_at dksX5_keep_1 12 rfl rfl)
theorem dX5_keep_37 : decode cX5_keep 37 = .ok (.iconst (-1), 1) := dk_2 (dk_at dksX5_keep_1 15 rfl rfl)
theorem dX5_keep_38 : decode cX5_keep 38 = .ok (.ireturn, 1) := dk_172 (dk_at dksX5_keep_1 16 rfl rfl)
theorem dX5_keep_39 : decode cX5_keep 39 = .ok (.aload_n 0, 1) := dk_42 (dk_at dksX5_keep_1 17 rfl rfl)
theorem dX5_keep_40 : decode cX5_keep 40 = .ok (.iload_n 1, 1) := dk_27 (dk_at dksX5_keep_1 18 rfl rfl)
theorem dX5_keep_41 : decode cX5_keep 41 = .ok (.iload_n 2, 1) := dk_28 (dk_at dksX5_keep_1 19 rfl rfl)
theorem dX5_keep_42 : decode cX5_keep 42 = .ok (.invokevirtual 513, 3) := dk_182 2 1 (dk_at dksX5_keep_1 20 rfl rfl)
theorem dX5_keep_45 : decode cX5_keep 45 = .ok (.ldc_w 487, 3) := dk_19 1 231 (dk_at dksX5_keep_2 0 rfl rfl)
theorem dX5_keep_48 : decode cX5_keep 48 = .ok (.istore 4, 2) := dk_54 4 (dk_at dksX5_keep_2 3 rfl rfl)
theorem dX5_keep_50 : decode cX5_keep 50 = .ok (.iconst 0, 1) := dk_3 (dk_at dksX5_keep_2 5 rfl rfl)
theorem dX5_keep_51 : decode cX5_keep 51 = .ok (.istore 5, 2) := dk_54 5 (dk_at dksX5_keep_2 6 rfl rfl)
theorem dX5_keep_53 : decode cX5_keep 53 = .ok (.iload 5, 2) := dk_21 5 (dk_at dksX5_keep_2 8 rfl rfl)
theorem dX5_keep_55 : decode cX5_keep 55 = .ok (.sipush 256, 3) := dk_17 1 0 (dk_at dksX5_keep_2 10 rfl rfl)
theorem dX5_keep_58 : decode cX5_keep 58 = .ok (.if_icmp .ge 35, 3) := dk_162 0 35 (dk_at dksX5_keep_2 13 rfl rfl)
theorem dX5_keep_61 : decode cX5_keep 61 = .ok (.aload_n 0, 1) := dk_42 (dk_at dksX5_keep_2 16 rfl rfl)
theorem dX5_keep_62 : decode cX5_keep 62 = .ok (.getfield 128, 3) := dk_180 0 128 (dk_at dksX5_keep_2 17 rfl rfl)
theorem dX5_keep_65 : decode cX5_keep 65 = .ok (.iload 5, 2) := dk_21 5 (dk_at dksX5_keep_2 20 rfl rfl)
theorem dX5_keep_67 : decode cX5_keep 67 = .ok (.iaload, 1) := dk_46 (dk_at dksX5_keep_2 22 rfl rfl)
theorem dX5_keep_68 : decode cX5_keep 68 = .ok (.iload 4, 2) := dk_21 4 (dk_at dksX5_keep_3 0 rfl rfl)
theorem dX5_keep_70 : decode cX5_keep 70 = .ok (.if_icmp .ge 13, 3) := dk_162 0 13 (dk_at dksX5_keep_3 2 rfl rfl)
theorem dX5_keep_73 : decode cX5_keep 73 = .ok (.aload_n 0, 1) := dk_42 (dk_at dksX5_keep_3 5 rfl rfl)
theorem dX5_keep_74 : decode cX5_keep 74 = .ok (.getfield 128, 3) := dk_180 0 128 (dk_at dksX5_keep_3 6 rfl rfl)
theorem dX5_keep_77 : decode cX5_keep 77 = .ok (.iload 5, 2) := dk_21 5 (dk_at dksX5_keep_3 9 rfl rfl)
theorem dX5_keep_79 : decode cX5_keep 79 = .ok (.iaload, 1) := dk_46 (dk_at dksX5_keep_3 11 rfl rfl)
theorem dX5_keep_80 : decode cX5_keep 80 = .ok (.goto 5, 3) := dk_167 0 5 (dk_at dksX5_keep_3 12 rfl rfl)
theorem dX5_keep_83 : decode cX5_keep 83 = .ok (.iload 4, 2) := dk_21 4 (dk_at dksX5_keep_3 15 rfl rfl)
theorem dX5_keep_85 : decode cX5_keep 85 = .ok (.istore 4, 2) := dk_54 4 (dk_at dksX5_keep_3 17 rfl rfl)
theorem dX5_keep_87 : decode cX5_keep 87 = .ok (.iinc 5 1, 3) := dk_132 5 1 (dk_at dksX5_keep_3 19 rfl rfl)
theorem dX5_keep_90 : decode cX5_keep 90 = .ok (.goto (-37), 3) := dk_167 255 219 (dk_at dksX5_keep_4 0 rfl rfl)
theorem dX5_keep_93 : decode cX5_keep 93 = .ok (.iload 4, 2) := dk_21 4 (dk_at dksX5_keep_4 3 rfl rfl)
theorem dX5_keep_95 : decode cX5_keep 95 = .ok (.istore 5, 2) := dk_54 5 (dk_at dksX5_keep_4 5 rfl rfl)
theorem dX5_keep_97 : decode cX5_keep 97 = .ok (.iconst 0, 1) := dk_3 (dk_at dksX5_keep_4 7 rfl rfl)
theorem dX5_keep_98 : decode cX5_keep 98 = .ok (.istore 6, 2) := dk_54 6 (dk_at dksX5_keep_4 8 rfl rfl)
theorem dX5_keep_100 : decode cX5_keep 100 = .ok (.iconst 0, 1) := dk_3 (dk_at dksX5_keep_4 10 rfl rfl)
theorem dX5_keep_101 : decode cX5_keep 101 = .ok (.istore 7, 2) := dk_54 7 (dk_at dksX5_keep_4 11 rfl rfl)
theorem dX5_keep_103 : decode cX5_keep 103 = .ok (.iload 7, 2) := dk_21 7 (dk_at dksX5_keep_4 13 rfl rfl)
theorem dX5_keep_105 : decode cX5_keep 105 = .ok (.iload_n 3, 1) := dk_29 (dk_at dksX5_keep_4 15 rfl rfl)
theorem dX5_keep_106 : decode cX5_keep 106 = .ok (.if_icmp .gt 91, 3) := dk_163 0 91 (dk_at dksX5_keep_4 16 rfl rfl)
theorem dX5_keep_109 : decode cX5_keep 109 = .ok (.iconst 0, 1) := dk_3 (dk_at dksX5_keep_4 19 rfl rfl)
theorem dX5_keep_110 : decode cX5_keep 110 = .ok (.istore 8, 2) := dk_54 8 (dk_at dksX5_keep_4 20 rfl rfl)
theorem dX5_keep_112 : decode cX5_keep 112 = .ok (.aload_n 0, 1) := dk_42 (dk_at dksX5_keep_4 22 rfl rfl)
theorem dX5_keep_113 : decode cX5_keep 113 = .ok (.getfield 128, 3) := dk_180 0 128 (dk_at dksX5_keep_5 0 rfl rfl)
theorem dX5_keep_116 : decode cX5_keep 116 = .ok (.sipush 256, 3) := dk_17 1 0 (dk_at dksX5_keep_5 3 rfl rfl)
theorem dX5_keep_119 : decode cX5_keep 119 = .ok (.iload 7, 2) := dk_21 7 (dk_at dksX5_keep_5 6 rfl rfl)
theorem dX5_keep_121 : decode cX5_keep 121 = .ok (.imul, 1) := dk_104 (dk_at dksX5_keep_5 8 rfl rfl)
theorem dX5_keep_122 : decode cX5_keep 122 = .ok (.iload 8, 2) := dk_21 8 (dk_at dksX5_keep_5 9 rfl rfl)
theorem dX5_keep_124 : decode cX5_keep 124 = .ok (.iadd, 1) := dk_96 (dk_at dksX5_keep_5 11 rfl rfl)
theorem dX5_keep_125 : decode cX5_keep 125 = .ok (.iaload, 1) := dk_46 (dk_at dksX5_keep_5 12 rfl rfl)
theorem dX5_keep_126 : decode cX5_keep 126 = .ok (.iload 4, 2) := dk_21 4 (dk_at dksX5_keep_5 13 rfl rfl)
theorem dX5_keep_128 : decode cX5_keep 128 = .ok (.if_icmp .ne 20, 3) := dk_160 0 20 (dk_at dksX5_keep_5 15 rfl rfl)
theorem dX5_keep_131 : decode cX5_keep 131 = .ok (.iload 7, 2) := dk_21 7 (dk_at dksX5_keep_5 18 rfl rfl)
theorem dX5_keep_133 : decode cX5_keep 133 = .ok (.ifCond .le 21, 3) := dk_158 0 21 (dk_at dksX5_keep_5 20 rfl rfl)
theorem dX5_keep_136 : decode cX5_keep 136 = .ok (.iload 6, 2) := dk_21 6 (dk_at dksX5_keep_6 0 rfl rfl)
theorem dX5_keep_138 : decode cX5_keep 138 = .ok (.iload 8, 2) := dk_21 8 (dk_at dksX5_keep_6 2 rfl rfl)
theorem dX5_keep_140 : decode cX5_keep 140 = .ok (.ixor, 1) := dk_130 (dk_at dksX5_keep_6 4 rfl rfl)
theorem dX5_keep_141 : decode cX5_keep 141 = .ok (.invokestatic 208, 3) := dk_184 0 208 (dk_at dksX5_keep_6 5 rfl rfl)
theorem dX5_keep_144 : decode cX5_keep 144 = .ok (.iload_n 2, 1) := dk_28 (dk_at dksX5_keep_6 8 rfl rfl)
theorem dX5_keep_145 : decode cX5_keep 145 = .ok (.if_icmp .le 9, 3) := dk_164 0 9 (dk_at dksX5_keep_6 9 rfl rfl)
theorem dX5_keep_148 : decode cX5_keep 148 = .ok (.iinc 8 1, 3) := dk_132 8 1 (dk_at dksX5_keep_6 12 rfl rfl)
theorem dX5_keep_151 : decode cX5_keep 151 = .ok (.goto (-39), 3) := dk_167 255 217 (dk_at dksX5_keep_6 15 rfl rfl)
theorem dX5_keep_154 : decode cX5_keep 154 = .ok (.iload 4, 2) := dk_21 4 (dk_at dksX5_keep_6 18 rfl rfl)
theorem dX5_keep_156 : decode cX5_keep 156 = .ok (.iload 8, 2) := dk_21 8 (dk_at dksX5_keep_6 20 rfl rfl)
theorem dX5_keep_158 : decode cX5_keep 158 = .ok (.invokestatic 208, 3) := dk_184 0 208 (dk_at dksX5_keep_7 0 rfl rfl)
theorem dX5_keep_161 : decode cX5_keep 161 = .ok (.aload_n 0, 1) := dk_42 (dk_at dksX5_keep_7 3 rfl rfl)
theorem dX5_keep_162 : decode cX5_keep 162 = .ok (.getfield 13, 3) := dk_180 0 13 (dk_at dksX5_keep_7 4 rfl rfl)
theorem dX5_keep_165 : decode cX5_keep 165 = .ok (.bipush 8, 2) := dk_16 8 (dk_at dksX5_keep_7 7 rfl rfl)
theorem dX5_keep_167 : decode cX5_keep 167 = .ok (.bipush 8, 2) := dk_16 8 (dk_at dksX5_keep_7 9 rfl rfl)
theorem dX5_keep_169 : decode cX5_keep 169 = .ok (.iload_n 1, 1) := dk_27 (dk_at dksX5_keep_7 11 rfl rfl)
theorem dX5_keep_170 : decode cX5_keep 170 = .ok (.imul, 1) := dk_104 (dk_at dksX5_keep_7 12 rfl rfl)
theorem dX5_keep_171 : decode cX5_keep 171 = .ok (.iadd, 1) := dk_96 (dk_at dksX5_keep_7 13 rfl rfl)
theorem dX5_keep_172 : decode cX5_keep 172 = .ok (.iload 7, 2) := dk_21 7 (dk_at dksX5_keep_7 14 rfl rfl)
theorem dX5_keep_174 : decode cX5_keep 174 = .ok (.iadd, 1) := dk_96 (dk_at dksX5_keep_7 16 rfl rfl)
theorem dX5_keep_175 : decode cX5_keep 175 = .ok (.iaload, 1) := dk_46 (dk_at dksX5_keep_7 17 rfl rfl)
theorem dX5_keep_176 : decode cX5_keep 176 = .ok (.invokestatic 208, 3) := dk_184 0 208 (dk_at dksX5_keep_7 18 rfl rfl)
theorem dX5_keep_179 : decode cX5_keep 179 = .ok (.isub, 1) := dk_100 (dk_at dksX5_keep_7 21 rfl rfl)
theorem dX5_keep_180 : decode cX5_keep 180 = .ok (.isub, 1) := dk_100 (dk_at dksX5_keep_7 22 rfl rfl)
theorem dX5_keep_181 : decode cX5_keep 181 = .ok (.istore 4, 2) := dk_54 4 (dk_at dksX5_keep_8 0 rfl rfl)
theorem dX5_keep_183 : decode cX5_keep 183 = .ok (.iload 8, 2) := dk_21 8 (dk_at dksX5_keep_8 2 rfl rfl)
theorem dX5_keep_185 : decode cX5_keep 185 = .ok (.istore 6, 2) := dk_54 6 (dk_at dksX5_keep_8 4 rfl rfl)
theorem dX5_keep_187 : decode cX5_keep 187 = .ok (.iload 8, 2) := dk_21 8 (dk_at dksX5_keep_8 6 rfl rfl)
theorem dX5_keep_189 : decode cX5_keep 189 = .ok (.istore 5, 2) := dk_54 5 (dk_at dksX5_keep_8 8 rfl rfl)
theorem dX5_keep_191 : decode cX5_keep 191 = .ok (.iinc 7 1, 3) := dk_132 7 1 (dk_at dksX5_keep_8 10 rfl rfl)
theorem dX5_keep_194 : decode cX5_keep 194 = .ok (.goto (-91), 3) := dk_167 255 165 (dk_at dksX5_keep_8 13 rfl rfl)
theorem dX5_keep_197 : decode cX5_keep 197 = .ok (.iload 5, 2) := dk_21 5 (dk_at dksX5_keep_8 16 rfl rfl)
theorem dX5_keep_199 : decode cX5_keep 199 = .ok (.ireturn, 1) := dk_172 (dk_at dksX5_keep_8 18 rfl rfl)
abbrev cX5_layMore : ByteArray := prog_22_method_99_code
def yX5_layMore : MethodName := ⟨RX5, "layMore", "(II)V"⟩
def dkwX5_layMore_4 : List UInt8 := [42, 29, 21, 5, 28, 182, 1, 252, 96, 79, 132, 5, 1, 167, 255, 176, 132, 3, 255, 167, 255, 147, 177]
abbrev dktX5_layMore_4 : List UInt8 := dkwX5_layMore_4 ++ []
def dkwX5_layMore_3 : List UInt8 := [21, 5, 96, 21, 5, 184, 0, 208, 21, 4, 184, 0, 208, 100, 29, 16, 7, 160, 0, 7, 3, 167, 0, 11]
abbrev dktX5_layMore_3 : List UInt8 := dkwX5_layMore_3 ++ dktX5_layMore_4
def dkwX5_layMore_2 : List UInt8 := [19, 1, 231, 79, 21, 5, 21, 4, 126, 21, 4, 160, 0, 46, 42, 180, 0, 128, 17, 1, 0, 29, 104]
abbrev dktX5_layMore_2 : List UInt8 := dkwX5_layMore_2 ++ dktX5_layMore_3
def dkwX5_layMore_1 : List UInt8 := [54, 5, 21, 5, 17, 1, 0, 162, 0, 78, 42, 180, 0, 128, 17, 1, 0, 29, 104, 21, 5, 96]
abbrev dktX5_layMore_1 : List UInt8 := dkwX5_layMore_1 ++ dktX5_layMore_2
def dkwX5_layMore_0 : List UInt8 := [16, 7, 62, 29, 155, 0, 111, 42, 180, 0, 13, 16, 8, 16, 8, 27, 104, 96, 29, 96, 46, 54, 4, 3]
abbrev dktX5_layMore_0 : List UInt8 := dkwX5_layMore_0 ++ dktX5_layMore_1
theorem dksX5_layMore_0 : cX5_layMore.data.toList.drop 0 = dktX5_layMore_0 := by decide +kernel
theorem dksX5_layMore_1 : cX5_layMore.data.toList.drop 24 = dktX5_layMore_1 := dk_seg dksX5_layMore_0 24 rfl rfl
theorem dksX5_layMore_2 : cX5_layMore.data.toList.drop 46 = dktX5_layMore_2 := dk_seg dksX5_layMore_1 22 rfl rfl
theorem dksX5_layMore_3 : cX5_layMore.data.toList.drop 69 = dktX5_layMore_3 := dk_seg dksX5_layMore_2 23 rfl rfl
theorem dksX5_layMore_4 : cX5_layMore.data.toList.drop 93 = dktX5_layMore_4 := dk_seg dksX5_layMore_3 24 rfl rfl
theorem dX5_layMore_0 : decode cX5_layMore 0 = .ok (.bipush 7, 2) := dk_16 7 (dk_at dksX5_layMore_0 0 rfl rfl)
theorem dX5_layMore_2 : decode cX5_layMore 2 = .ok (.istore_n 3, 1) := dk_62 (dk_at dksX5_layMore_0 2 rfl rfl)
theorem dX5_layMore_3 : decode cX5_layMore 3 = .ok (.iload_n 3, 1) := dk_29 (dk_at dksX5_layMore_0 3 rfl rfl)
theorem dX5_layMore_4 : decode cX5_layMore 4 = .ok (.ifCond .lt 111, 3) := dk_155 0 111 (dk_at dksX5_layMore_0 4 rfl rfl)
theorem dX5_layMore_7 : decode cX5_layMore 7 = .ok (.aload_n 0, 1) := dk_42 (dk_at dksX5_layMore_0 7 rfl rfl)
theorem dX5_layMore_8 : decode cX5_layMore 8 = .ok (.getfield 13, 3) := dk_180 0 13 (dk_at dksX5_layMore_0 8 rfl rfl)
theorem dX5_layMore_11 : decode cX5_layMore 11 = .ok (.bipush 8, 2) := dk_16 8 (dk_at dksX5_layMore_0 11 rfl rfl)
theorem dX5_layMore_13 : decode cX5_layMore 13 = .ok (.bipush 8, 2) := dk_16 8 (dk_at dksX5_layMore_0 13 rfl rfl)
theorem dX5_layMore_15 : decode cX5_layMore 15 = .ok (.iload_n 1, 1) := dk_27 (dk_at dksX5_layMore_0 15 rfl rfl)
theorem dX5_layMore_16 : decode cX5_layMore 16 = .ok (.imul, 1) := dk_104 (dk_at dksX5_layMore_0 16 rfl rfl)
theorem dX5_layMore_17 : decode cX5_layMore 17 = .ok (.iadd, 1) := dk_96 (dk_at dksX5_layMore_0 17 rfl rfl)
theorem dX5_layMore_18 : decode cX5_layMore 18 = .ok (.iload_n 3, 1) := dk_29 (dk_at dksX5_layMore_0 18 rfl rfl)
theorem dX5_layMore_19 : decode cX5_layMore 19 = .ok (.iadd, 1) := dk_96 (dk_at dksX5_layMore_0 19 rfl rfl)
theorem dX5_layMore_20 : decode cX5_layMore 20 = .ok (.iaload, 1) := dk_46 (dk_at dksX5_layMore_0 20 rfl rfl)
theorem dX5_layMore_21 : decode cX5_layMore 21 = .ok (.istore 4, 2) := dk_54 4 (dk_at dksX5_layMore_0 21 rfl rfl)
theorem dX5_layMore_23 : decode cX5_layMore 23 = .ok (.iconst 0, 1) := dk_3 (dk_at dksX5_layMore_0 23 rfl rfl)
theorem dX5_layMore_24 : decode cX5_layMore 24 = .ok (.istore 5, 2) := dk_54 5 (dk_at dksX5_layMore_1 0 rfl rfl)
theorem dX5_layMore_26 : decode cX5_layMore 26 = .ok (.iload 5, 2) := dk_21 5 (dk_at dksX5_layMore_1 2 rfl rfl)
theorem dX5_layMore_28 : decode cX5_layMore 28 = .ok (.sipush 256, 3) := dk_17 1 0 (dk_at dksX5_layMore_1 4 rfl rfl)
theorem dX5_layMore_31 : decode cX5_layMore 31 = .ok (.if_icmp .ge 78, 3) := dk_162 0 78 (dk_at dksX5_layMore_1 7 rfl rfl)
theorem dX5_layMore_34 : decode cX5_layMore 34 = .ok (.aload_n 0, 1) := dk_42 (dk_at dksX5_layMore_1 10 rfl rfl)
theorem dX5_layMore_35 : decode cX5_layMore 35 = .ok (.getfield 128, 3) := dk_180 0 128 (dk_at dksX5_layMore_1 11 rfl rfl)
theorem dX5_layMore_38 : decode cX5_layMore 38 = .ok (.sipush 256, 3) := dk_17 1 0 (dk_at dksX5_layMore_1 14 rfl rfl)
theorem dX5_layMore_41 : decode cX5_layMore 41 = .ok (.iload_n 3, 1) := dk_29 (dk_at dksX5_layMore_1 17 rfl rfl)
theorem dX5_layMore_42 : decode cX5_layMore 42 = .ok (.imul, 1) := dk_104 (dk_at dksX5_layMore_1 18 rfl rfl)
theorem dX5_layMore_43 : decode cX5_layMore 43 = .ok (.iload 5, 2) := dk_21 5 (dk_at dksX5_layMore_1 19 rfl rfl)
theorem dX5_layMore_45 : decode cX5_layMore 45 = .ok (.iadd, 1) := dk_96 (dk_at dksX5_layMore_1 21 rfl rfl)
theorem dX5_layMore_46 : decode cX5_layMore 46 = .ok (.ldc_w 487, 3) := dk_19 1 231 (dk_at dksX5_layMore_2 0 rfl rfl)
theorem dX5_layMore_49 : decode cX5_layMore 49 = .ok (.iastore, 1) := dk_79 (dk_at dksX5_layMore_2 3 rfl rfl)
theorem dX5_layMore_50 : decode cX5_layMore 50 = .ok (.iload 5, 2) := dk_21 5 (dk_at dksX5_layMore_2 4 rfl rfl)
theorem dX5_layMore_52 : decode cX5_layMore 52 = .ok (.iload 4, 2) := dk_21 4 (dk_at dksX5_layMore_2 6 rfl rfl)
theorem dX5_layMore_54 : decode cX5_layMore 54 = .ok (.iand, 1) := dk_126 (dk_at dksX5_layMore_2 8 rfl rfl)
theorem dX5_layMore_55 : decode cX5_layMore 55 = .ok (.iload 4, 2) := dk_21 4 (dk_at dksX5_layMore_2 9 rfl rfl)
theorem dX5_layMore_57 : decode cX5_layMore 57 = .ok (.if_icmp .ne 46, 3) := dk_160 0 46 (dk_at dksX5_layMore_2 11 rfl rfl)
theorem dX5_layMore_60 : decode cX5_layMore 60 = .ok (.aload_n 0, 1) := dk_42 (dk_at dksX5_layMore_2 14 rfl rfl)
theorem dX5_layMore_61 : decode cX5_layMore 61 = .ok (.getfield 128, 3) := dk_180 0 128 (dk_at dksX5_layMore_2 15 rfl rfl)
theorem dX5_layMore_64 : decode cX5_layMore 64 = .ok (.sipush 256, 3) := dk_17 1 0 (dk_at dksX5_layMore_2 18 rfl rfl)
theorem dX5_layMore_67 : decode cX5_layMore 67 = .ok (.iload_n 3, 1) := dk_29 (dk_at dksX5_layMore_2 21 rfl rfl)
theorem dX5_layMore_68 : decode cX5_layMore 68 = .ok (.imul, 1) := dk_104 (dk_at dksX5_layMore_2 22 rfl rfl)
theorem dX5_layMore_69 : decode cX5_layMore 69 = .ok (.iload 5, 2) := dk_21 5 (dk_at dksX5_layMore_3 0 rfl rfl)
theorem dX5_layMore_71 : decode cX5_layMore 71 = .ok (.iadd, 1) := dk_96 (dk_at dksX5_layMore_3 2 rfl rfl)
theorem dX5_layMore_72 : decode cX5_layMore 72 = .ok (.iload 5, 2) := dk_21 5 (dk_at dksX5_layMore_3 3 rfl rfl)
theorem dX5_layMore_74 : decode cX5_layMore 74 = .ok (.invokestatic 208, 3) := dk_184 0 208 (dk_at dksX5_layMore_3 5 rfl rfl)
theorem dX5_layMore_77 : decode cX5_layMore 77 = .ok (.iload 4, 2) := dk_21 4 (dk_at dksX5_layMore_3 8 rfl rfl)
theorem dX5_layMore_79 : decode cX5_layMore 79 = .ok (.invokestatic 208, 3) := dk_184 0 208 (dk_at dksX5_layMore_3 10 rfl rfl)
theorem dX5_layMore_82 : decode cX5_layMore 82 = .ok (.isub, 1) := dk_100 (dk_at dksX5_layMore_3 13 rfl rfl)
theorem dX5_layMore_83 : decode cX5_layMore 83 = .ok (.iload_n 3, 1) := dk_29 (dk_at dksX5_layMore_3 14 rfl rfl)
theorem dX5_layMore_84 : decode cX5_layMore 84 = .ok (.bipush 7, 2) := dk_16 7 (dk_at dksX5_layMore_3 15 rfl rfl)
theorem dX5_layMore_86 : decode cX5_layMore 86 = .ok (.if_icmp .ne 7, 3) := dk_160 0 7 (dk_at dksX5_layMore_3 17 rfl rfl)
theorem dX5_layMore_89 : decode cX5_layMore 89 = .ok (.iconst 0, 1) := dk_3 (dk_at dksX5_layMore_3 20 rfl rfl)
theorem dX5_layMore_90 : decode cX5_layMore 90 = .ok (.goto 11, 3) := dk_167 0 11 (dk_at dksX5_layMore_3 21 rfl rfl)
theorem dX5_layMore_93 : decode cX5_layMore 93 = .ok (.aload_n 0, 1) := dk_42 (dk_at dksX5_layMore_4 0 rfl rfl)
theorem dX5_layMore_94 : decode cX5_layMore 94 = .ok (.iload_n 3, 1) := dk_29 (dk_at dksX5_layMore_4 1 rfl rfl)
theorem dX5_layMore_95 : decode cX5_layMore 95 = .ok (.iload 5, 2) := dk_21 5 (dk_at dksX5_layMore_4 2 rfl rfl)
theorem dX5_layMore_97 : decode cX5_layMore 97 = .ok (.iload_n 2, 1) := dk_28 (dk_at dksX5_layMore_4 4 rfl rfl)
theorem dX5_layMore_98 : decode cX5_layMore 98 = .ok (.invokevirtual 508, 3) := dk_182 1 252 (dk_at dksX5_layMore_4 5 rfl rfl)
theorem dX5_layMore_101 : decode cX5_layMore 101 = .ok (.iadd, 1) := dk_96 (dk_at dksX5_layMore_4 8 rfl rfl)
theorem dX5_layMore_102 : decode cX5_layMore 102 = .ok (.iastore, 1) := dk_79 (dk_at dksX5_layMore_4 9 rfl rfl)
theorem dX5_layMore_103 : decode cX5_layMore 103 = .ok (.iinc 5 1, 3) := dk_132 5 1 (dk_at dksX5_layMore_4 10 rfl rfl)
theorem dX5_layMore_106 : decode cX5_layMore 106 = .ok (.goto (-80), 3) := dk_167 255 176 (dk_at dksX5_layMore_4 13 rfl rfl)
theorem dX5_layMore_109 : decode cX5_layMore 109 = .ok (.iinc 3 (-1), 3) := dk_132 3 255 (dk_at dksX5_layMore_4 16 rfl rfl)
theorem dX5_layMore_112 : decode cX5_layMore 112 = .ok (.goto (-109), 3) := dk_167 255 147 (dk_at dksX5_layMore_4 19 rfl rfl)
theorem dX5_layMore_115 : decode cX5_layMore 115 = .ok (.return_, 1) := dk_177 (dk_at dksX5_layMore_4 22 rfl rfl)
abbrev cX5_leastNext : ByteArray := prog_22_method_98_code
def yX5_leastNext : MethodName := ⟨RX5, "leastNext", "(III)I"⟩
def dkwX5_leastNext_3 : List UInt8 := [172]
abbrev dktX5_leastNext_3 : List UInt8 := dkwX5_leastNext_3 ++ []
def dkwX5_leastNext_2 : List UInt8 := [180, 0, 128, 17, 1, 0, 27, 4, 96, 104, 21, 5, 96, 46, 54, 4, 132, 5, 1, 167, 255, 197, 21, 4]
abbrev dktX5_leastNext_2 : List UInt8 := dkwX5_leastNext_2 ++ dktX5_leastNext_3
def dkwX5_leastNext_1 : List UInt8 := [163, 0, 40, 42, 180, 0, 128, 17, 1, 0, 27, 4, 96, 104, 21, 5, 96, 46, 21, 4, 162, 0, 20, 42]
abbrev dktX5_leastNext_1 : List UInt8 := dkwX5_leastNext_1 ++ dktX5_leastNext_2
def dkwX5_leastNext_0 : List UInt8 := [19, 1, 231, 54, 4, 3, 54, 5, 21, 5, 17, 1, 0, 162, 0, 57, 28, 21, 5, 130, 184, 0, 208, 29]
abbrev dktX5_leastNext_0 : List UInt8 := dkwX5_leastNext_0 ++ dktX5_leastNext_1
theorem dksX5_leastNext_0 : cX5_leastNext.data.toList.drop 0 = dktX5_leastNext_0 := by decide +kernel
theorem dksX5_leastNext_1 : cX5_leastNext.data.toList.drop 24 = dktX5_leastNext_1 := dk_seg dksX5_leastNext_0 24 rfl rfl
theorem dksX5_leastNext_2 : cX5_leastNext.data.toList.drop 48 = dktX5_leastNext_2 := dk_seg dksX5_leastNext_1 24 rfl rfl
theorem dksX5_leastNext_3 : cX5_leastNext.data.toList.drop 72 = dktX5_leastNext_3 := dk_seg dksX5_leastNext_2 24 rfl rfl
theorem dX5_leastNext_0 : decode cX5_leastNext 0 = .ok (.ldc_w 487, 3) := dk_19 1 231 (dk_at dksX5_leastNext_0 0 rfl rfl)
theorem dX5_leastNext_3 : decode cX5_leastNext 3 = .ok (.istore 4, 2) := dk_54 4 (dk_at dksX5_leastNext_0 3 rfl rfl)
theorem dX5_leastNext_5 : decode cX5_leastNext 5 = .ok (.iconst 0, 1) := dk_3 (dk_at dksX5_leastNext_0 5 rfl rfl)
theorem dX5_leastNext_6 : decode cX5_leastNext 6 = .ok (.istore 5, 2) := dk_54 5 (dk_at dksX5_leastNext_0 6 rfl rfl)
theorem dX5_leastNext_8 : decode cX5_leastNext 8 = .ok (.iload 5, 2) := dk_21 5 (dk_at dksX5_leastNext_0 8 rfl rfl)
theorem dX5_leastNext_10 : decode cX5_leastNext 10 = .ok (.sipush 256, 3) := dk_17 1 0 (dk_at dksX5_leastNext_0 10 rfl rfl)
theorem dX5_leastNext_13 : decode cX5_leastNext 13 = .ok (.if_icmp .ge 57, 3) := dk_162 0 57 (dk_at dksX5_leastNext_0 13 rfl rfl)
theorem dX5_leastNext_16 : decode cX5_leastNext 16 = .ok (.iload_n 2, 1) := dk_28 (dk_at dksX5_leastNext_0 16 rfl rfl)
theorem dX5_leastNext_17 : decode cX5_leastNext 17 = .ok (.iload 5, 2) := dk_21 5 (dk_at dksX5_leastNext_0 17 rfl rfl)
theorem dX5_leastNext_19 : decode cX5_leastNext 19 = .ok (.ixor, 1) := dk_130 (dk_at dksX5_leastNext_0 19 rfl rfl)
theorem dX5_leastNext_20 : decode cX5_leastNext 20 = .ok (.invokestatic 208, 3) := dk_184 0 208 (dk_at dksX5_leastNext_0 20 rfl rfl)
theorem dX5_leastNext_23 : decode cX5_leastNext 23 = .ok (.iload_n 3, 1) := dk_29 (dk_at dksX5_leastNext_0 23 rfl rfl)
theorem dX5_leastNext_24 : decode cX5_leastNext 24 = .ok (.if_icmp .gt 40, 3) := dk_163 0 40 (dk_at dksX5_leastNext_1 0 rfl rfl)
theorem dX5_leastNext_27 : decode cX5_leastNext 27 = .ok (.aload_n 0, 1) := dk_42 (dk_at dksX5_leastNext_1 3 rfl rfl)
theorem dX5_leastNext_28 : decode cX5_leastNext 28 = .ok (.getfield 128, 3) := dk_180 0 128 (dk_at dksX5_leastNext_1 4 rfl rfl)
theorem dX5_leastNext_31 : decode cX5_leastNext 31 = .ok (.sipush 256, 3) := dk_17 1 0 (dk_at dksX5_leastNext_1 7 rfl rfl)
theorem dX5_leastNext_34 : decode cX5_leastNext 34 = .ok (.iload_n 1, 1) := dk_27 (dk_at dksX5_leastNext_1 10 rfl rfl)
theorem dX5_leastNext_35 : decode cX5_leastNext 35 = .ok (.iconst 1, 1) := dk_4 (dk_at dksX5_leastNext_1 11 rfl rfl)
theorem dX5_leastNext_36 : decode cX5_leastNext 36 = .ok (.iadd, 1) := dk_96 (dk_at dksX5_leastNext_1 12 rfl rfl)
theorem dX5_leastNext_37 : decode cX5_leastNext 37 = .ok (.imul, 1) := dk_104 (dk_at dksX5_leastNext_1 13 rfl rfl)
theorem dX5_leastNext_38 : decode cX5_leastNext 38 = .ok (.iload 5, 2) := dk_21 5 (dk_at dksX5_leastNext_1 14 rfl rfl)
theorem dX5_leastNext_40 : decode cX5_leastNext 40 = .ok (.iadd, 1) := dk_96 (dk_at dksX5_leastNext_1 16 rfl rfl)
theorem dX5_leastNext_41 : decode cX5_leastNext 41 = .ok (.iaload, 1) := dk_46 (dk_at dksX5_leastNext_1 17 rfl rfl)
theorem dX5_leastNext_42 : decode cX5_leastNext 42 = .ok (.iload 4, 2) := dk_21 4 (dk_at dksX5_leastNext_1 18 rfl rfl)
theorem dX5_leastNext_44 : decode cX5_leastNext 44 = .ok (.if_icmp .ge 20, 3) := dk_162 0 20 (dk_at dksX5_leastNext_1 20 rfl rfl)
theorem dX5_leastNext_47 : decode cX5_leastNext 47 = .ok (.aload_n 0, 1) := dk_42 (dk_at dksX5_leastNext_1 23 rfl rfl)
theorem dX5_leastNext_48 : decode cX5_leastNext 48 = .ok (.getfield 128, 3) := dk_180 0 128 (dk_at dksX5_leastNext_2 0 rfl rfl)
theorem dX5_leastNext_51 : decode cX5_leastNext 51 = .ok (.sipush 256, 3) := dk_17 1 0 (dk_at dksX5_leastNext_2 3 rfl rfl)
theorem dX5_leastNext_54 : decode cX5_leastNext 54 = .ok (.iload_n 1, 1) := dk_27 (dk_at dksX5_leastNext_2 6 rfl rfl)
theorem dX5_leastNext_55 : decode cX5_leastNext 55 = .ok (.iconst 1, 1) := dk_4 (dk_at dksX5_leastNext_2 7 rfl rfl)
theorem dX5_leastNext_56 : decode cX5_leastNext 56 = .ok (.iadd, 1) := dk_96 (dk_at dksX5_leastNext_2 8 rfl rfl)
theorem dX5_leastNext_57 : decode cX5_leastNext 57 = .ok (.imul, 1) := dk_104 (dk_at dksX5_leastNext_2 9 rfl rfl)
theorem dX5_leastNext_58 : decode cX5_leastNext 58 = .ok (.iload 5, 2) := dk_21 5 (dk_at dksX5_leastNext_2 10 rfl rfl)
theorem dX5_leastNext_60 : decode cX5_leastNext 60 = .ok (.iadd, 1) := dk_96 (dk_at dksX5_leastNext_2 12 rfl rfl)
theorem dX5_leastNext_61 : decode cX5_leastNext 61 = .ok (.iaload, 1) := dk_46 (dk_at dksX5_leastNext_2 13 rfl rfl)
theorem dX5_leastNext_62 : decode cX5_leastNext 62 = .ok (.istore 4, 2) := dk_54 4 (dk_at dksX5_leastNext_2 14 rfl rfl)
theorem dX5_leastNext_64 : decode cX5_leastNext 64 = .ok (.iinc 5 1, 3) := dk_132 5 1 (dk_at dksX5_leastNext_2 16 rfl rfl)
theorem dX5_leastNext_67 : decode cX5_leastNext 67 = .ok (.goto (-59), 3) := dk_167 255 197 (dk_at dksX5_leastNext_2 19 rfl rfl)
theorem dX5_leastNext_70 : decode cX5_leastNext 70 = .ok (.iload 4, 2) := dk_21 4 (dk_at dksX5_leastNext_2 22 rfl rfl)
theorem dX5_leastNext_72 : decode cX5_leastNext 72 = .ok (.ireturn, 1) := dk_172 (dk_at dksX5_leastNext_3 0 rfl rfl)
abbrev cX5_clash : ByteArray := prog_22_method_103_code
def yX5_clash : MethodName := ⟨RX5, "clash", "(III)I"⟩
def dkwX5_clash_1 : List UInt8 := [29, 182, 2, 7, 167, 0, 4, 2, 172]
abbrev dktX5_clash_1 : List UInt8 := dkwX5_clash_1 ++ []
def dkwX5_clash_0 : List UInt8 := [42, 3, 181, 0, 175, 42, 27, 28, 182, 2, 4, 153, 0, 20, 29, 184, 0, 228, 153, 0, 13, 42, 27, 28]
abbrev dktX5_clash_0 : List UInt8 := dkwX5_clash_0 ++ dktX5_clash_1
theorem dksX5_clash_0 : cX5_clash.data.toList.drop 0 = dktX5_clash_0 := by decide +kernel
theorem dksX5_clash_1 : cX5_clash.data.toList.drop 24 = dktX5_clash_1 := dk_seg dksX5_clash_0 24 rfl rfl
theorem dX5_clash_0 : decode cX5_clash 0 = .ok (.aload_n 0, 1) := dk_42 (dk_at dksX5_clash_0 0 rfl rfl)
theorem dX5_clash_1 : decode cX5_clash 1 = .ok (.iconst 0, 1) := dk_3 (dk_at dksX5_clash_0 1 rfl rfl)
theorem dX5_clash_2 : decode cX5_clash 2 = .ok (.putfield 175, 3) := dk_181 0 175 (dk_at dksX5_clash_0 2 rfl rfl)
theorem dX5_clash_5 : decode cX5_clash 5 = .ok (.aload_n 0, 1) := dk_42 (dk_at dksX5_clash_0 5 rfl rfl)
theorem dX5_clash_6 : decode cX5_clash 6 = .ok (.iload_n 1, 1) := dk_27 (dk_at dksX5_clash_0 6 rfl rfl)
theorem dX5_clash_7 : decode cX5_clash 7 = .ok (.iload_n 2, 1) := dk_28 (dk_at dksX5_clash_0 7 rfl rfl)
theorem dX5_clash_8 : decode cX5_clash 8 = .ok (.invokevirtual 516, 3) := dk_182 2 4 (dk_at dksX5_clash_0 8 rfl rfl)
theorem dX5_clash_11 : decode cX5_clash 11 = .ok (.ifCond .eq 20, 3) := dk_153 0 20 (dk_at dksX5_clash_0 11 rfl rfl)
theorem dX5_clash_14 : decode cX5_clash 14 = .ok (.iload_n 3, 1) := dk_29 (dk_at dksX5_clash_0 14 rfl rfl)
theorem dX5_clash_15 : decode cX5_clash 15 = .ok (.invokestatic 228, 3) := dk_184 0 228 (dk_at dksX5_clash_0 15 rfl rfl)
theorem dX5_clash_18 : decode cX5_clash 18 = .ok (.ifCond .eq 13, 3) := dk_153 0 13 (dk_at dksX5_clash_0 18 rfl rfl)
theorem dX5_clash_21 : decode cX5_clash 21 = .ok (.aload_n 0, 1) := dk_42 (dk_at dksX5_clash_0 21 rfl rfl)
theorem dX5_clash_22 : decode cX5_clash 22 = .ok (.iload_n 1, 1) := dk_27 (dk_at dksX5_clash_0 22 rfl rfl)
theorem dX5_clash_23 : decode cX5_clash 23 = .ok (.iload_n 2, 1) := dk_28 (dk_at dksX5_clash_0 23 rfl rfl)
theorem dX5_clash_24 : decode cX5_clash 24 = .ok (.iload_n 3, 1) := dk_29 (dk_at dksX5_clash_1 0 rfl rfl)
theorem dX5_clash_25 : decode cX5_clash 25 = .ok (.invokevirtual 519, 3) := dk_182 2 7 (dk_at dksX5_clash_1 1 rfl rfl)
theorem dX5_clash_28 : decode cX5_clash 28 = .ok (.goto 4, 3) := dk_167 0 4 (dk_at dksX5_clash_1 4 rfl rfl)
theorem dX5_clash_31 : decode cX5_clash 31 = .ok (.iconst (-1), 1) := dk_2 (dk_at dksX5_clash_1 7 rfl rfl)
theorem dX5_clash_32 : decode cX5_clash 32 = .ok (.ireturn, 1) := dk_172 (dk_at dksX5_clash_1 8 rfl rfl)
abbrev cX5_areTwo : ByteArray := prog_22_method_102_code
def yX5_areTwo : MethodName := ⟨RX5, "areTwo", "(II)Z"⟩
def dkwX5_areTwo_1 : List UInt8 := [167, 0, 4, 3, 172]
abbrev dktX5_areTwo_1 : List UInt8 := dkwX5_areTwo_1 ++ []
def dkwX5_areTwo_0 : List UInt8 := [42, 27, 182, 0, 213, 153, 0, 20, 42, 28, 182, 0, 213, 153, 0, 12, 27, 28, 159, 0, 7, 4]
abbrev dktX5_areTwo_0 : List UInt8 := dkwX5_areTwo_0 ++ dktX5_areTwo_1
theorem dksX5_areTwo_0 : cX5_areTwo.data.toList.drop 0 = dktX5_areTwo_0 := by decide +kernel
theorem dksX5_areTwo_1 : cX5_areTwo.data.toList.drop 22 = dktX5_areTwo_1 := dk_seg dksX5_areTwo_0 22 rfl rfl
theorem dX5_areTwo_0 : decode cX5_areTwo 0 = .ok (.aload_n 0, 1) := dk_42 (dk_at dksX5_areTwo_0 0 rfl rfl)
theorem dX5_areTwo_1 : decode cX5_areTwo 1 = .ok (.iload_n 1, 1) := dk_27 (dk_at dksX5_areTwo_0 1 rfl rfl)
theorem dX5_areTwo_2 : decode cX5_areTwo 2 = .ok (.invokevirtual 213, 3) := dk_182 0 213 (dk_at dksX5_areTwo_0 2 rfl rfl)
theorem dX5_areTwo_5 : decode cX5_areTwo 5 = .ok (.ifCond .eq 20, 3) := dk_153 0 20 (dk_at dksX5_areTwo_0 5 rfl rfl)
theorem dX5_areTwo_8 : decode cX5_areTwo 8 = .ok (.aload_n 0, 1) := dk_42 (dk_at dksX5_areTwo_0 8 rfl rfl)
theorem dX5_areTwo_9 : decode cX5_areTwo 9 = .ok (.iload_n 2, 1) := dk_28 (dk_at dksX5_areTwo_0 9 rfl rfl)
theorem dX5_areTwo_10 : decode cX5_areTwo 10 = .ok (.invokevirtual 213, 3) := dk_182 0 213 (dk_at dksX5_areTwo_0 10 rfl rfl)
theorem dX5_areTwo_13 : decode cX5_areTwo 13 = .ok (.ifCond .eq 12, 3) := dk_153 0 12 (dk_at dksX5_areTwo_0 13 rfl rfl)
theorem dX5_areTwo_16 : decode cX5_areTwo 16 = .ok (.iload_n 1, 1) := dk_27 (dk_at dksX5_areTwo_0 16 rfl rfl)
theorem dX5_areTwo_17 : decode cX5_areTwo 17 = .ok (.iload_n 2, 1) := dk_28 (dk_at dksX5_areTwo_0 17 rfl rfl)
theorem dX5_areTwo_18 : decode cX5_areTwo 18 = .ok (.if_icmp .eq 7, 3) := dk_159 0 7 (dk_at dksX5_areTwo_0 18 rfl rfl)
theorem dX5_areTwo_21 : decode cX5_areTwo 21 = .ok (.iconst 1, 1) := dk_4 (dk_at dksX5_areTwo_0 21 rfl rfl)
theorem dX5_areTwo_22 : decode cX5_areTwo 22 = .ok (.goto 4, 3) := dk_167 0 4 (dk_at dksX5_areTwo_1 0 rfl rfl)
theorem dX5_areTwo_25 : decode cX5_areTwo 25 = .ok (.iconst 0, 1) := dk_3 (dk_at dksX5_areTwo_1 3 rfl rfl)
theorem dX5_areTwo_26 : decode cX5_areTwo 26 = .ok (.ireturn, 1) := dk_172 (dk_at dksX5_areTwo_1 4 rfl rfl)
abbrev cX5_layClash : ByteArray := prog_22_method_101_code
def yX5_layClash : MethodName := ⟨RX5, "layClash", "(III)I"⟩
def dkwX5_layClash_5 : List UInt8 := [21, 9, 128, 79, 132, 8, 1, 167, 255, 192, 132, 5, 1, 167, 255, 153, 21, 4, 172]
abbrev dktX5_layClash_5 : List UInt8 := dkwX5_layClash_5 ++ []
def dkwX5_layClash_4 : List UInt8 := [167, 0, 4, 3, 54, 9, 21, 4, 21, 9, 184, 0, 208, 96, 54, 4, 42, 180, 0, 131, 21, 8, 92, 46]
abbrev dktX5_layClash_4 : List UInt8 := dkwX5_layClash_4 ++ dktX5_layClash_5
def dkwX5_layClash_3 : List UInt8 := [21, 8, 184, 1, 202, 153, 0, 22, 21, 7, 4, 21, 8, 4, 96, 120, 4, 21, 8, 120, 4, 122, 128, 126]
abbrev dktX5_layClash_3 : List UInt8 := dkwX5_layClash_3 ++ dktX5_layClash_4
def dkwX5_layClash_2 : List UInt8 := [21, 5, 29, 96, 16, 8, 112, 182, 0, 204, 54, 7, 3, 54, 8, 21, 8, 16, 8, 162, 0, 63, 21, 6]
abbrev dktX5_layClash_2 : List UInt8 := dkwX5_layClash_2 ++ dktX5_layClash_3
def dkwX5_layClash_1 : List UInt8 := [167, 255, 238, 3, 54, 5, 21, 5, 16, 8, 162, 0, 102, 42, 27, 21, 5, 182, 0, 204, 54, 6, 42, 28]
abbrev dktX5_layClash_1 : List UInt8 := dkwX5_layClash_1 ++ dktX5_layClash_2
def dkwX5_layClash_0 : List UInt8 := [3, 54, 4, 3, 54, 5, 21, 5, 16, 8, 162, 0, 17, 42, 180, 0, 131, 21, 5, 3, 79, 132, 5, 1]
abbrev dktX5_layClash_0 : List UInt8 := dkwX5_layClash_0 ++ dktX5_layClash_1
theorem dksX5_layClash_0 : cX5_layClash.data.toList.drop 0 = dktX5_layClash_0 := by decide +kernel
theorem dksX5_layClash_1 : cX5_layClash.data.toList.drop 24 = dktX5_layClash_1 := dk_seg dksX5_layClash_0 24 rfl rfl
theorem dksX5_layClash_2 : cX5_layClash.data.toList.drop 48 = dktX5_layClash_2 := dk_seg dksX5_layClash_1 24 rfl rfl
theorem dksX5_layClash_3 : cX5_layClash.data.toList.drop 72 = dktX5_layClash_3 := dk_seg dksX5_layClash_2 24 rfl rfl
theorem dksX5_layClash_4 : cX5_layClash.data.toList.drop 96 = dktX5_layClash_4 := dk_seg dksX5_layClash_3 24 rfl rfl
theorem dksX5_layClash_5 : cX5_layClash.data.toList.drop 120 = dktX5_layClash_5 := dk_seg dksX5_layClash_4 24 rfl rfl
theorem dX5_layClash_0 : decode cX5_layClash 0 = .ok (.iconst 0, 1) := dk_3 (dk_at dksX5_layClash_0 0 rfl rfl)
theorem dX5_layClash_1 : decode cX5_layClash 1 = .ok (.istore 4, 2) := dk_54 4 (dk_at dksX5_layClash_0 1 rfl rfl)
theorem dX5_layClash_3 : decode cX5_layClash 3 = .ok (.iconst 0, 1) := dk_3 (dk_at dksX5_layClash_0 3 rfl rfl)
theorem dX5_layClash_4 : decode cX5_layClash 4 = .ok (.istore 5, 2) := dk_54 5 (dk_at dksX5_layClash_0 4 rfl rfl)
theorem dX5_layClash_6 : decode cX5_layClash 6 = .ok (.iload 5, 2) := dk_21 5 (dk_at dksX5_layClash_0 6 rfl rfl)
theorem dX5_layClash_8 : decode cX5_layClash 8 = .ok (.bipush 8, 2) := dk_16 8 (dk_at dksX5_layClash_0 8 rfl rfl)
theorem dX5_layClash_10 : decode cX5_layClash 10 = .ok (.if_icmp .ge 17, 3) := dk_162 0 17 (dk_at dksX5_layClash_0 10 rfl rfl)
theorem dX5_layClash_13 : decode cX5_layClash 13 = .ok (.aload_n 0, 1) := dk_42 (dk_at dksX5_layClash_0 13 rfl rfl)
theorem dX5_layClash_14 : decode cX5_layClash 14 = .ok (.getfield 131, 3) := dk_180 0 131 (dk_at dksX5_layClash_0 14 rfl rfl)
theorem dX5_layClash_17 : decode cX5_layClash 17 = .ok (.iload 5, 2) := dk_21 5 (dk_at dksX5_layClash_0 17 rfl rfl)
theorem dX5_layClash_19 : decode cX5_layClash 19 = .ok (.iconst 0, 1) := dk_3 (dk_at dksX5_layClash_0 19 rfl rfl)
theorem dX5_layClash_20 : decode cX5_layClash 20 = .ok (.iastore, 1) := dk_79 (dk_at dksX5_layClash_0 20 rfl rfl)
theorem dX5_layClash_21 : decode cX5_layClash 21 = .ok (.iinc 5 1, 3) := dk_132 5 1 (dk_at dksX5_layClash_0 21 rfl rfl)
theorem dX5_layClash_24 : decode cX5_layClash 24 = .ok (.goto (-18), 3) := dk_167 255 238 (dk_at dksX5_layClash_1 0 rfl rfl)
theorem dX5_layClash_27 : decode cX5_layClash 27 = .ok (.iconst 0, 1) := dk_3 (dk_at dksX5_layClash_1 3 rfl rfl)
theorem dX5_layClash_28 : decode cX5_layClash 28 = .ok (.istore 5, 2) := dk_54 5 (dk_at dksX5_layClash_1 4 rfl rfl)
theorem dX5_layClash_30 : decode cX5_layClash 30 = .ok (.iload 5, 2) := dk_21 5 (dk_at dksX5_layClash_1 6 rfl rfl)
theorem dX5_layClash_32 : decode cX5_layClash 32 = .ok (.bipush 8, 2) := dk_16 8 (dk_at dksX5_layClash_1 8 rfl rfl)
theorem dX5_layClash_34 : decode cX5_layClash 34 = .ok (.if_icmp .ge 102, 3) := dk_162 0 102 (dk_at dksX5_layClash_1 10 rfl rfl)
theorem dX5_layClash_37 : decode cX5_layClash 37 = .ok (.aload_n 0, 1) := dk_42 (dk_at dksX5_layClash_1 13 rfl rfl)
theorem dX5_layClash_38 : decode cX5_layClash 38 = .ok (.iload_n 1, 1) := dk_27 (dk_at dksX5_layClash_1 14 rfl rfl)
theorem dX5_layClash_39 : decode cX5_layClash 39 = .ok (.iload 5, 2) := dk_21 5 (dk_at dksX5_layClash_1 15 rfl rfl)
theorem dX5_layClash_41 : decode cX5_layClash 41 = .ok (.invokevirtual 204, 3) := dk_182 0 204 (dk_at dksX5_layClash_1 17 rfl rfl)
theorem dX5_layClash_44 : decode cX5_layClash 44 = .ok (.istore 6, 2) := dk_54 6 (dk_at dksX5_layClash_1 20 rfl rfl)
theorem dX5_layClash_46 : decode cX5_layClash 46 = .ok (.aload_n 0, 1) := dk_42 (dk_at dksX5_layClash_1 22 rfl rfl)
theorem dX5_layClash_47 : decode cX5_layClash 47 = .ok (.iload_n 2, 1) := dk_28 (dk_at dksX5_layClash_1 23 rfl rfl)
theorem dX5_layClash_48 : decode cX5_layClash 48 = .ok (.iload 5, 2) := dk_21 5 (dk_at dksX5_layClash_2 0 rfl rfl)
theorem dX5_layClash_50 : decode cX5_layClash 50 = .ok (.iload_n 3, 1) := dk_29 (dk_at dksX5_layClash_2 2 rfl rfl)
theorem dX5_layClash_51 : decode cX5_layClash 51 = .ok (.iadd, 1) := dk_96 (dk_at dksX5_layClash_2 3 rfl rfl)
theorem dX5_layClash_52 : decode cX5_layClash 52 = .ok (.bipush 8, 2) := dk_16 8 (dk_at dksX5_layClash_2 4 rfl rfl)
theorem dX5_layClash_54 : decode cX5_layClash 54 = .ok (.irem, 1) := dk_112 (dk_at dksX5_layClash_2 6 rfl rfl)
theorem dX5_layClash_55 : decode cX5_layClash 55 = .ok (.invokevirtual 204, 3) := dk_182 0 204 (dk_at dksX5_layClash_2 7 rfl rfl)
theorem dX5_layClash_58 : decode cX5_layClash 58 = .ok (.istore 7, 2) := dk_54 7 (dk_at dksX5_layClash_2 10 rfl rfl)
theorem dX5_layClash_60 : decode cX5_layClash 60 = .ok (.iconst 0, 1) := dk_3 (dk_at dksX5_layClash_2 12 rfl rfl)
theorem dX5_layClash_61 : decode cX5_layClash 61 = .ok (.istore 8, 2) := dk_54 8 (dk_at dksX5_layClash_2 13 rfl rfl)
theorem dX5_layClash_63 : decode cX5_layClash 63 = .ok (.iload 8, 2) := dk_21 8 (dk_at dksX5_layClash_2 15 rfl rfl)
theorem dX5_layClash_65 : decode cX5_layClash 65 = .ok (.bipush 8, 2) := dk_16 8 (dk_at dksX5_layClash_2 17 rfl rfl)
theorem dX5_layClash_67 : decode cX5_layClash 67 = .ok (.if_icmp .ge 63, 3) := dk_162 0 63 (dk_at dksX5_layClash_2 19 rfl rfl)
theorem dX5_layClash_70 : decode cX5_layClash 70 = .ok (.iload 6, 2) := dk_21 6 (dk_at dksX5_layClash_2 22 rfl rfl)
theorem dX5_layClash_72 : decode cX5_layClash 72 = .ok (.iload 8, 2) := dk_21 8 (dk_at dksX5_layClash_3 0 rfl rfl)
theorem dX5_layClash_74 : decode cX5_layClash 74 = .ok (.invokestatic 458, 3) := dk_184 1 202 (dk_at dksX5_layClash_3 2 rfl rfl)
theorem dX5_layClash_77 : decode cX5_layClash 77 = .ok (.ifCond .eq 22, 3) := dk_153 0 22 (dk_at dksX5_layClash_3 5 rfl rfl)
theorem dX5_layClash_80 : decode cX5_layClash 80 = .ok (.iload 7, 2) := dk_21 7 (dk_at dksX5_layClash_3 8 rfl rfl)
theorem dX5_layClash_82 : decode cX5_layClash 82 = .ok (.iconst 1, 1) := dk_4 (dk_at dksX5_layClash_3 10 rfl rfl)
theorem dX5_layClash_83 : decode cX5_layClash 83 = .ok (.iload 8, 2) := dk_21 8 (dk_at dksX5_layClash_3 11 rfl rfl)
theorem dX5_layClash_85 : decode cX5_layClash 85 = .ok (.iconst 1, 1) := dk_4 (dk_at dksX5_layClash_3 13 rfl rfl)
theorem dX5_layClash_86 : decode cX5_layClash 86 = .ok (.iadd, 1) := dk_96 (dk_at dksX5_layClash_3 14 rfl rfl)
theorem dX5_layClash_87 : decode cX5_layClash 87 = .ok (.ishl, 1) := dk_120 (dk_at dksX5_layClash_3 15 rfl rfl)
theorem dX5_layClash_88 : decode cX5_layClash 88 = .ok (.iconst 1, 1) := dk_4 (dk_at dksX5_layClash_3 16 rfl rfl)
theorem dX5_layClash_89 : decode cX5_layClash 89 = .ok (.iload 8, 2) := dk_21 8 (dk_at dksX5_layClash_3 17 rfl rfl)
theorem dX5_layClash_91 : decode cX5_layClash 91 = .ok (.ishl, 1) := dk_120 (dk_at dksX5_layClash_3 19 rfl rfl)
theorem dX5_layClash_92 : decode cX5_layClash 92 = .ok (.iconst 1, 1) := dk_4 (dk_at dksX5_layClash_3 20 rfl rfl)
theorem dX5_layClash_93 : decode cX5_layClash 93 = .ok (.ishr, 1) := dk_122 (dk_at dksX5_layClash_3 21 rfl rfl)
theorem dX5_layClash_94 : decode cX5_layClash 94 = .ok (.ior, 1) := dk_128 (dk_at dksX5_layClash_3 22 rfl rfl)
theorem dX5_layClash_95 : decode cX5_layClash 95 = .ok (.iand, 1) := dk_126 (dk_at dksX5_layClash_3 23 rfl rfl)
theorem dX5_layClash_96 : decode cX5_layClash 96 = .ok (.goto 4, 3) := dk_167 0 4 (dk_at dksX5_layClash_4 0 rfl rfl)
theorem dX5_layClash_99 : decode cX5_layClash 99 = .ok (.iconst 0, 1) := dk_3 (dk_at dksX5_layClash_4 3 rfl rfl)
theorem dX5_layClash_100 : decode cX5_layClash 100 = .ok (.istore 9, 2) := dk_54 9 (dk_at dksX5_layClash_4 4 rfl rfl)
theorem dX5_layClash_102 : decode cX5_layClash 102 = .ok (.iload 4, 2) := dk_21 4 (dk_at dksX5_layClash_4 6 rfl rfl)
theorem dX5_layClash_104 : decode cX5_layClash 104 = .ok (.iload 9, 2) := dk_21 9 (dk_at dksX5_layClash_4 8 rfl rfl)
theorem dX5_layClash_106 : decode cX5_layClash 106 = .ok (.invokestatic 208, 3) := dk_184 0 208 (dk_at dksX5_layClash_4 10 rfl rfl)
theorem dX5_layClash_109 : decode cX5_layClash 109 = .ok (.iadd, 1) := dk_96 (dk_at dksX5_layClash_4 13 rfl rfl)
theorem dX5_layClash_110 : decode cX5_layClash 110 = .ok (.istore 4, 2) := dk_54 4 (dk_at dksX5_layClash_4 14 rfl rfl)
theorem dX5_layClash_112 : decode cX5_layClash 112 = .ok (.aload_n 0, 1) := dk_42 (dk_at dksX5_layClash_4 16 rfl rfl)
theorem dX5_layClash_113 : decode cX5_layClash 113 = .ok (.getfield 131, 3) := dk_180 0 131 (dk_at dksX5_layClash_4 17 rfl rfl)
theorem dX5_layClash_116 : decode cX5_layClash 116 = .ok (.iload 8, 2) := dk_21 8 (dk_at dksX5_layClash_4 20 rfl rfl)
theorem dX5_layClash_118 : decode cX5_layClash 118 = .ok (.dup2, 1) := dk_92 (dk_at dksX5_layClash_4 22 rfl rfl)
theorem dX5_layClash_119 : decode cX5_layClash 119 = .ok (.iaload, 1) := dk_46 (dk_at dksX5_layClash_4 23 rfl rfl)
theorem dX5_layClash_120 : decode cX5_layClash 120 = .ok (.iload 9, 2) := dk_21 9 (dk_at dksX5_layClash_5 0 rfl rfl)
theorem dX5_layClash_122 : decode cX5_layClash 122 = .ok (.ior, 1) := dk_128 (dk_at dksX5_layClash_5 2 rfl rfl)
theorem dX5_layClash_123 : decode cX5_layClash 123 = .ok (.iastore, 1) := dk_79 (dk_at dksX5_layClash_5 3 rfl rfl)
theorem dX5_layClash_124 : decode cX5_layClash 124 = .ok (.iinc 8 1, 3) := dk_132 8 1 (dk_at dksX5_layClash_5 4 rfl rfl)
theorem dX5_layClash_127 : decode cX5_layClash 127 = .ok (.goto (-64), 3) := dk_167 255 192 (dk_at dksX5_layClash_5 7 rfl rfl)
theorem dX5_layClash_130 : decode cX5_layClash 130 = .ok (.iinc 5 1, 3) := dk_132 5 1 (dk_at dksX5_layClash_5 10 rfl rfl)
theorem dX5_layClash_133 : decode cX5_layClash 133 = .ok (.goto (-103), 3) := dk_167 255 153 (dk_at dksX5_layClash_5 13 rfl rfl)
theorem dX5_layClash_136 : decode cX5_layClash 136 = .ok (.iload 4, 2) := dk_21 4 (dk_at dksX5_layClash_5 16 rfl rfl)
theorem dX5_layClash_138 : decode cX5_layClash 138 = .ok (.ireturn, 1) := dk_172 (dk_at dksX5_layClash_5 18 rfl rfl)
abbrev cX5_best : ByteArray := prog_22_method_104_code
def yX5_best : MethodName := ⟨RX5, "best", "(III)I"⟩
def dkwX5_best_4 : List UInt8 := [154, 0, 8, 21, 5, 167, 0, 5, 21, 4, 172]
abbrev dktX5_best_4 : List UInt8 := dkwX5_best_4 ++ []
def dkwX5_best_3 : List UInt8 := [21, 7, 21, 4, 162, 0, 8, 21, 7, 167, 0, 5, 21, 4, 54, 4, 132, 6, 1, 167, 255, 204, 29]
abbrev dktX5_best_3 : List UInt8 := dkwX5_best_3 ++ dktX5_best_4
def dkwX5_best_2 : List UInt8 := [21, 6, 182, 2, 7, 54, 7, 21, 7, 21, 4, 162, 0, 8, 21, 6, 167, 0, 5, 21, 5, 54, 5]
abbrev dktX5_best_2 : List UInt8 := dkwX5_best_2 ++ dktX5_best_3
def dkwX5_best_1 : List UInt8 := [2, 172, 19, 1, 231, 54, 4, 2, 54, 5, 3, 54, 6, 21, 6, 16, 8, 162, 0, 51, 42, 27, 28]
abbrev dktX5_best_1 : List UInt8 := dkwX5_best_1 ++ dktX5_best_2
def dkwX5_best_0 : List UInt8 := [42, 3, 181, 0, 175, 42, 27, 28, 182, 2, 4, 153, 0, 13, 29, 133, 9, 10, 184, 0, 195, 154, 0, 5]
abbrev dktX5_best_0 : List UInt8 := dkwX5_best_0 ++ dktX5_best_1
theorem dksX5_best_0 : cX5_best.data.toList.drop 0 = dktX5_best_0 := by decide +kernel
theorem dksX5_best_1 : cX5_best.data.toList.drop 24 = dktX5_best_1 := dk_seg dksX5_best_0 24 rfl rfl
theorem dksX5_best_2 : cX5_best.data.toList.drop 47 = dktX5_best_2 := dk_seg dksX5_best_1 23 rfl rfl
theorem dksX5_best_3 : cX5_best.data.toList.drop 70 = dktX5_best_3 := dk_seg dksX5_best_2 23 rfl rfl
theorem dksX5_best_4 : cX5_best.data.toList.drop 93 = dktX5_best_4 := dk_seg dksX5_best_3 23 rfl rfl
theorem dX5_best_0 : decode cX5_best 0 = .ok (.aload_n 0, 1) := dk_42 (dk_at dksX5_best_0 0 rfl rfl)
theorem dX5_best_1 : decode cX5_best 1 = .ok (.iconst 0, 1) := dk_3 (dk_at dksX5_best_0 1 rfl rfl)
theorem dX5_best_2 : decode cX5_best 2 = .ok (.putfield 175, 3) := dk_181 0 175 (dk_at dksX5_best_0 2 rfl rfl)
theorem dX5_best_5 : decode cX5_best 5 = .ok (.aload_n 0, 1) := dk_42 (dk_at dksX5_best_0 5 rfl rfl)
theorem dX5_best_6 : decode cX5_best 6 = .ok (.iload_n 1, 1) := dk_27 (dk_at dksX5_best_0 6 rfl rfl)
theorem dX5_best_7 : decode cX5_best 7 = .ok (.iload_n 2, 1) := dk_28 (dk_at dksX5_best_0 7 rfl rfl)
theorem dX5_best_8 : decode cX5_best 8 = .ok (.invokevirtual 516, 3) := dk_182 2 4 (dk_at dksX5_best_0 8 rfl rfl)
theorem dX5_best_11 : decode cX5_best 11 = .ok (.ifCond .eq 13, 3) := dk_153 0 13 (dk_at dksX5_best_0 11 rfl rfl)
theorem dX5_best_14 : decode cX5_best 14 = .ok (.iload_n 3, 1) := dk_29 (dk_at dksX5_best_0 14 rfl rfl)
theorem dX5_best_15 : decode cX5_best 15 = .ok (.i2l, 1) := dk_133 (dk_at dksX5_best_0 15 rfl rfl)
theorem dX5_best_16 : decode cX5_best 16 = .ok (.lconst 0, 1) := dk_9 (dk_at dksX5_best_0 16 rfl rfl)
theorem dX5_best_17 : decode cX5_best 17 = .ok (.lconst 1, 1) := dk_10 (dk_at dksX5_best_0 17 rfl rfl)
theorem dX5_best_18 : decode cX5_best 18 = .ok (.invokestatic 195, 3) := dk_184 0 195 (dk_at dksX5_best_0 18 rfl rfl)
theorem dX5_best_21 : decode cX5_best 21 = .ok (.ifCond .ne 5, 3) := dk_154 0 5 (dk_at dksX5_best_0 21 rfl rfl)
theorem dX5_best_24 : decode cX5_best 24 = .ok (.iconst (-1), 1) := dk_2 (dk_at dksX5_best_1 0 rfl rfl)
theorem dX5_best_25 : decode cX5_best 25 = .ok (.ireturn, 1) := dk_172 (dk_at dksX5_best_1 1 rfl rfl)
theorem dX5_best_26 : decode cX5_best 26 = .ok (.ldc_w 487, 3) := dk_19 1 231 (dk_at dksX5_best_1 2 rfl rfl)
theorem dX5_best_29 : decode cX5_best 29 = .ok (.istore 4, 2) := dk_54 4 (dk_at dksX5_best_1 5 rfl rfl)
theorem dX5_best_31 : decode cX5_best 31 = .ok (.iconst (-1), 1) := dk_2 (dk_at dksX5_best_1 7 rfl rfl)
theorem dX5_best_32 : decode cX5_best 32 = .ok (.istore 5, 2) := dk_54 5 (dk_at dksX5_best_1 8 rfl rfl)
theorem dX5_best_34 : decode cX5_best 34 = .ok (.iconst 0, 1) := dk_3 (dk_at dksX5_best_1 10 rfl rfl)
theorem dX5_best_35 : decode cX5_best 35 = .ok (.istore 6, 2) := dk_54 6 (dk_at dksX5_best_1 11 rfl rfl)
theorem dX5_best_37 : decode cX5_best 37 = .ok (.iload 6, 2) := dk_21 6 (dk_at dksX5_best_1 13 rfl rfl)
theorem dX5_best_39 : decode cX5_best 39 = .ok (.bipush 8, 2) := dk_16 8 (dk_at dksX5_best_1 15 rfl rfl)
theorem dX5_best_41 : decode cX5_best 41 = .ok (.if_icmp .ge 51, 3) := dk_162 0 51 (dk_at dksX5_best_1 17 rfl rfl)
theorem dX5_best_44 : decode cX5_best 44 = .ok (.aload_n 0, 1) := dk_42 (dk_at dksX5_best_1 20 rfl rfl)
theorem dX5_best_45 : decode cX5_best 45 = .ok (.iload_n 1, 1) := dk_27 (dk_at dksX5_best_1 21 rfl rfl)
theorem dX5_best_46 : decode cX5_best 46 = .ok (.iload_n 2, 1) := dk_28 (dk_at dksX5_best_1 22 rfl rfl)
theorem dX5_best_47 : decode cX5_best 47 = .ok (.iload 6, 2) := dk_21 6 (dk_at dksX5_best_2 0 rfl rfl)
theorem dX5_best_49 : decode cX5_best 49 = .ok (.invokevirtual 519, 3) := dk_182 2 7 (dk_at dksX5_best_2 2 rfl rfl)
theorem dX5_best_52 : decode cX5_best 52 = .ok (.istore 7, 2) := dk_54 7 (dk_at dksX5_best_2 5 rfl rfl)
theorem dX5_best_54 : decode cX5_best 54 = .ok (.iload 7, 2) := dk_21 7 (dk_at dksX5_best_2 7 rfl rfl)
theorem dX5_best_56 : decode cX5_best 56 = .ok (.iload 4, 2) := dk_21 4 (dk_at dksX5_best_2 9 rfl rfl)
theorem dX5_best_58 : decode cX5_best 58 = .ok (.if_icmp .ge 8, 3) := dk_162 0 8 (dk_at dksX5_best_2 11 rfl rfl)
theorem dX5_best_61 : decode cX5_best 61 = .ok (.iload 6, 2) := dk_21 6 (dk_at dksX5_best_2 14 rfl rfl)
theorem dX5_best_63 : decode cX5_best 63 = .ok (.goto 5, 3) := dk_167 0 5 (dk_at dksX5_best_2 16 rfl rfl)
theorem dX5_best_66 : decode cX5_best 66 = .ok (.iload 5, 2) := dk_21 5 (dk_at dksX5_best_2 19 rfl rfl)
theorem dX5_best_68 : decode cX5_best 68 = .ok (.istore 5, 2) := dk_54 5 (dk_at dksX5_best_2 21 rfl rfl)
theorem dX5_best_70 : decode cX5_best 70 = .ok (.iload 7, 2) := dk_21 7 (dk_at dksX5_best_3 0 rfl rfl)
theorem dX5_best_72 : decode cX5_best 72 = .ok (.iload 4, 2) := dk_21 4 (dk_at dksX5_best_3 2 rfl rfl)
theorem dX5_best_74 : decode cX5_best 74 = .ok (.if_icmp .ge 8, 3) := dk_162 0 8 (dk_at dksX5_best_3 4 rfl rfl)
theorem dX5_best_77 : decode cX5_best 77 = .ok (.iload 7, 2) := dk_21 7 (dk_at dksX5_best_3 7 rfl rfl)
theorem dX5_best_79 : decode cX5_best 79 = .ok (.goto 5, 3) := dk_167 0 5 (dk_at dksX5_best_3 9 rfl rfl)
theorem dX5_best_82 : decode cX5_best 82 = .ok (.iload 4, 2) := dk_21 4 (dk_at dksX5_best_3 12 rfl rfl)
theorem dX5_best_84 : decode cX5_best 84 = .ok (.istore 4, 2) := dk_54 4 (dk_at dksX5_best_3 14 rfl rfl)
theorem dX5_best_86 : decode cX5_best 86 = .ok (.iinc 6 1, 3) := dk_132 6 1 (dk_at dksX5_best_3 16 rfl rfl)
theorem dX5_best_89 : decode cX5_best 89 = .ok (.goto (-52), 3) := dk_167 255 204 (dk_at dksX5_best_3 19 rfl rfl)
theorem dX5_best_92 : decode cX5_best 92 = .ok (.iload_n 3, 1) := dk_29 (dk_at dksX5_best_3 22 rfl rfl)
theorem dX5_best_93 : decode cX5_best 93 = .ok (.ifCond .ne 8, 3) := dk_154 0 8 (dk_at dksX5_best_4 0 rfl rfl)
theorem dX5_best_96 : decode cX5_best 96 = .ok (.iload 5, 2) := dk_21 5 (dk_at dksX5_best_4 3 rfl rfl)
theorem dX5_best_98 : decode cX5_best 98 = .ok (.goto 5, 3) := dk_167 0 5 (dk_at dksX5_best_4 5 rfl rfl)
theorem dX5_best_101 : decode cX5_best 101 = .ok (.iload 4, 2) := dk_21 4 (dk_at dksX5_best_4 8 rfl rfl)
theorem dX5_best_103 : decode cX5_best 103 = .ok (.ireturn, 1) := dk_172 (dk_at dksX5_best_4 10 rfl rfl)
abbrev cX5_filed : ByteArray := prog_22_method_105_code
def yX5_filed : MethodName := ⟨RX5, "filed", "(IIII)I"⟩
def dkwX5_filed_9 : List UInt8 := [167, 0, 5, 21, 7, 172]
abbrev dktX5_filed_9 : List UInt8 := dkwX5_filed_9 ++ []
def dkwX5_filed_8 : List UInt8 := [132, 8, 1, 167, 255, 126, 21, 4, 154, 0, 8, 21, 5, 167, 0, 16, 21, 4, 4, 160, 0, 8, 21, 6]
abbrev dktX5_filed_8 : List UInt8 := dkwX5_filed_8 ++ dktX5_filed_9
def dkwX5_filed_7 : List UInt8 := [21, 10, 153, 0, 17, 21, 8, 184, 0, 208, 21, 9, 184, 0, 208, 96, 167, 0, 5, 21, 5, 54, 5]
abbrev dktX5_filed_7 : List UInt8 := dkwX5_filed_7 ++ dktX5_filed_8
def dkwX5_filed_6 : List UInt8 := [21, 8, 167, 0, 5, 21, 6, 54, 6, 21, 10, 153, 0, 8, 21, 9, 167, 0, 5, 21, 7, 54, 7]
abbrev dktX5_filed_6 : List UInt8 := dkwX5_filed_6 ++ dktX5_filed_7
def dkwX5_filed_5 : List UInt8 := [21, 9, 184, 0, 208, 96, 21, 5, 162, 0, 7, 4, 167, 0, 4, 3, 54, 10, 21, 10, 153, 0, 8]
abbrev dktX5_filed_5 : List UInt8 := dkwX5_filed_5 ++ dktX5_filed_6
def dkwX5_filed_4 : List UInt8 := [167, 0, 10, 42, 180, 0, 131, 21, 10, 46, 128, 54, 9, 132, 10, 1, 167, 255, 220, 21, 8, 184, 0, 208]
abbrev dktX5_filed_4 : List UInt8 := dkwX5_filed_4 ++ dktX5_filed_5
def dkwX5_filed_3 : List UInt8 := [54, 10, 21, 10, 16, 8, 162, 0, 35, 21, 9, 21, 8, 21, 10, 184, 1, 202, 153, 0, 7, 3]
abbrev dktX5_filed_3 : List UInt8 := dkwX5_filed_3 ++ dktX5_filed_4
def dkwX5_filed_2 : List UInt8 := [54, 5, 3, 54, 6, 3, 54, 7, 3, 54, 8, 21, 8, 17, 1, 0, 162, 0, 128, 3, 54, 9, 3]
abbrev dktX5_filed_2 : List UInt8 := dkwX5_filed_2 ++ dktX5_filed_3
def dkwX5_filed_1 : List UInt8 := [9, 20, 2, 10, 184, 0, 195, 154, 0, 5, 2, 172, 42, 27, 28, 29, 182, 2, 7, 87, 19, 1, 231]
abbrev dktX5_filed_1 : List UInt8 := dkwX5_filed_1 ++ dktX5_filed_2
def dkwX5_filed_0 : List UInt8 := [42, 3, 181, 0, 175, 42, 27, 28, 182, 2, 4, 153, 0, 23, 29, 184, 0, 228, 153, 0, 16, 21, 4, 133]
abbrev dktX5_filed_0 : List UInt8 := dkwX5_filed_0 ++ dktX5_filed_1
theorem dksX5_filed_0 : cX5_filed.data.toList.drop 0 = dktX5_filed_0 := by decide +kernel
theorem dksX5_filed_1 : cX5_filed.data.toList.drop 24 = dktX5_filed_1 := dk_seg dksX5_filed_0 24 rfl rfl
theorem dksX5_filed_2 : cX5_filed.data.toList.drop 47 = dktX5_filed_2 := dk_seg dksX5_filed_1 23 rfl rfl
theorem dksX5_filed_3 : cX5_filed.data.toList.drop 70 = dktX5_filed_3 := dk_seg dksX5_filed_2 23 rfl rfl
theorem dksX5_filed_4 : cX5_filed.data.toList.drop 92 = dktX5_filed_4 := dk_seg dksX5_filed_3 22 rfl rfl
theorem dksX5_filed_5 : cX5_filed.data.toList.drop 116 = dktX5_filed_5 := dk_seg dksX5_filed_4 24 rfl rfl
theorem dksX5_filed_6 : cX5_filed.data.toList.drop 139 = dktX5_filed_6 := dk_seg dksX5_filed_5 23 rfl rfl
theorem dksX5_filed_7 : cX5_filed.data.toList.drop 162 = dktX5_filed_7 := dk_seg dksX5_filed_6 23 rfl rfl
theorem dksX5_filed_8 : cX5_filed.data.toList.drop 185 = dktX5_filed_8 := dk_seg dksX5_filed_7 23 rfl rfl
theorem dksX5_filed_9 : cX5_filed.data.toList.drop 209 = dktX5_filed_9 := dk_seg dksX5_filed_8 24 rfl rfl
theorem dX5_filed_0 : decode cX5_filed 0 = .ok (.aload_n 0, 1) := dk_42 (dk_at dksX5_filed_0 0 rfl rfl)
theorem dX5_filed_1 : decode cX5_filed 1 = .ok (.iconst 0, 1) := dk_3 (dk_at dksX5_filed_0 1 rfl rfl)
theorem dX5_filed_2 : decode cX5_filed 2 = .ok (.putfield 175, 3) := dk_181 0 175 (dk_at dksX5_filed_0 2 rfl rfl)
theorem dX5_filed_5 : decode cX5_filed 5 = .ok (.aload_n 0, 1) := dk_42 (dk_at dksX5_filed_0 5 rfl rfl)
theorem dX5_filed_6 : decode cX5_filed 6 = .ok (.iload_n 1, 1) := dk_27 (dk_at dksX5_filed_0 6 rfl rfl)
theorem dX5_filed_7 : decode cX5_filed 7 = .ok (.iload_n 2, 1) := dk_28 (dk_at dksX5_filed_0 7 rfl rfl)
theorem dX5_filed_8 : decode cX5_filed 8 = .ok (.invokevirtual 516, 3) := dk_182 2 4 (dk_at dksX5_filed_0 8 rfl rfl)
theorem dX5_filed_11 : decode cX5_filed 11 = .ok (.ifCond .eq 23, 3) := dk_153 0 23 (dk_at dksX5_filed_0 11 rfl rfl)
theorem dX5_filed_14 : decode cX5_filed 14 = .ok (.iload_n 3, 1) := dk_29 (dk_at dksX5_filed_0 14 rfl rfl)
theorem dX5_filed_15 : decode cX5_filed 15 = .ok (.invokestatic 228, 3) := dk_184 0 228 (dk_at dksX5_filed_0 15 rfl rfl)
theorem dX5_filed_18 : decode cX5_filed 18 = .ok (.ifCond .eq 16, 3) := dk_153 0 16 (dk_at dksX5_filed_0 18 rfl rfl)
theorem dX5_filed_21 : decode cX5_filed 21 = .ok (.iload 4, 2) := dk_21 4 (dk_at dksX5_filed_0 21 rfl rfl)
theorem dX5_filed_23 : decode cX5_filed 23 = .ok (.i2l, 1) := dk_133 (dk_at dksX5_filed_0 23 rfl rfl)
theorem dX5_filed_24 : decode cX5_filed 24 = .ok (.lconst 0, 1) := dk_9 (dk_at dksX5_filed_1 0 rfl rfl)
theorem dX5_filed_25 : decode cX5_filed 25 = .ok (.ldc2_w 522, 3) := dk_20 2 10 (dk_at dksX5_filed_1 1 rfl rfl)
theorem dX5_filed_28 : decode cX5_filed 28 = .ok (.invokestatic 195, 3) := dk_184 0 195 (dk_at dksX5_filed_1 4 rfl rfl)
theorem dX5_filed_31 : decode cX5_filed 31 = .ok (.ifCond .ne 5, 3) := dk_154 0 5 (dk_at dksX5_filed_1 7 rfl rfl)
theorem dX5_filed_34 : decode cX5_filed 34 = .ok (.iconst (-1), 1) := dk_2 (dk_at dksX5_filed_1 10 rfl rfl)
theorem dX5_filed_35 : decode cX5_filed 35 = .ok (.ireturn, 1) := dk_172 (dk_at dksX5_filed_1 11 rfl rfl)
theorem dX5_filed_36 : decode cX5_filed 36 = .ok (.aload_n 0, 1) := dk_42 (dk_at dksX5_filed_1 12 rfl rfl)
theorem dX5_filed_37 : decode cX5_filed 37 = .ok (.iload_n 1, 1) := dk_27 (dk_at dksX5_filed_1 13 rfl rfl)
theorem dX5_filed_38 : decode cX5_filed 38 = .ok (.iload_n 2, 1) := dk_28 (dk_at dksX5_filed_1 14 rfl rfl)
theorem dX5_filed_39 : decode cX5_filed 39 = .ok (.iload_n 3, 1) := dk_29 (dk_at dksX5_filed_1 15 rfl rfl)
theorem dX5_filed_40 : decode cX5_filed 40 = .ok (.invokevirtual 519, 3) := dk_182 2 7 (dk_at dksX5_filed_1 16 rfl rfl)
theorem dX5_filed_43 : decode cX5_filed 43 = .ok (.pop, 1) := dk_87 (dk_at dksX5_filed_1 19 rfl rfl)
theorem dX5_filed_44 : decode cX5_filed 44 = .ok (.ldc_w 487, 3) := dk_19 1 231 (dk_at dksX5_filed_1 20 rfl rfl)
theorem dX5_filed_47 : decode cX5_filed 47 = .ok (.istore 5, 2) := dk_54 5 (dk_at dksX5_filed_2 0 rfl rfl)
theorem dX5_filed_49 : decode cX5_filed 49 = .ok (.iconst 0, 1) := dk_3 (dk_at dksX5_filed_2 2 rfl rfl)
theorem dX5_filed_50 : decode cX5_filed 50 = .ok (.istore 6, 2) := dk_54 6 (dk_at dksX5_filed_2 3 rfl rfl)
theorem dX5_filed_52 : decode cX5_filed 52 = .ok (.iconst 0, 1) := dk_3 (dk_at dksX5_filed_2 5 rfl rfl)
theorem dX5_filed_53 : decode cX5_filed 53 = .ok (.istore 7, 2) := dk_54 7 (dk_at dksX5_filed_2 6 rfl rfl)
theorem dX5_filed_55 : decode cX5_filed 55 = .ok (.iconst 0, 1) := dk_3 (dk_at dksX5_filed_2 8 rfl rfl)
theorem dX5_filed_56 : decode cX5_filed 56 = .ok (.istore 8, 2) := dk_54 8 (dk_at dksX5_filed_2 9 rfl rfl)
theorem dX5_filed_58 : decode cX5_filed 58 = .ok (.iload 8, 2) := dk_21 8 (dk_at dksX5_filed_2 11 rfl rfl)
theorem dX5_filed_60 : decode cX5_filed 60 = .ok (.sipush 256, 3) := dk_17 1 0 (dk_at dksX5_filed_2 13 rfl rfl)
theorem dX5_filed_63 : decode cX5_filed 63 = .ok (.if_icmp .ge 128, 3) := dk_162 0 128 (dk_at dksX5_filed_2 16 rfl rfl)
theorem dX5_filed_66 : decode cX5_filed 66 = .ok (.iconst 0, 1) := dk_3 (dk_at dksX5_filed_2 19 rfl rfl)
theorem dX5_filed_67 : decode cX5_filed 67 = .ok (.istore 9, 2) := dk_54 9 (dk_at dksX5_filed_2 20 rfl rfl)
theorem dX5_filed_69 : decode cX5_filed 69 = .ok (.iconst 0, 1) := dk_3 (dk_at dksX5_filed_2 22 rfl rfl)
theorem dX5_filed_70 : decode cX5_filed 70 = .ok (.istore 10, 2) := dk_54 10 (dk_at dksX5_filed_3 0 rfl rfl)
theorem dX5_filed_72 : decode cX5_filed 72 = .ok (.iload 10, 2) := dk_21 10 (dk_at dksX5_filed_3 2 rfl rfl)
theorem dX5_filed_74 : decode cX5_filed 74 = .ok (.bipush 8, 2) := dk_16 8 (dk_at dksX5_filed_3 4 rfl rfl)
theorem dX5_filed_76 : decode cX5_filed 76 = .ok (.if_icmp .ge 35, 3) := dk_162 0 35 (dk_at dksX5_filed_3 6 rfl rfl)
theorem dX5_filed_79 : decode cX5_filed 79 = .ok (.iload 9, 2) := dk_21 9 (dk_at dksX5_filed_3 9 rfl rfl)
theorem dX5_filed_81 : decode cX5_filed 81 = .ok (.iload 8, 2) := dk_21 8 (dk_at dksX5_filed_3 11 rfl rfl)
theorem dX5_filed_83 : decode cX5_filed 83 = .ok (.iload 10, 2) := dk_21 10 (dk_at dksX5_filed_3 13 rfl rfl)
theorem dX5_filed_85 : decode cX5_filed 85 = .ok (.invokestatic 458, 3) := dk_184 1 202 (dk_at dksX5_filed_3 15 rfl rfl)
theorem dX5_filed_88 : decode cX5_filed 88 = .ok (.ifCond .eq 7, 3) := dk_153 0 7 (dk_at dksX5_filed_3 18 rfl rfl)
theorem dX5_filed_91 : decode cX5_filed 91 = .ok (.iconst 0, 1) := dk_3 (dk_at dksX5_filed_3 21 rfl rfl)
theorem dX5_filed_92 : decode cX5_filed 92 = .ok (.goto 10, 3) := dk_167 0 10 (dk_at dksX5_filed_4 0 rfl rfl)
theorem dX5_filed_95 : decode cX5_filed 95 = .ok (.aload_n 0, 1) := dk_42 (dk_at dksX5_filed_4 3 rfl rfl)
theorem dX5_filed_96 : decode cX5_filed 96 = .ok (.getfield 131, 3) := dk_180 0 131 (dk_at dksX5_filed_4 4 rfl rfl)
theorem dX5_filed_99 : decode cX5_filed 99 = .ok (.iload 10, 2) := dk_21 10 (dk_at dksX5_filed_4 7 rfl rfl)
theorem dX5_filed_101 : decode cX5_filed 101 = .ok (.iaload, 1) := dk_46 (dk_at dksX5_filed_4 9 rfl rfl)
theorem dX5_filed_102 : decode cX5_filed 102 = .ok (.ior, 1) := dk_128 (dk_at dksX5_filed_4 10 rfl rfl)
theorem dX5_filed_103 : decode cX5_filed 103 = .ok (.istore 9, 2) := dk_54 9 (dk_at dksX5_filed_4 11 rfl rfl)
theorem dX5_filed_105 : decode cX5_filed 105 = .ok (.iinc 10 1, 3) := dk_132 10 1 (dk_at dksX5_filed_4 13 rfl rfl)
theorem dX5_filed_108 : decode cX5_filed 108 = .ok (.goto (-36), 3) := dk_167 255 220 (dk_at dksX5_filed_4 16 rfl rfl)
theorem dX5_filed_111 : decode cX5_filed 111 = .ok (.iload 8, 2) := dk_21 8 (dk_at dksX5_filed_4 19 rfl rfl)
theorem dX5_filed_113 : decode cX5_filed 113 = .ok (.invokestatic 208, 3) := dk_184 0 208 (dk_at dksX5_filed_4 21 rfl rfl)
theorem dX5_filed_116 : decode cX5_filed 116 = .ok (.iload 9, 2) := dk_21 9 (dk_at dksX5_filed_5 0 rfl rfl)
theorem dX5_filed_118 : decode cX5_filed 118 = .ok (.invokestatic 208, 3) := dk_184 0 208 (dk_at dksX5_filed_5 2 rfl rfl)
theorem dX5_filed_121 : decode cX5_filed 121 = .ok (.iadd, 1) := dk_96 (dk_at dksX5_filed_5 5 rfl rfl)
theorem dX5_filed_122 : decode cX5_filed 122 = .ok (.iload 5, 2) := dk_21 5 (dk_at dksX5_filed_5 6 rfl rfl)
theorem dX5_filed_124 : decode cX5_filed 124 = .ok (.if_icmp .ge 7, 3) := dk_162 0 7 (dk_at dksX5_filed_5 8 rfl rfl)
theorem dX5_filed_127 : decode cX5_filed 127 = .ok (.iconst 1, 1) := dk_4 (dk_at dksX5_filed_5 11 rfl rfl)
theorem dX5_filed_128 : decode cX5_filed 128 = .ok (.goto 4, 3) := dk_167 0 4 (dk_at dksX5_filed_5 12 rfl rfl)
theorem dX5_filed_131 : decode cX5_filed 131 = .ok (.iconst 0, 1) := dk_3 (dk_at dksX5_filed_5 15 rfl rfl)
theorem dX5_filed_132 : decode cX5_filed 132 = .ok (.istore 10, 2) := dk_54 10 (dk_at dksX5_filed_5 16 rfl rfl)
theorem dX5_filed_134 : decode cX5_filed 134 = .ok (.iload 10, 2) := dk_21 10 (dk_at dksX5_filed_5 18 rfl rfl)
theorem dX5_filed_136 : decode cX5_filed 136 = .ok (.ifCond .eq 8, 3) := dk_153 0 8 (dk_at dksX5_filed_5 20 rfl rfl)
theorem dX5_filed_139 : decode cX5_filed 139 = .ok (.iload 8, 2) := dk_21 8 (dk_at dksX5_filed_6 0 rfl rfl)
theorem dX5_filed_141 : decode cX5_filed 141 = .ok (.goto 5, 3) := dk_167 0 5 (dk_at dksX5_filed_6 2 rfl rfl)
theorem dX5_filed_144 : decode cX5_filed 144 = .ok (.iload 6, 2) := dk_21 6 (dk_at dksX5_filed_6 5 rfl rfl)
theorem dX5_filed_146 : decode cX5_filed 146 = .ok (.istore 6, 2) := dk_54 6 (dk_at dksX5_filed_6 7 rfl rfl)
theorem dX5_filed_148 : decode cX5_filed 148 = .ok (.iload 10, 2) := dk_21 10 (dk_at dksX5_filed_6 9 rfl rfl)
theorem dX5_filed_150 : decode cX5_filed 150 = .ok (.ifCond .eq 8, 3) := dk_153 0 8 (dk_at dksX5_filed_6 11 rfl rfl)
theorem dX5_filed_153 : decode cX5_filed 153 = .ok (.iload 9, 2) := dk_21 9 (dk_at dksX5_filed_6 14 rfl rfl)
theorem dX5_filed_155 : decode cX5_filed 155 = .ok (.goto 5, 3) := dk_167 0 5 (dk_at dksX5_filed_6 16 rfl rfl)
theorem dX5_filed_158 : decode cX5_filed 158 = .ok (.iload 7, 2) := dk_21 7 (dk_at dksX5_filed_6 19 rfl rfl)
theorem dX5_filed_160 : decode cX5_filed 160 = .ok (.istore 7, 2) := dk_54 7 (dk_at dksX5_filed_6 21 rfl rfl)
theorem dX5_filed_162 : decode cX5_filed 162 = .ok (.iload 10, 2) := dk_21 10 (dk_at dksX5_filed_7 0 rfl rfl)
theorem dX5_filed_164 : decode cX5_filed 164 = .ok (.ifCond .eq 17, 3) := dk_153 0 17 (dk_at dksX5_filed_7 2 rfl rfl)
theorem dX5_filed_167 : decode cX5_filed 167 = .ok (.iload 8, 2) := dk_21 8 (dk_at dksX5_filed_7 5 rfl rfl)
theorem dX5_filed_169 : decode cX5_filed 169 = .ok (.invokestatic 208, 3) := dk_184 0 208 (dk_at dksX5_filed_7 7 rfl rfl)
theorem dX5_filed_172 : decode cX5_filed 172 = .ok (.iload 9, 2) := dk_21 9 (dk_at dksX5_filed_7 10 rfl rfl)
theorem dX5_filed_174 : decode cX5_filed 174 = .ok (.invokestatic 208, 3) := dk_184 0 208 (dk_at dksX5_filed_7 12 rfl rfl)
theorem dX5_filed_177 : decode cX5_filed 177 = .ok (.iadd, 1) := dk_96 (dk_at dksX5_filed_7 15 rfl rfl)
theorem dX5_filed_178 : decode cX5_filed 178 = .ok (.goto 5, 3) := dk_167 0 5 (dk_at dksX5_filed_7 16 rfl rfl)
theorem dX5_filed_181 : decode cX5_filed 181 = .ok (.iload 5, 2) := dk_21 5 (dk_at dksX5_filed_7 19 rfl rfl)
theorem dX5_filed_183 : decode cX5_filed 183 = .ok (.istore 5, 2) := dk_54 5 (dk_at dksX5_filed_7 21 rfl rfl)
theorem dX5_filed_185 : decode cX5_filed 185 = .ok (.iinc 8 1, 3) := dk_132 8 1 (dk_at dksX5_filed_8 0 rfl rfl)
theorem dX5_filed_188 : decode cX5_filed 188 = .ok (.goto (-130), 3) := dk_167 255 126 (dk_at dksX5_filed_8 3 rfl rfl)
theorem dX5_filed_191 : decode cX5_filed 191 = .ok (.iload 4, 2) := dk_21 4 (dk_at dksX5_filed_8 6 rfl rfl)
theorem dX5_filed_193 : decode cX5_filed 193 = .ok (.ifCond .ne 8, 3) := dk_154 0 8 (dk_at dksX5_filed_8 8 rfl rfl)
theorem dX5_filed_196 : decode cX5_filed 196 = .ok (.iload 5, 2) := dk_21 5 (dk_at dksX5_filed_8 11 rfl rfl)
theorem dX5_filed_198 : decode cX5_filed 198 = .ok (.goto 16, 3) := dk_167 0 16 (dk_at dksX5_filed_8 13 rfl rfl)
theorem dX5_filed_201 : decode cX5_filed 201 = .ok (.iload 4, 2) := dk_21 4 (dk_at dksX5_filed_8 16 rfl rfl)
theorem dX5_filed_203 : decode cX5_filed 203 = .ok (.iconst 1, 1) := dk_4 (dk_at dksX5_filed_8 18 rfl rfl)
theorem dX5_filed_204 : decode cX5_filed 204 = .ok (.if_icmp .ne 8, 3) := dk_160 0 8 (dk_at dksX5_filed_8 19 rfl rfl)
theorem dX5_filed_207 : decode cX5_filed 207 = .ok (.iload 6, 2) := dk_21 6 (dk_at dksX5_filed_8 22 rfl rfl)
theorem dX5_filed_209 : decode cX5_filed 209 = .ok (.goto 5, 3) := dk_167 0 5 (dk_at dksX5_filed_9 0 rfl rfl)
theorem dX5_filed_212 : decode cX5_filed 212 = .ok (.iload 7, 2) := dk_21 7 (dk_at dksX5_filed_9 3 rfl rfl)
theorem dX5_filed_214 : decode cX5_filed 214 = .ok (.ireturn, 1) := dk_172 (dk_at dksX5_filed_9 5 rfl rfl)
abbrev cX5_shares : ByteArray := prog_22_method_107_code
def yX5_shares : MethodName := ⟨RX5, "shares", "(II)I"⟩
def dkwX5_shares_7 : List UInt8 := [108, 54, 5, 132, 6, 255, 167, 255, 239, 21, 5, 27, 112, 172]
abbrev dktX5_shares_7 : List UInt8 := dkwX5_shares_7 ++ []
def dkwX5_shares_6 : List UInt8 := [21, 4, 172, 42, 180, 0, 13, 3, 46, 4, 100, 54, 6, 21, 6, 28, 4, 100, 164, 0, 15, 21, 5, 27]
abbrev dktX5_shares_6 : List UInt8 := dkwX5_shares_6 ++ dktX5_shares_7
def dkwX5_shares_5 : List UInt8 := [21, 4, 164, 0, 8, 21, 7, 167, 0, 5, 21, 4, 54, 4, 132, 6, 1, 167, 255, 206, 28, 154, 0, 6]
abbrev dktX5_shares_5 : List UInt8 := dkwX5_shares_5 ++ dktX5_shares_6
def dkwX5_shares_4 : List UInt8 := [182, 2, 14, 54, 7, 21, 7, 21, 4, 164, 0, 8, 21, 6, 167, 0, 5, 21, 5, 54, 5, 21, 7]
abbrev dktX5_shares_4 : List UInt8 := dkwX5_shares_4 ++ dktX5_shares_5
def dkwX5_shares_3 : List UInt8 := [167, 255, 225, 2, 54, 4, 3, 54, 5, 3, 54, 6, 21, 6, 29, 162, 0, 50, 42, 21, 6, 27]
abbrev dktX5_shares_3 : List UInt8 := dkwX5_shares_3 ++ dktX5_shares_4
def dkwX5_shares_2 : List UInt8 := [162, 0, 26, 42, 180, 0, 137, 21, 4, 42, 21, 4, 182, 0, 222, 79, 29, 27, 104, 62, 132, 4, 1]
abbrev dktX5_shares_2 : List UInt8 := dkwX5_shares_2 ++ dktX5_shares_3
def dkwX5_shares_1 : List UInt8 := [3, 46, 133, 184, 0, 195, 154, 0, 5, 2, 172, 4, 62, 3, 54, 4, 21, 4, 42, 180, 0, 13, 3, 46]
abbrev dktX5_shares_1 : List UInt8 := dkwX5_shares_1 ++ dktX5_shares_2
def dkwX5_shares_0 : List UInt8 := [42, 3, 181, 0, 175, 27, 133, 10, 20, 2, 12, 184, 0, 195, 153, 0, 19, 28, 133, 9, 42, 180, 0, 13]
abbrev dktX5_shares_0 : List UInt8 := dkwX5_shares_0 ++ dktX5_shares_1
theorem dksX5_shares_0 : cX5_shares.data.toList.drop 0 = dktX5_shares_0 := by decide +kernel
theorem dksX5_shares_1 : cX5_shares.data.toList.drop 24 = dktX5_shares_1 := dk_seg dksX5_shares_0 24 rfl rfl
theorem dksX5_shares_2 : cX5_shares.data.toList.drop 48 = dktX5_shares_2 := dk_seg dksX5_shares_1 24 rfl rfl
theorem dksX5_shares_3 : cX5_shares.data.toList.drop 71 = dktX5_shares_3 := dk_seg dksX5_shares_2 23 rfl rfl
theorem dksX5_shares_4 : cX5_shares.data.toList.drop 93 = dktX5_shares_4 := dk_seg dksX5_shares_3 22 rfl rfl
theorem dksX5_shares_5 : cX5_shares.data.toList.drop 116 = dktX5_shares_5 := dk_seg dksX5_shares_4 23 rfl rfl
theorem dksX5_shares_6 : cX5_shares.data.toList.drop 140 = dktX5_shares_6 := dk_seg dksX5_shares_5 24 rfl rfl
theorem dksX5_shares_7 : cX5_shares.data.toList.drop 164 = dktX5_shares_7 := dk_seg dksX5_shares_6 24 rfl rfl
theorem dX5_shares_0 : decode cX5_shares 0 = .ok (.aload_n 0, 1) := dk_42 (dk_at dksX5_shares_0 0 rfl rfl)
theorem dX5_shares_1 : decode cX5_shares 1 = .ok (.iconst 0, 1) := dk_3 (dk_at dksX5_shares_0 1 rfl rfl)
theorem dX5_shares_2 : decode cX5_shares 2 = .ok (.putfield 175, 3) := dk_181 0 175 (dk_at dksX5_shares_0 2 rfl rfl)
theorem dX5_shares_5 : decode cX5_shares 5 = .ok (.iload_n 1, 1) := dk_27 (dk_at dksX5_shares_0 5 rfl rfl)
theorem dX5_shares_6 : decode cX5_shares 6 = .ok (.i2l, 1) := dk_133 (dk_at dksX5_shares_0 6 rfl rfl)
theorem dX5_shares_7 : decode cX5_shares 7 = .ok (.lconst 1, 1) := dk_10 (dk_at dksX5_shares_0 7 rfl rfl)
theorem dX5_shares_8 : decode cX5_shares 8 = .ok (.ldc2_w 524, 3) := dk_20 2 12 (dk_at dksX5_shares_0 8 rfl rfl)
theorem dX5_shares_11 : decode cX5_shares 11 = .ok (.invokestatic 195, 3) := dk_184 0 195 (dk_at dksX5_shares_0 11 rfl rfl)
theorem dX5_shares_14 : decode cX5_shares 14 = .ok (.ifCond .eq 19, 3) := dk_153 0 19 (dk_at dksX5_shares_0 14 rfl rfl)
theorem dX5_shares_17 : decode cX5_shares 17 = .ok (.iload_n 2, 1) := dk_28 (dk_at dksX5_shares_0 17 rfl rfl)
theorem dX5_shares_18 : decode cX5_shares 18 = .ok (.i2l, 1) := dk_133 (dk_at dksX5_shares_0 18 rfl rfl)
theorem dX5_shares_19 : decode cX5_shares 19 = .ok (.lconst 0, 1) := dk_9 (dk_at dksX5_shares_0 19 rfl rfl)
theorem dX5_shares_20 : decode cX5_shares 20 = .ok (.aload_n 0, 1) := dk_42 (dk_at dksX5_shares_0 20 rfl rfl)
theorem dX5_shares_21 : decode cX5_shares 21 = .ok (.getfield 13, 3) := dk_180 0 13 (dk_at dksX5_shares_0 21 rfl rfl)
theorem dX5_shares_24 : decode cX5_shares 24 = .ok (.iconst 0, 1) := dk_3 (dk_at dksX5_shares_1 0 rfl rfl)
theorem dX5_shares_25 : decode cX5_shares 25 = .ok (.iaload, 1) := dk_46 (dk_at dksX5_shares_1 1 rfl rfl)
theorem dX5_shares_26 : decode cX5_shares 26 = .ok (.i2l, 1) := dk_133 (dk_at dksX5_shares_1 2 rfl rfl)
theorem dX5_shares_27 : decode cX5_shares 27 = .ok (.invokestatic 195, 3) := dk_184 0 195 (dk_at dksX5_shares_1 3 rfl rfl)
theorem dX5_shares_30 : decode cX5_shares 30 = .ok (.ifCond .ne 5, 3) := dk_154 0 5 (dk_at dksX5_shares_1 6 rfl rfl)
theorem dX5_shares_33 : decode cX5_shares 33 = .ok (.iconst (-1), 1) := dk_2 (dk_at dksX5_shares_1 9 rfl rfl)
theorem dX5_shares_34 : decode cX5_shares 34 = .ok (.ireturn, 1) := dk_172 (dk_at dksX5_shares_1 10 rfl rfl)
theorem dX5_shares_35 : decode cX5_shares 35 = .ok (.iconst 1, 1) := dk_4 (dk_at dksX5_shares_1 11 rfl rfl)
theorem dX5_shares_36 : decode cX5_shares 36 = .ok (.istore_n 3, 1) := dk_62 (dk_at dksX5_shares_1 12 rfl rfl)
theorem dX5_shares_37 : decode cX5_shares 37 = .ok (.iconst 0, 1) := dk_3 (dk_at dksX5_shares_1 13 rfl rfl)
theorem dX5_shares_38 : decode cX5_shares 38 = .ok (.istore 4, 2) := dk_54 4 (dk_at dksX5_shares_1 14 rfl rfl)
theorem dX5_shares_40 : decode cX5_shares 40 = .ok (.iload 4, 2) := dk_21 4 (dk_at dksX5_shares_1 16 rfl rfl)
theorem dX5_shares_42 : decode cX5_shares 42 = .ok (.aload_n 0, 1) := dk_42 (dk_at dksX5_shares_1 18 rfl rfl)
theorem dX5_shares_43 : decode cX5_shares 43 = .ok (.getfield 13, 3) := dk_180 0 13 (dk_at dksX5_shares_1 19 rfl rfl)
theorem dX5_shares_46 : decode cX5_shares 46 = .ok (.iconst 0, 1) := dk_3 (dk_at dksX5_shares_1 22 rfl rfl)
theorem dX5_shares_47 : decode cX5_shares 47 = .ok (.iaload, 1) := dk_46 (dk_at dksX5_shares_1 23 rfl rfl)
theorem dX5_shares_48 : decode cX5_shares 48 = .ok (.if_icmp .ge 26, 3) := dk_162 0 26 (dk_at dksX5_shares_2 0 rfl rfl)
theorem dX5_shares_51 : decode cX5_shares 51 = .ok (.aload_n 0, 1) := dk_42 (dk_at dksX5_shares_2 3 rfl rfl)
theorem dX5_shares_52 : decode cX5_shares 52 = .ok (.getfield 137, 3) := dk_180 0 137 (dk_at dksX5_shares_2 4 rfl rfl)
theorem dX5_shares_55 : decode cX5_shares 55 = .ok (.iload 4, 2) := dk_21 4 (dk_at dksX5_shares_2 7 rfl rfl)
theorem dX5_shares_57 : decode cX5_shares 57 = .ok (.aload_n 0, 1) := dk_42 (dk_at dksX5_shares_2 9 rfl rfl)
theorem dX5_shares_58 : decode cX5_shares 58 = .ok (.iload 4, 2) := dk_21 4 (dk_at dksX5_shares_2 10 rfl rfl)
theorem dX5_shares_60 : decode cX5_shares 60 = .ok (.invokevirtual 222, 3) := dk_182 0 222 (dk_at dksX5_shares_2 12 rfl rfl)
theorem dX5_shares_63 : decode cX5_shares 63 = .ok (.iastore, 1) := dk_79 (dk_at dksX5_shares_2 15 rfl rfl)
theorem dX5_shares_64 : decode cX5_shares 64 = .ok (.iload_n 3, 1) := dk_29 (dk_at dksX5_shares_2 16 rfl rfl)
theorem dX5_shares_65 : decode cX5_shares 65 = .ok (.iload_n 1, 1) := dk_27 (dk_at dksX5_shares_2 17 rfl rfl)
theorem dX5_shares_66 : decode cX5_shares 66 = .ok (.imul, 1) := dk_104 (dk_at dksX5_shares_2 18 rfl rfl)
theorem dX5_shares_67 : decode cX5_shares 67 = .ok (.istore_n 3, 1) := dk_62 (dk_at dksX5_shares_2 19 rfl rfl)
theorem dX5_shares_68 : decode cX5_shares 68 = .ok (.iinc 4 1, 3) := dk_132 4 1 (dk_at dksX5_shares_2 20 rfl rfl)
theorem dX5_shares_71 : decode cX5_shares 71 = .ok (.goto (-31), 3) := dk_167 255 225 (dk_at dksX5_shares_3 0 rfl rfl)
theorem dX5_shares_74 : decode cX5_shares 74 = .ok (.iconst (-1), 1) := dk_2 (dk_at dksX5_shares_3 3 rfl rfl)
theorem dX5_shares_75 : decode cX5_shares 75 = .ok (.istore 4, 2) := dk_54 4 (dk_at dksX5_shares_3 4 rfl rfl)
theorem dX5_shares_77 : decode cX5_shares 77 = .ok (.iconst 0, 1) := dk_3 (dk_at dksX5_shares_3 6 rfl rfl)
theorem dX5_shares_78 : decode cX5_shares 78 = .ok (.istore 5, 2) := dk_54 5 (dk_at dksX5_shares_3 7 rfl rfl)
theorem dX5_shares_80 : decode cX5_shares 80 = .ok (.iconst 0, 1) := dk_3 (dk_at dksX5_shares_3 9 rfl rfl)
theorem dX5_shares_81 : decode cX5_shares 81 = .ok (.istore 6, 2) := dk_54 6 (dk_at dksX5_shares_3 10 rfl rfl)
theorem dX5_shares_83 : decode cX5_shares 83 = .ok (.iload 6, 2) := dk_21 6 (dk_at dksX5_shares_3 12 rfl rfl)
theorem dX5_shares_85 : decode cX5_shares 85 = .ok (.iload_n 3, 1) := dk_29 (dk_at dksX5_shares_3 14 rfl rfl)
theorem dX5_shares_86 : decode cX5_shares 86 = .ok (.if_icmp .ge 50, 3) := dk_162 0 50 (dk_at dksX5_shares_3 15 rfl rfl)
theorem dX5_shares_89 : decode cX5_shares 89 = .ok (.aload_n 0, 1) := dk_42 (dk_at dksX5_shares_3 18 rfl rfl)
theorem dX5_shares_90 : decode cX5_shares 90 = .ok (.iload 6, 2) := dk_21 6 (dk_at dksX5_shares_3 19 rfl rfl)
theorem dX5_shares_92 : decode cX5_shares 92 = .ok (.iload_n 1, 1) := dk_27 (dk_at dksX5_shares_3 21 rfl rfl)
theorem dX5_shares_93 : decode cX5_shares 93 = .ok (.invokevirtual 526, 3) := dk_182 2 14 (dk_at dksX5_shares_4 0 rfl rfl)
theorem dX5_shares_96 : decode cX5_shares 96 = .ok (.istore 7, 2) := dk_54 7 (dk_at dksX5_shares_4 3 rfl rfl)
theorem dX5_shares_98 : decode cX5_shares 98 = .ok (.iload 7, 2) := dk_21 7 (dk_at dksX5_shares_4 5 rfl rfl)
theorem dX5_shares_100 : decode cX5_shares 100 = .ok (.iload 4, 2) := dk_21 4 (dk_at dksX5_shares_4 7 rfl rfl)
theorem dX5_shares_102 : decode cX5_shares 102 = .ok (.if_icmp .le 8, 3) := dk_164 0 8 (dk_at dksX5_shares_4 9 rfl rfl)
theorem dX5_shares_105 : decode cX5_shares 105 = .ok (.iload 6, 2) := dk_21 6 (dk_at dksX5_shares_4 12 rfl rfl)
theorem dX5_shares_107 : decode cX5_shares 107 = .ok (.goto 5, 3) := dk_167 0 5 (dk_at dksX5_shares_4 14 rfl rfl)
theorem dX5_shares_110 : decode cX5_shares 110 = .ok (.iload 5, 2) := dk_21 5 (dk_at dksX5_shares_4 17 rfl rfl)
theorem dX5_shares_112 : decode cX5_shares 112 = .ok (.istore 5, 2) := dk_54 5 (dk_at dksX5_shares_4 19 rfl rfl)
theorem dX5_shares_114 : decode cX5_shares 114 = .ok (.iload 7, 2) := dk_21 7 (dk_at dksX5_shares_4 21 rfl rfl)
theorem dX5_shares_116 : decode cX5_shares 116 = .ok (.iload 4, 2) := dk_21 4 (dk_at dksX5_shares_5 0 rfl rfl)
theorem dX5_shares_118 : decode cX5_shares 118 = .ok (.if_icmp .le 8, 3) := dk_164 0 8 (dk_at dksX5_shares_5 2 rfl rfl)
theorem dX5_shares_121 : decode cX5_shares 121 = .ok (.iload 7, 2) := dk_21 7 (dk_at dksX5_shares_5 5 rfl rfl)
theorem dX5_shares_123 : decode cX5_shares 123 = .ok (.goto 5, 3) := dk_167 0 5 (dk_at dksX5_shares_5 7 rfl rfl)
theorem dX5_shares_126 : decode cX5_shares 126 = .ok (.iload 4, 2) := dk_21 4 (dk_at dksX5_shares_5 10 rfl rfl)
theorem dX5_shares_128 : decode cX5_shares 128 = .ok (.istore 4, 2) := dk_54 4 (dk_at dksX5_shares_5 12 rfl rfl)
theorem dX5_shares_130 : decode cX5_shares 130 = .ok (.iinc 6 1, 3) := dk_132 6 1 (dk_at dksX5_shares_5 14 rfl rfl)
theorem dX5_shares_133 : decode cX5_shares 133 = .ok (.goto (-50), 3) := dk_167 255 206 (dk_at dksX5_shares_5 17 rfl rfl)
theorem dX5_shares_136 : decode cX5_shares 136 = .ok (.iload_n 2, 1) := dk_28 (dk_at dksX5_shares_5 20 rfl rfl)
theorem dX5_shares_137 : decode cX5_shares 137 = .ok (.ifCond .ne 6, 3) := dk_154 0 6 (dk_at dksX5_shares_5 21 rfl rfl)
theorem dX5_shares_140 : decode cX5_shares 140 = .ok (.iload 4, 2) := dk_21 4 (dk_at dksX5_shares_6 0 rfl rfl)
theorem dX5_shares_142 : decode cX5_shares 142 = .ok (.ireturn, 1) := dk_172 (dk_at dksX5_shares_6 2 rfl rfl)
theorem dX5_shares_143 : decode cX5_shares 143 = .ok (.aload_n 0, 1) := dk_42 (dk_at dksX5_shares_6 3 rfl rfl)
theorem dX5_shares_144 : decode cX5_shares 144 = .ok (.getfield 13, 3) := dk_180 0 13 (dk_at dksX5_shares_6 4 rfl rfl)
theorem dX5_shares_147 : decode cX5_shares 147 = .ok (.iconst 0, 1) := dk_3 (dk_at dksX5_shares_6 7 rfl rfl)
theorem dX5_shares_148 : decode cX5_shares 148 = .ok (.iaload, 1) := dk_46 (dk_at dksX5_shares_6 8 rfl rfl)
theorem dX5_shares_149 : decode cX5_shares 149 = .ok (.iconst 1, 1) := dk_4 (dk_at dksX5_shares_6 9 rfl rfl)
theorem dX5_shares_150 : decode cX5_shares 150 = .ok (.isub, 1) := dk_100 (dk_at dksX5_shares_6 10 rfl rfl)
theorem dX5_shares_151 : decode cX5_shares 151 = .ok (.istore 6, 2) := dk_54 6 (dk_at dksX5_shares_6 11 rfl rfl)
theorem dX5_shares_153 : decode cX5_shares 153 = .ok (.iload 6, 2) := dk_21 6 (dk_at dksX5_shares_6 13 rfl rfl)
theorem dX5_shares_155 : decode cX5_shares 155 = .ok (.iload_n 2, 1) := dk_28 (dk_at dksX5_shares_6 15 rfl rfl)
theorem dX5_shares_156 : decode cX5_shares 156 = .ok (.iconst 1, 1) := dk_4 (dk_at dksX5_shares_6 16 rfl rfl)
theorem dX5_shares_157 : decode cX5_shares 157 = .ok (.isub, 1) := dk_100 (dk_at dksX5_shares_6 17 rfl rfl)
theorem dX5_shares_158 : decode cX5_shares 158 = .ok (.if_icmp .le 15, 3) := dk_164 0 15 (dk_at dksX5_shares_6 18 rfl rfl)
theorem dX5_shares_161 : decode cX5_shares 161 = .ok (.iload 5, 2) := dk_21 5 (dk_at dksX5_shares_6 21 rfl rfl)
theorem dX5_shares_163 : decode cX5_shares 163 = .ok (.iload_n 1, 1) := dk_27 (dk_at dksX5_shares_6 23 rfl rfl)
theorem dX5_shares_164 : decode cX5_shares 164 = .ok (.idiv, 1) := dk_108 (dk_at dksX5_shares_7 0 rfl rfl)
theorem dX5_shares_165 : decode cX5_shares 165 = .ok (.istore 5, 2) := dk_54 5 (dk_at dksX5_shares_7 1 rfl rfl)
theorem dX5_shares_167 : decode cX5_shares 167 = .ok (.iinc 6 (-1), 3) := dk_132 6 255 (dk_at dksX5_shares_7 3 rfl rfl)
theorem dX5_shares_170 : decode cX5_shares 170 = .ok (.goto (-17), 3) := dk_167 255 239 (dk_at dksX5_shares_7 6 rfl rfl)
theorem dX5_shares_173 : decode cX5_shares 173 = .ok (.iload 5, 2) := dk_21 5 (dk_at dksX5_shares_7 9 rfl rfl)
theorem dX5_shares_175 : decode cX5_shares 175 = .ok (.iload_n 1, 1) := dk_27 (dk_at dksX5_shares_7 11 rfl rfl)
theorem dX5_shares_176 : decode cX5_shares 176 = .ok (.irem, 1) := dk_112 (dk_at dksX5_shares_7 12 rfl rfl)
theorem dX5_shares_177 : decode cX5_shares 177 = .ok (.ireturn, 1) := dk_172 (dk_at dksX5_shares_7 13 rfl rfl)
abbrev cX5_leastOf : ByteArray := prog_22_method_106_code
def yX5_leastOf : MethodName := ⟨RX5, "leastOf", "(II)I"⟩
def dkwX5_leastOf_5 : List UInt8 := [46, 162, 0, 8, 21, 4, 167, 0, 9, 42, 180, 0, 134, 5, 46, 172]
abbrev dktX5_leastOf_5 : List UInt8 := dkwX5_leastOf_5 ++ []
def dkwX5_leastOf_4 : List UInt8 := [42, 180, 0, 134, 3, 46, 167, 0, 9, 42, 180, 0, 134, 4, 46, 54, 4, 21, 4, 42, 180, 0, 134, 5]
abbrev dktX5_leastOf_4 : List UInt8 := dkwX5_leastOf_4 ++ dktX5_leastOf_5
def dkwX5_leastOf_3 : List UInt8 := [28, 108, 62, 132, 4, 255, 167, 255, 226, 42, 180, 0, 134, 3, 46, 42, 180, 0, 134, 4, 46, 162, 0, 12]
abbrev dktX5_leastOf_3 : List UInt8 := dkwX5_leastOf_3 ++ dktX5_leastOf_4
def dkwX5_leastOf_2 : List UInt8 := [21, 4, 155, 0, 31, 42, 180, 0, 134, 29, 28, 112, 92, 46, 42, 180, 0, 137, 21, 4, 46, 96, 79, 29]
abbrev dktX5_leastOf_2 : List UInt8 := dkwX5_leastOf_2 ++ dktX5_leastOf_3
def dkwX5_leastOf_1 : List UInt8 := [167, 0, 6, 19, 1, 231, 79, 132, 4, 1, 167, 255, 227, 42, 180, 0, 13, 3, 46, 4, 100, 54, 4]
abbrev dktX5_leastOf_1 : List UInt8 := dkwX5_leastOf_1 ++ dktX5_leastOf_2
def dkwX5_leastOf_0 : List UInt8 := [27, 62, 3, 54, 4, 21, 4, 6, 162, 0, 29, 42, 180, 0, 134, 21, 4, 21, 4, 28, 162, 0, 7, 3]
abbrev dktX5_leastOf_0 : List UInt8 := dkwX5_leastOf_0 ++ dktX5_leastOf_1
theorem dksX5_leastOf_0 : cX5_leastOf.data.toList.drop 0 = dktX5_leastOf_0 := by decide +kernel
theorem dksX5_leastOf_1 : cX5_leastOf.data.toList.drop 24 = dktX5_leastOf_1 := dk_seg dksX5_leastOf_0 24 rfl rfl
theorem dksX5_leastOf_2 : cX5_leastOf.data.toList.drop 47 = dktX5_leastOf_2 := dk_seg dksX5_leastOf_1 23 rfl rfl
theorem dksX5_leastOf_3 : cX5_leastOf.data.toList.drop 71 = dktX5_leastOf_3 := dk_seg dksX5_leastOf_2 24 rfl rfl
theorem dksX5_leastOf_4 : cX5_leastOf.data.toList.drop 95 = dktX5_leastOf_4 := dk_seg dksX5_leastOf_3 24 rfl rfl
theorem dksX5_leastOf_5 : cX5_leastOf.data.toList.drop 119 = dktX5_leastOf_5 := dk_seg dksX5_leastOf_4 24 rfl rfl
theorem dX5_leastOf_0 : decode cX5_leastOf 0 = .ok (.iload_n 1, 1) := dk_27 (dk_at dksX5_leastOf_0 0 rfl rfl)
theorem dX5_leastOf_1 : decode cX5_leastOf 1 = .ok (.istore_n 3, 1) := dk_62 (dk_at dksX5_leastOf_0 1 rfl rfl)
theorem dX5_leastOf_2 : decode cX5_leastOf 2 = .ok (.iconst 0, 1) := dk_3 (dk_at dksX5_leastOf_0 2 rfl rfl)
theorem dX5_leastOf_3 : decode cX5_leastOf 3 = .ok (.istore 4, 2) := dk_54 4 (dk_at dksX5_leastOf_0 3 rfl rfl)
theorem dX5_leastOf_5 : decode cX5_leastOf 5 = .ok (.iload 4, 2) := dk_21 4 (dk_at dksX5_leastOf_0 5 rfl rfl)
theorem dX5_leastOf_7 : decode cX5_leastOf 7 = .ok (.iconst 3, 1) := dk_6 (dk_at dksX5_leastOf_0 7 rfl rfl)
theorem dX5_leastOf_8 : decode cX5_leastOf 8 = .ok (.if_icmp .ge 29, 3) := dk_162 0 29 (dk_at dksX5_leastOf_0 8 rfl rfl)
theorem dX5_leastOf_11 : decode cX5_leastOf 11 = .ok (.aload_n 0, 1) := dk_42 (dk_at dksX5_leastOf_0 11 rfl rfl)
theorem dX5_leastOf_12 : decode cX5_leastOf 12 = .ok (.getfield 134, 3) := dk_180 0 134 (dk_at dksX5_leastOf_0 12 rfl rfl)
theorem dX5_leastOf_15 : decode cX5_leastOf 15 = .ok (.iload 4, 2) := dk_21 4 (dk_at dksX5_leastOf_0 15 rfl rfl)
theorem dX5_leastOf_17 : decode cX5_leastOf 17 = .ok (.iload 4, 2) := dk_21 4 (dk_at dksX5_leastOf_0 17 rfl rfl)
theorem dX5_leastOf_19 : decode cX5_leastOf 19 = .ok (.iload_n 2, 1) := dk_28 (dk_at dksX5_leastOf_0 19 rfl rfl)
theorem dX5_leastOf_20 : decode cX5_leastOf 20 = .ok (.if_icmp .ge 7, 3) := dk_162 0 7 (dk_at dksX5_leastOf_0 20 rfl rfl)
theorem dX5_leastOf_23 : decode cX5_leastOf 23 = .ok (.iconst 0, 1) := dk_3 (dk_at dksX5_leastOf_0 23 rfl rfl)
theorem dX5_leastOf_24 : decode cX5_leastOf 24 = .ok (.goto 6, 3) := dk_167 0 6 (dk_at dksX5_leastOf_1 0 rfl rfl)
theorem dX5_leastOf_27 : decode cX5_leastOf 27 = .ok (.ldc_w 487, 3) := dk_19 1 231 (dk_at dksX5_leastOf_1 3 rfl rfl)
theorem dX5_leastOf_30 : decode cX5_leastOf 30 = .ok (.iastore, 1) := dk_79 (dk_at dksX5_leastOf_1 6 rfl rfl)
theorem dX5_leastOf_31 : decode cX5_leastOf 31 = .ok (.iinc 4 1, 3) := dk_132 4 1 (dk_at dksX5_leastOf_1 7 rfl rfl)
theorem dX5_leastOf_34 : decode cX5_leastOf 34 = .ok (.goto (-29), 3) := dk_167 255 227 (dk_at dksX5_leastOf_1 10 rfl rfl)
theorem dX5_leastOf_37 : decode cX5_leastOf 37 = .ok (.aload_n 0, 1) := dk_42 (dk_at dksX5_leastOf_1 13 rfl rfl)
theorem dX5_leastOf_38 : decode cX5_leastOf 38 = .ok (.getfield 13, 3) := dk_180 0 13 (dk_at dksX5_leastOf_1 14 rfl rfl)
theorem dX5_leastOf_41 : decode cX5_leastOf 41 = .ok (.iconst 0, 1) := dk_3 (dk_at dksX5_leastOf_1 17 rfl rfl)
theorem dX5_leastOf_42 : decode cX5_leastOf 42 = .ok (.iaload, 1) := dk_46 (dk_at dksX5_leastOf_1 18 rfl rfl)
theorem dX5_leastOf_43 : decode cX5_leastOf 43 = .ok (.iconst 1, 1) := dk_4 (dk_at dksX5_leastOf_1 19 rfl rfl)
theorem dX5_leastOf_44 : decode cX5_leastOf 44 = .ok (.isub, 1) := dk_100 (dk_at dksX5_leastOf_1 20 rfl rfl)
theorem dX5_leastOf_45 : decode cX5_leastOf 45 = .ok (.istore 4, 2) := dk_54 4 (dk_at dksX5_leastOf_1 21 rfl rfl)
theorem dX5_leastOf_47 : decode cX5_leastOf 47 = .ok (.iload 4, 2) := dk_21 4 (dk_at dksX5_leastOf_2 0 rfl rfl)
theorem dX5_leastOf_49 : decode cX5_leastOf 49 = .ok (.ifCond .lt 31, 3) := dk_155 0 31 (dk_at dksX5_leastOf_2 2 rfl rfl)
theorem dX5_leastOf_52 : decode cX5_leastOf 52 = .ok (.aload_n 0, 1) := dk_42 (dk_at dksX5_leastOf_2 5 rfl rfl)
theorem dX5_leastOf_53 : decode cX5_leastOf 53 = .ok (.getfield 134, 3) := dk_180 0 134 (dk_at dksX5_leastOf_2 6 rfl rfl)
theorem dX5_leastOf_56 : decode cX5_leastOf 56 = .ok (.iload_n 3, 1) := dk_29 (dk_at dksX5_leastOf_2 9 rfl rfl)
theorem dX5_leastOf_57 : decode cX5_leastOf 57 = .ok (.iload_n 2, 1) := dk_28 (dk_at dksX5_leastOf_2 10 rfl rfl)
theorem dX5_leastOf_58 : decode cX5_leastOf 58 = .ok (.irem, 1) := dk_112 (dk_at dksX5_leastOf_2 11 rfl rfl)
theorem dX5_leastOf_59 : decode cX5_leastOf 59 = .ok (.dup2, 1) := dk_92 (dk_at dksX5_leastOf_2 12 rfl rfl)
theorem dX5_leastOf_60 : decode cX5_leastOf 60 = .ok (.iaload, 1) := dk_46 (dk_at dksX5_leastOf_2 13 rfl rfl)
theorem dX5_leastOf_61 : decode cX5_leastOf 61 = .ok (.aload_n 0, 1) := dk_42 (dk_at dksX5_leastOf_2 14 rfl rfl)
theorem dX5_leastOf_62 : decode cX5_leastOf 62 = .ok (.getfield 137, 3) := dk_180 0 137 (dk_at dksX5_leastOf_2 15 rfl rfl)
theorem dX5_leastOf_65 : decode cX5_leastOf 65 = .ok (.iload 4, 2) := dk_21 4 (dk_at dksX5_leastOf_2 18 rfl rfl)
theorem dX5_leastOf_67 : decode cX5_leastOf 67 = .ok (.iaload, 1) := dk_46 (dk_at dksX5_leastOf_2 20 rfl rfl)
theorem dX5_leastOf_68 : decode cX5_leastOf 68 = .ok (.iadd, 1) := dk_96 (dk_at dksX5_leastOf_2 21 rfl rfl)
theorem dX5_leastOf_69 : decode cX5_leastOf 69 = .ok (.iastore, 1) := dk_79 (dk_at dksX5_leastOf_2 22 rfl rfl)
theorem dX5_leastOf_70 : decode cX5_leastOf 70 = .ok (.iload_n 3, 1) := dk_29 (dk_at dksX5_leastOf_2 23 rfl rfl)
theorem dX5_leastOf_71 : decode cX5_leastOf 71 = .ok (.iload_n 2, 1) := dk_28 (dk_at dksX5_leastOf_3 0 rfl rfl)
theorem dX5_leastOf_72 : decode cX5_leastOf 72 = .ok (.idiv, 1) := dk_108 (dk_at dksX5_leastOf_3 1 rfl rfl)
theorem dX5_leastOf_73 : decode cX5_leastOf 73 = .ok (.istore_n 3, 1) := dk_62 (dk_at dksX5_leastOf_3 2 rfl rfl)
theorem dX5_leastOf_74 : decode cX5_leastOf 74 = .ok (.iinc 4 (-1), 3) := dk_132 4 255 (dk_at dksX5_leastOf_3 3 rfl rfl)
theorem dX5_leastOf_77 : decode cX5_leastOf 77 = .ok (.goto (-30), 3) := dk_167 255 226 (dk_at dksX5_leastOf_3 6 rfl rfl)
theorem dX5_leastOf_80 : decode cX5_leastOf 80 = .ok (.aload_n 0, 1) := dk_42 (dk_at dksX5_leastOf_3 9 rfl rfl)
theorem dX5_leastOf_81 : decode cX5_leastOf 81 = .ok (.getfield 134, 3) := dk_180 0 134 (dk_at dksX5_leastOf_3 10 rfl rfl)
theorem dX5_leastOf_84 : decode cX5_leastOf 84 = .ok (.iconst 0, 1) := dk_3 (dk_at dksX5_leastOf_3 13 rfl rfl)
theorem dX5_leastOf_85 : decode cX5_leastOf 85 = .ok (.iaload, 1) := dk_46 (dk_at dksX5_leastOf_3 14 rfl rfl)
theorem dX5_leastOf_86 : decode cX5_leastOf 86 = .ok (.aload_n 0, 1) := dk_42 (dk_at dksX5_leastOf_3 15 rfl rfl)
theorem dX5_leastOf_87 : decode cX5_leastOf 87 = .ok (.getfield 134, 3) := dk_180 0 134 (dk_at dksX5_leastOf_3 16 rfl rfl)
theorem dX5_leastOf_90 : decode cX5_leastOf 90 = .ok (.iconst 1, 1) := dk_4 (dk_at dksX5_leastOf_3 19 rfl rfl)
theorem dX5_leastOf_91 : decode cX5_leastOf 91 = .ok (.iaload, 1) := dk_46 (dk_at dksX5_leastOf_3 20 rfl rfl)
theorem dX5_leastOf_92 : decode cX5_leastOf 92 = .ok (.if_icmp .ge 12, 3) := dk_162 0 12 (dk_at dksX5_leastOf_3 21 rfl rfl)
theorem dX5_leastOf_95 : decode cX5_leastOf 95 = .ok (.aload_n 0, 1) := dk_42 (dk_at dksX5_leastOf_4 0 rfl rfl)
theorem dX5_leastOf_96 : decode cX5_leastOf 96 = .ok (.getfield 134, 3) := dk_180 0 134 (dk_at dksX5_leastOf_4 1 rfl rfl)
theorem dX5_leastOf_99 : decode cX5_leastOf 99 = .ok (.iconst 0, 1) := dk_3 (dk_at dksX5_leastOf_4 4 rfl rfl)
theorem dX5_leastOf_100 : decode cX5_leastOf 100 = .ok (.iaload, 1) := dk_46 (dk_at dksX5_leastOf_4 5 rfl rfl)
theorem dX5_leastOf_101 : decode cX5_leastOf 101 = .ok (.goto 9, 3) := dk_167 0 9 (dk_at dksX5_leastOf_4 6 rfl rfl)
theorem dX5_leastOf_104 : decode cX5_leastOf 104 = .ok (.aload_n 0, 1) := dk_42 (dk_at dksX5_leastOf_4 9 rfl rfl)
theorem dX5_leastOf_105 : decode cX5_leastOf 105 = .ok (.getfield 134, 3) := dk_180 0 134 (dk_at dksX5_leastOf_4 10 rfl rfl)
theorem dX5_leastOf_108 : decode cX5_leastOf 108 = .ok (.iconst 1, 1) := dk_4 (dk_at dksX5_leastOf_4 13 rfl rfl)
theorem dX5_leastOf_109 : decode cX5_leastOf 109 = .ok (.iaload, 1) := dk_46 (dk_at dksX5_leastOf_4 14 rfl rfl)
theorem dX5_leastOf_110 : decode cX5_leastOf 110 = .ok (.istore 4, 2) := dk_54 4 (dk_at dksX5_leastOf_4 15 rfl rfl)
theorem dX5_leastOf_112 : decode cX5_leastOf 112 = .ok (.iload 4, 2) := dk_21 4 (dk_at dksX5_leastOf_4 17 rfl rfl)
theorem dX5_leastOf_114 : decode cX5_leastOf 114 = .ok (.aload_n 0, 1) := dk_42 (dk_at dksX5_leastOf_4 19 rfl rfl)
theorem dX5_leastOf_115 : decode cX5_leastOf 115 = .ok (.getfield 134, 3) := dk_180 0 134 (dk_at dksX5_leastOf_4 20 rfl rfl)
theorem dX5_leastOf_118 : decode cX5_leastOf 118 = .ok (.iconst 2, 1) := dk_5 (dk_at dksX5_leastOf_4 23 rfl rfl)
theorem dX5_leastOf_119 : decode cX5_leastOf 119 = .ok (.iaload, 1) := dk_46 (dk_at dksX5_leastOf_5 0 rfl rfl)
theorem dX5_leastOf_120 : decode cX5_leastOf 120 = .ok (.if_icmp .ge 8, 3) := dk_162 0 8 (dk_at dksX5_leastOf_5 1 rfl rfl)
theorem dX5_leastOf_123 : decode cX5_leastOf 123 = .ok (.iload 4, 2) := dk_21 4 (dk_at dksX5_leastOf_5 4 rfl rfl)
theorem dX5_leastOf_125 : decode cX5_leastOf 125 = .ok (.goto 9, 3) := dk_167 0 9 (dk_at dksX5_leastOf_5 6 rfl rfl)
theorem dX5_leastOf_128 : decode cX5_leastOf 128 = .ok (.aload_n 0, 1) := dk_42 (dk_at dksX5_leastOf_5 9 rfl rfl)
theorem dX5_leastOf_129 : decode cX5_leastOf 129 = .ok (.getfield 134, 3) := dk_180 0 134 (dk_at dksX5_leastOf_5 10 rfl rfl)
theorem dX5_leastOf_132 : decode cX5_leastOf 132 = .ok (.iconst 2, 1) := dk_5 (dk_at dksX5_leastOf_5 13 rfl rfl)
theorem dX5_leastOf_133 : decode cX5_leastOf 133 = .ok (.iaload, 1) := dk_46 (dk_at dksX5_leastOf_5 14 rfl rfl)
theorem dX5_leastOf_134 : decode cX5_leastOf 134 = .ok (.ireturn, 1) := dk_172 (dk_at dksX5_leastOf_5 15 rfl rfl)
abbrev cX5_again : ByteArray := prog_22_method_108_code
def yX5_again : MethodName := ⟨RX5, "again", "(II)I"⟩
def dkwX5_again_4 : List UInt8 := [167, 255, 187, 28, 2, 160, 0, 7, 29, 167, 0, 5, 21, 4, 172]
abbrev dktX5_again_4 : List UInt8 := dkwX5_again_4 ++ []
def dkwX5_again_3 : List UInt8 := [21, 6, 96, 167, 0, 5, 21, 4, 54, 4, 132, 3, 1, 132, 6, 1, 167, 255, 206, 132, 5, 1]
abbrev dktX5_again_3 : List UInt8 := dkwX5_again_3 ++ dktX5_again_4
def dkwX5_again_2 : List UInt8 := [182, 0, 204, 42, 27, 21, 6, 182, 0, 204, 160, 0, 26, 29, 28, 160, 0, 14, 16, 10, 21, 5, 104]
abbrev dktX5_again_2 : List UInt8 := dkwX5_again_2 ++ dktX5_again_3
def dkwX5_again_1 : List UInt8 := [21, 5, 16, 8, 162, 0, 68, 21, 5, 4, 96, 54, 6, 21, 6, 16, 8, 162, 0, 49, 42, 27, 21, 5]
abbrev dktX5_again_1 : List UInt8 := dkwX5_again_1 ++ dktX5_again_2
def dkwX5_again_0 : List UInt8 := [42, 3, 181, 0, 175, 42, 27, 182, 0, 213, 154, 0, 5, 2, 172, 3, 62, 2, 54, 4, 3, 54, 5]
abbrev dktX5_again_0 : List UInt8 := dkwX5_again_0 ++ dktX5_again_1
theorem dksX5_again_0 : cX5_again.data.toList.drop 0 = dktX5_again_0 := by decide +kernel
theorem dksX5_again_1 : cX5_again.data.toList.drop 23 = dktX5_again_1 := dk_seg dksX5_again_0 23 rfl rfl
theorem dksX5_again_2 : cX5_again.data.toList.drop 47 = dktX5_again_2 := dk_seg dksX5_again_1 24 rfl rfl
theorem dksX5_again_3 : cX5_again.data.toList.drop 70 = dktX5_again_3 := dk_seg dksX5_again_2 23 rfl rfl
theorem dksX5_again_4 : cX5_again.data.toList.drop 92 = dktX5_again_4 := dk_seg dksX5_again_3 22 rfl rfl
theorem dX5_again_0 : decode cX5_again 0 = .ok (.aload_n 0, 1) := dk_42 (dk_at dksX5_again_0 0 rfl rfl)
theorem dX5_again_1 : decode cX5_again 1 = .ok (.iconst 0, 1) := dk_3 (dk_at dksX5_again_0 1 rfl rfl)
theorem dX5_again_2 : decode cX5_again 2 = .ok (.putfield 175, 3) := dk_181 0 175 (dk_at dksX5_again_0 2 rfl rfl)
theorem dX5_again_5 : decode cX5_again 5 = .ok (.aload_n 0, 1) := dk_42 (dk_at dksX5_again_0 5 rfl rfl)
theorem dX5_again_6 : decode cX5_again 6 = .ok (.iload_n 1, 1) := dk_27 (dk_at dksX5_again_0 6 rfl rfl)
theorem dX5_again_7 : decode cX5_again 7 = .ok (.invokevirtual 213, 3) := dk_182 0 213 (dk_at dksX5_again_0 7 rfl rfl)
theorem dX5_again_10 : decode cX5_again 10 = .ok (.ifCond .ne 5, 3) := dk_154 0 5 (dk_at dksX5_again_0 10 rfl rfl)
theorem dX5_again_13 : decode cX5_again 13 = .ok (.iconst (-1), 1) := dk_2 (dk_at dksX5_again_0 13 rfl rfl)
theorem dX5_again_14 : decode cX5_again 14 = .ok (.ireturn, 1) := dk_172 (dk_at dksX5_again_0 14 rfl rfl)
theorem dX5_again_15 : decode cX5_again 15 = .ok (.iconst 0, 1) := dk_3 (dk_at dksX5_again_0 15 rfl rfl)
theorem dX5_again_16 : decode cX5_again 16 = .ok (.istore_n 3, 1) := dk_62 (dk_at dksX5_again_0 16 rfl rfl)
theorem dX5_again_17 : decode cX5_again 17 = .ok (.iconst (-1), 1) := dk_2 (dk_at dksX5_again_0 17 rfl rfl)
theorem dX5_again_18 : decode cX5_again 18 = .ok (.istore 4, 2) := dk_54 4 (dk_at dksX5_again_0 18 rfl rfl)
theorem dX5_again_20 : decode cX5_again 20 = .ok (.iconst 0, 1) := dk_3 (dk_at dksX5_again_0 20 rfl rfl)
theorem dX5_again_21 : decode cX5_again 21 = .ok (.istore 5, 2) := dk_54 5 (dk_at dksX5_again_0 21 rfl rfl)
theorem dX5_again_23 : decode cX5_again 23 = .ok (.iload 5, 2) := dk_21 5 (dk_at dksX5_again_1 0 rfl rfl)
theorem dX5_again_25 : decode cX5_again 25 = .ok (.bipush 8, 2) := dk_16 8 (dk_at dksX5_again_1 2 rfl rfl)
theorem dX5_again_27 : decode cX5_again 27 = .ok (.if_icmp .ge 68, 3) := dk_162 0 68 (dk_at dksX5_again_1 4 rfl rfl)
theorem dX5_again_30 : decode cX5_again 30 = .ok (.iload 5, 2) := dk_21 5 (dk_at dksX5_again_1 7 rfl rfl)
theorem dX5_again_32 : decode cX5_again 32 = .ok (.iconst 1, 1) := dk_4 (dk_at dksX5_again_1 9 rfl rfl)
theorem dX5_again_33 : decode cX5_again 33 = .ok (.iadd, 1) := dk_96 (dk_at dksX5_again_1 10 rfl rfl)
theorem dX5_again_34 : decode cX5_again 34 = .ok (.istore 6, 2) := dk_54 6 (dk_at dksX5_again_1 11 rfl rfl)
theorem dX5_again_36 : decode cX5_again 36 = .ok (.iload 6, 2) := dk_21 6 (dk_at dksX5_again_1 13 rfl rfl)
theorem dX5_again_38 : decode cX5_again 38 = .ok (.bipush 8, 2) := dk_16 8 (dk_at dksX5_again_1 15 rfl rfl)
theorem dX5_again_40 : decode cX5_again 40 = .ok (.if_icmp .ge 49, 3) := dk_162 0 49 (dk_at dksX5_again_1 17 rfl rfl)
theorem dX5_again_43 : decode cX5_again 43 = .ok (.aload_n 0, 1) := dk_42 (dk_at dksX5_again_1 20 rfl rfl)
theorem dX5_again_44 : decode cX5_again 44 = .ok (.iload_n 1, 1) := dk_27 (dk_at dksX5_again_1 21 rfl rfl)
theorem dX5_again_45 : decode cX5_again 45 = .ok (.iload 5, 2) := dk_21 5 (dk_at dksX5_again_1 22 rfl rfl)
theorem dX5_again_47 : decode cX5_again 47 = .ok (.invokevirtual 204, 3) := dk_182 0 204 (dk_at dksX5_again_2 0 rfl rfl)
theorem dX5_again_50 : decode cX5_again 50 = .ok (.aload_n 0, 1) := dk_42 (dk_at dksX5_again_2 3 rfl rfl)
theorem dX5_again_51 : decode cX5_again 51 = .ok (.iload_n 1, 1) := dk_27 (dk_at dksX5_again_2 4 rfl rfl)
theorem dX5_again_52 : decode cX5_again 52 = .ok (.iload 6, 2) := dk_21 6 (dk_at dksX5_again_2 5 rfl rfl)
theorem dX5_again_54 : decode cX5_again 54 = .ok (.invokevirtual 204, 3) := dk_182 0 204 (dk_at dksX5_again_2 7 rfl rfl)
theorem dX5_again_57 : decode cX5_again 57 = .ok (.if_icmp .ne 26, 3) := dk_160 0 26 (dk_at dksX5_again_2 10 rfl rfl)
theorem dX5_again_60 : decode cX5_again 60 = .ok (.iload_n 3, 1) := dk_29 (dk_at dksX5_again_2 13 rfl rfl)
theorem dX5_again_61 : decode cX5_again 61 = .ok (.iload_n 2, 1) := dk_28 (dk_at dksX5_again_2 14 rfl rfl)
theorem dX5_again_62 : decode cX5_again 62 = .ok (.if_icmp .ne 14, 3) := dk_160 0 14 (dk_at dksX5_again_2 15 rfl rfl)
theorem dX5_again_65 : decode cX5_again 65 = .ok (.bipush 10, 2) := dk_16 10 (dk_at dksX5_again_2 18 rfl rfl)
theorem dX5_again_67 : decode cX5_again 67 = .ok (.iload 5, 2) := dk_21 5 (dk_at dksX5_again_2 20 rfl rfl)
theorem dX5_again_69 : decode cX5_again 69 = .ok (.imul, 1) := dk_104 (dk_at dksX5_again_2 22 rfl rfl)
theorem dX5_again_70 : decode cX5_again 70 = .ok (.iload 6, 2) := dk_21 6 (dk_at dksX5_again_3 0 rfl rfl)
theorem dX5_again_72 : decode cX5_again 72 = .ok (.iadd, 1) := dk_96 (dk_at dksX5_again_3 2 rfl rfl)
theorem dX5_again_73 : decode cX5_again 73 = .ok (.goto 5, 3) := dk_167 0 5 (dk_at dksX5_again_3 3 rfl rfl)
theorem dX5_again_76 : decode cX5_again 76 = .ok (.iload 4, 2) := dk_21 4 (dk_at dksX5_again_3 6 rfl rfl)
theorem dX5_again_78 : decode cX5_again 78 = .ok (.istore 4, 2) := dk_54 4 (dk_at dksX5_again_3 8 rfl rfl)
theorem dX5_again_80 : decode cX5_again 80 = .ok (.iinc 3 1, 3) := dk_132 3 1 (dk_at dksX5_again_3 10 rfl rfl)
theorem dX5_again_83 : decode cX5_again 83 = .ok (.iinc 6 1, 3) := dk_132 6 1 (dk_at dksX5_again_3 13 rfl rfl)
theorem dX5_again_86 : decode cX5_again 86 = .ok (.goto (-50), 3) := dk_167 255 206 (dk_at dksX5_again_3 16 rfl rfl)
theorem dX5_again_89 : decode cX5_again 89 = .ok (.iinc 5 1, 3) := dk_132 5 1 (dk_at dksX5_again_3 19 rfl rfl)
theorem dX5_again_92 : decode cX5_again 92 = .ok (.goto (-69), 3) := dk_167 255 187 (dk_at dksX5_again_4 0 rfl rfl)
theorem dX5_again_95 : decode cX5_again 95 = .ok (.iload_n 2, 1) := dk_28 (dk_at dksX5_again_4 3 rfl rfl)
theorem dX5_again_96 : decode cX5_again 96 = .ok (.iconst (-1), 1) := dk_2 (dk_at dksX5_again_4 4 rfl rfl)
theorem dX5_again_97 : decode cX5_again 97 = .ok (.if_icmp .ne 7, 3) := dk_160 0 7 (dk_at dksX5_again_4 5 rfl rfl)
theorem dX5_again_100 : decode cX5_again 100 = .ok (.iload_n 3, 1) := dk_29 (dk_at dksX5_again_4 8 rfl rfl)
theorem dX5_again_101 : decode cX5_again 101 = .ok (.goto 5, 3) := dk_167 0 5 (dk_at dksX5_again_4 9 rfl rfl)
theorem dX5_again_104 : decode cX5_again 104 = .ok (.iload 4, 2) := dk_21 4 (dk_at dksX5_again_4 12 rfl rfl)
theorem dX5_again_106 : decode cX5_again 106 = .ok (.ireturn, 1) := dk_172 (dk_at dksX5_again_4 14 rfl rfl)
abbrev cX5_ends : ByteArray := prog_22_method_109_code
def yX5_ends : MethodName := ⟨RX5, "ends", "(I)I"⟩
def dkwX5_ends_3 : List UInt8 := [167, 255, 207, 28, 172]
abbrev dktX5_ends_3 : List UInt8 := dkwX5_ends_3 ++ []
def dkwX5_ends_2 : List UInt8 := [180, 0, 13, 16, 74, 29, 96, 46, 27, 164, 0, 9, 4, 29, 120, 167, 0, 4, 3, 128, 61, 132, 3, 1]
abbrev dktX5_ends_2 : List UInt8 := dkwX5_ends_2 ++ dktX5_ends_3
def dkwX5_ends_1 : List UInt8 := [42, 180, 0, 13, 3, 46, 162, 0, 45, 28, 42, 180, 0, 13, 16, 68, 29, 96, 46, 2, 159, 0, 22, 42]
abbrev dktX5_ends_1 : List UInt8 := dkwX5_ends_1 ++ dktX5_ends_2
def dkwX5_ends_0 : List UInt8 := [42, 3, 181, 0, 175, 27, 133, 9, 20, 0, 239, 184, 0, 195, 154, 0, 5, 2, 172, 3, 61, 3, 62, 29]
abbrev dktX5_ends_0 : List UInt8 := dkwX5_ends_0 ++ dktX5_ends_1
theorem dksX5_ends_0 : cX5_ends.data.toList.drop 0 = dktX5_ends_0 := by decide +kernel
theorem dksX5_ends_1 : cX5_ends.data.toList.drop 24 = dktX5_ends_1 := dk_seg dksX5_ends_0 24 rfl rfl
theorem dksX5_ends_2 : cX5_ends.data.toList.drop 48 = dktX5_ends_2 := dk_seg dksX5_ends_1 24 rfl rfl
theorem dksX5_ends_3 : cX5_ends.data.toList.drop 72 = dktX5_ends_3 := dk_seg dksX5_ends_2 24 rfl rfl
theorem dX5_ends_0 : decode cX5_ends 0 = .ok (.aload_n 0, 1) := dk_42 (dk_at dksX5_ends_0 0 rfl rfl)
theorem dX5_ends_1 : decode cX5_ends 1 = .ok (.iconst 0, 1) := dk_3 (dk_at dksX5_ends_0 1 rfl rfl)
theorem dX5_ends_2 : decode cX5_ends 2 = .ok (.putfield 175, 3) := dk_181 0 175 (dk_at dksX5_ends_0 2 rfl rfl)
theorem dX5_ends_5 : decode cX5_ends 5 = .ok (.iload_n 1, 1) := dk_27 (dk_at dksX5_ends_0 5 rfl rfl)
theorem dX5_ends_6 : decode cX5_ends 6 = .ok (.i2l, 1) := dk_133 (dk_at dksX5_ends_0 6 rfl rfl)
theorem dX5_ends_7 : decode cX5_ends 7 = .ok (.lconst 0, 1) := dk_9 (dk_at dksX5_ends_0 7 rfl rfl)
theorem dX5_ends_8 : decode cX5_ends 8 = .ok (.ldc2_w 239, 3) := dk_20 0 239 (dk_at dksX5_ends_0 8 rfl rfl)
theorem dX5_ends_11 : decode cX5_ends 11 = .ok (.invokestatic 195, 3) := dk_184 0 195 (dk_at dksX5_ends_0 11 rfl rfl)
theorem dX5_ends_14 : decode cX5_ends 14 = .ok (.ifCond .ne 5, 3) := dk_154 0 5 (dk_at dksX5_ends_0 14 rfl rfl)
theorem dX5_ends_17 : decode cX5_ends 17 = .ok (.iconst (-1), 1) := dk_2 (dk_at dksX5_ends_0 17 rfl rfl)
theorem dX5_ends_18 : decode cX5_ends 18 = .ok (.ireturn, 1) := dk_172 (dk_at dksX5_ends_0 18 rfl rfl)
theorem dX5_ends_19 : decode cX5_ends 19 = .ok (.iconst 0, 1) := dk_3 (dk_at dksX5_ends_0 19 rfl rfl)
theorem dX5_ends_20 : decode cX5_ends 20 = .ok (.istore_n 2, 1) := dk_61 (dk_at dksX5_ends_0 20 rfl rfl)
theorem dX5_ends_21 : decode cX5_ends 21 = .ok (.iconst 0, 1) := dk_3 (dk_at dksX5_ends_0 21 rfl rfl)
theorem dX5_ends_22 : decode cX5_ends 22 = .ok (.istore_n 3, 1) := dk_62 (dk_at dksX5_ends_0 22 rfl rfl)
theorem dX5_ends_23 : decode cX5_ends 23 = .ok (.iload_n 3, 1) := dk_29 (dk_at dksX5_ends_0 23 rfl rfl)
theorem dX5_ends_24 : decode cX5_ends 24 = .ok (.aload_n 0, 1) := dk_42 (dk_at dksX5_ends_1 0 rfl rfl)
theorem dX5_ends_25 : decode cX5_ends 25 = .ok (.getfield 13, 3) := dk_180 0 13 (dk_at dksX5_ends_1 1 rfl rfl)
theorem dX5_ends_28 : decode cX5_ends 28 = .ok (.iconst 0, 1) := dk_3 (dk_at dksX5_ends_1 4 rfl rfl)
theorem dX5_ends_29 : decode cX5_ends 29 = .ok (.iaload, 1) := dk_46 (dk_at dksX5_ends_1 5 rfl rfl)
theorem dX5_ends_30 : decode cX5_ends 30 = .ok (.if_icmp .ge 45, 3) := dk_162 0 45 (dk_at dksX5_ends_1 6 rfl rfl)
theorem dX5_ends_33 : decode cX5_ends 33 = .ok (.iload_n 2, 1) := dk_28 (dk_at dksX5_ends_1 9 rfl rfl)
theorem dX5_ends_34 : decode cX5_ends 34 = .ok (.aload_n 0, 1) := dk_42 (dk_at dksX5_ends_1 10 rfl rfl)
theorem dX5_ends_35 : decode cX5_ends 35 = .ok (.getfield 13, 3) := dk_180 0 13 (dk_at dksX5_ends_1 11 rfl rfl)
theorem dX5_ends_38 : decode cX5_ends 38 = .ok (.bipush 68, 2) := dk_16 68 (dk_at dksX5_ends_1 14 rfl rfl)
theorem dX5_ends_40 : decode cX5_ends 40 = .ok (.iload_n 3, 1) := dk_29 (dk_at dksX5_ends_1 16 rfl rfl)
theorem dX5_ends_41 : decode cX5_ends 41 = .ok (.iadd, 1) := dk_96 (dk_at dksX5_ends_1 17 rfl rfl)
theorem dX5_ends_42 : decode cX5_ends 42 = .ok (.iaload, 1) := dk_46 (dk_at dksX5_ends_1 18 rfl rfl)
theorem dX5_ends_43 : decode cX5_ends 43 = .ok (.iconst (-1), 1) := dk_2 (dk_at dksX5_ends_1 19 rfl rfl)
theorem dX5_ends_44 : decode cX5_ends 44 = .ok (.if_icmp .eq 22, 3) := dk_159 0 22 (dk_at dksX5_ends_1 20 rfl rfl)
theorem dX5_ends_47 : decode cX5_ends 47 = .ok (.aload_n 0, 1) := dk_42 (dk_at dksX5_ends_1 23 rfl rfl)
theorem dX5_ends_48 : decode cX5_ends 48 = .ok (.getfield 13, 3) := dk_180 0 13 (dk_at dksX5_ends_2 0 rfl rfl)
theorem dX5_ends_51 : decode cX5_ends 51 = .ok (.bipush 74, 2) := dk_16 74 (dk_at dksX5_ends_2 3 rfl rfl)
theorem dX5_ends_53 : decode cX5_ends 53 = .ok (.iload_n 3, 1) := dk_29 (dk_at dksX5_ends_2 5 rfl rfl)
theorem dX5_ends_54 : decode cX5_ends 54 = .ok (.iadd, 1) := dk_96 (dk_at dksX5_ends_2 6 rfl rfl)
theorem dX5_ends_55 : decode cX5_ends 55 = .ok (.iaload, 1) := dk_46 (dk_at dksX5_ends_2 7 rfl rfl)
theorem dX5_ends_56 : decode cX5_ends 56 = .ok (.iload_n 1, 1) := dk_27 (dk_at dksX5_ends_2 8 rfl rfl)
theorem dX5_ends_57 : decode cX5_ends 57 = .ok (.if_icmp .le 9, 3) := dk_164 0 9 (dk_at dksX5_ends_2 9 rfl rfl)
theorem dX5_ends_60 : decode cX5_ends 60 = .ok (.iconst 1, 1) := dk_4 (dk_at dksX5_ends_2 12 rfl rfl)
theorem dX5_ends_61 : decode cX5_ends 61 = .ok (.iload_n 3, 1) := dk_29 (dk_at dksX5_ends_2 13 rfl rfl)
theorem dX5_ends_62 : decode cX5_ends 62 = .ok (.ishl, 1) := dk_120 (dk_at dksX5_ends_2 14 rfl rfl)
theorem dX5_ends_63 : decode cX5_ends 63 = .ok (.goto 4, 3) := dk_167 0 4 (dk_at dksX5_ends_2 15 rfl rfl)
theorem dX5_ends_66 : decode cX5_ends 66 = .ok (.iconst 0, 1) := dk_3 (dk_at dksX5_ends_2 18 rfl rfl)
theorem dX5_ends_67 : decode cX5_ends 67 = .ok (.ior, 1) := dk_128 (dk_at dksX5_ends_2 19 rfl rfl)
theorem dX5_ends_68 : decode cX5_ends 68 = .ok (.istore_n 2, 1) := dk_61 (dk_at dksX5_ends_2 20 rfl rfl)
theorem dX5_ends_69 : decode cX5_ends 69 = .ok (.iinc 3 1, 3) := dk_132 3 1 (dk_at dksX5_ends_2 21 rfl rfl)
theorem dX5_ends_72 : decode cX5_ends 72 = .ok (.goto (-49), 3) := dk_167 255 207 (dk_at dksX5_ends_3 0 rfl rfl)
theorem dX5_ends_75 : decode cX5_ends 75 = .ok (.iload_n 2, 1) := dk_28 (dk_at dksX5_ends_3 3 rfl rfl)
theorem dX5_ends_76 : decode cX5_ends 76 = .ok (.ireturn, 1) := dk_172 (dk_at dksX5_ends_3 4 rfl rfl)
abbrev cX5_stands : ByteArray := prog_22_method_110_code
def yX5_stands : MethodName := ⟨RX5, "stands", "(II)J"⟩
def dkwX5_stands_8 : List UInt8 := [167, 255, 234, 22, 4, 173]
abbrev dktX5_stands_8 : List UInt8 := dkwX5_stands_8 ++ []
def dkwX5_stands_7 : List UInt8 := [54, 6, 21, 6, 16, 21, 162, 0, 21, 22, 4, 42, 180, 0, 140, 21, 6, 47, 97, 55, 4, 132, 6, 1]
abbrev dktX5_stands_7 : List UInt8 := dkwX5_stands_7 ++ dktX5_stands_8
def dkwX5_stands_6 : List UInt8 := [133, 105, 20, 1, 3, 109, 97, 80, 132, 5, 1, 167, 255, 197, 132, 4, 1, 167, 255, 182, 9, 55, 4, 4]
abbrev dktX5_stands_6 : List UInt8 := dkwX5_stands_6 ++ dktX5_stands_7
def dkwX5_stands_5 : List UInt8 := [16, 10, 29, 100, 133, 105, 20, 1, 3, 109, 80, 42, 180, 0, 140, 21, 5, 4, 100, 92, 47, 22, 6, 29]
abbrev dktX5_stands_5 : List UInt8 := dkwX5_stands_5 ++ dktX5_stands_6
def dkwX5_stands_4 : List UInt8 := [21, 5, 16, 21, 162, 0, 58, 42, 180, 0, 140, 21, 5, 47, 55, 6, 42, 180, 0, 140, 21, 5, 22, 6]
abbrev dktX5_stands_4 : List UInt8 := dkwX5_stands_4 ++ dktX5_stands_5
def dkwX5_stands_3 : List UInt8 := [167, 255, 221, 42, 180, 0, 13, 16, 6, 46, 62, 3, 54, 4, 21, 4, 28, 162, 0, 74, 4, 54, 5]
abbrev dktX5_stands_3 : List UInt8 := dkwX5_stands_3 ++ dktX5_stands_4
def dkwX5_stands_2 : List UInt8 := [180, 0, 13, 16, 62, 27, 96, 46, 160, 0, 9, 20, 2, 17, 167, 0, 4, 9, 80, 132, 3, 1]
abbrev dktX5_stands_2 : List UInt8 := dkwX5_stands_2 ++ dktX5_stands_3
def dkwX5_stands_1 : List UInt8 := [154, 0, 7, 20, 1, 46, 173, 3, 62, 29, 16, 21, 162, 0, 35, 42, 180, 0, 140, 29, 29, 42]
abbrev dktX5_stands_1 : List UInt8 := dkwX5_stands_1 ++ dktX5_stands_2
def dkwX5_stands_0 : List UInt8 := [42, 3, 181, 0, 175, 42, 27, 182, 0, 213, 153, 0, 15, 28, 133, 9, 20, 0, 239, 184, 0, 195]
abbrev dktX5_stands_0 : List UInt8 := dkwX5_stands_0 ++ dktX5_stands_1
theorem dksX5_stands_0 : cX5_stands.data.toList.drop 0 = dktX5_stands_0 := by decide +kernel
theorem dksX5_stands_1 : cX5_stands.data.toList.drop 22 = dktX5_stands_1 := dk_seg dksX5_stands_0 22 rfl rfl
theorem dksX5_stands_2 : cX5_stands.data.toList.drop 44 = dktX5_stands_2 := dk_seg dksX5_stands_1 22 rfl rfl
theorem dksX5_stands_3 : cX5_stands.data.toList.drop 66 = dktX5_stands_3 := dk_seg dksX5_stands_2 22 rfl rfl
theorem dksX5_stands_4 : cX5_stands.data.toList.drop 89 = dktX5_stands_4 := dk_seg dksX5_stands_3 23 rfl rfl
theorem dksX5_stands_5 : cX5_stands.data.toList.drop 113 = dktX5_stands_5 := dk_seg dksX5_stands_4 24 rfl rfl
theorem dksX5_stands_6 : cX5_stands.data.toList.drop 137 = dktX5_stands_6 := dk_seg dksX5_stands_5 24 rfl rfl
theorem dksX5_stands_7 : cX5_stands.data.toList.drop 161 = dktX5_stands_7 := dk_seg dksX5_stands_6 24 rfl rfl
theorem dksX5_stands_8 : cX5_stands.data.toList.drop 185 = dktX5_stands_8 := dk_seg dksX5_stands_7 24 rfl rfl
theorem dX5_stands_0 : decode cX5_stands 0 = .ok (.aload_n 0, 1) := dk_42 (dk_at dksX5_stands_0 0 rfl rfl)
theorem dX5_stands_1 : decode cX5_stands 1 = .ok (.iconst 0, 1) := dk_3 (dk_at dksX5_stands_0 1 rfl rfl)
theorem dX5_stands_2 : decode cX5_stands 2 = .ok (.putfield 175, 3) := dk_181 0 175 (dk_at dksX5_stands_0 2 rfl rfl)
theorem dX5_stands_5 : decode cX5_stands 5 = .ok (.aload_n 0, 1) := dk_42 (dk_at dksX5_stands_0 5 rfl rfl)
theorem dX5_stands_6 : decode cX5_stands 6 = .ok (.iload_n 1, 1) := dk_27 (dk_at dksX5_stands_0 6 rfl rfl)
theorem dX5_stands_7 : decode cX5_stands 7 = .ok (.invokevirtual 213, 3) := dk_182 0 213 (dk_at dksX5_stands_0 7 rfl rfl)
theorem dX5_stands_10 : decode cX5_stands 10 = .ok (.ifCond .eq 15, 3) := dk_153 0 15 (dk_at dksX5_stands_0 10 rfl rfl)
theorem dX5_stands_13 : decode cX5_stands 13 = .ok (.iload_n 2, 1) := dk_28 (dk_at dksX5_stands_0 13 rfl rfl)
theorem dX5_stands_14 : decode cX5_stands 14 = .ok (.i2l, 1) := dk_133 (dk_at dksX5_stands_0 14 rfl rfl)
theorem dX5_stands_15 : decode cX5_stands 15 = .ok (.lconst 0, 1) := dk_9 (dk_at dksX5_stands_0 15 rfl rfl)
theorem dX5_stands_16 : decode cX5_stands 16 = .ok (.ldc2_w 239, 3) := dk_20 0 239 (dk_at dksX5_stands_0 16 rfl rfl)
theorem dX5_stands_19 : decode cX5_stands 19 = .ok (.invokestatic 195, 3) := dk_184 0 195 (dk_at dksX5_stands_0 19 rfl rfl)
theorem dX5_stands_22 : decode cX5_stands 22 = .ok (.ifCond .ne 7, 3) := dk_154 0 7 (dk_at dksX5_stands_1 0 rfl rfl)
theorem dX5_stands_25 : decode cX5_stands 25 = .ok (.ldc2_w 302, 3) := dk_20 1 46 (dk_at dksX5_stands_1 3 rfl rfl)
theorem dX5_stands_28 : decode cX5_stands 28 = .ok (.lreturn, 1) := dk_173 (dk_at dksX5_stands_1 6 rfl rfl)
theorem dX5_stands_29 : decode cX5_stands 29 = .ok (.iconst 0, 1) := dk_3 (dk_at dksX5_stands_1 7 rfl rfl)
theorem dX5_stands_30 : decode cX5_stands 30 = .ok (.istore_n 3, 1) := dk_62 (dk_at dksX5_stands_1 8 rfl rfl)
theorem dX5_stands_31 : decode cX5_stands 31 = .ok (.iload_n 3, 1) := dk_29 (dk_at dksX5_stands_1 9 rfl rfl)
theorem dX5_stands_32 : decode cX5_stands 32 = .ok (.bipush 21, 2) := dk_16 21 (dk_at dksX5_stands_1 10 rfl rfl)
theorem dX5_stands_34 : decode cX5_stands 34 = .ok (.if_icmp .ge 35, 3) := dk_162 0 35 (dk_at dksX5_stands_1 12 rfl rfl)
theorem dX5_stands_37 : decode cX5_stands 37 = .ok (.aload_n 0, 1) := dk_42 (dk_at dksX5_stands_1 15 rfl rfl)
theorem dX5_stands_38 : decode cX5_stands 38 = .ok (.getfield 140, 3) := dk_180 0 140 (dk_at dksX5_stands_1 16 rfl rfl)
theorem dX5_stands_41 : decode cX5_stands 41 = .ok (.iload_n 3, 1) := dk_29 (dk_at dksX5_stands_1 19 rfl rfl)
theorem dX5_stands_42 : decode cX5_stands 42 = .ok (.iload_n 3, 1) := dk_29 (dk_at dksX5_stands_1 20 rfl rfl)
theorem dX5_stands_43 : decode cX5_stands 43 = .ok (.aload_n 0, 1) := dk_42 (dk_at dksX5_stands_1 21 rfl rfl)
theorem dX5_stands_44 : decode cX5_stands 44 = .ok (.getfield 13, 3) := dk_180 0 13 (dk_at dksX5_stands_2 0 rfl rfl)
theorem dX5_stands_47 : decode cX5_stands 47 = .ok (.bipush 62, 2) := dk_16 62 (dk_at dksX5_stands_2 3 rfl rfl)
theorem dX5_stands_49 : decode cX5_stands 49 = .ok (.iload_n 1, 1) := dk_27 (dk_at dksX5_stands_2 5 rfl rfl)
theorem dX5_stands_50 : decode cX5_stands 50 = .ok (.iadd, 1) := dk_96 (dk_at dksX5_stands_2 6 rfl rfl)
theorem dX5_stands_51 : decode cX5_stands 51 = .ok (.iaload, 1) := dk_46 (dk_at dksX5_stands_2 7 rfl rfl)
theorem dX5_stands_52 : decode cX5_stands 52 = .ok (.if_icmp .ne 9, 3) := dk_160 0 9 (dk_at dksX5_stands_2 8 rfl rfl)
theorem dX5_stands_55 : decode cX5_stands 55 = .ok (.ldc2_w 529, 3) := dk_20 2 17 (dk_at dksX5_stands_2 11 rfl rfl)
theorem dX5_stands_58 : decode cX5_stands 58 = .ok (.goto 4, 3) := dk_167 0 4 (dk_at dksX5_stands_2 14 rfl rfl)
theorem dX5_stands_61 : decode cX5_stands 61 = .ok (.lconst 0, 1) := dk_9 (dk_at dksX5_stands_2 17 rfl rfl)
theorem dX5_stands_62 : decode cX5_stands 62 = .ok (.lastore, 1) := dk_80 (dk_at dksX5_stands_2 18 rfl rfl)
theorem dX5_stands_63 : decode cX5_stands 63 = .ok (.iinc 3 1, 3) := dk_132 3 1 (dk_at dksX5_stands_2 19 rfl rfl)
theorem dX5_stands_66 : decode cX5_stands 66 = .ok (.goto (-35), 3) := dk_167 255 221 (dk_at dksX5_stands_3 0 rfl rfl)
theorem dX5_stands_69 : decode cX5_stands 69 = .ok (.aload_n 0, 1) := dk_42 (dk_at dksX5_stands_3 3 rfl rfl)
theorem dX5_stands_70 : decode cX5_stands 70 = .ok (.getfield 13, 3) := dk_180 0 13 (dk_at dksX5_stands_3 4 rfl rfl)
theorem dX5_stands_73 : decode cX5_stands 73 = .ok (.bipush 6, 2) := dk_16 6 (dk_at dksX5_stands_3 7 rfl rfl)
theorem dX5_stands_75 : decode cX5_stands 75 = .ok (.iaload, 1) := dk_46 (dk_at dksX5_stands_3 9 rfl rfl)
theorem dX5_stands_76 : decode cX5_stands 76 = .ok (.istore_n 3, 1) := dk_62 (dk_at dksX5_stands_3 10 rfl rfl)
theorem dX5_stands_77 : decode cX5_stands 77 = .ok (.iconst 0, 1) := dk_3 (dk_at dksX5_stands_3 11 rfl rfl)
theorem dX5_stands_78 : decode cX5_stands 78 = .ok (.istore 4, 2) := dk_54 4 (dk_at dksX5_stands_3 12 rfl rfl)
theorem dX5_stands_80 : decode cX5_stands 80 = .ok (.iload 4, 2) := dk_21 4 (dk_at dksX5_stands_3 14 rfl rfl)
theorem dX5_stands_82 : decode cX5_stands 82 = .ok (.iload_n 2, 1) := dk_28 (dk_at dksX5_stands_3 16 rfl rfl)
theorem dX5_stands_83 : decode cX5_stands 83 = .ok (.if_icmp .ge 74, 3) := dk_162 0 74 (dk_at dksX5_stands_3 17 rfl rfl)
theorem dX5_stands_86 : decode cX5_stands 86 = .ok (.iconst 1, 1) := dk_4 (dk_at dksX5_stands_3 20 rfl rfl)
theorem dX5_stands_87 : decode cX5_stands 87 = .ok (.istore 5, 2) := dk_54 5 (dk_at dksX5_stands_3 21 rfl rfl)
theorem dX5_stands_89 : decode cX5_stands 89 = .ok (.iload 5, 2) := dk_21 5 (dk_at dksX5_stands_4 0 rfl rfl)
theorem dX5_stands_91 : decode cX5_stands 91 = .ok (.bipush 21, 2) := dk_16 21 (dk_at dksX5_stands_4 2 rfl rfl)
theorem dX5_stands_93 : decode cX5_stands 93 = .ok (.if_icmp .ge 58, 3) := dk_162 0 58 (dk_at dksX5_stands_4 4 rfl rfl)
theorem dX5_stands_96 : decode cX5_stands 96 = .ok (.aload_n 0, 1) := dk_42 (dk_at dksX5_stands_4 7 rfl rfl)
theorem dX5_stands_97 : decode cX5_stands 97 = .ok (.getfield 140, 3) := dk_180 0 140 (dk_at dksX5_stands_4 8 rfl rfl)
theorem dX5_stands_100 : decode cX5_stands 100 = .ok (.iload 5, 2) := dk_21 5 (dk_at dksX5_stands_4 11 rfl rfl)
theorem dX5_stands_102 : decode cX5_stands 102 = .ok (.laload, 1) := dk_47 (dk_at dksX5_stands_4 13 rfl rfl)
theorem dX5_stands_103 : decode cX5_stands 103 = .ok (.lstore 6, 2) := dk_55 6 (dk_at dksX5_stands_4 14 rfl rfl)
theorem dX5_stands_105 : decode cX5_stands 105 = .ok (.aload_n 0, 1) := dk_42 (dk_at dksX5_stands_4 16 rfl rfl)
theorem dX5_stands_106 : decode cX5_stands 106 = .ok (.getfield 140, 3) := dk_180 0 140 (dk_at dksX5_stands_4 17 rfl rfl)
theorem dX5_stands_109 : decode cX5_stands 109 = .ok (.iload 5, 2) := dk_21 5 (dk_at dksX5_stands_4 20 rfl rfl)
theorem dX5_stands_111 : decode cX5_stands 111 = .ok (.lload 6, 2) := dk_22 6 (dk_at dksX5_stands_4 22 rfl rfl)
theorem dX5_stands_113 : decode cX5_stands 113 = .ok (.bipush 10, 2) := dk_16 10 (dk_at dksX5_stands_5 0 rfl rfl)
theorem dX5_stands_115 : decode cX5_stands 115 = .ok (.iload_n 3, 1) := dk_29 (dk_at dksX5_stands_5 2 rfl rfl)
theorem dX5_stands_116 : decode cX5_stands 116 = .ok (.isub, 1) := dk_100 (dk_at dksX5_stands_5 3 rfl rfl)
theorem dX5_stands_117 : decode cX5_stands 117 = .ok (.i2l, 1) := dk_133 (dk_at dksX5_stands_5 4 rfl rfl)
theorem dX5_stands_118 : decode cX5_stands 118 = .ok (.lmul, 1) := dk_105 (dk_at dksX5_stands_5 5 rfl rfl)
theorem dX5_stands_119 : decode cX5_stands 119 = .ok (.ldc2_w 259, 3) := dk_20 1 3 (dk_at dksX5_stands_5 6 rfl rfl)
theorem dX5_stands_122 : decode cX5_stands 122 = .ok (.ldiv, 1) := dk_109 (dk_at dksX5_stands_5 9 rfl rfl)
theorem dX5_stands_123 : decode cX5_stands 123 = .ok (.lastore, 1) := dk_80 (dk_at dksX5_stands_5 10 rfl rfl)
theorem dX5_stands_124 : decode cX5_stands 124 = .ok (.aload_n 0, 1) := dk_42 (dk_at dksX5_stands_5 11 rfl rfl)
theorem dX5_stands_125 : decode cX5_stands 125 = .ok (.getfield 140, 3) := dk_180 0 140 (dk_at dksX5_stands_5 12 rfl rfl)
theorem dX5_stands_128 : decode cX5_stands 128 = .ok (.iload 5, 2) := dk_21 5 (dk_at dksX5_stands_5 15 rfl rfl)
theorem dX5_stands_130 : decode cX5_stands 130 = .ok (.iconst 1, 1) := dk_4 (dk_at dksX5_stands_5 17 rfl rfl)
theorem dX5_stands_131 : decode cX5_stands 131 = .ok (.isub, 1) := dk_100 (dk_at dksX5_stands_5 18 rfl rfl)
theorem dX5_stands_132 : decode cX5_stands 132 = .ok (.dup2, 1) := dk_92 (dk_at dksX5_stands_5 19 rfl rfl)
theorem dX5_stands_133 : decode cX5_stands 133 = .ok (.laload, 1) := dk_47 (dk_at dksX5_stands_5 20 rfl rfl)
theorem dX5_stands_134 : decode cX5_stands 134 = .ok (.lload 6, 2) := dk_22 6 (dk_at dksX5_stands_5 21 rfl rfl)
theorem dX5_stands_136 : decode cX5_stands 136 = .ok (.iload_n 3, 1) := dk_29 (dk_at dksX5_stands_5 23 rfl rfl)
theorem dX5_stands_137 : decode cX5_stands 137 = .ok (.i2l, 1) := dk_133 (dk_at dksX5_stands_6 0 rfl rfl)
theorem dX5_stands_138 : decode cX5_stands 138 = .ok (.lmul, 1) := dk_105 (dk_at dksX5_stands_6 1 rfl rfl)
theorem dX5_stands_139 : decode cX5_stands 139 = .ok (.ldc2_w 259, 3) := dk_20 1 3 (dk_at dksX5_stands_6 2 rfl rfl)
theorem dX5_stands_142 : decode cX5_stands 142 = .ok (.ldiv, 1) := dk_109 (dk_at dksX5_stands_6 5 rfl rfl)
theorem dX5_stands_143 : decode cX5_stands 143 = .ok (.ladd, 1) := dk_97 (dk_at dksX5_stands_6 6 rfl rfl)
theorem dX5_stands_144 : decode cX5_stands 144 = .ok (.lastore, 1) := dk_80 (dk_at dksX5_stands_6 7 rfl rfl)
theorem dX5_stands_145 : decode cX5_stands 145 = .ok (.iinc 5 1, 3) := dk_132 5 1 (dk_at dksX5_stands_6 8 rfl rfl)
theorem dX5_stands_148 : decode cX5_stands 148 = .ok (.goto (-59), 3) := dk_167 255 197 (dk_at dksX5_stands_6 11 rfl rfl)
theorem dX5_stands_151 : decode cX5_stands 151 = .ok (.iinc 4 1, 3) := dk_132 4 1 (dk_at dksX5_stands_6 14 rfl rfl)
theorem dX5_stands_154 : decode cX5_stands 154 = .ok (.goto (-74), 3) := dk_167 255 182 (dk_at dksX5_stands_6 17 rfl rfl)
theorem dX5_stands_157 : decode cX5_stands 157 = .ok (.lconst 0, 1) := dk_9 (dk_at dksX5_stands_6 20 rfl rfl)
theorem dX5_stands_158 : decode cX5_stands 158 = .ok (.lstore 4, 2) := dk_55 4 (dk_at dksX5_stands_6 21 rfl rfl)
theorem dX5_stands_160 : decode cX5_stands 160 = .ok (.iconst 1, 1) := dk_4 (dk_at dksX5_stands_6 23 rfl rfl)
theorem dX5_stands_161 : decode cX5_stands 161 = .ok (.istore 6, 2) := dk_54 6 (dk_at dksX5_stands_7 0 rfl rfl)
theorem dX5_stands_163 : decode cX5_stands 163 = .ok (.iload 6, 2) := dk_21 6 (dk_at dksX5_stands_7 2 rfl rfl)
theorem dX5_stands_165 : decode cX5_stands 165 = .ok (.bipush 21, 2) := dk_16 21 (dk_at dksX5_stands_7 4 rfl rfl)
theorem dX5_stands_167 : decode cX5_stands 167 = .ok (.if_icmp .ge 21, 3) := dk_162 0 21 (dk_at dksX5_stands_7 6 rfl rfl)
theorem dX5_stands_170 : decode cX5_stands 170 = .ok (.lload 4, 2) := dk_22 4 (dk_at dksX5_stands_7 9 rfl rfl)
theorem dX5_stands_172 : decode cX5_stands 172 = .ok (.aload_n 0, 1) := dk_42 (dk_at dksX5_stands_7 11 rfl rfl)
theorem dX5_stands_173 : decode cX5_stands 173 = .ok (.getfield 140, 3) := dk_180 0 140 (dk_at dksX5_stands_7 12 rfl rfl)
theorem dX5_stands_176 : decode cX5_stands 176 = .ok (.iload 6, 2) := dk_21 6 (dk_at dksX5_stands_7 15 rfl rfl)
theorem dX5_stands_178 : decode cX5_stands 178 = .ok (.laload, 1) := dk_47 (dk_at dksX5_stands_7 17 rfl rfl)
theorem dX5_stands_179 : decode cX5_stands 179 = .ok (.ladd, 1) := dk_97 (dk_at dksX5_stands_7 18 rfl rfl)
theorem dX5_stands_180 : decode cX5_stands 180 = .ok (.lstore 4, 2) := dk_55 4 (dk_at dksX5_stands_7 19 rfl rfl)
theorem dX5_stands_182 : decode cX5_stands 182 = .ok (.iinc 6 1, 3) := dk_132 6 1 (dk_at dksX5_stands_7 21 rfl rfl)
theorem dX5_stands_185 : decode cX5_stands 185 = .ok (.goto (-22), 3) := dk_167 255 234 (dk_at dksX5_stands_8 0 rfl rfl)
theorem dX5_stands_188 : decode cX5_stands 188 = .ok (.lload 4, 2) := dk_22 4 (dk_at dksX5_stands_8 3 rfl rfl)
theorem dX5_stands_190 : decode cX5_stands 190 = .ok (.lreturn, 1) := dk_173 (dk_at dksX5_stands_8 5 rfl rfl)
abbrev cX5_compare : ByteArray := prog_22_method_111_code
def yX5_compare : MethodName := ⟨RX5, "compare", "(I)I"⟩
def dkwX5_compare_2 : List UInt8 := [21, 4, 182, 0, 222, 96, 62, 132, 4, 1, 167, 255, 233, 42, 180, 0, 13, 7, 28, 79, 29, 172]
abbrev dktX5_compare_2 : List UInt8 := dkwX5_compare_2 ++ []
def dkwX5_compare_1 : List UInt8 := [180, 0, 13, 7, 27, 79, 3, 62, 3, 54, 4, 21, 4, 42, 180, 0, 13, 3, 46, 162, 0, 18, 29, 42]
abbrev dktX5_compare_1 : List UInt8 := dkwX5_compare_1 ++ dktX5_compare_2
def dkwX5_compare_0 : List UInt8 := [42, 3, 181, 0, 175, 42, 27, 182, 1, 165, 154, 0, 5, 2, 172, 42, 180, 0, 13, 7, 46, 61, 42]
abbrev dktX5_compare_0 : List UInt8 := dkwX5_compare_0 ++ dktX5_compare_1
theorem dksX5_compare_0 : cX5_compare.data.toList.drop 0 = dktX5_compare_0 := by decide +kernel
theorem dksX5_compare_1 : cX5_compare.data.toList.drop 23 = dktX5_compare_1 := dk_seg dksX5_compare_0 23 rfl rfl
theorem dksX5_compare_2 : cX5_compare.data.toList.drop 47 = dktX5_compare_2 := dk_seg dksX5_compare_1 24 rfl rfl
theorem dX5_compare_0 : decode cX5_compare 0 = .ok (.aload_n 0, 1) := dk_42 (dk_at dksX5_compare_0 0 rfl rfl)
theorem dX5_compare_1 : decode cX5_compare 1 = .ok (.iconst 0, 1) := dk_3 (dk_at dksX5_compare_0 1 rfl rfl)
theorem dX5_compare_2 : decode cX5_compare 2 = .ok (.putfield 175, 3) := dk_181 0 175 (dk_at dksX5_compare_0 2 rfl rfl)
theorem dX5_compare_5 : decode cX5_compare 5 = .ok (.aload_n 0, 1) := dk_42 (dk_at dksX5_compare_0 5 rfl rfl)
theorem dX5_compare_6 : decode cX5_compare 6 = .ok (.iload_n 1, 1) := dk_27 (dk_at dksX5_compare_0 6 rfl rfl)
theorem dX5_compare_7 : decode cX5_compare 7 = .ok (.invokevirtual 421, 3) := dk_182 1 165 (dk_at dksX5_compare_0 7 rfl rfl)
theorem dX5_compare_10 : decode cX5_compare 10 = .ok (.ifCond .ne 5, 3) := dk_154 0 5 (dk_at dksX5_compare_0 10 rfl rfl)
theorem dX5_compare_13 : decode cX5_compare 13 = .ok (.iconst (-1), 1) := dk_2 (dk_at dksX5_compare_0 13 rfl rfl)
theorem dX5_compare_14 : decode cX5_compare 14 = .ok (.ireturn, 1) := dk_172 (dk_at dksX5_compare_0 14 rfl rfl)
theorem dX5_compare_15 : decode cX5_compare 15 = .ok (.aload_n 0, 1) := dk_42 (dk_at dksX5_compare_0 15 rfl rfl)
theorem dX5_compare_16 : decode cX5_compare 16 = .ok (.getfield 13, 3) := dk_180 0 13 (dk_at dksX5_compare_0 16 rfl rfl)
theorem dX5_compare_19 : decode cX5_compare 19 = .ok (.iconst 4, 1) := dk_7 (dk_at dksX5_compare_0 19 rfl rfl)
theorem dX5_compare_20 : decode cX5_compare 20 = .ok (.iaload, 1) := dk_46 (dk_at dksX5_compare_0 20 rfl rfl)
theorem dX5_compare_21 : decode cX5_compare 21 = .ok (.istore_n 2, 1) := dk_61 (dk_at dksX5_compare_0 21 rfl rfl)
theorem dX5_compare_22 : decode cX5_compare 22 = .ok (.aload_n 0, 1) := dk_42 (dk_at dksX5_compare_0 22 rfl rfl)
theorem dX5_compare_23 : decode cX5_compare 23 = .ok (.getfield 13, 3) := dk_180 0 13 (dk_at dksX5_compare_1 0 rfl rfl)
theorem dX5_compare_26 : decode cX5_compare 26 = .ok (.iconst 4, 1) := dk_7 (dk_at dksX5_compare_1 3 rfl rfl)
theorem dX5_compare_27 : decode cX5_compare 27 = .ok (.iload_n 1, 1) := dk_27 (dk_at dksX5_compare_1 4 rfl rfl)
theorem dX5_compare_28 : decode cX5_compare 28 = .ok (.iastore, 1) := dk_79 (dk_at dksX5_compare_1 5 rfl rfl)
theorem dX5_compare_29 : decode cX5_compare 29 = .ok (.iconst 0, 1) := dk_3 (dk_at dksX5_compare_1 6 rfl rfl)
theorem dX5_compare_30 : decode cX5_compare 30 = .ok (.istore_n 3, 1) := dk_62 (dk_at dksX5_compare_1 7 rfl rfl)
theorem dX5_compare_31 : decode cX5_compare 31 = .ok (.iconst 0, 1) := dk_3 (dk_at dksX5_compare_1 8 rfl rfl)
theorem dX5_compare_32 : decode cX5_compare 32 = .ok (.istore 4, 2) := dk_54 4 (dk_at dksX5_compare_1 9 rfl rfl)
theorem dX5_compare_34 : decode cX5_compare 34 = .ok (.iload 4, 2) := dk_21 4 (dk_at dksX5_compare_1 11 rfl rfl)
theorem dX5_compare_36 : decode cX5_compare 36 = .ok (.aload_n 0, 1) := dk_42 (dk_at dksX5_compare_1 13 rfl rfl)
theorem dX5_compare_37 : decode cX5_compare 37 = .ok (.getfield 13, 3) := dk_180 0 13 (dk_at dksX5_compare_1 14 rfl rfl)
theorem dX5_compare_40 : decode cX5_compare 40 = .ok (.iconst 0, 1) := dk_3 (dk_at dksX5_compare_1 17 rfl rfl)
theorem dX5_compare_41 : decode cX5_compare 41 = .ok (.iaload, 1) := dk_46 (dk_at dksX5_compare_1 18 rfl rfl)
theorem dX5_compare_42 : decode cX5_compare 42 = .ok (.if_icmp .ge 18, 3) := dk_162 0 18 (dk_at dksX5_compare_1 19 rfl rfl)
theorem dX5_compare_45 : decode cX5_compare 45 = .ok (.iload_n 3, 1) := dk_29 (dk_at dksX5_compare_1 22 rfl rfl)
theorem dX5_compare_46 : decode cX5_compare 46 = .ok (.aload_n 0, 1) := dk_42 (dk_at dksX5_compare_1 23 rfl rfl)
theorem dX5_compare_47 : decode cX5_compare 47 = .ok (.iload 4, 2) := dk_21 4 (dk_at dksX5_compare_2 0 rfl rfl)
theorem dX5_compare_49 : decode cX5_compare 49 = .ok (.invokevirtual 222, 3) := dk_182 0 222 (dk_at dksX5_compare_2 2 rfl rfl)
theorem dX5_compare_52 : decode cX5_compare 52 = .ok (.iadd, 1) := dk_96 (dk_at dksX5_compare_2 5 rfl rfl)
theorem dX5_compare_53 : decode cX5_compare 53 = .ok (.istore_n 3, 1) := dk_62 (dk_at dksX5_compare_2 6 rfl rfl)
theorem dX5_compare_54 : decode cX5_compare 54 = .ok (.iinc 4 1, 3) := dk_132 4 1 (dk_at dksX5_compare_2 7 rfl rfl)
theorem dX5_compare_57 : decode cX5_compare 57 = .ok (.goto (-23), 3) := dk_167 255 233 (dk_at dksX5_compare_2 10 rfl rfl)
theorem dX5_compare_60 : decode cX5_compare 60 = .ok (.aload_n 0, 1) := dk_42 (dk_at dksX5_compare_2 13 rfl rfl)
theorem dX5_compare_61 : decode cX5_compare 61 = .ok (.getfield 13, 3) := dk_180 0 13 (dk_at dksX5_compare_2 14 rfl rfl)
theorem dX5_compare_64 : decode cX5_compare 64 = .ok (.iconst 4, 1) := dk_7 (dk_at dksX5_compare_2 17 rfl rfl)
theorem dX5_compare_65 : decode cX5_compare 65 = .ok (.iload_n 2, 1) := dk_28 (dk_at dksX5_compare_2 18 rfl rfl)
theorem dX5_compare_66 : decode cX5_compare 66 = .ok (.iastore, 1) := dk_79 (dk_at dksX5_compare_2 19 rfl rfl)
theorem dX5_compare_67 : decode cX5_compare 67 = .ok (.iload_n 3, 1) := dk_29 (dk_at dksX5_compare_2 20 rfl rfl)
theorem dX5_compare_68 : decode cX5_compare 68 = .ok (.ireturn, 1) := dk_172 (dk_at dksX5_compare_2 21 rfl rfl)
abbrev cX5_orders : ByteArray := prog_22_method_118_code
def yX5_orders : MethodName := ⟨RX5, "orders", "()I"⟩
def dkwX5_orders_9 : List UInt8 := [172]
abbrev dktX5_orders_9 : List UInt8 := dkwX5_orders_9 ++ []
def dkwX5_orders_8 : List UInt8 := [182, 0, 184, 172, 132, 3, 1, 167, 255, 209, 132, 2, 1, 167, 255, 193, 42, 42, 180, 2, 30, 182, 0, 184]
abbrev dktX5_orders_8 : List UInt8 := dkwX5_orders_8 ++ dktX5_orders_9
def dkwX5_orders_7 : List UInt8 := [42, 16, 10, 28, 104, 182, 2, 48, 156, 0, 20, 42, 27, 182, 2, 51, 42, 28, 181, 0, 166, 42, 16, 253]
abbrev dktX5_orders_7 : List UInt8 := dkwX5_orders_7 ++ dktX5_orders_8
def dkwX5_orders_6 : List UInt8 := [180, 1, 148, 162, 0, 61, 3, 62, 29, 42, 180, 0, 163, 16, 10, 28, 104, 16, 9, 96, 46, 162, 0, 37]
abbrev dktX5_orders_6 : List UInt8 := dkwX5_orders_6 ++ dktX5_orders_7
def dkwX5_orders_5 : List UInt8 := [28, 46, 79, 132, 2, 1, 167, 255, 235, 42, 3, 181, 2, 30, 42, 2, 181, 2, 33, 3, 61, 28, 42]
abbrev dktX5_orders_5 : List UInt8 := dkwX5_orders_5 ++ dktX5_orders_6
def dkwX5_orders_4 : List UInt8 := [79, 132, 2, 1, 167, 255, 234, 3, 61, 28, 16, 16, 162, 0, 21, 42, 180, 0, 32, 28, 42, 180, 0, 26]
abbrev dktX5_orders_4 : List UInt8 := dkwX5_orders_4 ++ dktX5_orders_5
def dkwX5_orders_3 : List UInt8 := [180, 0, 181, 60, 3, 61, 28, 17, 4, 176, 162, 0, 21, 42, 180, 0, 29, 28, 42, 180, 0, 23, 28, 46]
abbrev dktX5_orders_3 : List UInt8 := dkwX5_orders_3 ++ dktX5_orders_4
def dkwX5_orders_2 : List UInt8 := [182, 1, 162, 42, 180, 1, 19, 153, 0, 10, 42, 16, 250, 182, 0, 184, 172, 42, 16, 17, 182, 0, 188, 42]
abbrev dktX5_orders_2 : List UInt8 := dkwX5_orders_2 ++ dktX5_orders_3
def dkwX5_orders_1 : List UInt8 := [154, 0, 23, 42, 16, 59, 182, 1, 88, 153, 0, 14, 42, 182, 1, 23, 42, 182, 2, 45, 167, 255, 232, 42]
abbrev dktX5_orders_1 : List UInt8 := dkwX5_orders_1 ++ dktX5_orders_2
def dkwX5_orders_0 : List UInt8 := [42, 3, 181, 0, 175, 42, 2, 181, 0, 166, 42, 4, 182, 1, 156, 42, 182, 2, 45, 42, 180, 1, 19]
abbrev dktX5_orders_0 : List UInt8 := dkwX5_orders_0 ++ dktX5_orders_1
theorem dksX5_orders_0 : cX5_orders.data.toList.drop 0 = dktX5_orders_0 := by decide +kernel
theorem dksX5_orders_1 : cX5_orders.data.toList.drop 23 = dktX5_orders_1 := dk_seg dksX5_orders_0 23 rfl rfl
theorem dksX5_orders_2 : cX5_orders.data.toList.drop 47 = dktX5_orders_2 := dk_seg dksX5_orders_1 24 rfl rfl
theorem dksX5_orders_3 : cX5_orders.data.toList.drop 71 = dktX5_orders_3 := dk_seg dksX5_orders_2 24 rfl rfl
theorem dksX5_orders_4 : cX5_orders.data.toList.drop 95 = dktX5_orders_4 := dk_seg dksX5_orders_3 24 rfl rfl
theorem dksX5_orders_5 : cX5_orders.data.toList.drop 119 = dktX5_orders_5 := dk_seg dksX5_orders_4 24 rfl rfl
theorem dksX5_orders_6 : cX5_orders.data.toList.drop 142 = dktX5_orders_6 := dk_seg dksX5_orders_5 23 rfl rfl
theorem dksX5_orders_7 : cX5_orders.data.toList.drop 166 = dktX5_orders_7 := dk_seg dksX5_orders_6 24 rfl rfl
theorem dksX5_orders_8 : cX5_orders.data.toList.drop 190 = dktX5_orders_8 := dk_seg dksX5_orders_7 24 rfl rfl
theorem dksX5_orders_9 : cX5_orders.data.toList.drop 214 = dktX5_orders_9 := dk_seg dksX5_orders_8 24 rfl rfl
theorem dX5_orders_0 : decode cX5_orders 0 = .ok (.aload_n 0, 1) := dk_42 (dk_at dksX5_orders_0 0 rfl rfl)
theorem dX5_orders_1 : decode cX5_orders 1 = .ok (.iconst 0, 1) := dk_3 (dk_at dksX5_orders_0 1 rfl rfl)
theorem dX5_orders_2 : decode cX5_orders 2 = .ok (.putfield 175, 3) := dk_181 0 175 (dk_at dksX5_orders_0 2 rfl rfl)
theorem dX5_orders_5 : decode cX5_orders 5 = .ok (.aload_n 0, 1) := dk_42 (dk_at dksX5_orders_0 5 rfl rfl)
theorem dX5_orders_6 : decode cX5_orders 6 = .ok (.iconst (-1), 1) := dk_2 (dk_at dksX5_orders_0 6 rfl rfl)
theorem dX5_orders_7 : decode cX5_orders 7 = .ok (.putfield 166, 3) := dk_181 0 166 (dk_at dksX5_orders_0 7 rfl rfl)
theorem dX5_orders_10 : decode cX5_orders 10 = .ok (.aload_n 0, 1) := dk_42 (dk_at dksX5_orders_0 10 rfl rfl)
theorem dX5_orders_11 : decode cX5_orders 11 = .ok (.iconst 1, 1) := dk_4 (dk_at dksX5_orders_0 11 rfl rfl)
theorem dX5_orders_12 : decode cX5_orders 12 = .ok (.invokevirtual 412, 3) := dk_182 1 156 (dk_at dksX5_orders_0 12 rfl rfl)
theorem dX5_orders_15 : decode cX5_orders 15 = .ok (.aload_n 0, 1) := dk_42 (dk_at dksX5_orders_0 15 rfl rfl)
theorem dX5_orders_16 : decode cX5_orders 16 = .ok (.invokevirtual 557, 3) := dk_182 2 45 (dk_at dksX5_orders_0 16 rfl rfl)
theorem dX5_orders_19 : decode cX5_orders 19 = .ok (.aload_n 0, 1) := dk_42 (dk_at dksX5_orders_0 19 rfl rfl)
theorem dX5_orders_20 : decode cX5_orders 20 = .ok (.getfield 275, 3) := dk_180 1 19 (dk_at dksX5_orders_0 20 rfl rfl)
theorem dX5_orders_23 : decode cX5_orders 23 = .ok (.ifCond .ne 23, 3) := dk_154 0 23 (dk_at dksX5_orders_1 0 rfl rfl)
theorem dX5_orders_26 : decode cX5_orders 26 = .ok (.aload_n 0, 1) := dk_42 (dk_at dksX5_orders_1 3 rfl rfl)
theorem dX5_orders_27 : decode cX5_orders 27 = .ok (.bipush 59, 2) := dk_16 59 (dk_at dksX5_orders_1 4 rfl rfl)
theorem dX5_orders_29 : decode cX5_orders 29 = .ok (.invokevirtual 344, 3) := dk_182 1 88 (dk_at dksX5_orders_1 6 rfl rfl)
theorem dX5_orders_32 : decode cX5_orders 32 = .ok (.ifCond .eq 14, 3) := dk_153 0 14 (dk_at dksX5_orders_1 9 rfl rfl)
theorem dX5_orders_35 : decode cX5_orders 35 = .ok (.aload_n 0, 1) := dk_42 (dk_at dksX5_orders_1 12 rfl rfl)
theorem dX5_orders_36 : decode cX5_orders 36 = .ok (.invokevirtual 279, 3) := dk_182 1 23 (dk_at dksX5_orders_1 13 rfl rfl)
theorem dX5_orders_39 : decode cX5_orders 39 = .ok (.aload_n 0, 1) := dk_42 (dk_at dksX5_orders_1 16 rfl rfl)
theorem dX5_orders_40 : decode cX5_orders 40 = .ok (.invokevirtual 557, 3) := dk_182 2 45 (dk_at dksX5_orders_1 17 rfl rfl)
theorem dX5_orders_43 : decode cX5_orders 43 = .ok (.goto (-24), 3) := dk_167 255 232 (dk_at dksX5_orders_1 20 rfl rfl)
theorem dX5_orders_46 : decode cX5_orders 46 = .ok (.aload_n 0, 1) := dk_42 (dk_at dksX5_orders_1 23 rfl rfl)
theorem dX5_orders_47 : decode cX5_orders 47 = .ok (.invokevirtual 418, 3) := dk_182 1 162 (dk_at dksX5_orders_2 0 rfl rfl)
theorem dX5_orders_50 : decode cX5_orders 50 = .ok (.aload_n 0, 1) := dk_42 (dk_at dksX5_orders_2 3 rfl rfl)
theorem dX5_orders_51 : decode cX5_orders 51 = .ok (.getfield 275, 3) := dk_180 1 19 (dk_at dksX5_orders_2 4 rfl rfl)
theorem dX5_orders_54 : decode cX5_orders 54 = .ok (.ifCond .eq 10, 3) := dk_153 0 10 (dk_at dksX5_orders_2 7 rfl rfl)
theorem dX5_orders_57 : decode cX5_orders 57 = .ok (.aload_n 0, 1) := dk_42 (dk_at dksX5_orders_2 10 rfl rfl)
theorem dX5_orders_58 : decode cX5_orders 58 = .ok (.bipush (-6), 2) := dk_16 250 (dk_at dksX5_orders_2 11 rfl rfl)
theorem dX5_orders_60 : decode cX5_orders 60 = .ok (.invokevirtual 184, 3) := dk_182 0 184 (dk_at dksX5_orders_2 13 rfl rfl)
theorem dX5_orders_63 : decode cX5_orders 63 = .ok (.ireturn, 1) := dk_172 (dk_at dksX5_orders_2 16 rfl rfl)
theorem dX5_orders_64 : decode cX5_orders 64 = .ok (.aload_n 0, 1) := dk_42 (dk_at dksX5_orders_2 17 rfl rfl)
theorem dX5_orders_65 : decode cX5_orders 65 = .ok (.bipush 17, 2) := dk_16 17 (dk_at dksX5_orders_2 18 rfl rfl)
theorem dX5_orders_67 : decode cX5_orders 67 = .ok (.invokevirtual 188, 3) := dk_182 0 188 (dk_at dksX5_orders_2 20 rfl rfl)
theorem dX5_orders_70 : decode cX5_orders 70 = .ok (.aload_n 0, 1) := dk_42 (dk_at dksX5_orders_2 23 rfl rfl)
theorem dX5_orders_71 : decode cX5_orders 71 = .ok (.getfield 181, 3) := dk_180 0 181 (dk_at dksX5_orders_3 0 rfl rfl)
theorem dX5_orders_74 : decode cX5_orders 74 = .ok (.istore_n 1, 1) := dk_60 (dk_at dksX5_orders_3 3 rfl rfl)
theorem dX5_orders_75 : decode cX5_orders 75 = .ok (.iconst 0, 1) := dk_3 (dk_at dksX5_orders_3 4 rfl rfl)
theorem dX5_orders_76 : decode cX5_orders 76 = .ok (.istore_n 2, 1) := dk_61 (dk_at dksX5_orders_3 5 rfl rfl)
theorem dX5_orders_77 : decode cX5_orders 77 = .ok (.iload_n 2, 1) := dk_28 (dk_at dksX5_orders_3 6 rfl rfl)
theorem dX5_orders_78 : decode cX5_orders 78 = .ok (.sipush 1200, 3) := dk_17 4 176 (dk_at dksX5_orders_3 7 rfl rfl)
theorem dX5_orders_81 : decode cX5_orders 81 = .ok (.if_icmp .ge 21, 3) := dk_162 0 21 (dk_at dksX5_orders_3 10 rfl rfl)
theorem dX5_orders_84 : decode cX5_orders 84 = .ok (.aload_n 0, 1) := dk_42 (dk_at dksX5_orders_3 13 rfl rfl)
theorem dX5_orders_85 : decode cX5_orders 85 = .ok (.getfield 29, 3) := dk_180 0 29 (dk_at dksX5_orders_3 14 rfl rfl)
theorem dX5_orders_88 : decode cX5_orders 88 = .ok (.iload_n 2, 1) := dk_28 (dk_at dksX5_orders_3 17 rfl rfl)
theorem dX5_orders_89 : decode cX5_orders 89 = .ok (.aload_n 0, 1) := dk_42 (dk_at dksX5_orders_3 18 rfl rfl)
theorem dX5_orders_90 : decode cX5_orders 90 = .ok (.getfield 23, 3) := dk_180 0 23 (dk_at dksX5_orders_3 19 rfl rfl)
theorem dX5_orders_93 : decode cX5_orders 93 = .ok (.iload_n 2, 1) := dk_28 (dk_at dksX5_orders_3 22 rfl rfl)
theorem dX5_orders_94 : decode cX5_orders 94 = .ok (.iaload, 1) := dk_46 (dk_at dksX5_orders_3 23 rfl rfl)
theorem dX5_orders_95 : decode cX5_orders 95 = .ok (.iastore, 1) := dk_79 (dk_at dksX5_orders_4 0 rfl rfl)
theorem dX5_orders_96 : decode cX5_orders 96 = .ok (.iinc 2 1, 3) := dk_132 2 1 (dk_at dksX5_orders_4 1 rfl rfl)
theorem dX5_orders_99 : decode cX5_orders 99 = .ok (.goto (-22), 3) := dk_167 255 234 (dk_at dksX5_orders_4 4 rfl rfl)
theorem dX5_orders_102 : decode cX5_orders 102 = .ok (.iconst 0, 1) := dk_3 (dk_at dksX5_orders_4 7 rfl rfl)
theorem dX5_orders_103 : decode cX5_orders 103 = .ok (.istore_n 2, 1) := dk_61 (dk_at dksX5_orders_4 8 rfl rfl)
theorem dX5_orders_104 : decode cX5_orders 104 = .ok (.iload_n 2, 1) := dk_28 (dk_at dksX5_orders_4 9 rfl rfl)
theorem dX5_orders_105 : decode cX5_orders 105 = .ok (.bipush 16, 2) := dk_16 16 (dk_at dksX5_orders_4 10 rfl rfl)
theorem dX5_orders_107 : decode cX5_orders 107 = .ok (.if_icmp .ge 21, 3) := dk_162 0 21 (dk_at dksX5_orders_4 12 rfl rfl)
theorem dX5_orders_110 : decode cX5_orders 110 = .ok (.aload_n 0, 1) := dk_42 (dk_at dksX5_orders_4 15 rfl rfl)
theorem dX5_orders_111 : decode cX5_orders 111 = .ok (.getfield 32, 3) := dk_180 0 32 (dk_at dksX5_orders_4 16 rfl rfl)
theorem dX5_orders_114 : decode cX5_orders 114 = .ok (.iload_n 2, 1) := dk_28 (dk_at dksX5_orders_4 19 rfl rfl)
theorem dX5_orders_115 : decode cX5_orders 115 = .ok (.aload_n 0, 1) := dk_42 (dk_at dksX5_orders_4 20 rfl rfl)
theorem dX5_orders_116 : decode cX5_orders 116 = .ok (.getfield 26, 3) := dk_180 0 26 (dk_at dksX5_orders_4 21 rfl rfl)
theorem dX5_orders_119 : decode cX5_orders 119 = .ok (.iload_n 2, 1) := dk_28 (dk_at dksX5_orders_5 0 rfl rfl)
theorem dX5_orders_120 : decode cX5_orders 120 = .ok (.iaload, 1) := dk_46 (dk_at dksX5_orders_5 1 rfl rfl)
theorem dX5_orders_121 : decode cX5_orders 121 = .ok (.iastore, 1) := dk_79 (dk_at dksX5_orders_5 2 rfl rfl)
theorem dX5_orders_122 : decode cX5_orders 122 = .ok (.iinc 2 1, 3) := dk_132 2 1 (dk_at dksX5_orders_5 3 rfl rfl)
theorem dX5_orders_125 : decode cX5_orders 125 = .ok (.goto (-21), 3) := dk_167 255 235 (dk_at dksX5_orders_5 6 rfl rfl)
theorem dX5_orders_128 : decode cX5_orders 128 = .ok (.aload_n 0, 1) := dk_42 (dk_at dksX5_orders_5 9 rfl rfl)
theorem dX5_orders_129 : decode cX5_orders 129 = .ok (.iconst 0, 1) := dk_3 (dk_at dksX5_orders_5 10 rfl rfl)
theorem dX5_orders_130 : decode cX5_orders 130 = .ok (.putfield 542, 3) := dk_181 2 30 (dk_at dksX5_orders_5 11 rfl rfl)
theorem dX5_orders_133 : decode cX5_orders 133 = .ok (.aload_n 0, 1) := dk_42 (dk_at dksX5_orders_5 14 rfl rfl)
theorem dX5_orders_134 : decode cX5_orders 134 = .ok (.iconst (-1), 1) := dk_2 (dk_at dksX5_orders_5 15 rfl rfl)
theorem dX5_orders_135 : decode cX5_orders 135 = .ok (.putfield 545, 3) := dk_181 2 33 (dk_at dksX5_orders_5 16 rfl rfl)
theorem dX5_orders_138 : decode cX5_orders 138 = .ok (.iconst 0, 1) := dk_3 (dk_at dksX5_orders_5 19 rfl rfl)
theorem dX5_orders_139 : decode cX5_orders 139 = .ok (.istore_n 2, 1) := dk_61 (dk_at dksX5_orders_5 20 rfl rfl)
theorem dX5_orders_140 : decode cX5_orders 140 = .ok (.iload_n 2, 1) := dk_28 (dk_at dksX5_orders_5 21 rfl rfl)
theorem dX5_orders_141 : decode cX5_orders 141 = .ok (.aload_n 0, 1) := dk_42 (dk_at dksX5_orders_5 22 rfl rfl)
theorem dX5_orders_142 : decode cX5_orders 142 = .ok (.getfield 404, 3) := dk_180 1 148 (dk_at dksX5_orders_6 0 rfl rfl)
theorem dX5_orders_145 : decode cX5_orders 145 = .ok (.if_icmp .ge 61, 3) := dk_162 0 61 (dk_at dksX5_orders_6 3 rfl rfl)
theorem dX5_orders_148 : decode cX5_orders 148 = .ok (.iconst 0, 1) := dk_3 (dk_at dksX5_orders_6 6 rfl rfl)
theorem dX5_orders_149 : decode cX5_orders 149 = .ok (.istore_n 3, 1) := dk_62 (dk_at dksX5_orders_6 7 rfl rfl)
theorem dX5_orders_150 : decode cX5_orders 150 = .ok (.iload_n 3, 1) := dk_29 (dk_at dksX5_orders_6 8 rfl rfl)
theorem dX5_orders_151 : decode cX5_orders 151 = .ok (.aload_n 0, 1) := dk_42 (dk_at dksX5_orders_6 9 rfl rfl)
theorem dX5_orders_152 : decode cX5_orders 152 = .ok (.getfield 163, 3) := dk_180 0 163 (dk_at dksX5_orders_6 10 rfl rfl)
theorem dX5_orders_155 : decode cX5_orders 155 = .ok (.bipush 10, 2) := dk_16 10 (dk_at dksX5_orders_6 13 rfl rfl)
theorem dX5_orders_157 : decode cX5_orders 157 = .ok (.iload_n 2, 1) := dk_28 (dk_at dksX5_orders_6 15 rfl rfl)
theorem dX5_orders_158 : decode cX5_orders 158 = .ok (.imul, 1) := dk_104 (dk_at dksX5_orders_6 16 rfl rfl)
theorem dX5_orders_159 : decode cX5_orders 159 = .ok (.bipush 9, 2) := dk_16 9 (dk_at dksX5_orders_6 17 rfl rfl)
theorem dX5_orders_161 : decode cX5_orders 161 = .ok (.iadd, 1) := dk_96 (dk_at dksX5_orders_6 19 rfl rfl)
theorem dX5_orders_162 : decode cX5_orders 162 = .ok (.iaload, 1) := dk_46 (dk_at dksX5_orders_6 20 rfl rfl)
theorem dX5_orders_163 : decode cX5_orders 163 = .ok (.if_icmp .ge 37, 3) := dk_162 0 37 (dk_at dksX5_orders_6 21 rfl rfl)
theorem dX5_orders_166 : decode cX5_orders 166 = .ok (.aload_n 0, 1) := dk_42 (dk_at dksX5_orders_7 0 rfl rfl)
theorem dX5_orders_167 : decode cX5_orders 167 = .ok (.bipush 10, 2) := dk_16 10 (dk_at dksX5_orders_7 1 rfl rfl)
theorem dX5_orders_169 : decode cX5_orders 169 = .ok (.iload_n 2, 1) := dk_28 (dk_at dksX5_orders_7 3 rfl rfl)
theorem dX5_orders_170 : decode cX5_orders 170 = .ok (.imul, 1) := dk_104 (dk_at dksX5_orders_7 4 rfl rfl)
theorem dX5_orders_171 : decode cX5_orders 171 = .ok (.invokevirtual 560, 3) := dk_182 2 48 (dk_at dksX5_orders_7 5 rfl rfl)
theorem dX5_orders_174 : decode cX5_orders 174 = .ok (.ifCond .ge 20, 3) := dk_156 0 20 (dk_at dksX5_orders_7 8 rfl rfl)
theorem dX5_orders_177 : decode cX5_orders 177 = .ok (.aload_n 0, 1) := dk_42 (dk_at dksX5_orders_7 11 rfl rfl)
theorem dX5_orders_178 : decode cX5_orders 178 = .ok (.iload_n 1, 1) := dk_27 (dk_at dksX5_orders_7 12 rfl rfl)
theorem dX5_orders_179 : decode cX5_orders 179 = .ok (.invokevirtual 563, 3) := dk_182 2 51 (dk_at dksX5_orders_7 13 rfl rfl)
theorem dX5_orders_182 : decode cX5_orders 182 = .ok (.aload_n 0, 1) := dk_42 (dk_at dksX5_orders_7 16 rfl rfl)
theorem dX5_orders_183 : decode cX5_orders 183 = .ok (.iload_n 2, 1) := dk_28 (dk_at dksX5_orders_7 17 rfl rfl)
theorem dX5_orders_184 : decode cX5_orders 184 = .ok (.putfield 166, 3) := dk_181 0 166 (dk_at dksX5_orders_7 18 rfl rfl)
theorem dX5_orders_187 : decode cX5_orders 187 = .ok (.aload_n 0, 1) := dk_42 (dk_at dksX5_orders_7 21 rfl rfl)
theorem dX5_orders_188 : decode cX5_orders 188 = .ok (.bipush (-3), 2) := dk_16 253 (dk_at dksX5_orders_7 22 rfl rfl)
theorem dX5_orders_190 : decode cX5_orders 190 = .ok (.invokevirtual 184, 3) := dk_182 0 184 (dk_at dksX5_orders_8 0 rfl rfl)
theorem dX5_orders_193 : decode cX5_orders 193 = .ok (.ireturn, 1) := dk_172 (dk_at dksX5_orders_8 3 rfl rfl)
theorem dX5_orders_194 : decode cX5_orders 194 = .ok (.iinc 3 1, 3) := dk_132 3 1 (dk_at dksX5_orders_8 4 rfl rfl)
theorem dX5_orders_197 : decode cX5_orders 197 = .ok (.goto (-47), 3) := dk_167 255 209 (dk_at dksX5_orders_8 7 rfl rfl)
theorem dX5_orders_200 : decode cX5_orders 200 = .ok (.iinc 2 1, 3) := dk_132 2 1 (dk_at dksX5_orders_8 10 rfl rfl)
theorem dX5_orders_203 : decode cX5_orders 203 = .ok (.goto (-63), 3) := dk_167 255 193 (dk_at dksX5_orders_8 13 rfl rfl)
theorem dX5_orders_206 : decode cX5_orders 206 = .ok (.aload_n 0, 1) := dk_42 (dk_at dksX5_orders_8 16 rfl rfl)
theorem dX5_orders_207 : decode cX5_orders 207 = .ok (.aload_n 0, 1) := dk_42 (dk_at dksX5_orders_8 17 rfl rfl)
theorem dX5_orders_208 : decode cX5_orders 208 = .ok (.getfield 542, 3) := dk_180 2 30 (dk_at dksX5_orders_8 18 rfl rfl)
theorem dX5_orders_211 : decode cX5_orders 211 = .ok (.invokevirtual 184, 3) := dk_182 0 184 (dk_at dksX5_orders_8 21 rfl rfl)
theorem dX5_orders_214 : decode cX5_orders 214 = .ok (.ireturn, 1) := dk_172 (dk_at dksX5_orders_9 0 rfl rfl)
abbrev cX5_readOrder : ByteArray := prog_22_method_114_code
def yX5_readOrder : MethodName := ⟨RX5, "readOrder", "()V"⟩
def dkwX5_readOrder_10 : List UInt8 := [182, 1, 23, 42, 4, 182, 1, 151, 42, 180, 0, 163, 28, 16, 8, 96, 42, 180, 1, 56, 79, 177]
abbrev dktX5_readOrder_10 : List UInt8 := dkwX5_readOrder_10 ++ []
def dkwX5_readOrder_9 : List UInt8 := [42, 180, 1, 56, 79, 42, 180, 1, 19, 154, 0, 22, 42, 20, 1, 154, 182, 1, 75, 153, 0, 12, 42]
abbrev dktX5_readOrder_9 : List UInt8 := dkwX5_readOrder_9 ++ dktX5_readOrder_10
def dkwX5_readOrder_8 : List UInt8 := [180, 0, 163, 28, 16, 9, 96, 42, 10, 20, 0, 211, 182, 1, 112, 79, 42, 180, 0, 163, 28, 16, 7, 96]
abbrev dktX5_readOrder_8 : List UInt8 := dkwX5_readOrder_8 ++ dktX5_readOrder_9
def dkwX5_readOrder_7 : List UInt8 := [79, 42, 180, 1, 19, 154, 0, 34, 42, 20, 2, 25, 182, 1, 75, 153, 0, 24, 42, 182, 1, 23, 42]
abbrev dktX5_readOrder_7 : List UInt8 := dkwX5_readOrder_7 ++ dktX5_readOrder_8
def dkwX5_readOrder_6 : List UInt8 := [154, 0, 15, 42, 4, 182, 2, 22, 42, 28, 8, 96, 182, 2, 19, 42, 180, 0, 163, 28, 16, 9, 96, 4]
abbrev dktX5_readOrder_6 : List UInt8 := dkwX5_readOrder_6 ++ dktX5_readOrder_7
def dkwX5_readOrder_5 : List UInt8 := [159, 0, 22, 42, 28, 4, 96, 182, 2, 19, 42, 27, 182, 2, 22, 42, 28, 6, 96, 182, 2, 19, 27]
abbrev dktX5_readOrder_5 : List UInt8 := dkwX5_readOrder_5 ++ dktX5_readOrder_6
def dkwX5_readOrder_4 : List UInt8 := [180, 0, 163, 28, 29, 96, 3, 79, 132, 3, 1, 167, 255, 238, 42, 180, 0, 163, 28, 27, 79, 27, 6]
abbrev dktX5_readOrder_4 : List UInt8 := dkwX5_readOrder_4 ++ dktX5_readOrder_5
def dkwX5_readOrder_3 : List UInt8 := [180, 1, 148, 104, 61, 42, 89, 180, 1, 148, 4, 96, 181, 1, 148, 3, 62, 29, 16, 10, 162, 0, 18, 42]
abbrev dktX5_readOrder_3 : List UInt8 := dkwX5_readOrder_3 ++ dktX5_readOrder_4
def dkwX5_readOrder_2 : List UInt8 := [162, 0, 7, 4, 167, 0, 4, 3, 182, 1, 52, 42, 180, 1, 19, 153, 0, 4, 177, 16, 10, 42]
abbrev dktX5_readOrder_2 : List UInt8 := dkwX5_readOrder_2 ++ dktX5_readOrder_3
def dkwX5_readOrder_1 : List UInt8 := [167, 0, 4, 27, 60, 132, 2, 1, 167, 255, 229, 42, 27, 2, 159, 0, 16, 42, 180, 1, 148, 16, 12]
abbrev dktX5_readOrder_1 : List UInt8 := dkwX5_readOrder_1 ++ dktX5_readOrder_2
def dkwX5_readOrder_0 : List UInt8 := [2, 60, 3, 61, 28, 7, 162, 0, 28, 42, 42, 180, 0, 151, 28, 47, 182, 1, 75, 153, 0, 7, 28]
abbrev dktX5_readOrder_0 : List UInt8 := dkwX5_readOrder_0 ++ dktX5_readOrder_1
theorem dksX5_readOrder_0 : cX5_readOrder.data.toList.drop 0 = dktX5_readOrder_0 := by decide +kernel
theorem dksX5_readOrder_1 : cX5_readOrder.data.toList.drop 23 = dktX5_readOrder_1 := dk_seg dksX5_readOrder_0 23 rfl rfl
theorem dksX5_readOrder_2 : cX5_readOrder.data.toList.drop 46 = dktX5_readOrder_2 := dk_seg dksX5_readOrder_1 23 rfl rfl
theorem dksX5_readOrder_3 : cX5_readOrder.data.toList.drop 68 = dktX5_readOrder_3 := dk_seg dksX5_readOrder_2 22 rfl rfl
theorem dksX5_readOrder_4 : cX5_readOrder.data.toList.drop 92 = dktX5_readOrder_4 := dk_seg dksX5_readOrder_3 24 rfl rfl
theorem dksX5_readOrder_5 : cX5_readOrder.data.toList.drop 115 = dktX5_readOrder_5 := dk_seg dksX5_readOrder_4 23 rfl rfl
theorem dksX5_readOrder_6 : cX5_readOrder.data.toList.drop 138 = dktX5_readOrder_6 := dk_seg dksX5_readOrder_5 23 rfl rfl
theorem dksX5_readOrder_7 : cX5_readOrder.data.toList.drop 162 = dktX5_readOrder_7 := dk_seg dksX5_readOrder_6 24 rfl rfl
theorem dksX5_readOrder_8 : cX5_readOrder.data.toList.drop 185 = dktX5_readOrder_8 := dk_seg dksX5_readOrder_7 23 rfl rfl
theorem dksX5_readOrder_9 : cX5_readOrder.data.toList.drop 209 = dktX5_readOrder_9 := dk_seg dksX5_readOrder_8 24 rfl rfl
theorem dksX5_readOrder_10 : cX5_readOrder.data.toList.drop 232 = dktX5_readOrder_10 := dk_seg dksX5_readOrder_9 23 rfl rfl
theorem dX5_readOrder_0 : decode cX5_readOrder 0 = .ok (.iconst (-1), 1) := dk_2 (dk_at dksX5_readOrder_0 0 rfl rfl)
theorem dX5_readOrder_1 : decode cX5_readOrder 1 = .ok (.istore_n 1, 1) := dk_60 (dk_at dksX5_readOrder_0 1 rfl rfl)
theorem dX5_readOrder_2 : decode cX5_readOrder 2 = .ok (.iconst 0, 1) := dk_3 (dk_at dksX5_readOrder_0 2 rfl rfl)
theorem dX5_readOrder_3 : decode cX5_readOrder 3 = .ok (.istore_n 2, 1) := dk_61 (dk_at dksX5_readOrder_0 3 rfl rfl)
theorem dX5_readOrder_4 : decode cX5_readOrder 4 = .ok (.iload_n 2, 1) := dk_28 (dk_at dksX5_readOrder_0 4 rfl rfl)
theorem dX5_readOrder_5 : decode cX5_readOrder 5 = .ok (.iconst 4, 1) := dk_7 (dk_at dksX5_readOrder_0 5 rfl rfl)
theorem dX5_readOrder_6 : decode cX5_readOrder 6 = .ok (.if_icmp .ge 28, 3) := dk_162 0 28 (dk_at dksX5_readOrder_0 6 rfl rfl)
theorem dX5_readOrder_9 : decode cX5_readOrder 9 = .ok (.aload_n 0, 1) := dk_42 (dk_at dksX5_readOrder_0 9 rfl rfl)
theorem dX5_readOrder_10 : decode cX5_readOrder 10 = .ok (.aload_n 0, 1) := dk_42 (dk_at dksX5_readOrder_0 10 rfl rfl)
theorem dX5_readOrder_11 : decode cX5_readOrder 11 = .ok (.getfield 151, 3) := dk_180 0 151 (dk_at dksX5_readOrder_0 11 rfl rfl)
theorem dX5_readOrder_14 : decode cX5_readOrder 14 = .ok (.iload_n 2, 1) := dk_28 (dk_at dksX5_readOrder_0 14 rfl rfl)
theorem dX5_readOrder_15 : decode cX5_readOrder 15 = .ok (.laload, 1) := dk_47 (dk_at dksX5_readOrder_0 15 rfl rfl)
theorem dX5_readOrder_16 : decode cX5_readOrder 16 = .ok (.invokevirtual 331, 3) := dk_182 1 75 (dk_at dksX5_readOrder_0 16 rfl rfl)
theorem dX5_readOrder_19 : decode cX5_readOrder 19 = .ok (.ifCond .eq 7, 3) := dk_153 0 7 (dk_at dksX5_readOrder_0 19 rfl rfl)
theorem dX5_readOrder_22 : decode cX5_readOrder 22 = .ok (.iload_n 2, 1) := dk_28 (dk_at dksX5_readOrder_0 22 rfl rfl)
theorem dX5_readOrder_23 : decode cX5_readOrder 23 = .ok (.goto 4, 3) := dk_167 0 4 (dk_at dksX5_readOrder_1 0 rfl rfl)
theorem dX5_readOrder_26 : decode cX5_readOrder 26 = .ok (.iload_n 1, 1) := dk_27 (dk_at dksX5_readOrder_1 3 rfl rfl)
theorem dX5_readOrder_27 : decode cX5_readOrder 27 = .ok (.istore_n 1, 1) := dk_60 (dk_at dksX5_readOrder_1 4 rfl rfl)
theorem dX5_readOrder_28 : decode cX5_readOrder 28 = .ok (.iinc 2 1, 3) := dk_132 2 1 (dk_at dksX5_readOrder_1 5 rfl rfl)
theorem dX5_readOrder_31 : decode cX5_readOrder 31 = .ok (.goto (-27), 3) := dk_167 255 229 (dk_at dksX5_readOrder_1 8 rfl rfl)
theorem dX5_readOrder_34 : decode cX5_readOrder 34 = .ok (.aload_n 0, 1) := dk_42 (dk_at dksX5_readOrder_1 11 rfl rfl)
theorem dX5_readOrder_35 : decode cX5_readOrder 35 = .ok (.iload_n 1, 1) := dk_27 (dk_at dksX5_readOrder_1 12 rfl rfl)
theorem dX5_readOrder_36 : decode cX5_readOrder 36 = .ok (.iconst (-1), 1) := dk_2 (dk_at dksX5_readOrder_1 13 rfl rfl)
theorem dX5_readOrder_37 : decode cX5_readOrder 37 = .ok (.if_icmp .eq 16, 3) := dk_159 0 16 (dk_at dksX5_readOrder_1 14 rfl rfl)
theorem dX5_readOrder_40 : decode cX5_readOrder 40 = .ok (.aload_n 0, 1) := dk_42 (dk_at dksX5_readOrder_1 17 rfl rfl)
theorem dX5_readOrder_41 : decode cX5_readOrder 41 = .ok (.getfield 404, 3) := dk_180 1 148 (dk_at dksX5_readOrder_1 18 rfl rfl)
theorem dX5_readOrder_44 : decode cX5_readOrder 44 = .ok (.bipush 12, 2) := dk_16 12 (dk_at dksX5_readOrder_1 21 rfl rfl)
theorem dX5_readOrder_46 : decode cX5_readOrder 46 = .ok (.if_icmp .ge 7, 3) := dk_162 0 7 (dk_at dksX5_readOrder_2 0 rfl rfl)
theorem dX5_readOrder_49 : decode cX5_readOrder 49 = .ok (.iconst 1, 1) := dk_4 (dk_at dksX5_readOrder_2 3 rfl rfl)
theorem dX5_readOrder_50 : decode cX5_readOrder 50 = .ok (.goto 4, 3) := dk_167 0 4 (dk_at dksX5_readOrder_2 4 rfl rfl)
theorem dX5_readOrder_53 : decode cX5_readOrder 53 = .ok (.iconst 0, 1) := dk_3 (dk_at dksX5_readOrder_2 7 rfl rfl)
theorem dX5_readOrder_54 : decode cX5_readOrder 54 = .ok (.invokevirtual 308, 3) := dk_182 1 52 (dk_at dksX5_readOrder_2 8 rfl rfl)
theorem dX5_readOrder_57 : decode cX5_readOrder 57 = .ok (.aload_n 0, 1) := dk_42 (dk_at dksX5_readOrder_2 11 rfl rfl)
theorem dX5_readOrder_58 : decode cX5_readOrder 58 = .ok (.getfield 275, 3) := dk_180 1 19 (dk_at dksX5_readOrder_2 12 rfl rfl)
theorem dX5_readOrder_61 : decode cX5_readOrder 61 = .ok (.ifCond .eq 4, 3) := dk_153 0 4 (dk_at dksX5_readOrder_2 15 rfl rfl)
theorem dX5_readOrder_64 : decode cX5_readOrder 64 = .ok (.return_, 1) := dk_177 (dk_at dksX5_readOrder_2 18 rfl rfl)
theorem dX5_readOrder_65 : decode cX5_readOrder 65 = .ok (.bipush 10, 2) := dk_16 10 (dk_at dksX5_readOrder_2 19 rfl rfl)
theorem dX5_readOrder_67 : decode cX5_readOrder 67 = .ok (.aload_n 0, 1) := dk_42 (dk_at dksX5_readOrder_2 21 rfl rfl)
theorem dX5_readOrder_68 : decode cX5_readOrder 68 = .ok (.getfield 404, 3) := dk_180 1 148 (dk_at dksX5_readOrder_3 0 rfl rfl)
theorem dX5_readOrder_71 : decode cX5_readOrder 71 = .ok (.imul, 1) := dk_104 (dk_at dksX5_readOrder_3 3 rfl rfl)
theorem dX5_readOrder_72 : decode cX5_readOrder 72 = .ok (.istore_n 2, 1) := dk_61 (dk_at dksX5_readOrder_3 4 rfl rfl)
theorem dX5_readOrder_73 : decode cX5_readOrder 73 = .ok (.aload_n 0, 1) := dk_42 (dk_at dksX5_readOrder_3 5 rfl rfl)
theorem dX5_readOrder_74 : decode cX5_readOrder 74 = .ok (.dup, 1) := dk_89 (dk_at dksX5_readOrder_3 6 rfl rfl)
theorem dX5_readOrder_75 : decode cX5_readOrder 75 = .ok (.getfield 404, 3) := dk_180 1 148 (dk_at dksX5_readOrder_3 7 rfl rfl)
theorem dX5_readOrder_78 : decode cX5_readOrder 78 = .ok (.iconst 1, 1) := dk_4 (dk_at dksX5_readOrder_3 10 rfl rfl)
theorem dX5_readOrder_79 : decode cX5_readOrder 79 = .ok (.iadd, 1) := dk_96 (dk_at dksX5_readOrder_3 11 rfl rfl)
theorem dX5_readOrder_80 : decode cX5_readOrder 80 = .ok (.putfield 404, 3) := dk_181 1 148 (dk_at dksX5_readOrder_3 12 rfl rfl)
theorem dX5_readOrder_83 : decode cX5_readOrder 83 = .ok (.iconst 0, 1) := dk_3 (dk_at dksX5_readOrder_3 15 rfl rfl)
theorem dX5_readOrder_84 : decode cX5_readOrder 84 = .ok (.istore_n 3, 1) := dk_62 (dk_at dksX5_readOrder_3 16 rfl rfl)
theorem dX5_readOrder_85 : decode cX5_readOrder 85 = .ok (.iload_n 3, 1) := dk_29 (dk_at dksX5_readOrder_3 17 rfl rfl)
theorem dX5_readOrder_86 : decode cX5_readOrder 86 = .ok (.bipush 10, 2) := dk_16 10 (dk_at dksX5_readOrder_3 18 rfl rfl)
theorem dX5_readOrder_88 : decode cX5_readOrder 88 = .ok (.if_icmp .ge 18, 3) := dk_162 0 18 (dk_at dksX5_readOrder_3 20 rfl rfl)
theorem dX5_readOrder_91 : decode cX5_readOrder 91 = .ok (.aload_n 0, 1) := dk_42 (dk_at dksX5_readOrder_3 23 rfl rfl)
theorem dX5_readOrder_92 : decode cX5_readOrder 92 = .ok (.getfield 163, 3) := dk_180 0 163 (dk_at dksX5_readOrder_4 0 rfl rfl)
theorem dX5_readOrder_95 : decode cX5_readOrder 95 = .ok (.iload_n 2, 1) := dk_28 (dk_at dksX5_readOrder_4 3 rfl rfl)
theorem dX5_readOrder_96 : decode cX5_readOrder 96 = .ok (.iload_n 3, 1) := dk_29 (dk_at dksX5_readOrder_4 4 rfl rfl)
theorem dX5_readOrder_97 : decode cX5_readOrder 97 = .ok (.iadd, 1) := dk_96 (dk_at dksX5_readOrder_4 5 rfl rfl)
theorem dX5_readOrder_98 : decode cX5_readOrder 98 = .ok (.iconst 0, 1) := dk_3 (dk_at dksX5_readOrder_4 6 rfl rfl)
theorem dX5_readOrder_99 : decode cX5_readOrder 99 = .ok (.iastore, 1) := dk_79 (dk_at dksX5_readOrder_4 7 rfl rfl)
theorem dX5_readOrder_100 : decode cX5_readOrder 100 = .ok (.iinc 3 1, 3) := dk_132 3 1 (dk_at dksX5_readOrder_4 8 rfl rfl)
theorem dX5_readOrder_103 : decode cX5_readOrder 103 = .ok (.goto (-18), 3) := dk_167 255 238 (dk_at dksX5_readOrder_4 11 rfl rfl)
theorem dX5_readOrder_106 : decode cX5_readOrder 106 = .ok (.aload_n 0, 1) := dk_42 (dk_at dksX5_readOrder_4 14 rfl rfl)
theorem dX5_readOrder_107 : decode cX5_readOrder 107 = .ok (.getfield 163, 3) := dk_180 0 163 (dk_at dksX5_readOrder_4 15 rfl rfl)
theorem dX5_readOrder_110 : decode cX5_readOrder 110 = .ok (.iload_n 2, 1) := dk_28 (dk_at dksX5_readOrder_4 18 rfl rfl)
theorem dX5_readOrder_111 : decode cX5_readOrder 111 = .ok (.iload_n 1, 1) := dk_27 (dk_at dksX5_readOrder_4 19 rfl rfl)
theorem dX5_readOrder_112 : decode cX5_readOrder 112 = .ok (.iastore, 1) := dk_79 (dk_at dksX5_readOrder_4 20 rfl rfl)
theorem dX5_readOrder_113 : decode cX5_readOrder 113 = .ok (.iload_n 1, 1) := dk_27 (dk_at dksX5_readOrder_4 21 rfl rfl)
theorem dX5_readOrder_114 : decode cX5_readOrder 114 = .ok (.iconst 3, 1) := dk_6 (dk_at dksX5_readOrder_4 22 rfl rfl)
theorem dX5_readOrder_115 : decode cX5_readOrder 115 = .ok (.if_icmp .eq 22, 3) := dk_159 0 22 (dk_at dksX5_readOrder_5 0 rfl rfl)
theorem dX5_readOrder_118 : decode cX5_readOrder 118 = .ok (.aload_n 0, 1) := dk_42 (dk_at dksX5_readOrder_5 3 rfl rfl)
theorem dX5_readOrder_119 : decode cX5_readOrder 119 = .ok (.iload_n 2, 1) := dk_28 (dk_at dksX5_readOrder_5 4 rfl rfl)
theorem dX5_readOrder_120 : decode cX5_readOrder 120 = .ok (.iconst 1, 1) := dk_4 (dk_at dksX5_readOrder_5 5 rfl rfl)
theorem dX5_readOrder_121 : decode cX5_readOrder 121 = .ok (.iadd, 1) := dk_96 (dk_at dksX5_readOrder_5 6 rfl rfl)
theorem dX5_readOrder_122 : decode cX5_readOrder 122 = .ok (.invokevirtual 531, 3) := dk_182 2 19 (dk_at dksX5_readOrder_5 7 rfl rfl)
theorem dX5_readOrder_125 : decode cX5_readOrder 125 = .ok (.aload_n 0, 1) := dk_42 (dk_at dksX5_readOrder_5 10 rfl rfl)
theorem dX5_readOrder_126 : decode cX5_readOrder 126 = .ok (.iload_n 1, 1) := dk_27 (dk_at dksX5_readOrder_5 11 rfl rfl)
theorem dX5_readOrder_127 : decode cX5_readOrder 127 = .ok (.invokevirtual 534, 3) := dk_182 2 22 (dk_at dksX5_readOrder_5 12 rfl rfl)
theorem dX5_readOrder_130 : decode cX5_readOrder 130 = .ok (.aload_n 0, 1) := dk_42 (dk_at dksX5_readOrder_5 15 rfl rfl)
theorem dX5_readOrder_131 : decode cX5_readOrder 131 = .ok (.iload_n 2, 1) := dk_28 (dk_at dksX5_readOrder_5 16 rfl rfl)
theorem dX5_readOrder_132 : decode cX5_readOrder 132 = .ok (.iconst 3, 1) := dk_6 (dk_at dksX5_readOrder_5 17 rfl rfl)
theorem dX5_readOrder_133 : decode cX5_readOrder 133 = .ok (.iadd, 1) := dk_96 (dk_at dksX5_readOrder_5 18 rfl rfl)
theorem dX5_readOrder_134 : decode cX5_readOrder 134 = .ok (.invokevirtual 531, 3) := dk_182 2 19 (dk_at dksX5_readOrder_5 19 rfl rfl)
theorem dX5_readOrder_137 : decode cX5_readOrder 137 = .ok (.iload_n 1, 1) := dk_27 (dk_at dksX5_readOrder_5 22 rfl rfl)
theorem dX5_readOrder_138 : decode cX5_readOrder 138 = .ok (.ifCond .ne 15, 3) := dk_154 0 15 (dk_at dksX5_readOrder_6 0 rfl rfl)
theorem dX5_readOrder_141 : decode cX5_readOrder 141 = .ok (.aload_n 0, 1) := dk_42 (dk_at dksX5_readOrder_6 3 rfl rfl)
theorem dX5_readOrder_142 : decode cX5_readOrder 142 = .ok (.iconst 1, 1) := dk_4 (dk_at dksX5_readOrder_6 4 rfl rfl)
theorem dX5_readOrder_143 : decode cX5_readOrder 143 = .ok (.invokevirtual 534, 3) := dk_182 2 22 (dk_at dksX5_readOrder_6 5 rfl rfl)
theorem dX5_readOrder_146 : decode cX5_readOrder 146 = .ok (.aload_n 0, 1) := dk_42 (dk_at dksX5_readOrder_6 8 rfl rfl)
theorem dX5_readOrder_147 : decode cX5_readOrder 147 = .ok (.iload_n 2, 1) := dk_28 (dk_at dksX5_readOrder_6 9 rfl rfl)
theorem dX5_readOrder_148 : decode cX5_readOrder 148 = .ok (.iconst 5, 1) := dk_8 (dk_at dksX5_readOrder_6 10 rfl rfl)
theorem dX5_readOrder_149 : decode cX5_readOrder 149 = .ok (.iadd, 1) := dk_96 (dk_at dksX5_readOrder_6 11 rfl rfl)
theorem dX5_readOrder_150 : decode cX5_readOrder 150 = .ok (.invokevirtual 531, 3) := dk_182 2 19 (dk_at dksX5_readOrder_6 12 rfl rfl)
theorem dX5_readOrder_153 : decode cX5_readOrder 153 = .ok (.aload_n 0, 1) := dk_42 (dk_at dksX5_readOrder_6 15 rfl rfl)
theorem dX5_readOrder_154 : decode cX5_readOrder 154 = .ok (.getfield 163, 3) := dk_180 0 163 (dk_at dksX5_readOrder_6 16 rfl rfl)
theorem dX5_readOrder_157 : decode cX5_readOrder 157 = .ok (.iload_n 2, 1) := dk_28 (dk_at dksX5_readOrder_6 19 rfl rfl)
theorem dX5_readOrder_158 : decode cX5_readOrder 158 = .ok (.bipush 9, 2) := dk_16 9 (dk_at dksX5_readOrder_6 20 rfl rfl)
theorem dX5_readOrder_160 : decode cX5_readOrder 160 = .ok (.iadd, 1) := dk_96 (dk_at dksX5_readOrder_6 22 rfl rfl)
theorem dX5_readOrder_161 : decode cX5_readOrder 161 = .ok (.iconst 1, 1) := dk_4 (dk_at dksX5_readOrder_6 23 rfl rfl)
theorem dX5_readOrder_162 : decode cX5_readOrder 162 = .ok (.iastore, 1) := dk_79 (dk_at dksX5_readOrder_7 0 rfl rfl)
theorem dX5_readOrder_163 : decode cX5_readOrder 163 = .ok (.aload_n 0, 1) := dk_42 (dk_at dksX5_readOrder_7 1 rfl rfl)
theorem dX5_readOrder_164 : decode cX5_readOrder 164 = .ok (.getfield 275, 3) := dk_180 1 19 (dk_at dksX5_readOrder_7 2 rfl rfl)
theorem dX5_readOrder_167 : decode cX5_readOrder 167 = .ok (.ifCond .ne 34, 3) := dk_154 0 34 (dk_at dksX5_readOrder_7 5 rfl rfl)
theorem dX5_readOrder_170 : decode cX5_readOrder 170 = .ok (.aload_n 0, 1) := dk_42 (dk_at dksX5_readOrder_7 8 rfl rfl)
theorem dX5_readOrder_171 : decode cX5_readOrder 171 = .ok (.ldc2_w 537, 3) := dk_20 2 25 (dk_at dksX5_readOrder_7 9 rfl rfl)
theorem dX5_readOrder_174 : decode cX5_readOrder 174 = .ok (.invokevirtual 331, 3) := dk_182 1 75 (dk_at dksX5_readOrder_7 12 rfl rfl)
theorem dX5_readOrder_177 : decode cX5_readOrder 177 = .ok (.ifCond .eq 24, 3) := dk_153 0 24 (dk_at dksX5_readOrder_7 15 rfl rfl)
theorem dX5_readOrder_180 : decode cX5_readOrder 180 = .ok (.aload_n 0, 1) := dk_42 (dk_at dksX5_readOrder_7 18 rfl rfl)
theorem dX5_readOrder_181 : decode cX5_readOrder 181 = .ok (.invokevirtual 279, 3) := dk_182 1 23 (dk_at dksX5_readOrder_7 19 rfl rfl)
theorem dX5_readOrder_184 : decode cX5_readOrder 184 = .ok (.aload_n 0, 1) := dk_42 (dk_at dksX5_readOrder_7 22 rfl rfl)
theorem dX5_readOrder_185 : decode cX5_readOrder 185 = .ok (.getfield 163, 3) := dk_180 0 163 (dk_at dksX5_readOrder_8 0 rfl rfl)
theorem dX5_readOrder_188 : decode cX5_readOrder 188 = .ok (.iload_n 2, 1) := dk_28 (dk_at dksX5_readOrder_8 3 rfl rfl)
theorem dX5_readOrder_189 : decode cX5_readOrder 189 = .ok (.bipush 9, 2) := dk_16 9 (dk_at dksX5_readOrder_8 4 rfl rfl)
theorem dX5_readOrder_191 : decode cX5_readOrder 191 = .ok (.iadd, 1) := dk_96 (dk_at dksX5_readOrder_8 6 rfl rfl)
theorem dX5_readOrder_192 : decode cX5_readOrder 192 = .ok (.aload_n 0, 1) := dk_42 (dk_at dksX5_readOrder_8 7 rfl rfl)
theorem dX5_readOrder_193 : decode cX5_readOrder 193 = .ok (.lconst 1, 1) := dk_10 (dk_at dksX5_readOrder_8 8 rfl rfl)
theorem dX5_readOrder_194 : decode cX5_readOrder 194 = .ok (.ldc2_w 211, 3) := dk_20 0 211 (dk_at dksX5_readOrder_8 9 rfl rfl)
theorem dX5_readOrder_197 : decode cX5_readOrder 197 = .ok (.invokevirtual 368, 3) := dk_182 1 112 (dk_at dksX5_readOrder_8 12 rfl rfl)
theorem dX5_readOrder_200 : decode cX5_readOrder 200 = .ok (.iastore, 1) := dk_79 (dk_at dksX5_readOrder_8 15 rfl rfl)
theorem dX5_readOrder_201 : decode cX5_readOrder 201 = .ok (.aload_n 0, 1) := dk_42 (dk_at dksX5_readOrder_8 16 rfl rfl)
theorem dX5_readOrder_202 : decode cX5_readOrder 202 = .ok (.getfield 163, 3) := dk_180 0 163 (dk_at dksX5_readOrder_8 17 rfl rfl)
theorem dX5_readOrder_205 : decode cX5_readOrder 205 = .ok (.iload_n 2, 1) := dk_28 (dk_at dksX5_readOrder_8 20 rfl rfl)
theorem dX5_readOrder_206 : decode cX5_readOrder 206 = .ok (.bipush 7, 2) := dk_16 7 (dk_at dksX5_readOrder_8 21 rfl rfl)
theorem dX5_readOrder_208 : decode cX5_readOrder 208 = .ok (.iadd, 1) := dk_96 (dk_at dksX5_readOrder_8 23 rfl rfl)
theorem dX5_readOrder_209 : decode cX5_readOrder 209 = .ok (.aload_n 0, 1) := dk_42 (dk_at dksX5_readOrder_9 0 rfl rfl)
theorem dX5_readOrder_210 : decode cX5_readOrder 210 = .ok (.getfield 312, 3) := dk_180 1 56 (dk_at dksX5_readOrder_9 1 rfl rfl)
theorem dX5_readOrder_213 : decode cX5_readOrder 213 = .ok (.iastore, 1) := dk_79 (dk_at dksX5_readOrder_9 4 rfl rfl)
theorem dX5_readOrder_214 : decode cX5_readOrder 214 = .ok (.aload_n 0, 1) := dk_42 (dk_at dksX5_readOrder_9 5 rfl rfl)
theorem dX5_readOrder_215 : decode cX5_readOrder 215 = .ok (.getfield 275, 3) := dk_180 1 19 (dk_at dksX5_readOrder_9 6 rfl rfl)
theorem dX5_readOrder_218 : decode cX5_readOrder 218 = .ok (.ifCond .ne 22, 3) := dk_154 0 22 (dk_at dksX5_readOrder_9 9 rfl rfl)
theorem dX5_readOrder_221 : decode cX5_readOrder 221 = .ok (.aload_n 0, 1) := dk_42 (dk_at dksX5_readOrder_9 12 rfl rfl)
theorem dX5_readOrder_222 : decode cX5_readOrder 222 = .ok (.ldc2_w 410, 3) := dk_20 1 154 (dk_at dksX5_readOrder_9 13 rfl rfl)
theorem dX5_readOrder_225 : decode cX5_readOrder 225 = .ok (.invokevirtual 331, 3) := dk_182 1 75 (dk_at dksX5_readOrder_9 16 rfl rfl)
theorem dX5_readOrder_228 : decode cX5_readOrder 228 = .ok (.ifCond .eq 12, 3) := dk_153 0 12 (dk_at dksX5_readOrder_9 19 rfl rfl)
theorem dX5_readOrder_231 : decode cX5_readOrder 231 = .ok (.aload_n 0, 1) := dk_42 (dk_at dksX5_readOrder_9 22 rfl rfl)
theorem dX5_readOrder_232 : decode cX5_readOrder 232 = .ok (.invokevirtual 279, 3) := dk_182 1 23 (dk_at dksX5_readOrder_10 0 rfl rfl)
theorem dX5_readOrder_235 : decode cX5_readOrder 235 = .ok (.aload_n 0, 1) := dk_42 (dk_at dksX5_readOrder_10 3 rfl rfl)
theorem dX5_readOrder_236 : decode cX5_readOrder 236 = .ok (.iconst 1, 1) := dk_4 (dk_at dksX5_readOrder_10 4 rfl rfl)
theorem dX5_readOrder_237 : decode cX5_readOrder 237 = .ok (.invokevirtual 407, 3) := dk_182 1 151 (dk_at dksX5_readOrder_10 5 rfl rfl)
theorem dX5_readOrder_240 : decode cX5_readOrder 240 = .ok (.aload_n 0, 1) := dk_42 (dk_at dksX5_readOrder_10 8 rfl rfl)
theorem dX5_readOrder_241 : decode cX5_readOrder 241 = .ok (.getfield 163, 3) := dk_180 0 163 (dk_at dksX5_readOrder_10 9 rfl rfl)
theorem dX5_readOrder_244 : decode cX5_readOrder 244 = .ok (.iload_n 2, 1) := dk_28 (dk_at dksX5_readOrder_10 12 rfl rfl)
theorem dX5_readOrder_245 : decode cX5_readOrder 245 = .ok (.bipush 8, 2) := dk_16 8 (dk_at dksX5_readOrder_10 13 rfl rfl)
theorem dX5_readOrder_247 : decode cX5_readOrder 247 = .ok (.iadd, 1) := dk_96 (dk_at dksX5_readOrder_10 15 rfl rfl)
theorem dX5_readOrder_248 : decode cX5_readOrder 248 = .ok (.aload_n 0, 1) := dk_42 (dk_at dksX5_readOrder_10 16 rfl rfl)
theorem dX5_readOrder_249 : decode cX5_readOrder 249 = .ok (.getfield 312, 3) := dk_180 1 56 (dk_at dksX5_readOrder_10 17 rfl rfl)
theorem dX5_readOrder_252 : decode cX5_readOrder 252 = .ok (.iastore, 1) := dk_79 (dk_at dksX5_readOrder_10 20 rfl rfl)
theorem dX5_readOrder_253 : decode cX5_readOrder 253 = .ok (.return_, 1) := dk_177 (dk_at dksX5_readOrder_10 21 rfl rfl)
abbrev cX5_readSum : ByteArray := prog_22_method_112_code
def yX5_readSum : MethodName := ⟨RX5, "readSum", "(I)V"⟩
def dkwX5_readSum_1 : List UInt8 := [180, 0, 163, 27, 4, 96, 42, 180, 1, 56, 79, 177]
abbrev dktX5_readSum_1 : List UInt8 := dkwX5_readSum_1 ++ []
def dkwX5_readSum_0 : List UInt8 := [42, 180, 0, 163, 27, 42, 180, 1, 56, 79, 42, 180, 1, 19, 154, 0, 8, 42, 3, 182, 1, 151, 42]
abbrev dktX5_readSum_0 : List UInt8 := dkwX5_readSum_0 ++ dktX5_readSum_1
theorem dksX5_readSum_0 : cX5_readSum.data.toList.drop 0 = dktX5_readSum_0 := by decide +kernel
theorem dksX5_readSum_1 : cX5_readSum.data.toList.drop 23 = dktX5_readSum_1 := dk_seg dksX5_readSum_0 23 rfl rfl
theorem dX5_readSum_0 : decode cX5_readSum 0 = .ok (.aload_n 0, 1) := dk_42 (dk_at dksX5_readSum_0 0 rfl rfl)
theorem dX5_readSum_1 : decode cX5_readSum 1 = .ok (.getfield 163, 3) := dk_180 0 163 (dk_at dksX5_readSum_0 1 rfl rfl)
theorem dX5_readSum_4 : decode cX5_readSum 4 = .ok (.iload_n 1, 1) := dk_27 (dk_at dksX5_readSum_0 4 rfl rfl)
theorem dX5_readSum_5 : decode cX5_readSum 5 = .ok (.aload_n 0, 1) := dk_42 (dk_at dksX5_readSum_0 5 rfl rfl)
theorem dX5_readSum_6 : decode cX5_readSum 6 = .ok (.getfield 312, 3) := dk_180 1 56 (dk_at dksX5_readSum_0 6 rfl rfl)
theorem dX5_readSum_9 : decode cX5_readSum 9 = .ok (.iastore, 1) := dk_79 (dk_at dksX5_readSum_0 9 rfl rfl)
theorem dX5_readSum_10 : decode cX5_readSum 10 = .ok (.aload_n 0, 1) := dk_42 (dk_at dksX5_readSum_0 10 rfl rfl)
theorem dX5_readSum_11 : decode cX5_readSum 11 = .ok (.getfield 275, 3) := dk_180 1 19 (dk_at dksX5_readSum_0 11 rfl rfl)
theorem dX5_readSum_14 : decode cX5_readSum 14 = .ok (.ifCond .ne 8, 3) := dk_154 0 8 (dk_at dksX5_readSum_0 14 rfl rfl)
theorem dX5_readSum_17 : decode cX5_readSum 17 = .ok (.aload_n 0, 1) := dk_42 (dk_at dksX5_readSum_0 17 rfl rfl)
theorem dX5_readSum_18 : decode cX5_readSum 18 = .ok (.iconst 0, 1) := dk_3 (dk_at dksX5_readSum_0 18 rfl rfl)
theorem dX5_readSum_19 : decode cX5_readSum 19 = .ok (.invokevirtual 407, 3) := dk_182 1 151 (dk_at dksX5_readSum_0 19 rfl rfl)
theorem dX5_readSum_22 : decode cX5_readSum 22 = .ok (.aload_n 0, 1) := dk_42 (dk_at dksX5_readSum_0 22 rfl rfl)
theorem dX5_readSum_23 : decode cX5_readSum 23 = .ok (.getfield 163, 3) := dk_180 0 163 (dk_at dksX5_readSum_1 0 rfl rfl)
theorem dX5_readSum_26 : decode cX5_readSum 26 = .ok (.iload_n 1, 1) := dk_27 (dk_at dksX5_readSum_1 3 rfl rfl)
theorem dX5_readSum_27 : decode cX5_readSum 27 = .ok (.iconst 1, 1) := dk_4 (dk_at dksX5_readSum_1 4 rfl rfl)
theorem dX5_readSum_28 : decode cX5_readSum 28 = .ok (.iadd, 1) := dk_96 (dk_at dksX5_readSum_1 5 rfl rfl)
theorem dX5_readSum_29 : decode cX5_readSum 29 = .ok (.aload_n 0, 1) := dk_42 (dk_at dksX5_readSum_1 6 rfl rfl)
theorem dX5_readSum_30 : decode cX5_readSum 30 = .ok (.getfield 312, 3) := dk_180 1 56 (dk_at dksX5_readSum_1 7 rfl rfl)
theorem dX5_readSum_33 : decode cX5_readSum 33 = .ok (.iastore, 1) := dk_79 (dk_at dksX5_readSum_1 10 rfl rfl)
theorem dX5_readSum_34 : decode cX5_readSum 34 = .ok (.return_, 1) := dk_177 (dk_at dksX5_readSum_1 11 rfl rfl)
abbrev cX5_mustJoin : ByteArray := prog_22_method_113_code
def yX5_mustJoin : MethodName := ⟨RX5, "mustJoin", "(I)V"⟩
def dkwX5_mustJoin_0 : List UInt8 := [42, 180, 1, 19, 154, 0, 17, 42, 42, 42, 180, 0, 160, 27, 47, 182, 1, 75, 182, 1, 52, 177]
abbrev dktX5_mustJoin_0 : List UInt8 := dkwX5_mustJoin_0 ++ []
theorem dksX5_mustJoin_0 : cX5_mustJoin.data.toList.drop 0 = dktX5_mustJoin_0 := by decide +kernel
theorem dX5_mustJoin_0 : decode cX5_mustJoin 0 = .ok (.aload_n 0, 1) := dk_42 (dk_at dksX5_mustJoin_0 0 rfl rfl)
theorem dX5_mustJoin_1 : decode cX5_mustJoin 1 = .ok (.getfield 275, 3) := dk_180 1 19 (dk_at dksX5_mustJoin_0 1 rfl rfl)
theorem dX5_mustJoin_4 : decode cX5_mustJoin 4 = .ok (.ifCond .ne 17, 3) := dk_154 0 17 (dk_at dksX5_mustJoin_0 4 rfl rfl)
theorem dX5_mustJoin_7 : decode cX5_mustJoin 7 = .ok (.aload_n 0, 1) := dk_42 (dk_at dksX5_mustJoin_0 7 rfl rfl)
theorem dX5_mustJoin_8 : decode cX5_mustJoin 8 = .ok (.aload_n 0, 1) := dk_42 (dk_at dksX5_mustJoin_0 8 rfl rfl)
theorem dX5_mustJoin_9 : decode cX5_mustJoin 9 = .ok (.aload_n 0, 1) := dk_42 (dk_at dksX5_mustJoin_0 9 rfl rfl)
theorem dX5_mustJoin_10 : decode cX5_mustJoin 10 = .ok (.getfield 160, 3) := dk_180 0 160 (dk_at dksX5_mustJoin_0 10 rfl rfl)
theorem dX5_mustJoin_13 : decode cX5_mustJoin 13 = .ok (.iload_n 1, 1) := dk_27 (dk_at dksX5_mustJoin_0 13 rfl rfl)
theorem dX5_mustJoin_14 : decode cX5_mustJoin 14 = .ok (.laload, 1) := dk_47 (dk_at dksX5_mustJoin_0 14 rfl rfl)
theorem dX5_mustJoin_15 : decode cX5_mustJoin 15 = .ok (.invokevirtual 331, 3) := dk_182 1 75 (dk_at dksX5_mustJoin_0 15 rfl rfl)
theorem dX5_mustJoin_18 : decode cX5_mustJoin 18 = .ok (.invokevirtual 308, 3) := dk_182 1 52 (dk_at dksX5_mustJoin_0 18 rfl rfl)
theorem dX5_mustJoin_21 : decode cX5_mustJoin 21 = .ok (.return_, 1) := dk_177 (dk_at dksX5_mustJoin_0 21 rfl rfl)
abbrev cX5_run : ByteArray := prog_22_method_117_code
def yX5_run : MethodName := ⟨RX5, "run", "(I)I"⟩
def dkwX5_run_7 : List UInt8 := [167, 0, 7, 42, 180, 2, 33, 181, 2, 33, 42, 89, 180, 2, 30, 4, 96, 181, 2, 30, 3, 172]
abbrev dktX5_run_7 : List UInt8 := dkwX5_run_7 ++ []
def dkwX5_run_6 : List UInt8 := [54, 5, 21, 5, 156, 0, 6, 16, 253, 172, 42, 42, 180, 0, 163, 27, 46, 5, 160, 0, 8, 21, 5]
abbrev dktX5_run_6 : List UInt8 := dkwX5_run_6 ++ dktX5_run_7
def dkwX5_run_5 : List UInt8 := [180, 2, 27, 153, 0, 6, 16, 253, 172, 42, 42, 180, 0, 163, 27, 46, 28, 29, 21, 4, 182, 2, 42]
abbrev dktX5_run_5 : List UInt8 := dkwX5_run_5 ++ dktX5_run_6
def dkwX5_run_4 : List UInt8 := [4, 96, 182, 2, 39, 61, 42, 27, 6, 96, 182, 2, 39, 62, 42, 27, 8, 96, 182, 2, 39, 54, 4, 42]
abbrev dktX5_run_4 : List UInt8 := dkwX5_run_4 ++ dktX5_run_5
def dkwX5_run_3 : List UInt8 := [42, 27, 16, 7, 96, 182, 2, 39, 61, 42, 180, 2, 27, 154, 0, 7, 28, 154, 0, 5, 3, 172, 42, 27]
abbrev dktX5_run_3 : List UInt8 := dkwX5_run_3 ++ dktX5_run_4
def dkwX5_run_2 : List UInt8 := [181, 2, 27, 42, 180, 0, 163, 27, 16, 7, 96, 46, 42, 180, 0, 163, 27, 16, 8, 96, 46, 162, 0, 25]
abbrev dktX5_run_2 : List UInt8 := dkwX5_run_2 ++ dktX5_run_3
def dkwX5_run_1 : List UInt8 := [42, 180, 0, 104, 6, 42, 180, 2, 33, 133, 80, 42, 180, 0, 104, 7, 42, 182, 2, 36, 133, 80, 42, 3]
abbrev dktX5_run_1 : List UInt8 := dkwX5_run_1 ++ dktX5_run_2
def dkwX5_run_0 : List UInt8 := [42, 180, 0, 104, 4, 42, 180, 0, 13, 8, 46, 133, 80, 42, 180, 0, 104, 5, 42, 180, 2, 30, 133, 80]
abbrev dktX5_run_0 : List UInt8 := dkwX5_run_0 ++ dktX5_run_1
theorem dksX5_run_0 : cX5_run.data.toList.drop 0 = dktX5_run_0 := by decide +kernel
theorem dksX5_run_1 : cX5_run.data.toList.drop 24 = dktX5_run_1 := dk_seg dksX5_run_0 24 rfl rfl
theorem dksX5_run_2 : cX5_run.data.toList.drop 48 = dktX5_run_2 := dk_seg dksX5_run_1 24 rfl rfl
theorem dksX5_run_3 : cX5_run.data.toList.drop 72 = dktX5_run_3 := dk_seg dksX5_run_2 24 rfl rfl
theorem dksX5_run_4 : cX5_run.data.toList.drop 96 = dktX5_run_4 := dk_seg dksX5_run_3 24 rfl rfl
theorem dksX5_run_5 : cX5_run.data.toList.drop 120 = dktX5_run_5 := dk_seg dksX5_run_4 24 rfl rfl
theorem dksX5_run_6 : cX5_run.data.toList.drop 143 = dktX5_run_6 := dk_seg dksX5_run_5 23 rfl rfl
theorem dksX5_run_7 : cX5_run.data.toList.drop 166 = dktX5_run_7 := dk_seg dksX5_run_6 23 rfl rfl
theorem dX5_run_0 : decode cX5_run 0 = .ok (.aload_n 0, 1) := dk_42 (dk_at dksX5_run_0 0 rfl rfl)
theorem dX5_run_1 : decode cX5_run 1 = .ok (.getfield 104, 3) := dk_180 0 104 (dk_at dksX5_run_0 1 rfl rfl)
theorem dX5_run_4 : decode cX5_run 4 = .ok (.iconst 1, 1) := dk_4 (dk_at dksX5_run_0 4 rfl rfl)
theorem dX5_run_5 : decode cX5_run 5 = .ok (.aload_n 0, 1) := dk_42 (dk_at dksX5_run_0 5 rfl rfl)
theorem dX5_run_6 : decode cX5_run 6 = .ok (.getfield 13, 3) := dk_180 0 13 (dk_at dksX5_run_0 6 rfl rfl)
theorem dX5_run_9 : decode cX5_run 9 = .ok (.iconst 5, 1) := dk_8 (dk_at dksX5_run_0 9 rfl rfl)
theorem dX5_run_10 : decode cX5_run 10 = .ok (.iaload, 1) := dk_46 (dk_at dksX5_run_0 10 rfl rfl)
theorem dX5_run_11 : decode cX5_run 11 = .ok (.i2l, 1) := dk_133 (dk_at dksX5_run_0 11 rfl rfl)
theorem dX5_run_12 : decode cX5_run 12 = .ok (.lastore, 1) := dk_80 (dk_at dksX5_run_0 12 rfl rfl)
theorem dX5_run_13 : decode cX5_run 13 = .ok (.aload_n 0, 1) := dk_42 (dk_at dksX5_run_0 13 rfl rfl)
theorem dX5_run_14 : decode cX5_run 14 = .ok (.getfield 104, 3) := dk_180 0 104 (dk_at dksX5_run_0 14 rfl rfl)
theorem dX5_run_17 : decode cX5_run 17 = .ok (.iconst 2, 1) := dk_5 (dk_at dksX5_run_0 17 rfl rfl)
theorem dX5_run_18 : decode cX5_run 18 = .ok (.aload_n 0, 1) := dk_42 (dk_at dksX5_run_0 18 rfl rfl)
theorem dX5_run_19 : decode cX5_run 19 = .ok (.getfield 542, 3) := dk_180 2 30 (dk_at dksX5_run_0 19 rfl rfl)
theorem dX5_run_22 : decode cX5_run 22 = .ok (.i2l, 1) := dk_133 (dk_at dksX5_run_0 22 rfl rfl)
theorem dX5_run_23 : decode cX5_run 23 = .ok (.lastore, 1) := dk_80 (dk_at dksX5_run_0 23 rfl rfl)
theorem dX5_run_24 : decode cX5_run 24 = .ok (.aload_n 0, 1) := dk_42 (dk_at dksX5_run_1 0 rfl rfl)
theorem dX5_run_25 : decode cX5_run 25 = .ok (.getfield 104, 3) := dk_180 0 104 (dk_at dksX5_run_1 1 rfl rfl)
theorem dX5_run_28 : decode cX5_run 28 = .ok (.iconst 3, 1) := dk_6 (dk_at dksX5_run_1 4 rfl rfl)
theorem dX5_run_29 : decode cX5_run 29 = .ok (.aload_n 0, 1) := dk_42 (dk_at dksX5_run_1 5 rfl rfl)
theorem dX5_run_30 : decode cX5_run 30 = .ok (.getfield 545, 3) := dk_180 2 33 (dk_at dksX5_run_1 6 rfl rfl)
theorem dX5_run_33 : decode cX5_run 33 = .ok (.i2l, 1) := dk_133 (dk_at dksX5_run_1 9 rfl rfl)
theorem dX5_run_34 : decode cX5_run 34 = .ok (.lastore, 1) := dk_80 (dk_at dksX5_run_1 10 rfl rfl)
theorem dX5_run_35 : decode cX5_run 35 = .ok (.aload_n 0, 1) := dk_42 (dk_at dksX5_run_1 11 rfl rfl)
theorem dX5_run_36 : decode cX5_run 36 = .ok (.getfield 104, 3) := dk_180 0 104 (dk_at dksX5_run_1 12 rfl rfl)
theorem dX5_run_39 : decode cX5_run 39 = .ok (.iconst 4, 1) := dk_7 (dk_at dksX5_run_1 15 rfl rfl)
theorem dX5_run_40 : decode cX5_run 40 = .ok (.aload_n 0, 1) := dk_42 (dk_at dksX5_run_1 16 rfl rfl)
theorem dX5_run_41 : decode cX5_run 41 = .ok (.invokevirtual 548, 3) := dk_182 2 36 (dk_at dksX5_run_1 17 rfl rfl)
theorem dX5_run_44 : decode cX5_run 44 = .ok (.i2l, 1) := dk_133 (dk_at dksX5_run_1 20 rfl rfl)
theorem dX5_run_45 : decode cX5_run 45 = .ok (.lastore, 1) := dk_80 (dk_at dksX5_run_1 21 rfl rfl)
theorem dX5_run_46 : decode cX5_run 46 = .ok (.aload_n 0, 1) := dk_42 (dk_at dksX5_run_1 22 rfl rfl)
theorem dX5_run_47 : decode cX5_run 47 = .ok (.iconst 0, 1) := dk_3 (dk_at dksX5_run_1 23 rfl rfl)
theorem dX5_run_48 : decode cX5_run 48 = .ok (.putfield 539, 3) := dk_181 2 27 (dk_at dksX5_run_2 0 rfl rfl)
theorem dX5_run_51 : decode cX5_run 51 = .ok (.aload_n 0, 1) := dk_42 (dk_at dksX5_run_2 3 rfl rfl)
theorem dX5_run_52 : decode cX5_run 52 = .ok (.getfield 163, 3) := dk_180 0 163 (dk_at dksX5_run_2 4 rfl rfl)
theorem dX5_run_55 : decode cX5_run 55 = .ok (.iload_n 1, 1) := dk_27 (dk_at dksX5_run_2 7 rfl rfl)
theorem dX5_run_56 : decode cX5_run 56 = .ok (.bipush 7, 2) := dk_16 7 (dk_at dksX5_run_2 8 rfl rfl)
theorem dX5_run_58 : decode cX5_run 58 = .ok (.iadd, 1) := dk_96 (dk_at dksX5_run_2 10 rfl rfl)
theorem dX5_run_59 : decode cX5_run 59 = .ok (.iaload, 1) := dk_46 (dk_at dksX5_run_2 11 rfl rfl)
theorem dX5_run_60 : decode cX5_run 60 = .ok (.aload_n 0, 1) := dk_42 (dk_at dksX5_run_2 12 rfl rfl)
theorem dX5_run_61 : decode cX5_run 61 = .ok (.getfield 163, 3) := dk_180 0 163 (dk_at dksX5_run_2 13 rfl rfl)
theorem dX5_run_64 : decode cX5_run 64 = .ok (.iload_n 1, 1) := dk_27 (dk_at dksX5_run_2 16 rfl rfl)
theorem dX5_run_65 : decode cX5_run 65 = .ok (.bipush 8, 2) := dk_16 8 (dk_at dksX5_run_2 17 rfl rfl)
theorem dX5_run_67 : decode cX5_run 67 = .ok (.iadd, 1) := dk_96 (dk_at dksX5_run_2 19 rfl rfl)
theorem dX5_run_68 : decode cX5_run 68 = .ok (.iaload, 1) := dk_46 (dk_at dksX5_run_2 20 rfl rfl)
theorem dX5_run_69 : decode cX5_run 69 = .ok (.if_icmp .ge 25, 3) := dk_162 0 25 (dk_at dksX5_run_2 21 rfl rfl)
theorem dX5_run_72 : decode cX5_run 72 = .ok (.aload_n 0, 1) := dk_42 (dk_at dksX5_run_3 0 rfl rfl)
theorem dX5_run_73 : decode cX5_run 73 = .ok (.iload_n 1, 1) := dk_27 (dk_at dksX5_run_3 1 rfl rfl)
theorem dX5_run_74 : decode cX5_run 74 = .ok (.bipush 7, 2) := dk_16 7 (dk_at dksX5_run_3 2 rfl rfl)
theorem dX5_run_76 : decode cX5_run 76 = .ok (.iadd, 1) := dk_96 (dk_at dksX5_run_3 4 rfl rfl)
theorem dX5_run_77 : decode cX5_run 77 = .ok (.invokevirtual 551, 3) := dk_182 2 39 (dk_at dksX5_run_3 5 rfl rfl)
theorem dX5_run_80 : decode cX5_run 80 = .ok (.istore_n 2, 1) := dk_61 (dk_at dksX5_run_3 8 rfl rfl)
theorem dX5_run_81 : decode cX5_run 81 = .ok (.aload_n 0, 1) := dk_42 (dk_at dksX5_run_3 9 rfl rfl)
theorem dX5_run_82 : decode cX5_run 82 = .ok (.getfield 539, 3) := dk_180 2 27 (dk_at dksX5_run_3 10 rfl rfl)
theorem dX5_run_85 : decode cX5_run 85 = .ok (.ifCond .ne 7, 3) := dk_154 0 7 (dk_at dksX5_run_3 13 rfl rfl)
theorem dX5_run_88 : decode cX5_run 88 = .ok (.iload_n 2, 1) := dk_28 (dk_at dksX5_run_3 16 rfl rfl)
theorem dX5_run_89 : decode cX5_run 89 = .ok (.ifCond .ne 5, 3) := dk_154 0 5 (dk_at dksX5_run_3 17 rfl rfl)
theorem dX5_run_92 : decode cX5_run 92 = .ok (.iconst 0, 1) := dk_3 (dk_at dksX5_run_3 20 rfl rfl)
theorem dX5_run_93 : decode cX5_run 93 = .ok (.ireturn, 1) := dk_172 (dk_at dksX5_run_3 21 rfl rfl)
theorem dX5_run_94 : decode cX5_run 94 = .ok (.aload_n 0, 1) := dk_42 (dk_at dksX5_run_3 22 rfl rfl)
theorem dX5_run_95 : decode cX5_run 95 = .ok (.iload_n 1, 1) := dk_27 (dk_at dksX5_run_3 23 rfl rfl)
theorem dX5_run_96 : decode cX5_run 96 = .ok (.iconst 1, 1) := dk_4 (dk_at dksX5_run_4 0 rfl rfl)
theorem dX5_run_97 : decode cX5_run 97 = .ok (.iadd, 1) := dk_96 (dk_at dksX5_run_4 1 rfl rfl)
theorem dX5_run_98 : decode cX5_run 98 = .ok (.invokevirtual 551, 3) := dk_182 2 39 (dk_at dksX5_run_4 2 rfl rfl)
theorem dX5_run_101 : decode cX5_run 101 = .ok (.istore_n 2, 1) := dk_61 (dk_at dksX5_run_4 5 rfl rfl)
theorem dX5_run_102 : decode cX5_run 102 = .ok (.aload_n 0, 1) := dk_42 (dk_at dksX5_run_4 6 rfl rfl)
theorem dX5_run_103 : decode cX5_run 103 = .ok (.iload_n 1, 1) := dk_27 (dk_at dksX5_run_4 7 rfl rfl)
theorem dX5_run_104 : decode cX5_run 104 = .ok (.iconst 3, 1) := dk_6 (dk_at dksX5_run_4 8 rfl rfl)
theorem dX5_run_105 : decode cX5_run 105 = .ok (.iadd, 1) := dk_96 (dk_at dksX5_run_4 9 rfl rfl)
theorem dX5_run_106 : decode cX5_run 106 = .ok (.invokevirtual 551, 3) := dk_182 2 39 (dk_at dksX5_run_4 10 rfl rfl)
theorem dX5_run_109 : decode cX5_run 109 = .ok (.istore_n 3, 1) := dk_62 (dk_at dksX5_run_4 13 rfl rfl)
theorem dX5_run_110 : decode cX5_run 110 = .ok (.aload_n 0, 1) := dk_42 (dk_at dksX5_run_4 14 rfl rfl)
theorem dX5_run_111 : decode cX5_run 111 = .ok (.iload_n 1, 1) := dk_27 (dk_at dksX5_run_4 15 rfl rfl)
theorem dX5_run_112 : decode cX5_run 112 = .ok (.iconst 5, 1) := dk_8 (dk_at dksX5_run_4 16 rfl rfl)
theorem dX5_run_113 : decode cX5_run 113 = .ok (.iadd, 1) := dk_96 (dk_at dksX5_run_4 17 rfl rfl)
theorem dX5_run_114 : decode cX5_run 114 = .ok (.invokevirtual 551, 3) := dk_182 2 39 (dk_at dksX5_run_4 18 rfl rfl)
theorem dX5_run_117 : decode cX5_run 117 = .ok (.istore 4, 2) := dk_54 4 (dk_at dksX5_run_4 21 rfl rfl)
theorem dX5_run_119 : decode cX5_run 119 = .ok (.aload_n 0, 1) := dk_42 (dk_at dksX5_run_4 23 rfl rfl)
theorem dX5_run_120 : decode cX5_run 120 = .ok (.getfield 539, 3) := dk_180 2 27 (dk_at dksX5_run_5 0 rfl rfl)
theorem dX5_run_123 : decode cX5_run 123 = .ok (.ifCond .eq 6, 3) := dk_153 0 6 (dk_at dksX5_run_5 3 rfl rfl)
theorem dX5_run_126 : decode cX5_run 126 = .ok (.bipush (-3), 2) := dk_16 253 (dk_at dksX5_run_5 6 rfl rfl)
theorem dX5_run_128 : decode cX5_run 128 = .ok (.ireturn, 1) := dk_172 (dk_at dksX5_run_5 8 rfl rfl)
theorem dX5_run_129 : decode cX5_run 129 = .ok (.aload_n 0, 1) := dk_42 (dk_at dksX5_run_5 9 rfl rfl)
theorem dX5_run_130 : decode cX5_run 130 = .ok (.aload_n 0, 1) := dk_42 (dk_at dksX5_run_5 10 rfl rfl)
theorem dX5_run_131 : decode cX5_run 131 = .ok (.getfield 163, 3) := dk_180 0 163 (dk_at dksX5_run_5 11 rfl rfl)
theorem dX5_run_134 : decode cX5_run 134 = .ok (.iload_n 1, 1) := dk_27 (dk_at dksX5_run_5 14 rfl rfl)
theorem dX5_run_135 : decode cX5_run 135 = .ok (.iaload, 1) := dk_46 (dk_at dksX5_run_5 15 rfl rfl)
theorem dX5_run_136 : decode cX5_run 136 = .ok (.iload_n 2, 1) := dk_28 (dk_at dksX5_run_5 16 rfl rfl)
theorem dX5_run_137 : decode cX5_run 137 = .ok (.iload_n 3, 1) := dk_29 (dk_at dksX5_run_5 17 rfl rfl)
theorem dX5_run_138 : decode cX5_run 138 = .ok (.iload 4, 2) := dk_21 4 (dk_at dksX5_run_5 18 rfl rfl)
theorem dX5_run_140 : decode cX5_run 140 = .ok (.invokevirtual 554, 3) := dk_182 2 42 (dk_at dksX5_run_5 20 rfl rfl)
theorem dX5_run_143 : decode cX5_run 143 = .ok (.istore 5, 2) := dk_54 5 (dk_at dksX5_run_6 0 rfl rfl)
theorem dX5_run_145 : decode cX5_run 145 = .ok (.iload 5, 2) := dk_21 5 (dk_at dksX5_run_6 2 rfl rfl)
theorem dX5_run_147 : decode cX5_run 147 = .ok (.ifCond .ge 6, 3) := dk_156 0 6 (dk_at dksX5_run_6 4 rfl rfl)
theorem dX5_run_150 : decode cX5_run 150 = .ok (.bipush (-3), 2) := dk_16 253 (dk_at dksX5_run_6 7 rfl rfl)
theorem dX5_run_152 : decode cX5_run 152 = .ok (.ireturn, 1) := dk_172 (dk_at dksX5_run_6 9 rfl rfl)
theorem dX5_run_153 : decode cX5_run 153 = .ok (.aload_n 0, 1) := dk_42 (dk_at dksX5_run_6 10 rfl rfl)
theorem dX5_run_154 : decode cX5_run 154 = .ok (.aload_n 0, 1) := dk_42 (dk_at dksX5_run_6 11 rfl rfl)
theorem dX5_run_155 : decode cX5_run 155 = .ok (.getfield 163, 3) := dk_180 0 163 (dk_at dksX5_run_6 12 rfl rfl)
theorem dX5_run_158 : decode cX5_run 158 = .ok (.iload_n 1, 1) := dk_27 (dk_at dksX5_run_6 15 rfl rfl)
theorem dX5_run_159 : decode cX5_run 159 = .ok (.iaload, 1) := dk_46 (dk_at dksX5_run_6 16 rfl rfl)
theorem dX5_run_160 : decode cX5_run 160 = .ok (.iconst 2, 1) := dk_5 (dk_at dksX5_run_6 17 rfl rfl)
theorem dX5_run_161 : decode cX5_run 161 = .ok (.if_icmp .ne 8, 3) := dk_160 0 8 (dk_at dksX5_run_6 18 rfl rfl)
theorem dX5_run_164 : decode cX5_run 164 = .ok (.iload 5, 2) := dk_21 5 (dk_at dksX5_run_6 21 rfl rfl)
theorem dX5_run_166 : decode cX5_run 166 = .ok (.goto 7, 3) := dk_167 0 7 (dk_at dksX5_run_7 0 rfl rfl)
theorem dX5_run_169 : decode cX5_run 169 = .ok (.aload_n 0, 1) := dk_42 (dk_at dksX5_run_7 3 rfl rfl)
theorem dX5_run_170 : decode cX5_run 170 = .ok (.getfield 545, 3) := dk_180 2 33 (dk_at dksX5_run_7 4 rfl rfl)
theorem dX5_run_173 : decode cX5_run 173 = .ok (.putfield 545, 3) := dk_181 2 33 (dk_at dksX5_run_7 7 rfl rfl)
theorem dX5_run_176 : decode cX5_run 176 = .ok (.aload_n 0, 1) := dk_42 (dk_at dksX5_run_7 10 rfl rfl)
theorem dX5_run_177 : decode cX5_run 177 = .ok (.dup, 1) := dk_89 (dk_at dksX5_run_7 11 rfl rfl)
theorem dX5_run_178 : decode cX5_run 178 = .ok (.getfield 542, 3) := dk_180 2 30 (dk_at dksX5_run_7 12 rfl rfl)
theorem dX5_run_181 : decode cX5_run 181 = .ok (.iconst 1, 1) := dk_4 (dk_at dksX5_run_7 15 rfl rfl)
theorem dX5_run_182 : decode cX5_run 182 = .ok (.iadd, 1) := dk_96 (dk_at dksX5_run_7 16 rfl rfl)
theorem dX5_run_183 : decode cX5_run 183 = .ok (.putfield 542, 3) := dk_181 2 30 (dk_at dksX5_run_7 17 rfl rfl)
theorem dX5_run_186 : decode cX5_run 186 = .ok (.iconst 0, 1) := dk_3 (dk_at dksX5_run_7 20 rfl rfl)
theorem dX5_run_187 : decode cX5_run 187 = .ok (.ireturn, 1) := dk_172 (dk_at dksX5_run_7 21 rfl rfl)
abbrev cX5_couples : ByteArray := prog_22_method_24_code
def yX5_couples : MethodName := ⟨RX5, "couples", "()I"⟩
def dkwX5_couples_1 : List UInt8 := [2, 160, 0, 7, 3, 167, 0, 4, 4, 96, 60, 132, 2, 1, 167, 255, 222, 27, 172]
abbrev dktX5_couples_1 : List UInt8 := dkwX5_couples_1 ++ []
def dkwX5_couples_0 : List UInt8 := [3, 60, 3, 61, 28, 42, 180, 0, 13, 3, 46, 162, 0, 30, 27, 42, 180, 0, 13, 16, 68, 28, 96, 46]
abbrev dktX5_couples_0 : List UInt8 := dkwX5_couples_0 ++ dktX5_couples_1
theorem dksX5_couples_0 : cX5_couples.data.toList.drop 0 = dktX5_couples_0 := by decide +kernel
theorem dksX5_couples_1 : cX5_couples.data.toList.drop 24 = dktX5_couples_1 := dk_seg dksX5_couples_0 24 rfl rfl
theorem dX5_couples_0 : decode cX5_couples 0 = .ok (.iconst 0, 1) := dk_3 (dk_at dksX5_couples_0 0 rfl rfl)
theorem dX5_couples_1 : decode cX5_couples 1 = .ok (.istore_n 1, 1) := dk_60 (dk_at dksX5_couples_0 1 rfl rfl)
theorem dX5_couples_2 : decode cX5_couples 2 = .ok (.iconst 0, 1) := dk_3 (dk_at dksX5_couples_0 2 rfl rfl)
theorem dX5_couples_3 : decode cX5_couples 3 = .ok (.istore_n 2, 1) := dk_61 (dk_at dksX5_couples_0 3 rfl rfl)
theorem dX5_couples_4 : decode cX5_couples 4 = .ok (.iload_n 2, 1) := dk_28 (dk_at dksX5_couples_0 4 rfl rfl)
theorem dX5_couples_5 : decode cX5_couples 5 = .ok (.aload_n 0, 1) := dk_42 (dk_at dksX5_couples_0 5 rfl rfl)
theorem dX5_couples_6 : decode cX5_couples 6 = .ok (.getfield 13, 3) := dk_180 0 13 (dk_at dksX5_couples_0 6 rfl rfl)
theorem dX5_couples_9 : decode cX5_couples 9 = .ok (.iconst 0, 1) := dk_3 (dk_at dksX5_couples_0 9 rfl rfl)
theorem dX5_couples_10 : decode cX5_couples 10 = .ok (.iaload, 1) := dk_46 (dk_at dksX5_couples_0 10 rfl rfl)
theorem dX5_couples_11 : decode cX5_couples 11 = .ok (.if_icmp .ge 30, 3) := dk_162 0 30 (dk_at dksX5_couples_0 11 rfl rfl)
theorem dX5_couples_14 : decode cX5_couples 14 = .ok (.iload_n 1, 1) := dk_27 (dk_at dksX5_couples_0 14 rfl rfl)
theorem dX5_couples_15 : decode cX5_couples 15 = .ok (.aload_n 0, 1) := dk_42 (dk_at dksX5_couples_0 15 rfl rfl)
theorem dX5_couples_16 : decode cX5_couples 16 = .ok (.getfield 13, 3) := dk_180 0 13 (dk_at dksX5_couples_0 16 rfl rfl)
theorem dX5_couples_19 : decode cX5_couples 19 = .ok (.bipush 68, 2) := dk_16 68 (dk_at dksX5_couples_0 19 rfl rfl)
theorem dX5_couples_21 : decode cX5_couples 21 = .ok (.iload_n 2, 1) := dk_28 (dk_at dksX5_couples_0 21 rfl rfl)
theorem dX5_couples_22 : decode cX5_couples 22 = .ok (.iadd, 1) := dk_96 (dk_at dksX5_couples_0 22 rfl rfl)
theorem dX5_couples_23 : decode cX5_couples 23 = .ok (.iaload, 1) := dk_46 (dk_at dksX5_couples_0 23 rfl rfl)
theorem dX5_couples_24 : decode cX5_couples 24 = .ok (.iconst (-1), 1) := dk_2 (dk_at dksX5_couples_1 0 rfl rfl)
theorem dX5_couples_25 : decode cX5_couples 25 = .ok (.if_icmp .ne 7, 3) := dk_160 0 7 (dk_at dksX5_couples_1 1 rfl rfl)
theorem dX5_couples_28 : decode cX5_couples 28 = .ok (.iconst 0, 1) := dk_3 (dk_at dksX5_couples_1 4 rfl rfl)
theorem dX5_couples_29 : decode cX5_couples 29 = .ok (.goto 4, 3) := dk_167 0 4 (dk_at dksX5_couples_1 5 rfl rfl)
theorem dX5_couples_32 : decode cX5_couples 32 = .ok (.iconst 1, 1) := dk_4 (dk_at dksX5_couples_1 8 rfl rfl)
theorem dX5_couples_33 : decode cX5_couples 33 = .ok (.iadd, 1) := dk_96 (dk_at dksX5_couples_1 9 rfl rfl)
theorem dX5_couples_34 : decode cX5_couples 34 = .ok (.istore_n 1, 1) := dk_60 (dk_at dksX5_couples_1 10 rfl rfl)
theorem dX5_couples_35 : decode cX5_couples 35 = .ok (.iinc 2 1, 3) := dk_132 2 1 (dk_at dksX5_couples_1 11 rfl rfl)
theorem dX5_couples_38 : decode cX5_couples 38 = .ok (.goto (-34), 3) := dk_167 255 222 (dk_at dksX5_couples_1 14 rfl rfl)
theorem dX5_couples_41 : decode cX5_couples 41 = .ok (.iload_n 1, 1) := dk_27 (dk_at dksX5_couples_1 17 rfl rfl)
theorem dX5_couples_42 : decode cX5_couples 42 = .ok (.ireturn, 1) := dk_172 (dk_at dksX5_couples_1 18 rfl rfl)
abbrev cX5_sumOf : ByteArray := prog_22_method_115_code
def yX5_sumOf : MethodName := ⟨RX5, "sumOf", "(I)I"⟩
def dkwX5_sumOf_2 : List UInt8 := [182, 1, 185, 42, 3, 181, 1, 94, 42, 42, 180, 1, 168, 181, 2, 27, 42, 180, 1, 182, 136, 172]
abbrev dktX5_sumOf_2 : List UInt8 := dkwX5_sumOf_2 ++ []
def dkwX5_sumOf_1 : List UInt8 := [2, 172, 42, 4, 181, 1, 94, 42, 42, 180, 0, 163, 27, 46, 42, 180, 0, 163, 27, 4, 96, 46]
abbrev dktX5_sumOf_1 : List UInt8 := dkwX5_sumOf_1 ++ dktX5_sumOf_2
def dkwX5_sumOf_0 : List UInt8 := [42, 180, 2, 27, 154, 0, 20, 42, 180, 0, 163, 27, 46, 42, 180, 0, 163, 27, 4, 96, 46, 160, 0, 5]
abbrev dktX5_sumOf_0 : List UInt8 := dkwX5_sumOf_0 ++ dktX5_sumOf_1
theorem dksX5_sumOf_0 : cX5_sumOf.data.toList.drop 0 = dktX5_sumOf_0 := by decide +kernel
theorem dksX5_sumOf_1 : cX5_sumOf.data.toList.drop 24 = dktX5_sumOf_1 := dk_seg dksX5_sumOf_0 24 rfl rfl
theorem dksX5_sumOf_2 : cX5_sumOf.data.toList.drop 46 = dktX5_sumOf_2 := dk_seg dksX5_sumOf_1 22 rfl rfl
theorem dX5_sumOf_0 : decode cX5_sumOf 0 = .ok (.aload_n 0, 1) := dk_42 (dk_at dksX5_sumOf_0 0 rfl rfl)
theorem dX5_sumOf_1 : decode cX5_sumOf 1 = .ok (.getfield 539, 3) := dk_180 2 27 (dk_at dksX5_sumOf_0 1 rfl rfl)
theorem dX5_sumOf_4 : decode cX5_sumOf 4 = .ok (.ifCond .ne 20, 3) := dk_154 0 20 (dk_at dksX5_sumOf_0 4 rfl rfl)
theorem dX5_sumOf_7 : decode cX5_sumOf 7 = .ok (.aload_n 0, 1) := dk_42 (dk_at dksX5_sumOf_0 7 rfl rfl)
theorem dX5_sumOf_8 : decode cX5_sumOf 8 = .ok (.getfield 163, 3) := dk_180 0 163 (dk_at dksX5_sumOf_0 8 rfl rfl)
theorem dX5_sumOf_11 : decode cX5_sumOf 11 = .ok (.iload_n 1, 1) := dk_27 (dk_at dksX5_sumOf_0 11 rfl rfl)
theorem dX5_sumOf_12 : decode cX5_sumOf 12 = .ok (.iaload, 1) := dk_46 (dk_at dksX5_sumOf_0 12 rfl rfl)
theorem dX5_sumOf_13 : decode cX5_sumOf 13 = .ok (.aload_n 0, 1) := dk_42 (dk_at dksX5_sumOf_0 13 rfl rfl)
theorem dX5_sumOf_14 : decode cX5_sumOf 14 = .ok (.getfield 163, 3) := dk_180 0 163 (dk_at dksX5_sumOf_0 14 rfl rfl)
theorem dX5_sumOf_17 : decode cX5_sumOf 17 = .ok (.iload_n 1, 1) := dk_27 (dk_at dksX5_sumOf_0 17 rfl rfl)
theorem dX5_sumOf_18 : decode cX5_sumOf 18 = .ok (.iconst 1, 1) := dk_4 (dk_at dksX5_sumOf_0 18 rfl rfl)
theorem dX5_sumOf_19 : decode cX5_sumOf 19 = .ok (.iadd, 1) := dk_96 (dk_at dksX5_sumOf_0 19 rfl rfl)
theorem dX5_sumOf_20 : decode cX5_sumOf 20 = .ok (.iaload, 1) := dk_46 (dk_at dksX5_sumOf_0 20 rfl rfl)
theorem dX5_sumOf_21 : decode cX5_sumOf 21 = .ok (.if_icmp .ne 5, 3) := dk_160 0 5 (dk_at dksX5_sumOf_0 21 rfl rfl)
theorem dX5_sumOf_24 : decode cX5_sumOf 24 = .ok (.iconst (-1), 1) := dk_2 (dk_at dksX5_sumOf_1 0 rfl rfl)
theorem dX5_sumOf_25 : decode cX5_sumOf 25 = .ok (.ireturn, 1) := dk_172 (dk_at dksX5_sumOf_1 1 rfl rfl)
theorem dX5_sumOf_26 : decode cX5_sumOf 26 = .ok (.aload_n 0, 1) := dk_42 (dk_at dksX5_sumOf_1 2 rfl rfl)
theorem dX5_sumOf_27 : decode cX5_sumOf 27 = .ok (.iconst 1, 1) := dk_4 (dk_at dksX5_sumOf_1 3 rfl rfl)
theorem dX5_sumOf_28 : decode cX5_sumOf 28 = .ok (.putfield 350, 3) := dk_181 1 94 (dk_at dksX5_sumOf_1 4 rfl rfl)
theorem dX5_sumOf_31 : decode cX5_sumOf 31 = .ok (.aload_n 0, 1) := dk_42 (dk_at dksX5_sumOf_1 7 rfl rfl)
theorem dX5_sumOf_32 : decode cX5_sumOf 32 = .ok (.aload_n 0, 1) := dk_42 (dk_at dksX5_sumOf_1 8 rfl rfl)
theorem dX5_sumOf_33 : decode cX5_sumOf 33 = .ok (.getfield 163, 3) := dk_180 0 163 (dk_at dksX5_sumOf_1 9 rfl rfl)
theorem dX5_sumOf_36 : decode cX5_sumOf 36 = .ok (.iload_n 1, 1) := dk_27 (dk_at dksX5_sumOf_1 12 rfl rfl)
theorem dX5_sumOf_37 : decode cX5_sumOf 37 = .ok (.iaload, 1) := dk_46 (dk_at dksX5_sumOf_1 13 rfl rfl)
theorem dX5_sumOf_38 : decode cX5_sumOf 38 = .ok (.aload_n 0, 1) := dk_42 (dk_at dksX5_sumOf_1 14 rfl rfl)
theorem dX5_sumOf_39 : decode cX5_sumOf 39 = .ok (.getfield 163, 3) := dk_180 0 163 (dk_at dksX5_sumOf_1 15 rfl rfl)
theorem dX5_sumOf_42 : decode cX5_sumOf 42 = .ok (.iload_n 1, 1) := dk_27 (dk_at dksX5_sumOf_1 18 rfl rfl)
theorem dX5_sumOf_43 : decode cX5_sumOf 43 = .ok (.iconst 1, 1) := dk_4 (dk_at dksX5_sumOf_1 19 rfl rfl)
theorem dX5_sumOf_44 : decode cX5_sumOf 44 = .ok (.iadd, 1) := dk_96 (dk_at dksX5_sumOf_1 20 rfl rfl)
theorem dX5_sumOf_45 : decode cX5_sumOf 45 = .ok (.iaload, 1) := dk_46 (dk_at dksX5_sumOf_1 21 rfl rfl)
theorem dX5_sumOf_46 : decode cX5_sumOf 46 = .ok (.invokevirtual 441, 3) := dk_182 1 185 (dk_at dksX5_sumOf_2 0 rfl rfl)
theorem dX5_sumOf_49 : decode cX5_sumOf 49 = .ok (.aload_n 0, 1) := dk_42 (dk_at dksX5_sumOf_2 3 rfl rfl)
theorem dX5_sumOf_50 : decode cX5_sumOf 50 = .ok (.iconst 0, 1) := dk_3 (dk_at dksX5_sumOf_2 4 rfl rfl)
theorem dX5_sumOf_51 : decode cX5_sumOf 51 = .ok (.putfield 350, 3) := dk_181 1 94 (dk_at dksX5_sumOf_2 5 rfl rfl)
theorem dX5_sumOf_54 : decode cX5_sumOf 54 = .ok (.aload_n 0, 1) := dk_42 (dk_at dksX5_sumOf_2 8 rfl rfl)
theorem dX5_sumOf_55 : decode cX5_sumOf 55 = .ok (.aload_n 0, 1) := dk_42 (dk_at dksX5_sumOf_2 9 rfl rfl)
theorem dX5_sumOf_56 : decode cX5_sumOf 56 = .ok (.getfield 424, 3) := dk_180 1 168 (dk_at dksX5_sumOf_2 10 rfl rfl)
theorem dX5_sumOf_59 : decode cX5_sumOf 59 = .ok (.putfield 539, 3) := dk_181 2 27 (dk_at dksX5_sumOf_2 13 rfl rfl)
theorem dX5_sumOf_62 : decode cX5_sumOf 62 = .ok (.aload_n 0, 1) := dk_42 (dk_at dksX5_sumOf_2 16 rfl rfl)
theorem dX5_sumOf_63 : decode cX5_sumOf 63 = .ok (.getfield 438, 3) := dk_180 1 182 (dk_at dksX5_sumOf_2 17 rfl rfl)
theorem dX5_sumOf_66 : decode cX5_sumOf 66 = .ok (.l2i, 1) := dk_136 (dk_at dksX5_sumOf_2 20 rfl rfl)
theorem dX5_sumOf_67 : decode cX5_sumOf 67 = .ok (.ireturn, 1) := dk_172 (dk_at dksX5_sumOf_2 21 rfl rfl)
abbrev cX5_act : ByteArray := prog_22_method_116_code
def yX5_act : MethodName := ⟨RX5, "act", "(IIII)I"⟩
def dkwX5_act_3 : List UInt8 := [182, 1, 225, 172]
abbrev dktX5_act_3 : List UInt8 := dkwX5_act_3 ++ []
def dkwX5_act_2 : List UInt8 := [42, 28, 29, 21, 4, 182, 1, 212, 172, 42, 28, 29, 182, 1, 216, 172, 42, 28, 29, 182, 1, 219, 172, 42]
abbrev dktX5_act_2 : List UInt8 := dkwX5_act_2 ++ dktX5_act_3
def dkwX5_act_1 : List UInt8 := [170, 0, 0, 0, 0, 0, 50, 0, 0, 0, 0, 0, 0, 0, 2, 0, 0, 0, 27, 0, 0, 0, 36, 0, 0, 0, 43]
abbrev dktX5_act_1 : List UInt8 := dkwX5_act_1 ++ dktX5_act_2
def dkwX5_act_0 : List UInt8 := [27]
abbrev dktX5_act_0 : List UInt8 := dkwX5_act_0 ++ dktX5_act_1
theorem dksX5_act_0 : cX5_act.data.toList.drop 0 = dktX5_act_0 := by decide +kernel
theorem dksX5_act_1 : cX5_act.data.toList.drop 1 = dktX5_act_1 := dk_seg dksX5_act_0 1 rfl rfl
theorem dksX5_act_2 : cX5_act.data.toList.drop 28 = dktX5_act_2 := dk_seg dksX5_act_1 27 rfl rfl
theorem dksX5_act_3 : cX5_act.data.toList.drop 52 = dktX5_act_3 := dk_seg dksX5_act_2 24 rfl rfl
theorem dX5_act_0 : decode cX5_act 0 = .ok (.iload_n 1, 1) := dk_27 (dk_at dksX5_act_0 0 rfl rfl)
theorem dX5_act_1 : decode cX5_act 1 = .ok (.tableswitch 50 0 2 #[27, 36, 43], 27) := by decide +kernel
theorem dX5_act_28 : decode cX5_act 28 = .ok (.aload_n 0, 1) := dk_42 (dk_at dksX5_act_2 0 rfl rfl)
theorem dX5_act_29 : decode cX5_act 29 = .ok (.iload_n 2, 1) := dk_28 (dk_at dksX5_act_2 1 rfl rfl)
theorem dX5_act_30 : decode cX5_act 30 = .ok (.iload_n 3, 1) := dk_29 (dk_at dksX5_act_2 2 rfl rfl)
theorem dX5_act_31 : decode cX5_act 31 = .ok (.iload 4, 2) := dk_21 4 (dk_at dksX5_act_2 3 rfl rfl)
theorem dX5_act_33 : decode cX5_act 33 = .ok (.invokevirtual 468, 3) := dk_182 1 212 (dk_at dksX5_act_2 5 rfl rfl)
theorem dX5_act_36 : decode cX5_act 36 = .ok (.ireturn, 1) := dk_172 (dk_at dksX5_act_2 8 rfl rfl)
theorem dX5_act_37 : decode cX5_act 37 = .ok (.aload_n 0, 1) := dk_42 (dk_at dksX5_act_2 9 rfl rfl)
theorem dX5_act_38 : decode cX5_act 38 = .ok (.iload_n 2, 1) := dk_28 (dk_at dksX5_act_2 10 rfl rfl)
theorem dX5_act_39 : decode cX5_act 39 = .ok (.iload_n 3, 1) := dk_29 (dk_at dksX5_act_2 11 rfl rfl)
theorem dX5_act_40 : decode cX5_act 40 = .ok (.invokevirtual 472, 3) := dk_182 1 216 (dk_at dksX5_act_2 12 rfl rfl)
theorem dX5_act_43 : decode cX5_act 43 = .ok (.ireturn, 1) := dk_172 (dk_at dksX5_act_2 15 rfl rfl)
theorem dX5_act_44 : decode cX5_act 44 = .ok (.aload_n 0, 1) := dk_42 (dk_at dksX5_act_2 16 rfl rfl)
theorem dX5_act_45 : decode cX5_act 45 = .ok (.iload_n 2, 1) := dk_28 (dk_at dksX5_act_2 17 rfl rfl)
theorem dX5_act_46 : decode cX5_act 46 = .ok (.iload_n 3, 1) := dk_29 (dk_at dksX5_act_2 18 rfl rfl)
theorem dX5_act_47 : decode cX5_act 47 = .ok (.invokevirtual 475, 3) := dk_182 1 219 (dk_at dksX5_act_2 19 rfl rfl)
theorem dX5_act_50 : decode cX5_act 50 = .ok (.ireturn, 1) := dk_172 (dk_at dksX5_act_2 22 rfl rfl)
theorem dX5_act_51 : decode cX5_act 51 = .ok (.aload_n 0, 1) := dk_42 (dk_at dksX5_act_2 23 rfl rfl)
theorem dX5_act_52 : decode cX5_act 52 = .ok (.invokevirtual 481, 3) := dk_182 1 225 (dk_at dksX5_act_3 0 rfl rfl)
theorem dX5_act_55 : decode cX5_act 55 = .ok (.ireturn, 1) := dk_172 (dk_at dksX5_act_3 3 rfl rfl)
abbrev cX5_giveBack : ByteArray := prog_22_method_119_code
def yX5_giveBack : MethodName := ⟨RX5, "giveBack", "(I)V"⟩
def dkwX5_giveBack_2 : List UInt8 := [180, 0, 32, 28, 46, 79, 132, 2, 1, 167, 255, 235, 42, 27, 181, 0, 181, 177]
abbrev dktX5_giveBack_2 : List UInt8 := dkwX5_giveBack_2 ++ []
def dkwX5_giveBack_1 : List UInt8 := [28, 46, 79, 132, 2, 1, 167, 255, 234, 3, 61, 28, 16, 16, 162, 0, 21, 42, 180, 0, 26, 28, 42]
abbrev dktX5_giveBack_1 : List UInt8 := dkwX5_giveBack_1 ++ dktX5_giveBack_2
def dkwX5_giveBack_0 : List UInt8 := [42, 16, 17, 182, 0, 192, 3, 61, 28, 17, 4, 176, 162, 0, 21, 42, 180, 0, 23, 28, 42, 180, 0, 29]
abbrev dktX5_giveBack_0 : List UInt8 := dkwX5_giveBack_0 ++ dktX5_giveBack_1
theorem dksX5_giveBack_0 : cX5_giveBack.data.toList.drop 0 = dktX5_giveBack_0 := by decide +kernel
theorem dksX5_giveBack_1 : cX5_giveBack.data.toList.drop 24 = dktX5_giveBack_1 := dk_seg dksX5_giveBack_0 24 rfl rfl
theorem dksX5_giveBack_2 : cX5_giveBack.data.toList.drop 47 = dktX5_giveBack_2 := dk_seg dksX5_giveBack_1 23 rfl rfl
theorem dX5_giveBack_0 : decode cX5_giveBack 0 = .ok (.aload_n 0, 1) := dk_42 (dk_at dksX5_giveBack_0 0 rfl rfl)
theorem dX5_giveBack_1 : decode cX5_giveBack 1 = .ok (.bipush 17, 2) := dk_16 17 (dk_at dksX5_giveBack_0 1 rfl rfl)
theorem dX5_giveBack_3 : decode cX5_giveBack 3 = .ok (.invokevirtual 192, 3) := dk_182 0 192 (dk_at dksX5_giveBack_0 3 rfl rfl)
theorem dX5_giveBack_6 : decode cX5_giveBack 6 = .ok (.iconst 0, 1) := dk_3 (dk_at dksX5_giveBack_0 6 rfl rfl)
theorem dX5_giveBack_7 : decode cX5_giveBack 7 = .ok (.istore_n 2, 1) := dk_61 (dk_at dksX5_giveBack_0 7 rfl rfl)
theorem dX5_giveBack_8 : decode cX5_giveBack 8 = .ok (.iload_n 2, 1) := dk_28 (dk_at dksX5_giveBack_0 8 rfl rfl)
theorem dX5_giveBack_9 : decode cX5_giveBack 9 = .ok (.sipush 1200, 3) := dk_17 4 176 (dk_at dksX5_giveBack_0 9 rfl rfl)
theorem dX5_giveBack_12 : decode cX5_giveBack 12 = .ok (.if_icmp .ge 21, 3) := dk_162 0 21 (dk_at dksX5_giveBack_0 12 rfl rfl)
theorem dX5_giveBack_15 : decode cX5_giveBack 15 = .ok (.aload_n 0, 1) := dk_42 (dk_at dksX5_giveBack_0 15 rfl rfl)
theorem dX5_giveBack_16 : decode cX5_giveBack 16 = .ok (.getfield 23, 3) := dk_180 0 23 (dk_at dksX5_giveBack_0 16 rfl rfl)
theorem dX5_giveBack_19 : decode cX5_giveBack 19 = .ok (.iload_n 2, 1) := dk_28 (dk_at dksX5_giveBack_0 19 rfl rfl)
theorem dX5_giveBack_20 : decode cX5_giveBack 20 = .ok (.aload_n 0, 1) := dk_42 (dk_at dksX5_giveBack_0 20 rfl rfl)
theorem dX5_giveBack_21 : decode cX5_giveBack 21 = .ok (.getfield 29, 3) := dk_180 0 29 (dk_at dksX5_giveBack_0 21 rfl rfl)
theorem dX5_giveBack_24 : decode cX5_giveBack 24 = .ok (.iload_n 2, 1) := dk_28 (dk_at dksX5_giveBack_1 0 rfl rfl)
theorem dX5_giveBack_25 : decode cX5_giveBack 25 = .ok (.iaload, 1) := dk_46 (dk_at dksX5_giveBack_1 1 rfl rfl)
theorem dX5_giveBack_26 : decode cX5_giveBack 26 = .ok (.iastore, 1) := dk_79 (dk_at dksX5_giveBack_1 2 rfl rfl)
theorem dX5_giveBack_27 : decode cX5_giveBack 27 = .ok (.iinc 2 1, 3) := dk_132 2 1 (dk_at dksX5_giveBack_1 3 rfl rfl)
theorem dX5_giveBack_30 : decode cX5_giveBack 30 = .ok (.goto (-22), 3) := dk_167 255 234 (dk_at dksX5_giveBack_1 6 rfl rfl)
theorem dX5_giveBack_33 : decode cX5_giveBack 33 = .ok (.iconst 0, 1) := dk_3 (dk_at dksX5_giveBack_1 9 rfl rfl)
theorem dX5_giveBack_34 : decode cX5_giveBack 34 = .ok (.istore_n 2, 1) := dk_61 (dk_at dksX5_giveBack_1 10 rfl rfl)
theorem dX5_giveBack_35 : decode cX5_giveBack 35 = .ok (.iload_n 2, 1) := dk_28 (dk_at dksX5_giveBack_1 11 rfl rfl)
theorem dX5_giveBack_36 : decode cX5_giveBack 36 = .ok (.bipush 16, 2) := dk_16 16 (dk_at dksX5_giveBack_1 12 rfl rfl)
theorem dX5_giveBack_38 : decode cX5_giveBack 38 = .ok (.if_icmp .ge 21, 3) := dk_162 0 21 (dk_at dksX5_giveBack_1 14 rfl rfl)
theorem dX5_giveBack_41 : decode cX5_giveBack 41 = .ok (.aload_n 0, 1) := dk_42 (dk_at dksX5_giveBack_1 17 rfl rfl)
theorem dX5_giveBack_42 : decode cX5_giveBack 42 = .ok (.getfield 26, 3) := dk_180 0 26 (dk_at dksX5_giveBack_1 18 rfl rfl)
theorem dX5_giveBack_45 : decode cX5_giveBack 45 = .ok (.iload_n 2, 1) := dk_28 (dk_at dksX5_giveBack_1 21 rfl rfl)
theorem dX5_giveBack_46 : decode cX5_giveBack 46 = .ok (.aload_n 0, 1) := dk_42 (dk_at dksX5_giveBack_1 22 rfl rfl)
theorem dX5_giveBack_47 : decode cX5_giveBack 47 = .ok (.getfield 32, 3) := dk_180 0 32 (dk_at dksX5_giveBack_2 0 rfl rfl)
theorem dX5_giveBack_50 : decode cX5_giveBack 50 = .ok (.iload_n 2, 1) := dk_28 (dk_at dksX5_giveBack_2 3 rfl rfl)
theorem dX5_giveBack_51 : decode cX5_giveBack 51 = .ok (.iaload, 1) := dk_46 (dk_at dksX5_giveBack_2 4 rfl rfl)
theorem dX5_giveBack_52 : decode cX5_giveBack 52 = .ok (.iastore, 1) := dk_79 (dk_at dksX5_giveBack_2 5 rfl rfl)
theorem dX5_giveBack_53 : decode cX5_giveBack 53 = .ok (.iinc 2 1, 3) := dk_132 2 1 (dk_at dksX5_giveBack_2 6 rfl rfl)
theorem dX5_giveBack_56 : decode cX5_giveBack 56 = .ok (.goto (-21), 3) := dk_167 255 235 (dk_at dksX5_giveBack_2 9 rfl rfl)
theorem dX5_giveBack_59 : decode cX5_giveBack 59 = .ok (.aload_n 0, 1) := dk_42 (dk_at dksX5_giveBack_2 12 rfl rfl)
theorem dX5_giveBack_60 : decode cX5_giveBack 60 = .ok (.iload_n 1, 1) := dk_27 (dk_at dksX5_giveBack_2 13 rfl rfl)
theorem dX5_giveBack_61 : decode cX5_giveBack 61 = .ok (.putfield 181, 3) := dk_181 0 181 (dk_at dksX5_giveBack_2 14 rfl rfl)
theorem dX5_giveBack_64 : decode cX5_giveBack 64 = .ok (.return_, 1) := dk_177 (dk_at dksX5_giveBack_2 17 rfl rfl)
abbrev cX5_stopped : ByteArray := prog_22_method_120_code
def yX5_stopped : MethodName := ⟨RX5, "stopped", "()I"⟩
def dkwX5_stopped_0 : List UInt8 := [42, 3, 181, 0, 175, 42, 180, 0, 166, 172]
abbrev dktX5_stopped_0 : List UInt8 := dkwX5_stopped_0 ++ []
theorem dksX5_stopped_0 : cX5_stopped.data.toList.drop 0 = dktX5_stopped_0 := by decide +kernel
theorem dX5_stopped_0 : decode cX5_stopped 0 = .ok (.aload_n 0, 1) := dk_42 (dk_at dksX5_stopped_0 0 rfl rfl)
theorem dX5_stopped_1 : decode cX5_stopped 1 = .ok (.iconst 0, 1) := dk_3 (dk_at dksX5_stopped_0 1 rfl rfl)
theorem dX5_stopped_2 : decode cX5_stopped 2 = .ok (.putfield 175, 3) := dk_181 0 175 (dk_at dksX5_stopped_0 2 rfl rfl)
theorem dX5_stopped_5 : decode cX5_stopped 5 = .ok (.aload_n 0, 1) := dk_42 (dk_at dksX5_stopped_0 5 rfl rfl)
theorem dX5_stopped_6 : decode cX5_stopped 6 = .ok (.getfield 166, 3) := dk_180 0 166 (dk_at dksX5_stopped_0 6 rfl rfl)
theorem dX5_stopped_9 : decode cX5_stopped 9 = .ok (.ireturn, 1) := dk_172 (dk_at dksX5_stopped_0 9 rfl rfl)
abbrev cX5_generations : ByteArray := prog_22_method_122_code
def yX5_generations : MethodName := ⟨RX5, "generations", "(II)I"⟩
def dkwX5_generations_13 : List UInt8 := [79, 132, 4, 1, 167, 255, 191, 42, 16, 16, 182, 0, 192, 42, 29, 182, 0, 184, 172]
abbrev dktX5_generations_13 : List UInt8 := dkwX5_generations_13 ++ []
def dkwX5_generations_12 : List UInt8 := [21, 4, 96, 46, 79, 42, 180, 0, 169, 16, 12, 21, 4, 96, 42, 180, 0, 13, 16, 74, 21, 4, 96, 46]
abbrev dktX5_generations_12 : List UInt8 := dkwX5_generations_12 ++ dktX5_generations_13
def dkwX5_generations_11 : List UInt8 := [21, 4, 42, 21, 4, 182, 0, 219, 79, 42, 180, 0, 169, 16, 6, 21, 4, 96, 42, 180, 0, 13, 16, 62]
abbrev dktX5_generations_11 : List UInt8 := dkwX5_generations_11 ++ dktX5_generations_12
def dkwX5_generations_10 : List UInt8 := [180, 0, 13, 3, 46, 181, 0, 172, 3, 54, 4, 21, 4, 42, 180, 0, 172, 162, 0, 62, 42, 180, 0, 169]
abbrev dktX5_generations_10 : List UInt8 := dkwX5_generations_10 ++ dktX5_generations_11
def dkwX5_generations_9 : List UInt8 := [133, 3, 16, 20, 184, 1, 198, 79, 29, 42, 182, 1, 222, 96, 62, 132, 4, 1, 167, 255, 94, 42, 42]
abbrev dktX5_generations_9 : List UInt8 := dkwX5_generations_9 ++ dktX5_generations_10
def dkwX5_generations_8 : List UInt8 := [160, 0, 32, 42, 180, 0, 13, 16, 62, 21, 5, 96, 42, 180, 0, 13, 16, 62, 21, 5, 96, 46, 4, 100]
abbrev dktX5_generations_8 : List UInt8 := dkwX5_generations_8 ++ dktX5_generations_9
def dkwX5_generations_7 : List UInt8 := [4, 160, 0, 20, 42, 180, 0, 13, 16, 56, 21, 5, 96, 92, 46, 4, 21, 7, 120, 128, 79, 21, 8, 5]
abbrev dktX5_generations_7 : List UInt8 := dkwX5_generations_7 ++ dktX5_generations_8
def dkwX5_generations_6 : List UInt8 := [180, 0, 13, 16, 8, 16, 8, 21, 5, 104, 96, 21, 6, 96, 92, 46, 4, 21, 7, 120, 100, 79, 21, 8]
abbrev dktX5_generations_6 : List UInt8 := dkwX5_generations_6 ++ dktX5_generations_7
def dkwX5_generations_5 : List UInt8 := [182, 2, 63, 54, 8, 21, 8, 154, 0, 39, 42, 21, 7, 21, 6, 21, 5, 182, 1, 205, 153, 0, 26, 42]
abbrev dktX5_generations_5 : List UInt8 := dkwX5_generations_5 ++ dktX5_generations_6
def dkwX5_generations_4 : List UInt8 := [182, 2, 63, 54, 5, 42, 16, 8, 182, 2, 63, 54, 6, 42, 16, 8, 182, 2, 63, 54, 7, 42, 6]
abbrev dktX5_generations_4 : List UInt8 := dkwX5_generations_4 ++ dktX5_generations_5
def dkwX5_generations_3 : List UInt8 := [162, 0, 162, 42, 180, 0, 13, 8, 46, 17, 3, 231, 162, 0, 150, 42, 42, 180, 0, 13, 3, 46]
abbrev dktX5_generations_3 : List UInt8 := dkwX5_generations_3 ++ dktX5_generations_4
def dkwX5_generations_2 : List UInt8 := [182, 0, 184, 172, 42, 16, 16, 182, 0, 188, 42, 27, 133, 181, 2, 54, 3, 62, 3, 54, 4, 21, 4, 28]
abbrev dktX5_generations_2 : List UInt8 := dkwX5_generations_2 ++ dktX5_generations_3
def dkwX5_generations_1 : List UInt8 := [184, 0, 195, 154, 0, 9, 42, 2, 182, 0, 184, 172, 42, 180, 0, 13, 3, 46, 154, 0, 10, 42, 16, 253]
abbrev dktX5_generations_1 : List UInt8 := dkwX5_generations_1 ++ dktX5_generations_2
def dkwX5_generations_0 : List UInt8 := [42, 3, 181, 0, 175, 27, 133, 9, 20, 1, 48, 184, 0, 195, 153, 0, 15, 28, 133, 10, 20, 0, 239]
abbrev dktX5_generations_0 : List UInt8 := dkwX5_generations_0 ++ dktX5_generations_1
theorem dksX5_generations_0 : cX5_generations.data.toList.drop 0 = dktX5_generations_0 := by decide +kernel
theorem dksX5_generations_1 : cX5_generations.data.toList.drop 23 = dktX5_generations_1 := dk_seg dksX5_generations_0 23 rfl rfl
theorem dksX5_generations_2 : cX5_generations.data.toList.drop 47 = dktX5_generations_2 := dk_seg dksX5_generations_1 24 rfl rfl
theorem dksX5_generations_3 : cX5_generations.data.toList.drop 71 = dktX5_generations_3 := dk_seg dksX5_generations_2 24 rfl rfl
theorem dksX5_generations_4 : cX5_generations.data.toList.drop 93 = dktX5_generations_4 := dk_seg dksX5_generations_3 22 rfl rfl
theorem dksX5_generations_5 : cX5_generations.data.toList.drop 116 = dktX5_generations_5 := dk_seg dksX5_generations_4 23 rfl rfl
theorem dksX5_generations_6 : cX5_generations.data.toList.drop 140 = dktX5_generations_6 := dk_seg dksX5_generations_5 24 rfl rfl
theorem dksX5_generations_7 : cX5_generations.data.toList.drop 164 = dktX5_generations_7 := dk_seg dksX5_generations_6 24 rfl rfl
theorem dksX5_generations_8 : cX5_generations.data.toList.drop 188 = dktX5_generations_8 := dk_seg dksX5_generations_7 24 rfl rfl
theorem dksX5_generations_9 : cX5_generations.data.toList.drop 212 = dktX5_generations_9 := dk_seg dksX5_generations_8 24 rfl rfl
theorem dksX5_generations_10 : cX5_generations.data.toList.drop 235 = dktX5_generations_10 := dk_seg dksX5_generations_9 23 rfl rfl
theorem dksX5_generations_11 : cX5_generations.data.toList.drop 259 = dktX5_generations_11 := dk_seg dksX5_generations_10 24 rfl rfl
theorem dksX5_generations_12 : cX5_generations.data.toList.drop 283 = dktX5_generations_12 := dk_seg dksX5_generations_11 24 rfl rfl
theorem dksX5_generations_13 : cX5_generations.data.toList.drop 307 = dktX5_generations_13 := dk_seg dksX5_generations_12 24 rfl rfl
theorem dX5_generations_0 : decode cX5_generations 0 = .ok (.aload_n 0, 1) := dk_42 (dk_at dksX5_generations_0 0 rfl rfl)
theorem dX5_generations_1 : decode cX5_generations 1 = .ok (.iconst 0, 1) := dk_3 (dk_at dksX5_generations_0 1 rfl rfl)
theorem dX5_generations_2 : decode cX5_generations 2 = .ok (.putfield 175, 3) := dk_181 0 175 (dk_at dksX5_generations_0 2 rfl rfl)
theorem dX5_generations_5 : decode cX5_generations 5 = .ok (.iload_n 1, 1) := dk_27 (dk_at dksX5_generations_0 5 rfl rfl)
theorem dX5_generations_6 : decode cX5_generations 6 = .ok (.i2l, 1) := dk_133 (dk_at dksX5_generations_0 6 rfl rfl)
theorem dX5_generations_7 : decode cX5_generations 7 = .ok (.lconst 0, 1) := dk_9 (dk_at dksX5_generations_0 7 rfl rfl)
theorem dX5_generations_8 : decode cX5_generations 8 = .ok (.ldc2_w 304, 3) := dk_20 1 48 (dk_at dksX5_generations_0 8 rfl rfl)
theorem dX5_generations_11 : decode cX5_generations 11 = .ok (.invokestatic 195, 3) := dk_184 0 195 (dk_at dksX5_generations_0 11 rfl rfl)
theorem dX5_generations_14 : decode cX5_generations 14 = .ok (.ifCond .eq 15, 3) := dk_153 0 15 (dk_at dksX5_generations_0 14 rfl rfl)
theorem dX5_generations_17 : decode cX5_generations 17 = .ok (.iload_n 2, 1) := dk_28 (dk_at dksX5_generations_0 17 rfl rfl)
theorem dX5_generations_18 : decode cX5_generations 18 = .ok (.i2l, 1) := dk_133 (dk_at dksX5_generations_0 18 rfl rfl)
theorem dX5_generations_19 : decode cX5_generations 19 = .ok (.lconst 1, 1) := dk_10 (dk_at dksX5_generations_0 19 rfl rfl)
theorem dX5_generations_20 : decode cX5_generations 20 = .ok (.ldc2_w 239, 3) := dk_20 0 239 (dk_at dksX5_generations_0 20 rfl rfl)
theorem dX5_generations_23 : decode cX5_generations 23 = .ok (.invokestatic 195, 3) := dk_184 0 195 (dk_at dksX5_generations_1 0 rfl rfl)
theorem dX5_generations_26 : decode cX5_generations 26 = .ok (.ifCond .ne 9, 3) := dk_154 0 9 (dk_at dksX5_generations_1 3 rfl rfl)
theorem dX5_generations_29 : decode cX5_generations 29 = .ok (.aload_n 0, 1) := dk_42 (dk_at dksX5_generations_1 6 rfl rfl)
theorem dX5_generations_30 : decode cX5_generations 30 = .ok (.iconst (-1), 1) := dk_2 (dk_at dksX5_generations_1 7 rfl rfl)
theorem dX5_generations_31 : decode cX5_generations 31 = .ok (.invokevirtual 184, 3) := dk_182 0 184 (dk_at dksX5_generations_1 8 rfl rfl)
theorem dX5_generations_34 : decode cX5_generations 34 = .ok (.ireturn, 1) := dk_172 (dk_at dksX5_generations_1 11 rfl rfl)
theorem dX5_generations_35 : decode cX5_generations 35 = .ok (.aload_n 0, 1) := dk_42 (dk_at dksX5_generations_1 12 rfl rfl)
theorem dX5_generations_36 : decode cX5_generations 36 = .ok (.getfield 13, 3) := dk_180 0 13 (dk_at dksX5_generations_1 13 rfl rfl)
theorem dX5_generations_39 : decode cX5_generations 39 = .ok (.iconst 0, 1) := dk_3 (dk_at dksX5_generations_1 16 rfl rfl)
theorem dX5_generations_40 : decode cX5_generations 40 = .ok (.iaload, 1) := dk_46 (dk_at dksX5_generations_1 17 rfl rfl)
theorem dX5_generations_41 : decode cX5_generations 41 = .ok (.ifCond .ne 10, 3) := dk_154 0 10 (dk_at dksX5_generations_1 18 rfl rfl)
theorem dX5_generations_44 : decode cX5_generations 44 = .ok (.aload_n 0, 1) := dk_42 (dk_at dksX5_generations_1 21 rfl rfl)
theorem dX5_generations_45 : decode cX5_generations 45 = .ok (.bipush (-3), 2) := dk_16 253 (dk_at dksX5_generations_1 22 rfl rfl)
theorem dX5_generations_47 : decode cX5_generations 47 = .ok (.invokevirtual 184, 3) := dk_182 0 184 (dk_at dksX5_generations_2 0 rfl rfl)
theorem dX5_generations_50 : decode cX5_generations 50 = .ok (.ireturn, 1) := dk_172 (dk_at dksX5_generations_2 3 rfl rfl)
theorem dX5_generations_51 : decode cX5_generations 51 = .ok (.aload_n 0, 1) := dk_42 (dk_at dksX5_generations_2 4 rfl rfl)
theorem dX5_generations_52 : decode cX5_generations 52 = .ok (.bipush 16, 2) := dk_16 16 (dk_at dksX5_generations_2 5 rfl rfl)
theorem dX5_generations_54 : decode cX5_generations 54 = .ok (.invokevirtual 188, 3) := dk_182 0 188 (dk_at dksX5_generations_2 7 rfl rfl)
theorem dX5_generations_57 : decode cX5_generations 57 = .ok (.aload_n 0, 1) := dk_42 (dk_at dksX5_generations_2 10 rfl rfl)
theorem dX5_generations_58 : decode cX5_generations 58 = .ok (.iload_n 1, 1) := dk_27 (dk_at dksX5_generations_2 11 rfl rfl)
theorem dX5_generations_59 : decode cX5_generations 59 = .ok (.i2l, 1) := dk_133 (dk_at dksX5_generations_2 12 rfl rfl)
theorem dX5_generations_60 : decode cX5_generations 60 = .ok (.putfield 566, 3) := dk_181 2 54 (dk_at dksX5_generations_2 13 rfl rfl)
theorem dX5_generations_63 : decode cX5_generations 63 = .ok (.iconst 0, 1) := dk_3 (dk_at dksX5_generations_2 16 rfl rfl)
theorem dX5_generations_64 : decode cX5_generations 64 = .ok (.istore_n 3, 1) := dk_62 (dk_at dksX5_generations_2 17 rfl rfl)
theorem dX5_generations_65 : decode cX5_generations 65 = .ok (.iconst 0, 1) := dk_3 (dk_at dksX5_generations_2 18 rfl rfl)
theorem dX5_generations_66 : decode cX5_generations 66 = .ok (.istore 4, 2) := dk_54 4 (dk_at dksX5_generations_2 19 rfl rfl)
theorem dX5_generations_68 : decode cX5_generations 68 = .ok (.iload 4, 2) := dk_21 4 (dk_at dksX5_generations_2 21 rfl rfl)
theorem dX5_generations_70 : decode cX5_generations 70 = .ok (.iload_n 2, 1) := dk_28 (dk_at dksX5_generations_2 23 rfl rfl)
theorem dX5_generations_71 : decode cX5_generations 71 = .ok (.if_icmp .ge 162, 3) := dk_162 0 162 (dk_at dksX5_generations_3 0 rfl rfl)
theorem dX5_generations_74 : decode cX5_generations 74 = .ok (.aload_n 0, 1) := dk_42 (dk_at dksX5_generations_3 3 rfl rfl)
theorem dX5_generations_75 : decode cX5_generations 75 = .ok (.getfield 13, 3) := dk_180 0 13 (dk_at dksX5_generations_3 4 rfl rfl)
theorem dX5_generations_78 : decode cX5_generations 78 = .ok (.iconst 5, 1) := dk_8 (dk_at dksX5_generations_3 7 rfl rfl)
theorem dX5_generations_79 : decode cX5_generations 79 = .ok (.iaload, 1) := dk_46 (dk_at dksX5_generations_3 8 rfl rfl)
theorem dX5_generations_80 : decode cX5_generations 80 = .ok (.sipush 999, 3) := dk_17 3 231 (dk_at dksX5_generations_3 9 rfl rfl)
theorem dX5_generations_83 : decode cX5_generations 83 = .ok (.if_icmp .ge 150, 3) := dk_162 0 150 (dk_at dksX5_generations_3 12 rfl rfl)
theorem dX5_generations_86 : decode cX5_generations 86 = .ok (.aload_n 0, 1) := dk_42 (dk_at dksX5_generations_3 15 rfl rfl)
theorem dX5_generations_87 : decode cX5_generations 87 = .ok (.aload_n 0, 1) := dk_42 (dk_at dksX5_generations_3 16 rfl rfl)
theorem dX5_generations_88 : decode cX5_generations 88 = .ok (.getfield 13, 3) := dk_180 0 13 (dk_at dksX5_generations_3 17 rfl rfl)
theorem dX5_generations_91 : decode cX5_generations 91 = .ok (.iconst 0, 1) := dk_3 (dk_at dksX5_generations_3 20 rfl rfl)
theorem dX5_generations_92 : decode cX5_generations 92 = .ok (.iaload, 1) := dk_46 (dk_at dksX5_generations_3 21 rfl rfl)
theorem dX5_generations_93 : decode cX5_generations 93 = .ok (.invokevirtual 575, 3) := dk_182 2 63 (dk_at dksX5_generations_4 0 rfl rfl)
theorem dX5_generations_96 : decode cX5_generations 96 = .ok (.istore 5, 2) := dk_54 5 (dk_at dksX5_generations_4 3 rfl rfl)
theorem dX5_generations_98 : decode cX5_generations 98 = .ok (.aload_n 0, 1) := dk_42 (dk_at dksX5_generations_4 5 rfl rfl)
theorem dX5_generations_99 : decode cX5_generations 99 = .ok (.bipush 8, 2) := dk_16 8 (dk_at dksX5_generations_4 6 rfl rfl)
theorem dX5_generations_101 : decode cX5_generations 101 = .ok (.invokevirtual 575, 3) := dk_182 2 63 (dk_at dksX5_generations_4 8 rfl rfl)
theorem dX5_generations_104 : decode cX5_generations 104 = .ok (.istore 6, 2) := dk_54 6 (dk_at dksX5_generations_4 11 rfl rfl)
theorem dX5_generations_106 : decode cX5_generations 106 = .ok (.aload_n 0, 1) := dk_42 (dk_at dksX5_generations_4 13 rfl rfl)
theorem dX5_generations_107 : decode cX5_generations 107 = .ok (.bipush 8, 2) := dk_16 8 (dk_at dksX5_generations_4 14 rfl rfl)
theorem dX5_generations_109 : decode cX5_generations 109 = .ok (.invokevirtual 575, 3) := dk_182 2 63 (dk_at dksX5_generations_4 16 rfl rfl)
theorem dX5_generations_112 : decode cX5_generations 112 = .ok (.istore 7, 2) := dk_54 7 (dk_at dksX5_generations_4 19 rfl rfl)
theorem dX5_generations_114 : decode cX5_generations 114 = .ok (.aload_n 0, 1) := dk_42 (dk_at dksX5_generations_4 21 rfl rfl)
theorem dX5_generations_115 : decode cX5_generations 115 = .ok (.iconst 3, 1) := dk_6 (dk_at dksX5_generations_4 22 rfl rfl)
theorem dX5_generations_116 : decode cX5_generations 116 = .ok (.invokevirtual 575, 3) := dk_182 2 63 (dk_at dksX5_generations_5 0 rfl rfl)
theorem dX5_generations_119 : decode cX5_generations 119 = .ok (.istore 8, 2) := dk_54 8 (dk_at dksX5_generations_5 3 rfl rfl)
theorem dX5_generations_121 : decode cX5_generations 121 = .ok (.iload 8, 2) := dk_21 8 (dk_at dksX5_generations_5 5 rfl rfl)
theorem dX5_generations_123 : decode cX5_generations 123 = .ok (.ifCond .ne 39, 3) := dk_154 0 39 (dk_at dksX5_generations_5 7 rfl rfl)
theorem dX5_generations_126 : decode cX5_generations 126 = .ok (.aload_n 0, 1) := dk_42 (dk_at dksX5_generations_5 10 rfl rfl)
theorem dX5_generations_127 : decode cX5_generations 127 = .ok (.iload 7, 2) := dk_21 7 (dk_at dksX5_generations_5 11 rfl rfl)
theorem dX5_generations_129 : decode cX5_generations 129 = .ok (.iload 6, 2) := dk_21 6 (dk_at dksX5_generations_5 13 rfl rfl)
theorem dX5_generations_131 : decode cX5_generations 131 = .ok (.iload 5, 2) := dk_21 5 (dk_at dksX5_generations_5 15 rfl rfl)
theorem dX5_generations_133 : decode cX5_generations 133 = .ok (.invokevirtual 461, 3) := dk_182 1 205 (dk_at dksX5_generations_5 17 rfl rfl)
theorem dX5_generations_136 : decode cX5_generations 136 = .ok (.ifCond .eq 26, 3) := dk_153 0 26 (dk_at dksX5_generations_5 20 rfl rfl)
theorem dX5_generations_139 : decode cX5_generations 139 = .ok (.aload_n 0, 1) := dk_42 (dk_at dksX5_generations_5 23 rfl rfl)
theorem dX5_generations_140 : decode cX5_generations 140 = .ok (.getfield 13, 3) := dk_180 0 13 (dk_at dksX5_generations_6 0 rfl rfl)
theorem dX5_generations_143 : decode cX5_generations 143 = .ok (.bipush 8, 2) := dk_16 8 (dk_at dksX5_generations_6 3 rfl rfl)
theorem dX5_generations_145 : decode cX5_generations 145 = .ok (.bipush 8, 2) := dk_16 8 (dk_at dksX5_generations_6 5 rfl rfl)
theorem dX5_generations_147 : decode cX5_generations 147 = .ok (.iload 5, 2) := dk_21 5 (dk_at dksX5_generations_6 7 rfl rfl)
theorem dX5_generations_149 : decode cX5_generations 149 = .ok (.imul, 1) := dk_104 (dk_at dksX5_generations_6 9 rfl rfl)
theorem dX5_generations_150 : decode cX5_generations 150 = .ok (.iadd, 1) := dk_96 (dk_at dksX5_generations_6 10 rfl rfl)
theorem dX5_generations_151 : decode cX5_generations 151 = .ok (.iload 6, 2) := dk_21 6 (dk_at dksX5_generations_6 11 rfl rfl)
theorem dX5_generations_153 : decode cX5_generations 153 = .ok (.iadd, 1) := dk_96 (dk_at dksX5_generations_6 13 rfl rfl)
theorem dX5_generations_154 : decode cX5_generations 154 = .ok (.dup2, 1) := dk_92 (dk_at dksX5_generations_6 14 rfl rfl)
theorem dX5_generations_155 : decode cX5_generations 155 = .ok (.iaload, 1) := dk_46 (dk_at dksX5_generations_6 15 rfl rfl)
theorem dX5_generations_156 : decode cX5_generations 156 = .ok (.iconst 1, 1) := dk_4 (dk_at dksX5_generations_6 16 rfl rfl)
theorem dX5_generations_157 : decode cX5_generations 157 = .ok (.iload 7, 2) := dk_21 7 (dk_at dksX5_generations_6 17 rfl rfl)
theorem dX5_generations_159 : decode cX5_generations 159 = .ok (.ishl, 1) := dk_120 (dk_at dksX5_generations_6 19 rfl rfl)
theorem dX5_generations_160 : decode cX5_generations 160 = .ok (.isub, 1) := dk_100 (dk_at dksX5_generations_6 20 rfl rfl)
theorem dX5_generations_161 : decode cX5_generations 161 = .ok (.iastore, 1) := dk_79 (dk_at dksX5_generations_6 21 rfl rfl)
theorem dX5_generations_162 : decode cX5_generations 162 = .ok (.iload 8, 2) := dk_21 8 (dk_at dksX5_generations_6 22 rfl rfl)
theorem dX5_generations_164 : decode cX5_generations 164 = .ok (.iconst 1, 1) := dk_4 (dk_at dksX5_generations_7 0 rfl rfl)
theorem dX5_generations_165 : decode cX5_generations 165 = .ok (.if_icmp .ne 20, 3) := dk_160 0 20 (dk_at dksX5_generations_7 1 rfl rfl)
theorem dX5_generations_168 : decode cX5_generations 168 = .ok (.aload_n 0, 1) := dk_42 (dk_at dksX5_generations_7 4 rfl rfl)
theorem dX5_generations_169 : decode cX5_generations 169 = .ok (.getfield 13, 3) := dk_180 0 13 (dk_at dksX5_generations_7 5 rfl rfl)
theorem dX5_generations_172 : decode cX5_generations 172 = .ok (.bipush 56, 2) := dk_16 56 (dk_at dksX5_generations_7 8 rfl rfl)
theorem dX5_generations_174 : decode cX5_generations 174 = .ok (.iload 5, 2) := dk_21 5 (dk_at dksX5_generations_7 10 rfl rfl)
theorem dX5_generations_176 : decode cX5_generations 176 = .ok (.iadd, 1) := dk_96 (dk_at dksX5_generations_7 12 rfl rfl)
theorem dX5_generations_177 : decode cX5_generations 177 = .ok (.dup2, 1) := dk_92 (dk_at dksX5_generations_7 13 rfl rfl)
theorem dX5_generations_178 : decode cX5_generations 178 = .ok (.iaload, 1) := dk_46 (dk_at dksX5_generations_7 14 rfl rfl)
theorem dX5_generations_179 : decode cX5_generations 179 = .ok (.iconst 1, 1) := dk_4 (dk_at dksX5_generations_7 15 rfl rfl)
theorem dX5_generations_180 : decode cX5_generations 180 = .ok (.iload 7, 2) := dk_21 7 (dk_at dksX5_generations_7 16 rfl rfl)
theorem dX5_generations_182 : decode cX5_generations 182 = .ok (.ishl, 1) := dk_120 (dk_at dksX5_generations_7 18 rfl rfl)
theorem dX5_generations_183 : decode cX5_generations 183 = .ok (.ior, 1) := dk_128 (dk_at dksX5_generations_7 19 rfl rfl)
theorem dX5_generations_184 : decode cX5_generations 184 = .ok (.iastore, 1) := dk_79 (dk_at dksX5_generations_7 20 rfl rfl)
theorem dX5_generations_185 : decode cX5_generations 185 = .ok (.iload 8, 2) := dk_21 8 (dk_at dksX5_generations_7 21 rfl rfl)
theorem dX5_generations_187 : decode cX5_generations 187 = .ok (.iconst 2, 1) := dk_5 (dk_at dksX5_generations_7 23 rfl rfl)
theorem dX5_generations_188 : decode cX5_generations 188 = .ok (.if_icmp .ne 32, 3) := dk_160 0 32 (dk_at dksX5_generations_8 0 rfl rfl)
theorem dX5_generations_191 : decode cX5_generations 191 = .ok (.aload_n 0, 1) := dk_42 (dk_at dksX5_generations_8 3 rfl rfl)
theorem dX5_generations_192 : decode cX5_generations 192 = .ok (.getfield 13, 3) := dk_180 0 13 (dk_at dksX5_generations_8 4 rfl rfl)
theorem dX5_generations_195 : decode cX5_generations 195 = .ok (.bipush 62, 2) := dk_16 62 (dk_at dksX5_generations_8 7 rfl rfl)
theorem dX5_generations_197 : decode cX5_generations 197 = .ok (.iload 5, 2) := dk_21 5 (dk_at dksX5_generations_8 9 rfl rfl)
theorem dX5_generations_199 : decode cX5_generations 199 = .ok (.iadd, 1) := dk_96 (dk_at dksX5_generations_8 11 rfl rfl)
theorem dX5_generations_200 : decode cX5_generations 200 = .ok (.aload_n 0, 1) := dk_42 (dk_at dksX5_generations_8 12 rfl rfl)
theorem dX5_generations_201 : decode cX5_generations 201 = .ok (.getfield 13, 3) := dk_180 0 13 (dk_at dksX5_generations_8 13 rfl rfl)
theorem dX5_generations_204 : decode cX5_generations 204 = .ok (.bipush 62, 2) := dk_16 62 (dk_at dksX5_generations_8 16 rfl rfl)
theorem dX5_generations_206 : decode cX5_generations 206 = .ok (.iload 5, 2) := dk_21 5 (dk_at dksX5_generations_8 18 rfl rfl)
theorem dX5_generations_208 : decode cX5_generations 208 = .ok (.iadd, 1) := dk_96 (dk_at dksX5_generations_8 20 rfl rfl)
theorem dX5_generations_209 : decode cX5_generations 209 = .ok (.iaload, 1) := dk_46 (dk_at dksX5_generations_8 21 rfl rfl)
theorem dX5_generations_210 : decode cX5_generations 210 = .ok (.iconst 1, 1) := dk_4 (dk_at dksX5_generations_8 22 rfl rfl)
theorem dX5_generations_211 : decode cX5_generations 211 = .ok (.isub, 1) := dk_100 (dk_at dksX5_generations_8 23 rfl rfl)
theorem dX5_generations_212 : decode cX5_generations 212 = .ok (.i2l, 1) := dk_133 (dk_at dksX5_generations_9 0 rfl rfl)
theorem dX5_generations_213 : decode cX5_generations 213 = .ok (.iconst 0, 1) := dk_3 (dk_at dksX5_generations_9 1 rfl rfl)
theorem dX5_generations_214 : decode cX5_generations 214 = .ok (.bipush 20, 2) := dk_16 20 (dk_at dksX5_generations_9 2 rfl rfl)
theorem dX5_generations_216 : decode cX5_generations 216 = .ok (.invokestatic 454, 3) := dk_184 1 198 (dk_at dksX5_generations_9 4 rfl rfl)
theorem dX5_generations_219 : decode cX5_generations 219 = .ok (.iastore, 1) := dk_79 (dk_at dksX5_generations_9 7 rfl rfl)
theorem dX5_generations_220 : decode cX5_generations 220 = .ok (.iload_n 3, 1) := dk_29 (dk_at dksX5_generations_9 8 rfl rfl)
theorem dX5_generations_221 : decode cX5_generations 221 = .ok (.aload_n 0, 1) := dk_42 (dk_at dksX5_generations_9 9 rfl rfl)
theorem dX5_generations_222 : decode cX5_generations 222 = .ok (.invokevirtual 478, 3) := dk_182 1 222 (dk_at dksX5_generations_9 10 rfl rfl)
theorem dX5_generations_225 : decode cX5_generations 225 = .ok (.iadd, 1) := dk_96 (dk_at dksX5_generations_9 13 rfl rfl)
theorem dX5_generations_226 : decode cX5_generations 226 = .ok (.istore_n 3, 1) := dk_62 (dk_at dksX5_generations_9 14 rfl rfl)
theorem dX5_generations_227 : decode cX5_generations 227 = .ok (.iinc 4 1, 3) := dk_132 4 1 (dk_at dksX5_generations_9 15 rfl rfl)
theorem dX5_generations_230 : decode cX5_generations 230 = .ok (.goto (-162), 3) := dk_167 255 94 (dk_at dksX5_generations_9 18 rfl rfl)
theorem dX5_generations_233 : decode cX5_generations 233 = .ok (.aload_n 0, 1) := dk_42 (dk_at dksX5_generations_9 21 rfl rfl)
theorem dX5_generations_234 : decode cX5_generations 234 = .ok (.aload_n 0, 1) := dk_42 (dk_at dksX5_generations_9 22 rfl rfl)
theorem dX5_generations_235 : decode cX5_generations 235 = .ok (.getfield 13, 3) := dk_180 0 13 (dk_at dksX5_generations_10 0 rfl rfl)
theorem dX5_generations_238 : decode cX5_generations 238 = .ok (.iconst 0, 1) := dk_3 (dk_at dksX5_generations_10 3 rfl rfl)
theorem dX5_generations_239 : decode cX5_generations 239 = .ok (.iaload, 1) := dk_46 (dk_at dksX5_generations_10 4 rfl rfl)
theorem dX5_generations_240 : decode cX5_generations 240 = .ok (.putfield 172, 3) := dk_181 0 172 (dk_at dksX5_generations_10 5 rfl rfl)
theorem dX5_generations_243 : decode cX5_generations 243 = .ok (.iconst 0, 1) := dk_3 (dk_at dksX5_generations_10 8 rfl rfl)
theorem dX5_generations_244 : decode cX5_generations 244 = .ok (.istore 4, 2) := dk_54 4 (dk_at dksX5_generations_10 9 rfl rfl)
theorem dX5_generations_246 : decode cX5_generations 246 = .ok (.iload 4, 2) := dk_21 4 (dk_at dksX5_generations_10 11 rfl rfl)
theorem dX5_generations_248 : decode cX5_generations 248 = .ok (.aload_n 0, 1) := dk_42 (dk_at dksX5_generations_10 13 rfl rfl)
theorem dX5_generations_249 : decode cX5_generations 249 = .ok (.getfield 172, 3) := dk_180 0 172 (dk_at dksX5_generations_10 14 rfl rfl)
theorem dX5_generations_252 : decode cX5_generations 252 = .ok (.if_icmp .ge 62, 3) := dk_162 0 62 (dk_at dksX5_generations_10 17 rfl rfl)
theorem dX5_generations_255 : decode cX5_generations 255 = .ok (.aload_n 0, 1) := dk_42 (dk_at dksX5_generations_10 20 rfl rfl)
theorem dX5_generations_256 : decode cX5_generations 256 = .ok (.getfield 169, 3) := dk_180 0 169 (dk_at dksX5_generations_10 21 rfl rfl)
theorem dX5_generations_259 : decode cX5_generations 259 = .ok (.iload 4, 2) := dk_21 4 (dk_at dksX5_generations_11 0 rfl rfl)
theorem dX5_generations_261 : decode cX5_generations 261 = .ok (.aload_n 0, 1) := dk_42 (dk_at dksX5_generations_11 2 rfl rfl)
theorem dX5_generations_262 : decode cX5_generations 262 = .ok (.iload 4, 2) := dk_21 4 (dk_at dksX5_generations_11 3 rfl rfl)
theorem dX5_generations_264 : decode cX5_generations 264 = .ok (.invokevirtual 219, 3) := dk_182 0 219 (dk_at dksX5_generations_11 5 rfl rfl)
theorem dX5_generations_267 : decode cX5_generations 267 = .ok (.iastore, 1) := dk_79 (dk_at dksX5_generations_11 8 rfl rfl)
theorem dX5_generations_268 : decode cX5_generations 268 = .ok (.aload_n 0, 1) := dk_42 (dk_at dksX5_generations_11 9 rfl rfl)
theorem dX5_generations_269 : decode cX5_generations 269 = .ok (.getfield 169, 3) := dk_180 0 169 (dk_at dksX5_generations_11 10 rfl rfl)
theorem dX5_generations_272 : decode cX5_generations 272 = .ok (.bipush 6, 2) := dk_16 6 (dk_at dksX5_generations_11 13 rfl rfl)
theorem dX5_generations_274 : decode cX5_generations 274 = .ok (.iload 4, 2) := dk_21 4 (dk_at dksX5_generations_11 15 rfl rfl)
theorem dX5_generations_276 : decode cX5_generations 276 = .ok (.iadd, 1) := dk_96 (dk_at dksX5_generations_11 17 rfl rfl)
theorem dX5_generations_277 : decode cX5_generations 277 = .ok (.aload_n 0, 1) := dk_42 (dk_at dksX5_generations_11 18 rfl rfl)
theorem dX5_generations_278 : decode cX5_generations 278 = .ok (.getfield 13, 3) := dk_180 0 13 (dk_at dksX5_generations_11 19 rfl rfl)
theorem dX5_generations_281 : decode cX5_generations 281 = .ok (.bipush 62, 2) := dk_16 62 (dk_at dksX5_generations_11 22 rfl rfl)
theorem dX5_generations_283 : decode cX5_generations 283 = .ok (.iload 4, 2) := dk_21 4 (dk_at dksX5_generations_12 0 rfl rfl)
theorem dX5_generations_285 : decode cX5_generations 285 = .ok (.iadd, 1) := dk_96 (dk_at dksX5_generations_12 2 rfl rfl)
theorem dX5_generations_286 : decode cX5_generations 286 = .ok (.iaload, 1) := dk_46 (dk_at dksX5_generations_12 3 rfl rfl)
theorem dX5_generations_287 : decode cX5_generations 287 = .ok (.iastore, 1) := dk_79 (dk_at dksX5_generations_12 4 rfl rfl)
theorem dX5_generations_288 : decode cX5_generations 288 = .ok (.aload_n 0, 1) := dk_42 (dk_at dksX5_generations_12 5 rfl rfl)
theorem dX5_generations_289 : decode cX5_generations 289 = .ok (.getfield 169, 3) := dk_180 0 169 (dk_at dksX5_generations_12 6 rfl rfl)
theorem dX5_generations_292 : decode cX5_generations 292 = .ok (.bipush 12, 2) := dk_16 12 (dk_at dksX5_generations_12 9 rfl rfl)
theorem dX5_generations_294 : decode cX5_generations 294 = .ok (.iload 4, 2) := dk_21 4 (dk_at dksX5_generations_12 11 rfl rfl)
theorem dX5_generations_296 : decode cX5_generations 296 = .ok (.iadd, 1) := dk_96 (dk_at dksX5_generations_12 13 rfl rfl)
theorem dX5_generations_297 : decode cX5_generations 297 = .ok (.aload_n 0, 1) := dk_42 (dk_at dksX5_generations_12 14 rfl rfl)
theorem dX5_generations_298 : decode cX5_generations 298 = .ok (.getfield 13, 3) := dk_180 0 13 (dk_at dksX5_generations_12 15 rfl rfl)
theorem dX5_generations_301 : decode cX5_generations 301 = .ok (.bipush 74, 2) := dk_16 74 (dk_at dksX5_generations_12 18 rfl rfl)
theorem dX5_generations_303 : decode cX5_generations 303 = .ok (.iload 4, 2) := dk_21 4 (dk_at dksX5_generations_12 20 rfl rfl)
theorem dX5_generations_305 : decode cX5_generations 305 = .ok (.iadd, 1) := dk_96 (dk_at dksX5_generations_12 22 rfl rfl)
theorem dX5_generations_306 : decode cX5_generations 306 = .ok (.iaload, 1) := dk_46 (dk_at dksX5_generations_12 23 rfl rfl)
theorem dX5_generations_307 : decode cX5_generations 307 = .ok (.iastore, 1) := dk_79 (dk_at dksX5_generations_13 0 rfl rfl)
theorem dX5_generations_308 : decode cX5_generations 308 = .ok (.iinc 4 1, 3) := dk_132 4 1 (dk_at dksX5_generations_13 1 rfl rfl)
theorem dX5_generations_311 : decode cX5_generations 311 = .ok (.goto (-65), 3) := dk_167 255 191 (dk_at dksX5_generations_13 4 rfl rfl)
theorem dX5_generations_314 : decode cX5_generations 314 = .ok (.aload_n 0, 1) := dk_42 (dk_at dksX5_generations_13 7 rfl rfl)
theorem dX5_generations_315 : decode cX5_generations 315 = .ok (.bipush 16, 2) := dk_16 16 (dk_at dksX5_generations_13 8 rfl rfl)
theorem dX5_generations_317 : decode cX5_generations 317 = .ok (.invokevirtual 192, 3) := dk_182 0 192 (dk_at dksX5_generations_13 10 rfl rfl)
theorem dX5_generations_320 : decode cX5_generations 320 = .ok (.aload_n 0, 1) := dk_42 (dk_at dksX5_generations_13 13 rfl rfl)
theorem dX5_generations_321 : decode cX5_generations 321 = .ok (.iload_n 3, 1) := dk_29 (dk_at dksX5_generations_13 14 rfl rfl)
theorem dX5_generations_322 : decode cX5_generations 322 = .ok (.invokevirtual 184, 3) := dk_182 0 184 (dk_at dksX5_generations_13 15 rfl rfl)
theorem dX5_generations_325 : decode cX5_generations 325 = .ok (.ireturn, 1) := dk_172 (dk_at dksX5_generations_13 18 rfl rfl)
abbrev cX5_draw : ByteArray := prog_22_method_121_code
def yX5_draw : MethodName := ⟨RX5, "draw", "(I)I"⟩
def dkwX5_draw_1 : List UInt8 := [27, 133, 113, 136, 172]
abbrev dktX5_draw_1 : List UInt8 := dkwX5_draw_1 ++ []
def dkwX5_draw_0 : List UInt8 := [42, 42, 180, 2, 54, 20, 2, 57, 105, 20, 2, 59, 97, 20, 2, 61, 113, 181, 2, 54, 42, 180, 2, 54]
abbrev dktX5_draw_0 : List UInt8 := dkwX5_draw_0 ++ dktX5_draw_1
theorem dksX5_draw_0 : cX5_draw.data.toList.drop 0 = dktX5_draw_0 := by decide +kernel
theorem dksX5_draw_1 : cX5_draw.data.toList.drop 24 = dktX5_draw_1 := dk_seg dksX5_draw_0 24 rfl rfl
theorem dX5_draw_0 : decode cX5_draw 0 = .ok (.aload_n 0, 1) := dk_42 (dk_at dksX5_draw_0 0 rfl rfl)
theorem dX5_draw_1 : decode cX5_draw 1 = .ok (.aload_n 0, 1) := dk_42 (dk_at dksX5_draw_0 1 rfl rfl)
theorem dX5_draw_2 : decode cX5_draw 2 = .ok (.getfield 566, 3) := dk_180 2 54 (dk_at dksX5_draw_0 2 rfl rfl)
theorem dX5_draw_5 : decode cX5_draw 5 = .ok (.ldc2_w 569, 3) := dk_20 2 57 (dk_at dksX5_draw_0 5 rfl rfl)
theorem dX5_draw_8 : decode cX5_draw 8 = .ok (.lmul, 1) := dk_105 (dk_at dksX5_draw_0 8 rfl rfl)
theorem dX5_draw_9 : decode cX5_draw 9 = .ok (.ldc2_w 571, 3) := dk_20 2 59 (dk_at dksX5_draw_0 9 rfl rfl)
theorem dX5_draw_12 : decode cX5_draw 12 = .ok (.ladd, 1) := dk_97 (dk_at dksX5_draw_0 12 rfl rfl)
theorem dX5_draw_13 : decode cX5_draw 13 = .ok (.ldc2_w 573, 3) := dk_20 2 61 (dk_at dksX5_draw_0 13 rfl rfl)
theorem dX5_draw_16 : decode cX5_draw 16 = .ok (.lrem, 1) := dk_113 (dk_at dksX5_draw_0 16 rfl rfl)
theorem dX5_draw_17 : decode cX5_draw 17 = .ok (.putfield 566, 3) := dk_181 2 54 (dk_at dksX5_draw_0 17 rfl rfl)
theorem dX5_draw_20 : decode cX5_draw 20 = .ok (.aload_n 0, 1) := dk_42 (dk_at dksX5_draw_0 20 rfl rfl)
theorem dX5_draw_21 : decode cX5_draw 21 = .ok (.getfield 566, 3) := dk_180 2 54 (dk_at dksX5_draw_0 21 rfl rfl)
theorem dX5_draw_24 : decode cX5_draw 24 = .ok (.iload_n 1, 1) := dk_27 (dk_at dksX5_draw_1 0 rfl rfl)
theorem dX5_draw_25 : decode cX5_draw 25 = .ok (.i2l, 1) := dk_133 (dk_at dksX5_draw_1 1 rfl rfl)
theorem dX5_draw_26 : decode cX5_draw 26 = .ok (.lrem, 1) := dk_113 (dk_at dksX5_draw_1 2 rfl rfl)
theorem dX5_draw_27 : decode cX5_draw 27 = .ok (.l2i, 1) := dk_136 (dk_at dksX5_draw_1 3 rfl rfl)
theorem dX5_draw_28 : decode cX5_draw 28 = .ok (.ireturn, 1) := dk_172 (dk_at dksX5_draw_1 4 rfl rfl)
abbrev cX5_drawn : ByteArray := prog_22_method_123_code
def yX5_drawn : MethodName := ⟨RX5, "drawn", "(II)I"⟩
def dkwX5_drawn_2 : List UInt8 := [172]
abbrev dktX5_drawn_2 : List UInt8 := dkwX5_drawn_2 ++ []
def dkwX5_drawn_1 : List UInt8 := [20, 2, 10, 184, 0, 195, 153, 0, 17, 42, 180, 0, 169, 16, 6, 28, 104, 27, 96, 46, 167, 0, 4, 2]
abbrev dktX5_drawn_1 : List UInt8 := dkwX5_drawn_1 ++ dktX5_drawn_2
def dkwX5_drawn_0 : List UInt8 := [42, 3, 181, 0, 175, 27, 133, 9, 42, 180, 0, 172, 133, 10, 101, 184, 0, 195, 153, 0, 29, 28, 133, 9]
abbrev dktX5_drawn_0 : List UInt8 := dkwX5_drawn_0 ++ dktX5_drawn_1
theorem dksX5_drawn_0 : cX5_drawn.data.toList.drop 0 = dktX5_drawn_0 := by decide +kernel
theorem dksX5_drawn_1 : cX5_drawn.data.toList.drop 24 = dktX5_drawn_1 := dk_seg dksX5_drawn_0 24 rfl rfl
theorem dksX5_drawn_2 : cX5_drawn.data.toList.drop 48 = dktX5_drawn_2 := dk_seg dksX5_drawn_1 24 rfl rfl
theorem dX5_drawn_0 : decode cX5_drawn 0 = .ok (.aload_n 0, 1) := dk_42 (dk_at dksX5_drawn_0 0 rfl rfl)
theorem dX5_drawn_1 : decode cX5_drawn 1 = .ok (.iconst 0, 1) := dk_3 (dk_at dksX5_drawn_0 1 rfl rfl)
theorem dX5_drawn_2 : decode cX5_drawn 2 = .ok (.putfield 175, 3) := dk_181 0 175 (dk_at dksX5_drawn_0 2 rfl rfl)
theorem dX5_drawn_5 : decode cX5_drawn 5 = .ok (.iload_n 1, 1) := dk_27 (dk_at dksX5_drawn_0 5 rfl rfl)
theorem dX5_drawn_6 : decode cX5_drawn 6 = .ok (.i2l, 1) := dk_133 (dk_at dksX5_drawn_0 6 rfl rfl)
theorem dX5_drawn_7 : decode cX5_drawn 7 = .ok (.lconst 0, 1) := dk_9 (dk_at dksX5_drawn_0 7 rfl rfl)
theorem dX5_drawn_8 : decode cX5_drawn 8 = .ok (.aload_n 0, 1) := dk_42 (dk_at dksX5_drawn_0 8 rfl rfl)
theorem dX5_drawn_9 : decode cX5_drawn 9 = .ok (.getfield 172, 3) := dk_180 0 172 (dk_at dksX5_drawn_0 9 rfl rfl)
theorem dX5_drawn_12 : decode cX5_drawn 12 = .ok (.i2l, 1) := dk_133 (dk_at dksX5_drawn_0 12 rfl rfl)
theorem dX5_drawn_13 : decode cX5_drawn 13 = .ok (.lconst 1, 1) := dk_10 (dk_at dksX5_drawn_0 13 rfl rfl)
theorem dX5_drawn_14 : decode cX5_drawn 14 = .ok (.lsub, 1) := dk_101 (dk_at dksX5_drawn_0 14 rfl rfl)
theorem dX5_drawn_15 : decode cX5_drawn 15 = .ok (.invokestatic 195, 3) := dk_184 0 195 (dk_at dksX5_drawn_0 15 rfl rfl)
theorem dX5_drawn_18 : decode cX5_drawn 18 = .ok (.ifCond .eq 29, 3) := dk_153 0 29 (dk_at dksX5_drawn_0 18 rfl rfl)
theorem dX5_drawn_21 : decode cX5_drawn 21 = .ok (.iload_n 2, 1) := dk_28 (dk_at dksX5_drawn_0 21 rfl rfl)
theorem dX5_drawn_22 : decode cX5_drawn 22 = .ok (.i2l, 1) := dk_133 (dk_at dksX5_drawn_0 22 rfl rfl)
theorem dX5_drawn_23 : decode cX5_drawn 23 = .ok (.lconst 0, 1) := dk_9 (dk_at dksX5_drawn_0 23 rfl rfl)
theorem dX5_drawn_24 : decode cX5_drawn 24 = .ok (.ldc2_w 522, 3) := dk_20 2 10 (dk_at dksX5_drawn_1 0 rfl rfl)
theorem dX5_drawn_27 : decode cX5_drawn 27 = .ok (.invokestatic 195, 3) := dk_184 0 195 (dk_at dksX5_drawn_1 3 rfl rfl)
theorem dX5_drawn_30 : decode cX5_drawn 30 = .ok (.ifCond .eq 17, 3) := dk_153 0 17 (dk_at dksX5_drawn_1 6 rfl rfl)
theorem dX5_drawn_33 : decode cX5_drawn 33 = .ok (.aload_n 0, 1) := dk_42 (dk_at dksX5_drawn_1 9 rfl rfl)
theorem dX5_drawn_34 : decode cX5_drawn 34 = .ok (.getfield 169, 3) := dk_180 0 169 (dk_at dksX5_drawn_1 10 rfl rfl)
theorem dX5_drawn_37 : decode cX5_drawn 37 = .ok (.bipush 6, 2) := dk_16 6 (dk_at dksX5_drawn_1 13 rfl rfl)
theorem dX5_drawn_39 : decode cX5_drawn 39 = .ok (.iload_n 2, 1) := dk_28 (dk_at dksX5_drawn_1 15 rfl rfl)
theorem dX5_drawn_40 : decode cX5_drawn 40 = .ok (.imul, 1) := dk_104 (dk_at dksX5_drawn_1 16 rfl rfl)
theorem dX5_drawn_41 : decode cX5_drawn 41 = .ok (.iload_n 1, 1) := dk_27 (dk_at dksX5_drawn_1 17 rfl rfl)
theorem dX5_drawn_42 : decode cX5_drawn 42 = .ok (.iadd, 1) := dk_96 (dk_at dksX5_drawn_1 18 rfl rfl)
theorem dX5_drawn_43 : decode cX5_drawn 43 = .ok (.iaload, 1) := dk_46 (dk_at dksX5_drawn_1 19 rfl rfl)
theorem dX5_drawn_44 : decode cX5_drawn 44 = .ok (.goto 4, 3) := dk_167 0 4 (dk_at dksX5_drawn_1 20 rfl rfl)
theorem dX5_drawn_47 : decode cX5_drawn 47 = .ok (.iconst (-1), 1) := dk_2 (dk_at dksX5_drawn_1 23 rfl rfl)
theorem dX5_drawn_48 : decode cX5_drawn 48 = .ok (.ireturn, 1) := dk_172 (dk_at dksX5_drawn_2 0 rfl rfl)
abbrev cX5_count : ByteArray := prog_22_method_124_code
def yX5_count : MethodName := ⟨RX5, "count", "(I)I"⟩
def dkwX5_count_6 : List UInt8 := [184, 0, 195, 153, 0, 17, 42, 180, 0, 13, 8, 27, 96, 16, 13, 100, 46, 167, 0, 4, 2, 172]
abbrev dktX5_count_6 : List UInt8 := dkwX5_count_6 ++ []
def dkwX5_count_5 : List UInt8 := [180, 0, 7, 16, 6, 46, 172, 42, 180, 0, 13, 7, 46, 172, 27, 133, 20, 2, 66, 20, 2, 68]
abbrev dktX5_count_5 : List UInt8 := dkwX5_count_5 ++ dktX5_count_6
def dkwX5_count_4 : List UInt8 := [46, 172, 42, 180, 0, 7, 5, 46, 172, 42, 180, 0, 7, 6, 46, 172, 42, 180, 0, 7, 8, 46, 172, 42]
abbrev dktX5_count_4 : List UInt8 := dkwX5_count_4 ++ dktX5_count_5
def dkwX5_count_3 : List UInt8 := [46, 172, 42, 180, 0, 13, 6, 46, 172, 42, 180, 0, 181, 172, 42, 180, 1, 7, 172, 42, 180, 0, 7, 4]
abbrev dktX5_count_3 : List UInt8 := dkwX5_count_3 ++ dktX5_count_4
def dkwX5_count_2 : List UInt8 := [42, 180, 0, 13, 3, 46, 172, 42, 180, 0, 13, 4, 46, 172, 42, 182, 2, 36, 172, 42, 180, 0, 13, 5]
abbrev dktX5_count_2 : List UInt8 := dkwX5_count_2 ++ dktX5_count_3
def dkwX5_count_1 : List UInt8 := [170, 0, 0, 0, 0, 152, 0, 0, 0, 0, 0, 0, 0, 12, 0, 0, 0, 66, 0, 0, 0, 73, 0, 0, 0, 80, 0, 0, 0, 85, 0, 0, 0, 92, 0, 0, 0, 99, 0, 0, 0, 104, 0, 0, 0, 109, 0, 0, 0, 116, 0, 0, 0, 123, 0, 0, 0, 130, 0, 0, 0, 137, 0, 0, 0, 145]
abbrev dktX5_count_1 : List UInt8 := dkwX5_count_1 ++ dktX5_count_2
def dkwX5_count_0 : List UInt8 := [42, 3, 181, 0, 175, 27]
abbrev dktX5_count_0 : List UInt8 := dkwX5_count_0 ++ dktX5_count_1
theorem dksX5_count_0 : cX5_count.data.toList.drop 0 = dktX5_count_0 := by decide +kernel
theorem dksX5_count_1 : cX5_count.data.toList.drop 6 = dktX5_count_1 := dk_seg dksX5_count_0 6 rfl rfl
theorem dksX5_count_2 : cX5_count.data.toList.drop 72 = dktX5_count_2 := dk_seg dksX5_count_1 66 rfl rfl
theorem dksX5_count_3 : cX5_count.data.toList.drop 96 = dktX5_count_3 := dk_seg dksX5_count_2 24 rfl rfl
theorem dksX5_count_4 : cX5_count.data.toList.drop 120 = dktX5_count_4 := dk_seg dksX5_count_3 24 rfl rfl
theorem dksX5_count_5 : cX5_count.data.toList.drop 144 = dktX5_count_5 := dk_seg dksX5_count_4 24 rfl rfl
theorem dksX5_count_6 : cX5_count.data.toList.drop 166 = dktX5_count_6 := dk_seg dksX5_count_5 22 rfl rfl
theorem dX5_count_0 : decode cX5_count 0 = .ok (.aload_n 0, 1) := dk_42 (dk_at dksX5_count_0 0 rfl rfl)
theorem dX5_count_1 : decode cX5_count 1 = .ok (.iconst 0, 1) := dk_3 (dk_at dksX5_count_0 1 rfl rfl)
theorem dX5_count_2 : decode cX5_count 2 = .ok (.putfield 175, 3) := dk_181 0 175 (dk_at dksX5_count_0 2 rfl rfl)
theorem dX5_count_5 : decode cX5_count 5 = .ok (.iload_n 1, 1) := dk_27 (dk_at dksX5_count_0 5 rfl rfl)
theorem dX5_count_6 : decode cX5_count 6 = .ok (.tableswitch 152 0 12 #[66, 73, 80, 85, 92, 99, 104, 109, 116, 123, 130, 137, 145], 66) := by decide +kernel
theorem dX5_count_72 : decode cX5_count 72 = .ok (.aload_n 0, 1) := dk_42 (dk_at dksX5_count_2 0 rfl rfl)
theorem dX5_count_73 : decode cX5_count 73 = .ok (.getfield 13, 3) := dk_180 0 13 (dk_at dksX5_count_2 1 rfl rfl)
theorem dX5_count_76 : decode cX5_count 76 = .ok (.iconst 0, 1) := dk_3 (dk_at dksX5_count_2 4 rfl rfl)
theorem dX5_count_77 : decode cX5_count 77 = .ok (.iaload, 1) := dk_46 (dk_at dksX5_count_2 5 rfl rfl)
theorem dX5_count_78 : decode cX5_count 78 = .ok (.ireturn, 1) := dk_172 (dk_at dksX5_count_2 6 rfl rfl)
theorem dX5_count_79 : decode cX5_count 79 = .ok (.aload_n 0, 1) := dk_42 (dk_at dksX5_count_2 7 rfl rfl)
theorem dX5_count_80 : decode cX5_count 80 = .ok (.getfield 13, 3) := dk_180 0 13 (dk_at dksX5_count_2 8 rfl rfl)
theorem dX5_count_83 : decode cX5_count 83 = .ok (.iconst 1, 1) := dk_4 (dk_at dksX5_count_2 11 rfl rfl)
theorem dX5_count_84 : decode cX5_count 84 = .ok (.iaload, 1) := dk_46 (dk_at dksX5_count_2 12 rfl rfl)
theorem dX5_count_85 : decode cX5_count 85 = .ok (.ireturn, 1) := dk_172 (dk_at dksX5_count_2 13 rfl rfl)
theorem dX5_count_86 : decode cX5_count 86 = .ok (.aload_n 0, 1) := dk_42 (dk_at dksX5_count_2 14 rfl rfl)
theorem dX5_count_87 : decode cX5_count 87 = .ok (.invokevirtual 548, 3) := dk_182 2 36 (dk_at dksX5_count_2 15 rfl rfl)
theorem dX5_count_90 : decode cX5_count 90 = .ok (.ireturn, 1) := dk_172 (dk_at dksX5_count_2 18 rfl rfl)
theorem dX5_count_91 : decode cX5_count 91 = .ok (.aload_n 0, 1) := dk_42 (dk_at dksX5_count_2 19 rfl rfl)
theorem dX5_count_92 : decode cX5_count 92 = .ok (.getfield 13, 3) := dk_180 0 13 (dk_at dksX5_count_2 20 rfl rfl)
theorem dX5_count_95 : decode cX5_count 95 = .ok (.iconst 2, 1) := dk_5 (dk_at dksX5_count_2 23 rfl rfl)
theorem dX5_count_96 : decode cX5_count 96 = .ok (.iaload, 1) := dk_46 (dk_at dksX5_count_3 0 rfl rfl)
theorem dX5_count_97 : decode cX5_count 97 = .ok (.ireturn, 1) := dk_172 (dk_at dksX5_count_3 1 rfl rfl)
theorem dX5_count_98 : decode cX5_count 98 = .ok (.aload_n 0, 1) := dk_42 (dk_at dksX5_count_3 2 rfl rfl)
theorem dX5_count_99 : decode cX5_count 99 = .ok (.getfield 13, 3) := dk_180 0 13 (dk_at dksX5_count_3 3 rfl rfl)
theorem dX5_count_102 : decode cX5_count 102 = .ok (.iconst 3, 1) := dk_6 (dk_at dksX5_count_3 6 rfl rfl)
theorem dX5_count_103 : decode cX5_count 103 = .ok (.iaload, 1) := dk_46 (dk_at dksX5_count_3 7 rfl rfl)
theorem dX5_count_104 : decode cX5_count 104 = .ok (.ireturn, 1) := dk_172 (dk_at dksX5_count_3 8 rfl rfl)
theorem dX5_count_105 : decode cX5_count 105 = .ok (.aload_n 0, 1) := dk_42 (dk_at dksX5_count_3 9 rfl rfl)
theorem dX5_count_106 : decode cX5_count 106 = .ok (.getfield 181, 3) := dk_180 0 181 (dk_at dksX5_count_3 10 rfl rfl)
theorem dX5_count_109 : decode cX5_count 109 = .ok (.ireturn, 1) := dk_172 (dk_at dksX5_count_3 13 rfl rfl)
theorem dX5_count_110 : decode cX5_count 110 = .ok (.aload_n 0, 1) := dk_42 (dk_at dksX5_count_3 14 rfl rfl)
theorem dX5_count_111 : decode cX5_count 111 = .ok (.getfield 263, 3) := dk_180 1 7 (dk_at dksX5_count_3 15 rfl rfl)
theorem dX5_count_114 : decode cX5_count 114 = .ok (.ireturn, 1) := dk_172 (dk_at dksX5_count_3 18 rfl rfl)
theorem dX5_count_115 : decode cX5_count 115 = .ok (.aload_n 0, 1) := dk_42 (dk_at dksX5_count_3 19 rfl rfl)
theorem dX5_count_116 : decode cX5_count 116 = .ok (.getfield 7, 3) := dk_180 0 7 (dk_at dksX5_count_3 20 rfl rfl)
theorem dX5_count_119 : decode cX5_count 119 = .ok (.iconst 1, 1) := dk_4 (dk_at dksX5_count_3 23 rfl rfl)
theorem dX5_count_120 : decode cX5_count 120 = .ok (.iaload, 1) := dk_46 (dk_at dksX5_count_4 0 rfl rfl)
theorem dX5_count_121 : decode cX5_count 121 = .ok (.ireturn, 1) := dk_172 (dk_at dksX5_count_4 1 rfl rfl)
theorem dX5_count_122 : decode cX5_count 122 = .ok (.aload_n 0, 1) := dk_42 (dk_at dksX5_count_4 2 rfl rfl)
theorem dX5_count_123 : decode cX5_count 123 = .ok (.getfield 7, 3) := dk_180 0 7 (dk_at dksX5_count_4 3 rfl rfl)
theorem dX5_count_126 : decode cX5_count 126 = .ok (.iconst 2, 1) := dk_5 (dk_at dksX5_count_4 6 rfl rfl)
theorem dX5_count_127 : decode cX5_count 127 = .ok (.iaload, 1) := dk_46 (dk_at dksX5_count_4 7 rfl rfl)
theorem dX5_count_128 : decode cX5_count 128 = .ok (.ireturn, 1) := dk_172 (dk_at dksX5_count_4 8 rfl rfl)
theorem dX5_count_129 : decode cX5_count 129 = .ok (.aload_n 0, 1) := dk_42 (dk_at dksX5_count_4 9 rfl rfl)
theorem dX5_count_130 : decode cX5_count 130 = .ok (.getfield 7, 3) := dk_180 0 7 (dk_at dksX5_count_4 10 rfl rfl)
theorem dX5_count_133 : decode cX5_count 133 = .ok (.iconst 3, 1) := dk_6 (dk_at dksX5_count_4 13 rfl rfl)
theorem dX5_count_134 : decode cX5_count 134 = .ok (.iaload, 1) := dk_46 (dk_at dksX5_count_4 14 rfl rfl)
theorem dX5_count_135 : decode cX5_count 135 = .ok (.ireturn, 1) := dk_172 (dk_at dksX5_count_4 15 rfl rfl)
theorem dX5_count_136 : decode cX5_count 136 = .ok (.aload_n 0, 1) := dk_42 (dk_at dksX5_count_4 16 rfl rfl)
theorem dX5_count_137 : decode cX5_count 137 = .ok (.getfield 7, 3) := dk_180 0 7 (dk_at dksX5_count_4 17 rfl rfl)
theorem dX5_count_140 : decode cX5_count 140 = .ok (.iconst 5, 1) := dk_8 (dk_at dksX5_count_4 20 rfl rfl)
theorem dX5_count_141 : decode cX5_count 141 = .ok (.iaload, 1) := dk_46 (dk_at dksX5_count_4 21 rfl rfl)
theorem dX5_count_142 : decode cX5_count 142 = .ok (.ireturn, 1) := dk_172 (dk_at dksX5_count_4 22 rfl rfl)
theorem dX5_count_143 : decode cX5_count 143 = .ok (.aload_n 0, 1) := dk_42 (dk_at dksX5_count_4 23 rfl rfl)
theorem dX5_count_144 : decode cX5_count 144 = .ok (.getfield 7, 3) := dk_180 0 7 (dk_at dksX5_count_5 0 rfl rfl)
theorem dX5_count_147 : decode cX5_count 147 = .ok (.bipush 6, 2) := dk_16 6 (dk_at dksX5_count_5 3 rfl rfl)
theorem dX5_count_149 : decode cX5_count 149 = .ok (.iaload, 1) := dk_46 (dk_at dksX5_count_5 5 rfl rfl)
theorem dX5_count_150 : decode cX5_count 150 = .ok (.ireturn, 1) := dk_172 (dk_at dksX5_count_5 6 rfl rfl)
theorem dX5_count_151 : decode cX5_count 151 = .ok (.aload_n 0, 1) := dk_42 (dk_at dksX5_count_5 7 rfl rfl)
theorem dX5_count_152 : decode cX5_count 152 = .ok (.getfield 13, 3) := dk_180 0 13 (dk_at dksX5_count_5 8 rfl rfl)
theorem dX5_count_155 : decode cX5_count 155 = .ok (.iconst 4, 1) := dk_7 (dk_at dksX5_count_5 11 rfl rfl)
theorem dX5_count_156 : decode cX5_count 156 = .ok (.iaload, 1) := dk_46 (dk_at dksX5_count_5 12 rfl rfl)
theorem dX5_count_157 : decode cX5_count 157 = .ok (.ireturn, 1) := dk_172 (dk_at dksX5_count_5 13 rfl rfl)
theorem dX5_count_158 : decode cX5_count 158 = .ok (.iload_n 1, 1) := dk_27 (dk_at dksX5_count_5 14 rfl rfl)
theorem dX5_count_159 : decode cX5_count 159 = .ok (.i2l, 1) := dk_133 (dk_at dksX5_count_5 15 rfl rfl)
theorem dX5_count_160 : decode cX5_count 160 = .ok (.ldc2_w 578, 3) := dk_20 2 66 (dk_at dksX5_count_5 16 rfl rfl)
theorem dX5_count_163 : decode cX5_count 163 = .ok (.ldc2_w 580, 3) := dk_20 2 68 (dk_at dksX5_count_5 19 rfl rfl)
theorem dX5_count_166 : decode cX5_count 166 = .ok (.invokestatic 195, 3) := dk_184 0 195 (dk_at dksX5_count_6 0 rfl rfl)
theorem dX5_count_169 : decode cX5_count 169 = .ok (.ifCond .eq 17, 3) := dk_153 0 17 (dk_at dksX5_count_6 3 rfl rfl)
theorem dX5_count_172 : decode cX5_count 172 = .ok (.aload_n 0, 1) := dk_42 (dk_at dksX5_count_6 6 rfl rfl)
theorem dX5_count_173 : decode cX5_count 173 = .ok (.getfield 13, 3) := dk_180 0 13 (dk_at dksX5_count_6 7 rfl rfl)
theorem dX5_count_176 : decode cX5_count 176 = .ok (.iconst 5, 1) := dk_8 (dk_at dksX5_count_6 10 rfl rfl)
theorem dX5_count_177 : decode cX5_count 177 = .ok (.iload_n 1, 1) := dk_27 (dk_at dksX5_count_6 11 rfl rfl)
theorem dX5_count_178 : decode cX5_count 178 = .ok (.iadd, 1) := dk_96 (dk_at dksX5_count_6 12 rfl rfl)
theorem dX5_count_179 : decode cX5_count 179 = .ok (.bipush 13, 2) := dk_16 13 (dk_at dksX5_count_6 13 rfl rfl)
theorem dX5_count_181 : decode cX5_count 181 = .ok (.isub, 1) := dk_100 (dk_at dksX5_count_6 15 rfl rfl)
theorem dX5_count_182 : decode cX5_count 182 = .ok (.iaload, 1) := dk_46 (dk_at dksX5_count_6 16 rfl rfl)
theorem dX5_count_183 : decode cX5_count 183 = .ok (.goto 4, 3) := dk_167 0 4 (dk_at dksX5_count_6 17 rfl rfl)
theorem dX5_count_186 : decode cX5_count 186 = .ok (.iconst (-1), 1) := dk_2 (dk_at dksX5_count_6 20 rfl rfl)
theorem dX5_count_187 : decode cX5_count 187 = .ok (.ireturn, 1) := dk_172 (dk_at dksX5_count_6 21 rfl rfl)
abbrev cX5_status : ByteArray := prog_22_method_125_code
def yX5_status : MethodName := ⟨RX5, "status", "()I"⟩
def dkwX5_status_0 : List UInt8 := [42, 3, 181, 0, 175, 42, 180, 0, 178, 172]
abbrev dktX5_status_0 : List UInt8 := dkwX5_status_0 ++ []
theorem dksX5_status_0 : cX5_status.data.toList.drop 0 = dktX5_status_0 := by decide +kernel
theorem dX5_status_0 : decode cX5_status 0 = .ok (.aload_n 0, 1) := dk_42 (dk_at dksX5_status_0 0 rfl rfl)
theorem dX5_status_1 : decode cX5_status 1 = .ok (.iconst 0, 1) := dk_3 (dk_at dksX5_status_0 1 rfl rfl)
theorem dX5_status_2 : decode cX5_status 2 = .ok (.putfield 175, 3) := dk_181 0 175 (dk_at dksX5_status_0 2 rfl rfl)
theorem dX5_status_5 : decode cX5_status 5 = .ok (.aload_n 0, 1) := dk_42 (dk_at dksX5_status_0 5 rfl rfl)
theorem dX5_status_6 : decode cX5_status 6 = .ok (.getfield 178, 3) := dk_180 0 178 (dk_at dksX5_status_0 6 rfl rfl)
theorem dX5_status_9 : decode cX5_status 9 = .ok (.ireturn, 1) := dk_172 (dk_at dksX5_status_0 9 rfl rfl)
theorem q131 : (Jvm.Cond.initialized "DowryBoxesModel") ∈ lw_all := lw_g (lw_at lw_m1 11 rfl) rfl
theorem q528 : (Jvm.Cond.selects "DowryBoxesModel" ({ cls := "java/lang/Object", name := "getClass", desc := "()Ljava/lang/Class;" } : Jvm.MethodName) ({ cls := "java/lang/Object", name := "getClass", desc := "()Ljava/lang/Class;" } : Jvm.MethodName)) ∈ lw_all := lw_g (lw_at lw_m2 168 rfl) rfl
theorem q1539 : (Jvm.Cond.instantiable "DowryBoxesModel" (62 : Nat)) ∈ lw_all := lw_g (lw_at lw_m6 219 rfl) rfl
theorem q1541 : (Jvm.Cond.instanceMethod ({ cls := "DowryBoxesModel", name := "<init>", desc := "()V" } : Jvm.MethodName)) ∈ lw_all := lw_g (lw_at lw_m6 221 rfl) rfl
theorem q1542 : (Jvm.Cond.code ({ cls := "DowryBoxesModel", name := "<init>", desc := "()V" } : Jvm.MethodName) prog_22_method_1_code (1 : Nat) (Option.none : Option Jvm.ClassFile.FieldType)) ∈ lw_all := lw_g (lw_at lw_m6 222 rfl) rfl
theorem q1543 : (Jvm.Cond.methodLink "DowryBoxesModel" (1 : Nat) ({ cls := "java/lang/Object", name := "<init>", desc := "()V" } : Jvm.MethodName)) ∈ lw_all := lw_g (lw_at lw_m6 223 rfl) rfl
theorem q1544 : (Jvm.Cond.constantLong "DowryBoxesModel" (57 : Nat) (2552 : Int64)) ∈ lw_all := lw_g (lw_at lw_m6 224 rfl) rfl
theorem q1545 : (Jvm.Cond.constantLong "DowryBoxesModel" (59 : Nat) (654910919 : Int64)) ∈ lw_all := lw_g (lw_at lw_m6 225 rfl) rfl
theorem q1546 : (Jvm.Cond.constantLong "DowryBoxesModel" (61 : Nat) (15192243 : Int64)) ∈ lw_all := lw_g (lw_at lw_m6 226 rfl) rfl
theorem q1547 : (Jvm.Cond.constantLong "DowryBoxesModel" (63 : Nat) (86486190 : Int64)) ∈ lw_all := lw_g (lw_at lw_m6 227 rfl) rfl
theorem q1548 : (Jvm.Cond.constantLong "DowryBoxesModel" (65 : Nat) (659870194 : Int64)) ∈ lw_all := lw_g (lw_at lw_m6 228 rfl) rfl
theorem q1549 : (Jvm.Cond.constantLong "DowryBoxesModel" (67 : Nat) (5170 : Int64)) ∈ lw_all := lw_g (lw_at lw_m6 229 rfl) rfl
theorem q1550 : (Jvm.Cond.constantLong "DowryBoxesModel" (69 : Nat) (24165011 : Int64)) ∈ lw_all := lw_g (lw_at lw_m6 230 rfl) rfl
theorem q1551 : (Jvm.Cond.constantLong "DowryBoxesModel" (71 : Nat) (824370 : Int64)) ∈ lw_all := lw_g (lw_at lw_m6 231 rfl) rfl
theorem q1552 : (Jvm.Cond.constantLong "DowryBoxesModel" (73 : Nat) (441828 : Int64)) ∈ lw_all := lw_g (lw_at lw_m6 232 rfl) rfl
theorem q1553 : (Jvm.Cond.constantLong "DowryBoxesModel" (79 : Nat) (146885 : Int64)) ∈ lw_all := lw_g (lw_at lw_m6 233 rfl) rfl
theorem q1554 : (Jvm.Cond.constantLong "DowryBoxesModel" (81 : Nat) (404362868 : Int64)) ∈ lw_all := lw_g (lw_at lw_m6 234 rfl) rfl
theorem q1555 : (Jvm.Cond.constantLong "DowryBoxesModel" (83 : Nat) (3747098803 : Int64)) ∈ lw_all := lw_g (lw_at lw_m6 235 rfl) rfl
theorem q1556 : (Jvm.Cond.constantLong "DowryBoxesModel" (85 : Nat) (398548 : Int64)) ∈ lw_all := lw_g (lw_at lw_m6 236 rfl) rfl
theorem q1557 : (Jvm.Cond.constantLong "DowryBoxesModel" (90 : Nat) (12635795 : Int64)) ∈ lw_all := lw_g (lw_at lw_m6 237 rfl) rfl
theorem q1558 : (Jvm.Cond.constantLong "DowryBoxesModel" (92 : Nat) (12889267 : Int64)) ∈ lw_all := lw_g (lw_at lw_m6 238 rfl) rfl
theorem q1559 : (Jvm.Cond.constantLong "DowryBoxesModel" (94 : Nat) (13094067 : Int64)) ∈ lw_all := lw_g (lw_at lw_m6 239 rfl) rfl
theorem q1560 : (Jvm.Cond.constantLong "DowryBoxesModel" (96 : Nat) (67155 : Int64)) ∈ lw_all := lw_g (lw_at lw_m7 0 rfl) rfl
theorem q1561 : (Jvm.Cond.constantLong "DowryBoxesModel" (143 : Nat) (546188 : Int64)) ∈ lw_all := lw_g (lw_at lw_m7 1 rfl) rfl
theorem q1562 : (Jvm.Cond.constantLong "DowryBoxesModel" (145 : Nat) (636976 : Int64)) ∈ lw_all := lw_g (lw_at lw_m7 2 rfl) rfl
theorem q1563 : (Jvm.Cond.constantLong "DowryBoxesModel" (147 : Nat) (23716 : Int64)) ∈ lw_all := lw_g (lw_at lw_m7 3 rfl) rfl
theorem q1564 : (Jvm.Cond.constantLong "DowryBoxesModel" (149 : Nat) (525939 : Int64)) ∈ lw_all := lw_g (lw_at lw_m7 4 rfl) rfl
theorem q1565 : (Jvm.Cond.constantLong "DowryBoxesModel" (154 : Nat) (52 : Int64)) ∈ lw_all := lw_g (lw_at lw_m7 5 rfl) rfl
theorem q1566 : (Jvm.Cond.constantLong "DowryBoxesModel" (156 : Nat) (486 : Int64)) ∈ lw_all := lw_g (lw_at lw_m7 6 rfl) rfl
theorem q1567 : (Jvm.Cond.constantLong "DowryBoxesModel" (158 : Nat) (655 : Int64)) ∈ lw_all := lw_g (lw_at lw_m7 7 rfl) rfl
theorem q1568 : (Jvm.Cond.fieldLink "DowryBoxesModel" (175 : Nat) "DowryBoxesModel" "thrown" "I") ∈ lw_all := lw_g (lw_at lw_m7 8 rfl) rfl
theorem q1569 : (Jvm.Cond.fieldLink "DowryBoxesModel" (178 : Nat) "DowryBoxesModel" "status" "I") ∈ lw_all := lw_g (lw_at lw_m7 9 rfl) rfl
theorem q1570 : (Jvm.Cond.fieldLink "DowryBoxesModel" (7 : Nat) "DowryBoxesModel" "refusals" "[I") ∈ lw_all := lw_g (lw_at lw_m7 10 rfl) rfl
theorem q1571 : (Jvm.Cond.fieldLink "DowryBoxesModel" (13 : Nat) "DowryBoxesModel" "row" "[I") ∈ lw_all := lw_g (lw_at lw_m7 11 rfl) rfl
theorem q1572 : (Jvm.Cond.fieldLink "DowryBoxesModel" (16 : Nat) "DowryBoxesModel" "images" "[I") ∈ lw_all := lw_g (lw_at lw_m7 12 rfl) rfl
theorem q1573 : (Jvm.Cond.fieldLink "DowryBoxesModel" (19 : Nat) "DowryBoxesModel" "isKept" "[Z") ∈ lw_all := lw_g (lw_at lw_m7 13 rfl) rfl
theorem q1574 : (Jvm.Cond.fieldLink "DowryBoxesModel" (23 : Nat) "DowryBoxesModel" "undos" "[I") ∈ lw_all := lw_g (lw_at lw_m7 14 rfl) rfl
theorem q1575 : (Jvm.Cond.fieldLink "DowryBoxesModel" (26 : Nat) "DowryBoxesModel" "sorts" "[I") ∈ lw_all := lw_g (lw_at lw_m7 15 rfl) rfl
theorem q1576 : (Jvm.Cond.fieldLink "DowryBoxesModel" (181 : Nat) "DowryBoxesModel" "nUndo" "I") ∈ lw_all := lw_g (lw_at lw_m7 16 rfl) rfl
theorem q1577 : (Jvm.Cond.fieldLink "DowryBoxesModel" (29 : Nat) "DowryBoxesModel" "undosBefore" "[I") ∈ lw_all := lw_g (lw_at lw_m7 17 rfl) rfl
theorem q1578 : (Jvm.Cond.fieldLink "DowryBoxesModel" (32 : Nat) "DowryBoxesModel" "sortsBefore" "[I") ∈ lw_all := lw_g (lw_at lw_m7 18 rfl) rfl
theorem q1579 : (Jvm.Cond.fieldLink "DowryBoxesModel" (266 : Nat) "DowryBoxesModel" "rust" "I") ∈ lw_all := lw_g (lw_at lw_m7 19 rfl) rfl
theorem q1580 : (Jvm.Cond.fieldLink "DowryBoxesModel" (35 : Nat) "DowryBoxesModel" "tape" "[I") ∈ lw_all := lw_g (lw_at lw_m7 20 rfl) rfl
theorem q1581 : (Jvm.Cond.fieldLink "DowryBoxesModel" (263 : Nat) "DowryBoxesModel" "taped" "I") ∈ lw_all := lw_g (lw_at lw_m7 21 rfl) rfl
theorem q1582 : (Jvm.Cond.fieldLink "DowryBoxesModel" (282 : Nat) "DowryBoxesModel" "from" "I") ∈ lw_all := lw_g (lw_at lw_m7 22 rfl) rfl
theorem q1583 : (Jvm.Cond.fieldLink "DowryBoxesModel" (272 : Nat) "DowryBoxesModel" "to" "I") ∈ lw_all := lw_g (lw_at lw_m7 23 rfl) rfl
theorem q1584 : (Jvm.Cond.fieldLink "DowryBoxesModel" (295 : Nat) "DowryBoxesModel" "sort" "I") ∈ lw_all := lw_g (lw_at lw_m7 24 rfl) rfl
theorem q1585 : (Jvm.Cond.fieldLink "DowryBoxesModel" (285 : Nat) "DowryBoxesModel" "worth" "J") ∈ lw_all := lw_g (lw_at lw_m7 25 rfl) rfl
theorem q1586 : (Jvm.Cond.fieldLink "DowryBoxesModel" (38 : Nat) "DowryBoxesModel" "fault" "I") ∈ lw_all := lw_g (lw_at lw_m7 26 rfl) rfl
theorem q1587 : (Jvm.Cond.fieldLink "DowryBoxesModel" (275 : Nat) "DowryBoxesModel" "bad" "Z") ∈ lw_all := lw_g (lw_at lw_m7 27 rfl) rfl
theorem q1588 : (Jvm.Cond.fieldLink "DowryBoxesModel" (350 : Nat) "DowryBoxesModel" "ordered" "Z") ∈ lw_all := lw_g (lw_at lw_m7 28 rfl) rfl
theorem q1589 : (Jvm.Cond.fieldLink "DowryBoxesModel" (404 : Nat) "DowryBoxesModel" "nClauses" "I") ∈ lw_all := lw_g (lw_at lw_m7 29 rfl) rfl
theorem q1590 : (Jvm.Cond.fieldLink "DowryBoxesModel" (42 : Nat) "DowryBoxesModel" "nClause" "[I") ∈ lw_all := lw_g (lw_at lw_m7 30 rfl) rfl
theorem q1591 : (Jvm.Cond.fieldLink "DowryBoxesModel" (312 : Nat) "DowryBoxesModel" "nCode" "I") ∈ lw_all := lw_g (lw_at lw_m7 31 rfl) rfl
theorem q1592 : (Jvm.Cond.fieldLink "DowryBoxesModel" (45 : Nat) "DowryBoxesModel" "nOp" "[I") ∈ lw_all := lw_g (lw_at lw_m7 32 rfl) rfl
theorem q1593 : (Jvm.Cond.fieldLink "DowryBoxesModel" (48 : Nat) "DowryBoxesModel" "nArg" "[I") ∈ lw_all := lw_g (lw_at lw_m7 33 rfl) rfl
theorem q1594 : (Jvm.Cond.fieldLink "DowryBoxesModel" (341 : Nat) "DowryBoxesModel" "nLeaves" "I") ∈ lw_all := lw_g (lw_at lw_m7 34 rfl) rfl
theorem q1595 : (Jvm.Cond.fieldLink "DowryBoxesModel" (51 : Nat) "DowryBoxesModel" "pile" "[I") ∈ lw_all := lw_g (lw_at lw_m7 35 rfl) rfl
theorem q1596 : (Jvm.Cond.fieldLink "DowryBoxesModel" (54 : Nat) "DowryBoxesModel" "pileAt" "[I") ∈ lw_all := lw_g (lw_at lw_m7 36 rfl) rfl
theorem q1597 : (Jvm.Cond.fieldLink "DowryBoxesModel" (315 : Nat) "DowryBoxesModel" "piled" "I") ∈ lw_all := lw_g (lw_at lw_m7 37 rfl) rfl
theorem q1598 : (Jvm.Cond.fieldLink "DowryBoxesModel" (335 : Nat) "DowryBoxesModel" "opened" "I") ∈ lw_all := lw_g (lw_at lw_m7 38 rfl) rfl
theorem q1599 : (Jvm.Cond.fieldLink "DowryBoxesModel" (75 : Nat) "DowryBoxesModel" "words" "[J") ∈ lw_all := lw_g (lw_at lw_m7 39 rfl) rfl
theorem q1600 : (Jvm.Cond.fieldLink "DowryBoxesModel" (87 : Nat) "DowryBoxesModel" "orderWords" "[J") ∈ lw_all := lw_g (lw_at lw_m7 40 rfl) rfl
theorem q1601 : (Jvm.Cond.fieldLink "DowryBoxesModel" (98 : Nat) "DowryBoxesModel" "heads" "[J") ∈ lw_all := lw_g (lw_at lw_m7 41 rfl) rfl
theorem q1602 : (Jvm.Cond.fieldLink "DowryBoxesModel" (427 : Nat) "DowryBoxesModel" "law" "I") ∈ lw_all := lw_g (lw_at lw_m7 42 rfl) rfl
theorem q1603 : (Jvm.Cond.fieldLink "DowryBoxesModel" (101 : Nat) "DowryBoxesModel" "set" "[J") ∈ lw_all := lw_g (lw_at lw_m7 43 rfl) rfl
theorem q1604 : (Jvm.Cond.fieldLink "DowryBoxesModel" (104 : Nat) "DowryBoxesModel" "now" "[J") ∈ lw_all := lw_g (lw_at lw_m7 44 rfl) rfl
theorem q1605 : (Jvm.Cond.fieldLink "DowryBoxesModel" (107 : Nat) "DowryBoxesModel" "rest" "[J") ∈ lw_all := lw_g (lw_at lw_m7 45 rfl) rfl
theorem q1606 : (Jvm.Cond.fieldLink "DowryBoxesModel" (424 : Nat) "DowryBoxesModel" "broken" "Z") ∈ lw_all := lw_g (lw_at lw_m7 46 rfl) rfl
theorem q1607 : (Jvm.Cond.fieldLink "DowryBoxesModel" (438 : Nat) "DowryBoxesModel" "value" "J") ∈ lw_all := lw_g (lw_at lw_m7 47 rfl) rfl
theorem q1608 : (Jvm.Cond.fieldLink "DowryBoxesModel" (444 : Nat) "DowryBoxesModel" "sum" "J") ∈ lw_all := lw_g (lw_at lw_m7 48 rfl) rfl
theorem q1609 : (Jvm.Cond.fieldLink "DowryBoxesModel" (110 : Nat) "DowryBoxesModel" "lost" "[I") ∈ lw_all := lw_g (lw_at lw_m7 49 rfl) rfl
theorem q1610 : (Jvm.Cond.fieldLink "DowryBoxesModel" (113 : Nat) "DowryBoxesModel" "off1" "[I") ∈ lw_all := lw_g (lw_at lw_m7 50 rfl) rfl
theorem q1611 : (Jvm.Cond.fieldLink "DowryBoxesModel" (116 : Nat) "DowryBoxesModel" "liked" "[I") ∈ lw_all := lw_g (lw_at lw_m7 51 rfl) rfl
theorem q1612 : (Jvm.Cond.fieldLink "DowryBoxesModel" (119 : Nat) "DowryBoxesModel" "steadyOf" "[I") ∈ lw_all := lw_g (lw_at lw_m7 52 rfl) rfl
theorem q1613 : (Jvm.Cond.fieldLink "DowryBoxesModel" (122 : Nat) "DowryBoxesModel" "refusedBy" "[Z") ∈ lw_all := lw_g (lw_at lw_m7 53 rfl) rfl
theorem q1614 : (Jvm.Cond.fieldLink "DowryBoxesModel" (125 : Nat) "DowryBoxesModel" "best1" "[I") ∈ lw_all := lw_g (lw_at lw_m7 54 rfl) rfl
theorem q1615 : (Jvm.Cond.fieldLink "DowryBoxesModel" (128 : Nat) "DowryBoxesModel" "more1" "[I") ∈ lw_all := lw_g (lw_at lw_m7 55 rfl) rfl
theorem q1616 : (Jvm.Cond.fieldLink "DowryBoxesModel" (131 : Nat) "DowryBoxesModel" "clashWith" "[I") ∈ lw_all := lw_g (lw_at lw_m7 56 rfl) rfl
theorem q1617 : (Jvm.Cond.fieldLink "DowryBoxesModel" (134 : Nat) "DowryBoxesModel" "has" "[I") ∈ lw_all := lw_g (lw_at lw_m7 57 rfl) rfl
theorem q1618 : (Jvm.Cond.fieldLink "DowryBoxesModel" (137 : Nat) "DowryBoxesModel" "worths" "[I") ∈ lw_all := lw_g (lw_at lw_m7 58 rfl) rfl
theorem q1619 : (Jvm.Cond.fieldLink "DowryBoxesModel" (140 : Nat) "DowryBoxesModel" "parts" "[J") ∈ lw_all := lw_g (lw_at lw_m7 59 rfl) rfl
theorem q1620 : (Jvm.Cond.fieldLink "DowryBoxesModel" (151 : Nat) "DowryBoxesModel" "acts" "[J") ∈ lw_all := lw_g (lw_at lw_m7 60 rfl) rfl
theorem q1621 : (Jvm.Cond.fieldLink "DowryBoxesModel" (160 : Nat) "DowryBoxesModel" "joins" "[J") ∈ lw_all := lw_g (lw_at lw_m7 61 rfl) rfl
theorem q1622 : (Jvm.Cond.fieldLink "DowryBoxesModel" (163 : Nat) "DowryBoxesModel" "nOrder" "[I") ∈ lw_all := lw_g (lw_at lw_m7 62 rfl) rfl
theorem q1623 : (Jvm.Cond.fieldLink "DowryBoxesModel" (542 : Nat) "DowryBoxesModel" "done" "I") ∈ lw_all := lw_g (lw_at lw_m7 63 rfl) rfl
theorem q1624 : (Jvm.Cond.fieldLink "DowryBoxesModel" (545 : Nat) "DowryBoxesModel" "latest" "I") ∈ lw_all := lw_g (lw_at lw_m7 64 rfl) rfl
theorem q1625 : (Jvm.Cond.fieldLink "DowryBoxesModel" (166 : Nat) "DowryBoxesModel" "stopped" "I") ∈ lw_all := lw_g (lw_at lw_m7 65 rfl) rfl
theorem q1626 : (Jvm.Cond.fieldLink "DowryBoxesModel" (539 : Nat) "DowryBoxesModel" "off" "Z") ∈ lw_all := lw_g (lw_at lw_m7 66 rfl) rfl
theorem q1627 : (Jvm.Cond.fieldLink "DowryBoxesModel" (566 : Nat) "DowryBoxesModel" "state" "J") ∈ lw_all := lw_g (lw_at lw_m7 67 rfl) rfl
theorem q1628 : (Jvm.Cond.fieldLink "DowryBoxesModel" (169 : Nat) "DowryBoxesModel" "drawn" "[I") ∈ lw_all := lw_g (lw_at lw_m7 68 rfl) rfl
theorem q1629 : (Jvm.Cond.fieldLink "DowryBoxesModel" (172 : Nat) "DowryBoxesModel" "drawnBoxes" "I") ∈ lw_all := lw_g (lw_at lw_m7 69 rfl) rfl
theorem q1630 : (Jvm.Cond.lays "DowryBoxesModel" "DowryBoxesModel" "thrown" "I") ∈ lw_all := lw_g (lw_at lw_m7 70 rfl) rfl
theorem q1631 : (Jvm.Cond.soleField "DowryBoxesModel" "thrown") ∈ lw_all := lw_g (lw_at lw_m7 71 rfl) rfl
theorem q1632 : (Jvm.Cond.lays "DowryBoxesModel" "DowryBoxesModel" "status" "I") ∈ lw_all := lw_g (lw_at lw_m7 72 rfl) rfl
theorem q1633 : (Jvm.Cond.soleField "DowryBoxesModel" "status") ∈ lw_all := lw_g (lw_at lw_m7 73 rfl) rfl
theorem q1634 : (Jvm.Cond.laysFinal "DowryBoxesModel" "DowryBoxesModel" "refusals" "[I") ∈ lw_all := lw_g (lw_at lw_m7 74 rfl) rfl
theorem q1635 : (Jvm.Cond.soleField "DowryBoxesModel" "refusals") ∈ lw_all := lw_g (lw_at lw_m7 75 rfl) rfl
theorem q1636 : (Jvm.Cond.laysFinal "DowryBoxesModel" "DowryBoxesModel" "row" "[I") ∈ lw_all := lw_g (lw_at lw_m7 76 rfl) rfl
theorem q1637 : (Jvm.Cond.soleField "DowryBoxesModel" "row") ∈ lw_all := lw_g (lw_at lw_m7 77 rfl) rfl
theorem q1638 : (Jvm.Cond.laysFinal "DowryBoxesModel" "DowryBoxesModel" "images" "[I") ∈ lw_all := lw_g (lw_at lw_m7 78 rfl) rfl
theorem q1639 : (Jvm.Cond.soleField "DowryBoxesModel" "images") ∈ lw_all := lw_g (lw_at lw_m7 79 rfl) rfl
theorem q1640 : (Jvm.Cond.laysFinal "DowryBoxesModel" "DowryBoxesModel" "isKept" "[Z") ∈ lw_all := lw_g (lw_at lw_m7 80 rfl) rfl
theorem q1641 : (Jvm.Cond.soleField "DowryBoxesModel" "isKept") ∈ lw_all := lw_g (lw_at lw_m7 81 rfl) rfl
theorem q1642 : (Jvm.Cond.laysFinal "DowryBoxesModel" "DowryBoxesModel" "undos" "[I") ∈ lw_all := lw_g (lw_at lw_m7 82 rfl) rfl
theorem q1643 : (Jvm.Cond.soleField "DowryBoxesModel" "undos") ∈ lw_all := lw_g (lw_at lw_m7 83 rfl) rfl
theorem q1644 : (Jvm.Cond.laysFinal "DowryBoxesModel" "DowryBoxesModel" "sorts" "[I") ∈ lw_all := lw_g (lw_at lw_m7 84 rfl) rfl
theorem q1645 : (Jvm.Cond.soleField "DowryBoxesModel" "sorts") ∈ lw_all := lw_g (lw_at lw_m7 85 rfl) rfl
theorem q1646 : (Jvm.Cond.lays "DowryBoxesModel" "DowryBoxesModel" "nUndo" "I") ∈ lw_all := lw_g (lw_at lw_m7 86 rfl) rfl
theorem q1647 : (Jvm.Cond.soleField "DowryBoxesModel" "nUndo") ∈ lw_all := lw_g (lw_at lw_m7 87 rfl) rfl
theorem q1648 : (Jvm.Cond.laysFinal "DowryBoxesModel" "DowryBoxesModel" "undosBefore" "[I") ∈ lw_all := lw_g (lw_at lw_m7 88 rfl) rfl
theorem q1649 : (Jvm.Cond.soleField "DowryBoxesModel" "undosBefore") ∈ lw_all := lw_g (lw_at lw_m7 89 rfl) rfl
theorem q1650 : (Jvm.Cond.laysFinal "DowryBoxesModel" "DowryBoxesModel" "sortsBefore" "[I") ∈ lw_all := lw_g (lw_at lw_m7 90 rfl) rfl
theorem q1651 : (Jvm.Cond.soleField "DowryBoxesModel" "sortsBefore") ∈ lw_all := lw_g (lw_at lw_m7 91 rfl) rfl
theorem q1652 : (Jvm.Cond.lays "DowryBoxesModel" "DowryBoxesModel" "rust" "I") ∈ lw_all := lw_g (lw_at lw_m7 92 rfl) rfl
theorem q1653 : (Jvm.Cond.soleField "DowryBoxesModel" "rust") ∈ lw_all := lw_g (lw_at lw_m7 93 rfl) rfl
theorem q1654 : (Jvm.Cond.laysFinal "DowryBoxesModel" "DowryBoxesModel" "tape" "[I") ∈ lw_all := lw_g (lw_at lw_m7 94 rfl) rfl
theorem q1655 : (Jvm.Cond.soleField "DowryBoxesModel" "tape") ∈ lw_all := lw_g (lw_at lw_m7 95 rfl) rfl
theorem q1656 : (Jvm.Cond.lays "DowryBoxesModel" "DowryBoxesModel" "taped" "I") ∈ lw_all := lw_g (lw_at lw_m7 96 rfl) rfl
theorem q1657 : (Jvm.Cond.soleField "DowryBoxesModel" "taped") ∈ lw_all := lw_g (lw_at lw_m7 97 rfl) rfl
theorem q1658 : (Jvm.Cond.lays "DowryBoxesModel" "DowryBoxesModel" "from" "I") ∈ lw_all := lw_g (lw_at lw_m7 98 rfl) rfl
theorem q1659 : (Jvm.Cond.soleField "DowryBoxesModel" "from") ∈ lw_all := lw_g (lw_at lw_m7 99 rfl) rfl
theorem q1660 : (Jvm.Cond.lays "DowryBoxesModel" "DowryBoxesModel" "to" "I") ∈ lw_all := lw_g (lw_at lw_m7 100 rfl) rfl
theorem q1661 : (Jvm.Cond.soleField "DowryBoxesModel" "to") ∈ lw_all := lw_g (lw_at lw_m7 101 rfl) rfl
theorem q1662 : (Jvm.Cond.lays "DowryBoxesModel" "DowryBoxesModel" "sort" "I") ∈ lw_all := lw_g (lw_at lw_m7 102 rfl) rfl
theorem q1663 : (Jvm.Cond.soleField "DowryBoxesModel" "sort") ∈ lw_all := lw_g (lw_at lw_m7 103 rfl) rfl
theorem q1664 : (Jvm.Cond.lays "DowryBoxesModel" "DowryBoxesModel" "worth" "J") ∈ lw_all := lw_g (lw_at lw_m7 104 rfl) rfl
theorem q1665 : (Jvm.Cond.soleField "DowryBoxesModel" "worth") ∈ lw_all := lw_g (lw_at lw_m7 105 rfl) rfl
theorem q1666 : (Jvm.Cond.lays "DowryBoxesModel" "DowryBoxesModel" "fault" "I") ∈ lw_all := lw_g (lw_at lw_m7 106 rfl) rfl
theorem q1667 : (Jvm.Cond.soleField "DowryBoxesModel" "fault") ∈ lw_all := lw_g (lw_at lw_m7 107 rfl) rfl
theorem q1668 : (Jvm.Cond.lays "DowryBoxesModel" "DowryBoxesModel" "bad" "Z") ∈ lw_all := lw_g (lw_at lw_m7 108 rfl) rfl
theorem q1669 : (Jvm.Cond.soleField "DowryBoxesModel" "bad") ∈ lw_all := lw_g (lw_at lw_m7 109 rfl) rfl
theorem q1670 : (Jvm.Cond.lays "DowryBoxesModel" "DowryBoxesModel" "ordered" "Z") ∈ lw_all := lw_g (lw_at lw_m7 110 rfl) rfl
theorem q1671 : (Jvm.Cond.soleField "DowryBoxesModel" "ordered") ∈ lw_all := lw_g (lw_at lw_m7 111 rfl) rfl
theorem q1672 : (Jvm.Cond.lays "DowryBoxesModel" "DowryBoxesModel" "nClauses" "I") ∈ lw_all := lw_g (lw_at lw_m7 112 rfl) rfl
theorem q1673 : (Jvm.Cond.soleField "DowryBoxesModel" "nClauses") ∈ lw_all := lw_g (lw_at lw_m7 113 rfl) rfl
theorem q1674 : (Jvm.Cond.laysFinal "DowryBoxesModel" "DowryBoxesModel" "nClause" "[I") ∈ lw_all := lw_g (lw_at lw_m7 114 rfl) rfl
theorem q1675 : (Jvm.Cond.soleField "DowryBoxesModel" "nClause") ∈ lw_all := lw_g (lw_at lw_m7 115 rfl) rfl
theorem q1676 : (Jvm.Cond.lays "DowryBoxesModel" "DowryBoxesModel" "nCode" "I") ∈ lw_all := lw_g (lw_at lw_m7 116 rfl) rfl
theorem q1677 : (Jvm.Cond.soleField "DowryBoxesModel" "nCode") ∈ lw_all := lw_g (lw_at lw_m7 117 rfl) rfl
theorem q1678 : (Jvm.Cond.laysFinal "DowryBoxesModel" "DowryBoxesModel" "nOp" "[I") ∈ lw_all := lw_g (lw_at lw_m7 118 rfl) rfl
theorem q1679 : (Jvm.Cond.soleField "DowryBoxesModel" "nOp") ∈ lw_all := lw_g (lw_at lw_m7 119 rfl) rfl
theorem q1680 : (Jvm.Cond.laysFinal "DowryBoxesModel" "DowryBoxesModel" "nArg" "[I") ∈ lw_all := lw_g (lw_at lw_m7 120 rfl) rfl
theorem q1681 : (Jvm.Cond.soleField "DowryBoxesModel" "nArg") ∈ lw_all := lw_g (lw_at lw_m7 121 rfl) rfl
theorem q1682 : (Jvm.Cond.lays "DowryBoxesModel" "DowryBoxesModel" "nLeaves" "I") ∈ lw_all := lw_g (lw_at lw_m7 122 rfl) rfl
theorem q1683 : (Jvm.Cond.soleField "DowryBoxesModel" "nLeaves") ∈ lw_all := lw_g (lw_at lw_m7 123 rfl) rfl
theorem q1684 : (Jvm.Cond.laysFinal "DowryBoxesModel" "DowryBoxesModel" "pile" "[I") ∈ lw_all := lw_g (lw_at lw_m7 124 rfl) rfl
theorem q1685 : (Jvm.Cond.soleField "DowryBoxesModel" "pile") ∈ lw_all := lw_g (lw_at lw_m7 125 rfl) rfl
theorem q1686 : (Jvm.Cond.laysFinal "DowryBoxesModel" "DowryBoxesModel" "pileAt" "[I") ∈ lw_all := lw_g (lw_at lw_m7 126 rfl) rfl
theorem q1687 : (Jvm.Cond.soleField "DowryBoxesModel" "pileAt") ∈ lw_all := lw_g (lw_at lw_m7 127 rfl) rfl
theorem q1688 : (Jvm.Cond.lays "DowryBoxesModel" "DowryBoxesModel" "piled" "I") ∈ lw_all := lw_g (lw_at lw_m7 128 rfl) rfl
theorem q1689 : (Jvm.Cond.soleField "DowryBoxesModel" "piled") ∈ lw_all := lw_g (lw_at lw_m7 129 rfl) rfl
theorem q1690 : (Jvm.Cond.lays "DowryBoxesModel" "DowryBoxesModel" "opened" "I") ∈ lw_all := lw_g (lw_at lw_m7 130 rfl) rfl
theorem q1691 : (Jvm.Cond.soleField "DowryBoxesModel" "opened") ∈ lw_all := lw_g (lw_at lw_m7 131 rfl) rfl
theorem q1692 : (Jvm.Cond.laysFinal "DowryBoxesModel" "DowryBoxesModel" "words" "[J") ∈ lw_all := lw_g (lw_at lw_m7 132 rfl) rfl
theorem q1693 : (Jvm.Cond.soleField "DowryBoxesModel" "words") ∈ lw_all := lw_g (lw_at lw_m7 133 rfl) rfl
theorem q1694 : (Jvm.Cond.laysFinal "DowryBoxesModel" "DowryBoxesModel" "orderWords" "[J") ∈ lw_all := lw_g (lw_at lw_m7 134 rfl) rfl
theorem q1695 : (Jvm.Cond.soleField "DowryBoxesModel" "orderWords") ∈ lw_all := lw_g (lw_at lw_m7 135 rfl) rfl
theorem q1696 : (Jvm.Cond.laysFinal "DowryBoxesModel" "DowryBoxesModel" "heads" "[J") ∈ lw_all := lw_g (lw_at lw_m7 136 rfl) rfl
theorem q1697 : (Jvm.Cond.soleField "DowryBoxesModel" "heads") ∈ lw_all := lw_g (lw_at lw_m7 137 rfl) rfl
theorem q1698 : (Jvm.Cond.lays "DowryBoxesModel" "DowryBoxesModel" "law" "I") ∈ lw_all := lw_g (lw_at lw_m7 138 rfl) rfl
theorem q1699 : (Jvm.Cond.soleField "DowryBoxesModel" "law") ∈ lw_all := lw_g (lw_at lw_m7 139 rfl) rfl
theorem q1700 : (Jvm.Cond.laysFinal "DowryBoxesModel" "DowryBoxesModel" "set" "[J") ∈ lw_all := lw_g (lw_at lw_m7 140 rfl) rfl
theorem q1701 : (Jvm.Cond.soleField "DowryBoxesModel" "set") ∈ lw_all := lw_g (lw_at lw_m7 141 rfl) rfl
theorem q1702 : (Jvm.Cond.laysFinal "DowryBoxesModel" "DowryBoxesModel" "now" "[J") ∈ lw_all := lw_g (lw_at lw_m7 142 rfl) rfl
theorem q1703 : (Jvm.Cond.soleField "DowryBoxesModel" "now") ∈ lw_all := lw_g (lw_at lw_m7 143 rfl) rfl
theorem q1704 : (Jvm.Cond.laysFinal "DowryBoxesModel" "DowryBoxesModel" "rest" "[J") ∈ lw_all := lw_g (lw_at lw_m7 144 rfl) rfl
theorem q1705 : (Jvm.Cond.soleField "DowryBoxesModel" "rest") ∈ lw_all := lw_g (lw_at lw_m7 145 rfl) rfl
theorem q1706 : (Jvm.Cond.lays "DowryBoxesModel" "DowryBoxesModel" "broken" "Z") ∈ lw_all := lw_g (lw_at lw_m7 146 rfl) rfl
theorem q1707 : (Jvm.Cond.soleField "DowryBoxesModel" "broken") ∈ lw_all := lw_g (lw_at lw_m7 147 rfl) rfl
theorem q1708 : (Jvm.Cond.lays "DowryBoxesModel" "DowryBoxesModel" "value" "J") ∈ lw_all := lw_g (lw_at lw_m7 148 rfl) rfl
theorem q1709 : (Jvm.Cond.soleField "DowryBoxesModel" "value") ∈ lw_all := lw_g (lw_at lw_m7 149 rfl) rfl
theorem q1710 : (Jvm.Cond.lays "DowryBoxesModel" "DowryBoxesModel" "sum" "J") ∈ lw_all := lw_g (lw_at lw_m7 150 rfl) rfl
theorem q1711 : (Jvm.Cond.soleField "DowryBoxesModel" "sum") ∈ lw_all := lw_g (lw_at lw_m7 151 rfl) rfl
theorem q1712 : (Jvm.Cond.laysFinal "DowryBoxesModel" "DowryBoxesModel" "lost" "[I") ∈ lw_all := lw_g (lw_at lw_m7 152 rfl) rfl
theorem q1713 : (Jvm.Cond.soleField "DowryBoxesModel" "lost") ∈ lw_all := lw_g (lw_at lw_m7 153 rfl) rfl
theorem q1714 : (Jvm.Cond.laysFinal "DowryBoxesModel" "DowryBoxesModel" "off1" "[I") ∈ lw_all := lw_g (lw_at lw_m7 154 rfl) rfl
theorem q1715 : (Jvm.Cond.soleField "DowryBoxesModel" "off1") ∈ lw_all := lw_g (lw_at lw_m7 155 rfl) rfl
theorem q1716 : (Jvm.Cond.laysFinal "DowryBoxesModel" "DowryBoxesModel" "liked" "[I") ∈ lw_all := lw_g (lw_at lw_m7 156 rfl) rfl
theorem q1717 : (Jvm.Cond.soleField "DowryBoxesModel" "liked") ∈ lw_all := lw_g (lw_at lw_m7 157 rfl) rfl
theorem q1718 : (Jvm.Cond.laysFinal "DowryBoxesModel" "DowryBoxesModel" "steadyOf" "[I") ∈ lw_all := lw_g (lw_at lw_m7 158 rfl) rfl
theorem q1719 : (Jvm.Cond.soleField "DowryBoxesModel" "steadyOf") ∈ lw_all := lw_g (lw_at lw_m7 159 rfl) rfl
theorem q1720 : (Jvm.Cond.laysFinal "DowryBoxesModel" "DowryBoxesModel" "refusedBy" "[Z") ∈ lw_all := lw_g (lw_at lw_m7 160 rfl) rfl
theorem q1721 : (Jvm.Cond.soleField "DowryBoxesModel" "refusedBy") ∈ lw_all := lw_g (lw_at lw_m7 161 rfl) rfl
theorem q1722 : (Jvm.Cond.laysFinal "DowryBoxesModel" "DowryBoxesModel" "best1" "[I") ∈ lw_all := lw_g (lw_at lw_m7 162 rfl) rfl
theorem q1723 : (Jvm.Cond.soleField "DowryBoxesModel" "best1") ∈ lw_all := lw_g (lw_at lw_m7 163 rfl) rfl
theorem q1724 : (Jvm.Cond.laysFinal "DowryBoxesModel" "DowryBoxesModel" "more1" "[I") ∈ lw_all := lw_g (lw_at lw_m7 164 rfl) rfl
theorem q1725 : (Jvm.Cond.soleField "DowryBoxesModel" "more1") ∈ lw_all := lw_g (lw_at lw_m7 165 rfl) rfl
theorem q1726 : (Jvm.Cond.laysFinal "DowryBoxesModel" "DowryBoxesModel" "clashWith" "[I") ∈ lw_all := lw_g (lw_at lw_m7 166 rfl) rfl
theorem q1727 : (Jvm.Cond.soleField "DowryBoxesModel" "clashWith") ∈ lw_all := lw_g (lw_at lw_m7 167 rfl) rfl
theorem q1728 : (Jvm.Cond.laysFinal "DowryBoxesModel" "DowryBoxesModel" "has" "[I") ∈ lw_all := lw_g (lw_at lw_m7 168 rfl) rfl
theorem q1729 : (Jvm.Cond.soleField "DowryBoxesModel" "has") ∈ lw_all := lw_g (lw_at lw_m7 169 rfl) rfl
theorem q1730 : (Jvm.Cond.laysFinal "DowryBoxesModel" "DowryBoxesModel" "worths" "[I") ∈ lw_all := lw_g (lw_at lw_m7 170 rfl) rfl
theorem q1731 : (Jvm.Cond.soleField "DowryBoxesModel" "worths") ∈ lw_all := lw_g (lw_at lw_m7 171 rfl) rfl
theorem q1732 : (Jvm.Cond.laysFinal "DowryBoxesModel" "DowryBoxesModel" "parts" "[J") ∈ lw_all := lw_g (lw_at lw_m7 172 rfl) rfl
theorem q1733 : (Jvm.Cond.soleField "DowryBoxesModel" "parts") ∈ lw_all := lw_g (lw_at lw_m7 173 rfl) rfl
theorem q1734 : (Jvm.Cond.laysFinal "DowryBoxesModel" "DowryBoxesModel" "acts" "[J") ∈ lw_all := lw_g (lw_at lw_m7 174 rfl) rfl
theorem q1735 : (Jvm.Cond.soleField "DowryBoxesModel" "acts") ∈ lw_all := lw_g (lw_at lw_m7 175 rfl) rfl
theorem q1736 : (Jvm.Cond.laysFinal "DowryBoxesModel" "DowryBoxesModel" "joins" "[J") ∈ lw_all := lw_g (lw_at lw_m7 176 rfl) rfl
theorem q1737 : (Jvm.Cond.soleField "DowryBoxesModel" "joins") ∈ lw_all := lw_g (lw_at lw_m7 177 rfl) rfl
theorem q1738 : (Jvm.Cond.laysFinal "DowryBoxesModel" "DowryBoxesModel" "nOrder" "[I") ∈ lw_all := lw_g (lw_at lw_m7 178 rfl) rfl
theorem q1739 : (Jvm.Cond.soleField "DowryBoxesModel" "nOrder") ∈ lw_all := lw_g (lw_at lw_m7 179 rfl) rfl
theorem q1740 : (Jvm.Cond.lays "DowryBoxesModel" "DowryBoxesModel" "done" "I") ∈ lw_all := lw_g (lw_at lw_m7 180 rfl) rfl
theorem q1741 : (Jvm.Cond.soleField "DowryBoxesModel" "done") ∈ lw_all := lw_g (lw_at lw_m7 181 rfl) rfl
theorem q1742 : (Jvm.Cond.lays "DowryBoxesModel" "DowryBoxesModel" "latest" "I") ∈ lw_all := lw_g (lw_at lw_m7 182 rfl) rfl
theorem q1743 : (Jvm.Cond.soleField "DowryBoxesModel" "latest") ∈ lw_all := lw_g (lw_at lw_m7 183 rfl) rfl
theorem q1744 : (Jvm.Cond.lays "DowryBoxesModel" "DowryBoxesModel" "stopped" "I") ∈ lw_all := lw_g (lw_at lw_m7 184 rfl) rfl
theorem q1745 : (Jvm.Cond.soleField "DowryBoxesModel" "stopped") ∈ lw_all := lw_g (lw_at lw_m7 185 rfl) rfl
theorem q1746 : (Jvm.Cond.lays "DowryBoxesModel" "DowryBoxesModel" "off" "Z") ∈ lw_all := lw_g (lw_at lw_m7 186 rfl) rfl
theorem q1747 : (Jvm.Cond.soleField "DowryBoxesModel" "off") ∈ lw_all := lw_g (lw_at lw_m7 187 rfl) rfl
theorem q1748 : (Jvm.Cond.lays "DowryBoxesModel" "DowryBoxesModel" "state" "J") ∈ lw_all := lw_g (lw_at lw_m7 188 rfl) rfl
theorem q1749 : (Jvm.Cond.soleField "DowryBoxesModel" "state") ∈ lw_all := lw_g (lw_at lw_m7 189 rfl) rfl
theorem q1750 : (Jvm.Cond.laysFinal "DowryBoxesModel" "DowryBoxesModel" "drawn" "[I") ∈ lw_all := lw_g (lw_at lw_m7 190 rfl) rfl
theorem q1751 : (Jvm.Cond.soleField "DowryBoxesModel" "drawn") ∈ lw_all := lw_g (lw_at lw_m7 191 rfl) rfl
theorem q1752 : (Jvm.Cond.lays "DowryBoxesModel" "DowryBoxesModel" "drawnBoxes" "I") ∈ lw_all := lw_g (lw_at lw_m7 192 rfl) rfl
theorem q1753 : (Jvm.Cond.soleField "DowryBoxesModel" "drawnBoxes") ∈ lw_all := lw_g (lw_at lw_m7 193 rfl) rfl
theorem q1754 : (Jvm.Cond.superclass "DowryBoxesModel" "java/lang/Object") ∈ lw_all := lw_g (lw_at lw_m7 194 rfl) rfl
theorem q1757 : (Jvm.Cond.instanceMethod ({ cls := "DowryBoxesModel", name := "undo", desc := "()I" } : Jvm.MethodName)) ∈ lw_all := lw_g (lw_at lw_m7 197 rfl) rfl
theorem q1758 : (Jvm.Cond.selects "DowryBoxesModel" ({ cls := "DowryBoxesModel", name := "undo", desc := "()I" } : Jvm.MethodName) ({ cls := "DowryBoxesModel", name := "undo", desc := "()I" } : Jvm.MethodName)) ∈ lw_all := lw_g (lw_at lw_m7 198 rfl) rfl
theorem q1759 : (Jvm.Cond.code ({ cls := "DowryBoxesModel", name := "undo", desc := "()I" } : Jvm.MethodName) prog_22_method_13_code (1 : Nat) (Option.some Jvm.ClassFile.FieldType.int)) ∈ lw_all := lw_g (lw_at lw_m7 199 rfl) rfl
theorem q1760 : (Jvm.Cond.methodLink "DowryBoxesModel" (184 : Nat) ({ cls := "DowryBoxesModel", name := "tell", desc := "(I)I" } : Jvm.MethodName)) ∈ lw_all := lw_g (lw_at lw_m7 200 rfl) rfl
theorem q1761 : (Jvm.Cond.privateMethod ({ cls := "DowryBoxesModel", name := "tell", desc := "(I)I" } : Jvm.MethodName)) ∈ lw_tbl := lw_at lw_m7 201 rfl
theorem q1762 : (Jvm.Cond.instanceMethod ({ cls := "DowryBoxesModel", name := "tell", desc := "(I)I" } : Jvm.MethodName)) ∈ lw_all := lw_g (lw_at lw_m7 202 rfl) rfl
theorem q1763 : (Jvm.Cond.code ({ cls := "DowryBoxesModel", name := "tell", desc := "(I)I" } : Jvm.MethodName) prog_22_method_7_code (2 : Nat) (Option.some Jvm.ClassFile.FieldType.int)) ∈ lw_all := lw_g (lw_at lw_m7 203 rfl) rfl
theorem q1764 : (Jvm.Cond.methodLink "DowryBoxesModel" (192 : Nat) ({ cls := "DowryBoxesModel", name := "putBack", desc := "(I)V" } : Jvm.MethodName)) ∈ lw_all := lw_g (lw_at lw_m7 204 rfl) rfl
theorem q1765 : (Jvm.Cond.privateMethod ({ cls := "DowryBoxesModel", name := "putBack", desc := "(I)V" } : Jvm.MethodName)) ∈ lw_tbl := lw_at lw_m7 205 rfl
theorem q1766 : (Jvm.Cond.instanceMethod ({ cls := "DowryBoxesModel", name := "putBack", desc := "(I)V" } : Jvm.MethodName)) ∈ lw_all := lw_g (lw_at lw_m7 206 rfl) rfl
theorem q1767 : (Jvm.Cond.code ({ cls := "DowryBoxesModel", name := "putBack", desc := "(I)V" } : Jvm.MethodName) prog_22_method_11_code (3 : Nat) (Option.none : Option Jvm.ClassFile.FieldType)) ∈ lw_all := lw_g (lw_at lw_m7 207 rfl) rfl
theorem q1769 : (Jvm.Cond.instanceMethod ({ cls := "DowryBoxesModel", name := "image", desc := "(I)I" } : Jvm.MethodName)) ∈ lw_all := lw_g (lw_at lw_m7 209 rfl) rfl
theorem q1770 : (Jvm.Cond.selects "DowryBoxesModel" ({ cls := "DowryBoxesModel", name := "image", desc := "(I)I" } : Jvm.MethodName) ({ cls := "DowryBoxesModel", name := "image", desc := "(I)I" } : Jvm.MethodName)) ∈ lw_all := lw_g (lw_at lw_m7 210 rfl) rfl
theorem q1771 : (Jvm.Cond.code ({ cls := "DowryBoxesModel", name := "image", desc := "(I)I" } : Jvm.MethodName) prog_22_method_14_code (3 : Nat) (Option.some Jvm.ClassFile.FieldType.int)) ∈ lw_all := lw_g (lw_at lw_m7 211 rfl) rfl
theorem q1772 : (Jvm.Cond.methodLink "DowryBoxesModel" (195 : Nat) ({ cls := "DowryBoxesModel", name := "in", desc := "(JJJ)Z" } : Jvm.MethodName)) ∈ lw_all := lw_g (lw_at lw_m7 212 rfl) rfl
theorem q1773 : (Jvm.Cond.static ({ cls := "DowryBoxesModel", name := "in", desc := "(JJJ)Z" } : Jvm.MethodName)) ∈ lw_all := lw_g (lw_at lw_m7 213 rfl) rfl
theorem q1774 : (Jvm.Cond.code ({ cls := "DowryBoxesModel", name := "in", desc := "(JJJ)Z" } : Jvm.MethodName) prog_22_method_3_code (6 : Nat) (Option.some Jvm.ClassFile.FieldType.boolean)) ∈ lw_all := lw_g (lw_at lw_m7 214 rfl) rfl
theorem q1776 : (Jvm.Cond.instanceMethod ({ cls := "DowryBoxesModel", name := "back", desc := "(I)I" } : Jvm.MethodName)) ∈ lw_all := lw_g (lw_at lw_m7 216 rfl) rfl
theorem q1777 : (Jvm.Cond.selects "DowryBoxesModel" ({ cls := "DowryBoxesModel", name := "back", desc := "(I)I" } : Jvm.MethodName) ({ cls := "DowryBoxesModel", name := "back", desc := "(I)I" } : Jvm.MethodName)) ∈ lw_all := lw_g (lw_at lw_m7 217 rfl) rfl
theorem q1778 : (Jvm.Cond.code ({ cls := "DowryBoxesModel", name := "back", desc := "(I)I" } : Jvm.MethodName) prog_22_method_15_code (3 : Nat) (Option.some Jvm.ClassFile.FieldType.int)) ∈ lw_all := lw_g (lw_at lw_m7 218 rfl) rfl
theorem q1779 : (Jvm.Cond.methodLink "DowryBoxesModel" (199 : Nat) ({ cls := "DowryBoxesModel", name := "settled", desc := "(I)I" } : Jvm.MethodName)) ∈ lw_all := lw_g (lw_at lw_m7 219 rfl) rfl
theorem q1780 : (Jvm.Cond.privateMethod ({ cls := "DowryBoxesModel", name := "settled", desc := "(I)I" } : Jvm.MethodName)) ∈ lw_tbl := lw_at lw_m7 220 rfl
theorem q1781 : (Jvm.Cond.instanceMethod ({ cls := "DowryBoxesModel", name := "settled", desc := "(I)I" } : Jvm.MethodName)) ∈ lw_all := lw_g (lw_at lw_m7 221 rfl) rfl
theorem q1782 : (Jvm.Cond.code ({ cls := "DowryBoxesModel", name := "settled", desc := "(I)I" } : Jvm.MethodName) prog_22_method_9_code (2 : Nat) (Option.some Jvm.ClassFile.FieldType.int)) ∈ lw_all := lw_g (lw_at lw_m7 222 rfl) rfl
theorem q1784 : (Jvm.Cond.instanceMethod ({ cls := "DowryBoxesModel", name := "box", desc := "(I)I" } : Jvm.MethodName)) ∈ lw_all := lw_g (lw_at lw_m7 224 rfl) rfl
theorem q1785 : (Jvm.Cond.selects "DowryBoxesModel" ({ cls := "DowryBoxesModel", name := "box", desc := "(I)I" } : Jvm.MethodName) ({ cls := "DowryBoxesModel", name := "box", desc := "(I)I" } : Jvm.MethodName)) ∈ lw_all := lw_g (lw_at lw_m7 225 rfl) rfl
theorem q1786 : (Jvm.Cond.code ({ cls := "DowryBoxesModel", name := "box", desc := "(I)I" } : Jvm.MethodName) prog_22_method_25_code (4 : Nat) (Option.some Jvm.ClassFile.FieldType.int)) ∈ lw_all := lw_g (lw_at lw_m7 226 rfl) rfl
theorem q1787 : (Jvm.Cond.constantLong "DowryBoxesModel" (211 : Nat) (20 : Int64)) ∈ lw_all := lw_g (lw_at lw_m7 227 rfl) rfl
theorem q1789 : (Jvm.Cond.instanceMethod ({ cls := "DowryBoxesModel", name := "of", desc := "(II)I" } : Jvm.MethodName)) ∈ lw_all := lw_g (lw_at lw_m7 229 rfl) rfl
theorem q1790 : (Jvm.Cond.selects "DowryBoxesModel" ({ cls := "DowryBoxesModel", name := "of", desc := "(II)I" } : Jvm.MethodName) ({ cls := "DowryBoxesModel", name := "of", desc := "(II)I" } : Jvm.MethodName)) ∈ lw_all := lw_g (lw_at lw_m7 230 rfl) rfl
theorem q1791 : (Jvm.Cond.code ({ cls := "DowryBoxesModel", name := "of", desc := "(II)I" } : Jvm.MethodName) prog_22_method_26_code (3 : Nat) (Option.some Jvm.ClassFile.FieldType.int)) ∈ lw_all := lw_g (lw_at lw_m7 231 rfl) rfl
theorem q1792 : (Jvm.Cond.methodLink "DowryBoxesModel" (213 : Nat) ({ cls := "DowryBoxesModel", name := "isBox", desc := "(I)Z" } : Jvm.MethodName)) ∈ lw_all := lw_g (lw_at lw_m7 232 rfl) rfl
theorem q1793 : (Jvm.Cond.privateMethod ({ cls := "DowryBoxesModel", name := "isBox", desc := "(I)Z" } : Jvm.MethodName)) ∈ lw_tbl := lw_at lw_m7 233 rfl
theorem q1794 : (Jvm.Cond.instanceMethod ({ cls := "DowryBoxesModel", name := "isBox", desc := "(I)Z" } : Jvm.MethodName)) ∈ lw_all := lw_g (lw_at lw_m7 234 rfl) rfl
theorem q1795 : (Jvm.Cond.code ({ cls := "DowryBoxesModel", name := "isBox", desc := "(I)Z" } : Jvm.MethodName) prog_22_method_16_code (2 : Nat) (Option.some Jvm.ClassFile.FieldType.boolean)) ∈ lw_all := lw_g (lw_at lw_m7 235 rfl) rfl
theorem q1796 : (Jvm.Cond.constantLong "DowryBoxesModel" (217 : Nat) (14 : Int64)) ∈ lw_all := lw_g (lw_at lw_m7 236 rfl) rfl
theorem q1797 : (Jvm.Cond.methodLink "DowryBoxesModel" (219 : Nat) ({ cls := "DowryBoxesModel", name := "notesOf", desc := "(I)I" } : Jvm.MethodName)) ∈ lw_all := lw_g (lw_at lw_m7 237 rfl) rfl
theorem q1798 : (Jvm.Cond.privateMethod ({ cls := "DowryBoxesModel", name := "notesOf", desc := "(I)I" } : Jvm.MethodName)) ∈ lw_tbl := lw_at lw_m7 238 rfl
theorem q1799 : (Jvm.Cond.instanceMethod ({ cls := "DowryBoxesModel", name := "notesOf", desc := "(I)I" } : Jvm.MethodName)) ∈ lw_all := lw_g (lw_at lw_m7 239 rfl) rfl
theorem q1800 : (Jvm.Cond.code ({ cls := "DowryBoxesModel", name := "notesOf", desc := "(I)I" } : Jvm.MethodName) prog_22_method_21_code (4 : Nat) (Option.some Jvm.ClassFile.FieldType.int)) ∈ lw_all := lw_g (lw_at lw_m8 0 rfl) rfl
theorem q1801 : (Jvm.Cond.methodLink "DowryBoxesModel" (204 : Nat) ({ cls := "DowryBoxesModel", name := "notesAt", desc := "(II)I" } : Jvm.MethodName)) ∈ lw_all := lw_g (lw_at lw_m8 1 rfl) rfl
theorem q1802 : (Jvm.Cond.privateMethod ({ cls := "DowryBoxesModel", name := "notesAt", desc := "(II)I" } : Jvm.MethodName)) ∈ lw_tbl := lw_at lw_m8 2 rfl
theorem q1803 : (Jvm.Cond.instanceMethod ({ cls := "DowryBoxesModel", name := "notesAt", desc := "(II)I" } : Jvm.MethodName)) ∈ lw_all := lw_g (lw_at lw_m8 3 rfl) rfl
theorem q1804 : (Jvm.Cond.code ({ cls := "DowryBoxesModel", name := "notesAt", desc := "(II)I" } : Jvm.MethodName) prog_22_method_20_code (3 : Nat) (Option.some Jvm.ClassFile.FieldType.int)) ∈ lw_all := lw_g (lw_at lw_m8 4 rfl) rfl
theorem q1805 : (Jvm.Cond.methodLink "DowryBoxesModel" (208 : Nat) ({ cls := "DowryBoxesModel", name := "ones", desc := "(I)I" } : Jvm.MethodName)) ∈ lw_all := lw_g (lw_at lw_m8 5 rfl) rfl
theorem q1806 : (Jvm.Cond.static ({ cls := "DowryBoxesModel", name := "ones", desc := "(I)I" } : Jvm.MethodName)) ∈ lw_all := lw_g (lw_at lw_m8 6 rfl) rfl
theorem q1807 : (Jvm.Cond.code ({ cls := "DowryBoxesModel", name := "ones", desc := "(I)I" } : Jvm.MethodName) prog_22_method_5_code (3 : Nat) (Option.some Jvm.ClassFile.FieldType.int)) ∈ lw_all := lw_g (lw_at lw_m8 7 rfl) rfl
theorem q1808 : (Jvm.Cond.methodLink "DowryBoxesModel" (222 : Nat) ({ cls := "DowryBoxesModel", name := "lastsOf", desc := "(I)I" } : Jvm.MethodName)) ∈ lw_all := lw_g (lw_at lw_m8 8 rfl) rfl
theorem q1809 : (Jvm.Cond.privateMethod ({ cls := "DowryBoxesModel", name := "lastsOf", desc := "(I)I" } : Jvm.MethodName)) ∈ lw_tbl := lw_at lw_m8 9 rfl
theorem q1810 : (Jvm.Cond.instanceMethod ({ cls := "DowryBoxesModel", name := "lastsOf", desc := "(I)I" } : Jvm.MethodName)) ∈ lw_all := lw_g (lw_at lw_m8 10 rfl) rfl
theorem q1811 : (Jvm.Cond.code ({ cls := "DowryBoxesModel", name := "lastsOf", desc := "(I)I" } : Jvm.MethodName) prog_22_method_71_code (2 : Nat) (Option.some Jvm.ClassFile.FieldType.int)) ∈ lw_all := lw_g (lw_at lw_m8 11 rfl) rfl
theorem q1812 : (Jvm.Cond.methodLink "DowryBoxesModel" (450 : Nat) ({ cls := "DowryBoxesModel", name := "tells", desc := "(IIIJ)J" } : Jvm.MethodName)) ∈ lw_all := lw_g (lw_at lw_m8 12 rfl) rfl
theorem q1813 : (Jvm.Cond.privateMethod ({ cls := "DowryBoxesModel", name := "tells", desc := "(IIIJ)J" } : Jvm.MethodName)) ∈ lw_tbl := lw_at lw_m8 13 rfl
theorem q1814 : (Jvm.Cond.instanceMethod ({ cls := "DowryBoxesModel", name := "tells", desc := "(IIIJ)J" } : Jvm.MethodName)) ∈ lw_all := lw_g (lw_at lw_m8 14 rfl) rfl
theorem q1815 : (Jvm.Cond.code ({ cls := "DowryBoxesModel", name := "tells", desc := "(IIIJ)J" } : Jvm.MethodName) prog_22_method_70_code (10 : Nat) (Option.some Jvm.ClassFile.FieldType.long)) ∈ lw_all := lw_g (lw_at lw_m8 15 rfl) rfl
theorem q1816 : (Jvm.Cond.constantLong "DowryBoxesModel" (302 : Nat) (-1 : Int64)) ∈ lw_all := lw_g (lw_at lw_m8 16 rfl) rfl
theorem q1817 : (Jvm.Cond.methodLink "DowryBoxesModel" (247 : Nat) ({ cls := "DowryBoxesModel", name := "earOf", desc := "(II)I" } : Jvm.MethodName)) ∈ lw_all := lw_g (lw_at lw_m8 17 rfl) rfl
theorem q1818 : (Jvm.Cond.privateMethod ({ cls := "DowryBoxesModel", name := "earOf", desc := "(II)I" } : Jvm.MethodName)) ∈ lw_tbl := lw_at lw_m8 18 rfl
theorem q1819 : (Jvm.Cond.instanceMethod ({ cls := "DowryBoxesModel", name := "earOf", desc := "(II)I" } : Jvm.MethodName)) ∈ lw_all := lw_g (lw_at lw_m8 19 rfl) rfl
theorem q1820 : (Jvm.Cond.code ({ cls := "DowryBoxesModel", name := "earOf", desc := "(II)I" } : Jvm.MethodName) prog_22_method_22_code (5 : Nat) (Option.some Jvm.ClassFile.FieldType.int)) ∈ lw_all := lw_g (lw_at lw_m8 20 rfl) rfl
theorem q1821 : (Jvm.Cond.methodLink "DowryBoxesModel" (447 : Nat) ({ cls := "DowryBoxesModel", name := "isSo", desc := "(I)Z" } : Jvm.MethodName)) ∈ lw_all := lw_g (lw_at lw_m8 21 rfl) rfl
theorem q1822 : (Jvm.Cond.privateMethod ({ cls := "DowryBoxesModel", name := "isSo", desc := "(I)Z" } : Jvm.MethodName)) ∈ lw_tbl := lw_at lw_m8 22 rfl
theorem q1823 : (Jvm.Cond.instanceMethod ({ cls := "DowryBoxesModel", name := "isSo", desc := "(I)Z" } : Jvm.MethodName)) ∈ lw_all := lw_g (lw_at lw_m8 23 rfl) rfl
theorem q1824 : (Jvm.Cond.code ({ cls := "DowryBoxesModel", name := "isSo", desc := "(I)Z" } : Jvm.MethodName) prog_22_method_69_code (2 : Nat) (Option.some Jvm.ClassFile.FieldType.boolean)) ∈ lw_all := lw_g (lw_at lw_m8 24 rfl) rfl
theorem q1825 : (Jvm.Cond.methodLink "DowryBoxesModel" (441 : Nat) ({ cls := "DowryBoxesModel", name := "reckonAll", desc := "(II)V" } : Jvm.MethodName)) ∈ lw_all := lw_g (lw_at lw_m8 25 rfl) rfl
theorem q1826 : (Jvm.Cond.privateMethod ({ cls := "DowryBoxesModel", name := "reckonAll", desc := "(II)V" } : Jvm.MethodName)) ∈ lw_tbl := lw_at lw_m8 26 rfl
theorem q1827 : (Jvm.Cond.instanceMethod ({ cls := "DowryBoxesModel", name := "reckonAll", desc := "(II)V" } : Jvm.MethodName)) ∈ lw_all := lw_g (lw_at lw_m8 27 rfl) rfl
theorem q1828 : (Jvm.Cond.code ({ cls := "DowryBoxesModel", name := "reckonAll", desc := "(II)V" } : Jvm.MethodName) prog_22_method_68_code (7 : Nat) (Option.none : Option Jvm.ClassFile.FieldType)) ∈ lw_all := lw_g (lw_at lw_m8 28 rfl) rfl
theorem q1829 : (Jvm.Cond.methodLink "DowryBoxesModel" (430 : Nat) ({ cls := "DowryBoxesModel", name := "reckon", desc := "(IJJ)J" } : Jvm.MethodName)) ∈ lw_all := lw_g (lw_at lw_m8 29 rfl) rfl
theorem q1830 : (Jvm.Cond.privateMethod ({ cls := "DowryBoxesModel", name := "reckon", desc := "(IJJ)J" } : Jvm.MethodName)) ∈ lw_tbl := lw_at lw_m8 30 rfl
theorem q1831 : (Jvm.Cond.instanceMethod ({ cls := "DowryBoxesModel", name := "reckon", desc := "(IJJ)J" } : Jvm.MethodName)) ∈ lw_all := lw_g (lw_at lw_m8 31 rfl) rfl
theorem q1832 : (Jvm.Cond.code ({ cls := "DowryBoxesModel", name := "reckon", desc := "(IJJ)J" } : Jvm.MethodName) prog_22_method_67_code (6 : Nat) (Option.some Jvm.ClassFile.FieldType.long)) ∈ lw_all := lw_g (lw_at lw_m8 32 rfl) rfl
theorem q1833 : (Jvm.Cond.constantLong "DowryBoxesModel" (434 : Nat) (-1000000000 : Int64)) ∈ lw_all := lw_g (lw_at lw_m8 33 rfl) rfl
theorem q1834 : (Jvm.Cond.constantLong "DowryBoxesModel" (436 : Nat) (1000000000 : Int64)) ∈ lw_all := lw_g (lw_at lw_m8 34 rfl) rfl
theorem q1835 : (Jvm.Cond.methodLink "DowryBoxesModel" (454 : Nat) ({ cls := "DowryBoxesModel", name := "within", desc := "(JII)I" } : Jvm.MethodName)) ∈ lw_all := lw_g (lw_at lw_m8 35 rfl) rfl
theorem q1836 : (Jvm.Cond.static ({ cls := "DowryBoxesModel", name := "within", desc := "(JII)I" } : Jvm.MethodName)) ∈ lw_all := lw_g (lw_at lw_m8 36 rfl) rfl
theorem q1837 : (Jvm.Cond.code ({ cls := "DowryBoxesModel", name := "within", desc := "(JII)I" } : Jvm.MethodName) prog_22_method_6_code (4 : Nat) (Option.some Jvm.ClassFile.FieldType.int)) ∈ lw_all := lw_g (lw_at lw_m8 37 rfl) rfl
theorem q1838 : (Jvm.Cond.methodLink "DowryBoxesModel" (225 : Nat) ({ cls := "DowryBoxesModel", name := "losesOf", desc := "(I)I" } : Jvm.MethodName)) ∈ lw_all := lw_g (lw_at lw_m8 38 rfl) rfl
theorem q1839 : (Jvm.Cond.privateMethod ({ cls := "DowryBoxesModel", name := "losesOf", desc := "(I)I" } : Jvm.MethodName)) ∈ lw_tbl := lw_at lw_m8 39 rfl
theorem q1840 : (Jvm.Cond.instanceMethod ({ cls := "DowryBoxesModel", name := "losesOf", desc := "(I)I" } : Jvm.MethodName)) ∈ lw_all := lw_g (lw_at lw_m8 40 rfl) rfl
theorem q1841 : (Jvm.Cond.code ({ cls := "DowryBoxesModel", name := "losesOf", desc := "(I)I" } : Jvm.MethodName) prog_22_method_72_code (2 : Nat) (Option.some Jvm.ClassFile.FieldType.int)) ∈ lw_all := lw_g (lw_at lw_m8 41 rfl) rfl
theorem q1843 : (Jvm.Cond.instanceMethod ({ cls := "DowryBoxesModel", name := "pins", desc := "(III)I" } : Jvm.MethodName)) ∈ lw_all := lw_g (lw_at lw_m8 43 rfl) rfl
theorem q1844 : (Jvm.Cond.selects "DowryBoxesModel" ({ cls := "DowryBoxesModel", name := "pins", desc := "(III)I" } : Jvm.MethodName) ({ cls := "DowryBoxesModel", name := "pins", desc := "(III)I" } : Jvm.MethodName)) ∈ lw_all := lw_g (lw_at lw_m8 44 rfl) rfl
theorem q1845 : (Jvm.Cond.code ({ cls := "DowryBoxesModel", name := "pins", desc := "(III)I" } : Jvm.MethodName) prog_22_method_27_code (4 : Nat) (Option.some Jvm.ClassFile.FieldType.int)) ∈ lw_all := lw_g (lw_at lw_m8 45 rfl) rfl
theorem q1846 : (Jvm.Cond.methodLink "DowryBoxesModel" (228 : Nat) ({ cls := "DowryBoxesModel", name := "isBar", desc := "(I)Z" } : Jvm.MethodName)) ∈ lw_all := lw_g (lw_at lw_m8 46 rfl) rfl
theorem q1847 : (Jvm.Cond.static ({ cls := "DowryBoxesModel", name := "isBar", desc := "(I)Z" } : Jvm.MethodName)) ∈ lw_all := lw_g (lw_at lw_m8 47 rfl) rfl
theorem q1848 : (Jvm.Cond.code ({ cls := "DowryBoxesModel", name := "isBar", desc := "(I)Z" } : Jvm.MethodName) prog_22_method_18_code (1 : Nat) (Option.some Jvm.ClassFile.FieldType.boolean)) ∈ lw_all := lw_g (lw_at lw_m8 48 rfl) rfl
theorem q1849 : (Jvm.Cond.constantLong "DowryBoxesModel" (202 : Nat) (7 : Int64)) ∈ lw_all := lw_g (lw_at lw_m8 49 rfl) rfl
theorem q1850 : (Jvm.Cond.constantLong "DowryBoxesModel" (231 : Nat) (255 : Int64)) ∈ lw_all := lw_g (lw_at lw_m8 50 rfl) rfl
theorem q1851 : (Jvm.Cond.methodLink "DowryBoxesModel" (233 : Nat) ({ cls := "DowryBoxesModel", name := "change", desc := "(II)I" } : Jvm.MethodName)) ∈ lw_all := lw_g (lw_at lw_m8 51 rfl) rfl
theorem q1852 : (Jvm.Cond.privateMethod ({ cls := "DowryBoxesModel", name := "change", desc := "(II)I" } : Jvm.MethodName)) ∈ lw_tbl := lw_at lw_m8 52 rfl
theorem q1853 : (Jvm.Cond.instanceMethod ({ cls := "DowryBoxesModel", name := "change", desc := "(II)I" } : Jvm.MethodName)) ∈ lw_all := lw_g (lw_at lw_m8 53 rfl) rfl
theorem q1854 : (Jvm.Cond.code ({ cls := "DowryBoxesModel", name := "change", desc := "(II)I" } : Jvm.MethodName) prog_22_method_8_code (4 : Nat) (Option.some Jvm.ClassFile.FieldType.int)) ∈ lw_all := lw_g (lw_at lw_m8 54 rfl) rfl
theorem q1856 : (Jvm.Cond.instanceMethod ({ cls := "DowryBoxesModel", name := "suitor", desc := "(II)I" } : Jvm.MethodName)) ∈ lw_all := lw_g (lw_at lw_m8 56 rfl) rfl
theorem q1857 : (Jvm.Cond.selects "DowryBoxesModel" ({ cls := "DowryBoxesModel", name := "suitor", desc := "(II)I" } : Jvm.MethodName) ({ cls := "DowryBoxesModel", name := "suitor", desc := "(II)I" } : Jvm.MethodName)) ∈ lw_all := lw_g (lw_at lw_m8 57 rfl) rfl
theorem q1858 : (Jvm.Cond.code ({ cls := "DowryBoxesModel", name := "suitor", desc := "(II)I" } : Jvm.MethodName) prog_22_method_28_code (4 : Nat) (Option.some Jvm.ClassFile.FieldType.int)) ∈ lw_all := lw_g (lw_at lw_m8 58 rfl) rfl
theorem q1859 : (Jvm.Cond.methodLink "DowryBoxesModel" (236 : Nat) ({ cls := "DowryBoxesModel", name := "isTooth", desc := "(I)Z" } : Jvm.MethodName)) ∈ lw_all := lw_g (lw_at lw_m8 59 rfl) rfl
theorem q1860 : (Jvm.Cond.static ({ cls := "DowryBoxesModel", name := "isTooth", desc := "(I)Z" } : Jvm.MethodName)) ∈ lw_all := lw_g (lw_at lw_m8 60 rfl) rfl
theorem q1861 : (Jvm.Cond.code ({ cls := "DowryBoxesModel", name := "isTooth", desc := "(I)Z" } : Jvm.MethodName) prog_22_method_19_code (1 : Nat) (Option.some Jvm.ClassFile.FieldType.boolean)) ∈ lw_all := lw_g (lw_at lw_m8 61 rfl) rfl
theorem q1862 : (Jvm.Cond.constantLong "DowryBoxesModel" (239 : Nat) (60 : Int64)) ∈ lw_all := lw_g (lw_at lw_m8 62 rfl) rfl
theorem q1864 : (Jvm.Cond.instanceMethod ({ cls := "DowryBoxesModel", name := "at", desc := "(II)I" } : Jvm.MethodName)) ∈ lw_all := lw_g (lw_at lw_m8 64 rfl) rfl
theorem q1865 : (Jvm.Cond.selects "DowryBoxesModel" ({ cls := "DowryBoxesModel", name := "at", desc := "(II)I" } : Jvm.MethodName) ({ cls := "DowryBoxesModel", name := "at", desc := "(II)I" } : Jvm.MethodName)) ∈ lw_all := lw_g (lw_at lw_m8 65 rfl) rfl
theorem q1866 : (Jvm.Cond.code ({ cls := "DowryBoxesModel", name := "at", desc := "(II)I" } : Jvm.MethodName) prog_22_method_29_code (3 : Nat) (Option.some Jvm.ClassFile.FieldType.int)) ∈ lw_all := lw_g (lw_at lw_m8 66 rfl) rfl
theorem q1867 : (Jvm.Cond.methodLink "DowryBoxesModel" (241 : Nat) ({ cls := "DowryBoxesModel", name := "isSuitor", desc := "(I)Z" } : Jvm.MethodName)) ∈ lw_all := lw_g (lw_at lw_m8 67 rfl) rfl
theorem q1868 : (Jvm.Cond.privateMethod ({ cls := "DowryBoxesModel", name := "isSuitor", desc := "(I)Z" } : Jvm.MethodName)) ∈ lw_tbl := lw_at lw_m8 68 rfl
theorem q1869 : (Jvm.Cond.instanceMethod ({ cls := "DowryBoxesModel", name := "isSuitor", desc := "(I)Z" } : Jvm.MethodName)) ∈ lw_all := lw_g (lw_at lw_m8 69 rfl) rfl
theorem q1870 : (Jvm.Cond.code ({ cls := "DowryBoxesModel", name := "isSuitor", desc := "(I)Z" } : Jvm.MethodName) prog_22_method_17_code (2 : Nat) (Option.some Jvm.ClassFile.FieldType.boolean)) ∈ lw_all := lw_g (lw_at lw_m8 70 rfl) rfl
theorem q1871 : (Jvm.Cond.methodLink "DowryBoxesModel" (244 : Nat) ({ cls := "DowryBoxesModel", name := "boxOf", desc := "(I)I" } : Jvm.MethodName)) ∈ lw_all := lw_g (lw_at lw_m8 71 rfl) rfl
theorem q1872 : (Jvm.Cond.privateMethod ({ cls := "DowryBoxesModel", name := "boxOf", desc := "(I)I" } : Jvm.MethodName)) ∈ lw_tbl := lw_at lw_m8 72 rfl
theorem q1873 : (Jvm.Cond.instanceMethod ({ cls := "DowryBoxesModel", name := "boxOf", desc := "(I)I" } : Jvm.MethodName)) ∈ lw_all := lw_g (lw_at lw_m8 73 rfl) rfl
theorem q1874 : (Jvm.Cond.code ({ cls := "DowryBoxesModel", name := "boxOf", desc := "(I)I" } : Jvm.MethodName) prog_22_method_23_code (4 : Nat) (Option.some Jvm.ClassFile.FieldType.int)) ∈ lw_all := lw_g (lw_at lw_m8 74 rfl) rfl
theorem q1876 : (Jvm.Cond.instanceMethod ({ cls := "DowryBoxesModel", name := "asks", desc := "(III)I" } : Jvm.MethodName)) ∈ lw_all := lw_g (lw_at lw_m8 76 rfl) rfl
theorem q1877 : (Jvm.Cond.selects "DowryBoxesModel" ({ cls := "DowryBoxesModel", name := "asks", desc := "(III)I" } : Jvm.MethodName) ({ cls := "DowryBoxesModel", name := "asks", desc := "(III)I" } : Jvm.MethodName)) ∈ lw_all := lw_g (lw_at lw_m8 77 rfl) rfl
theorem q1878 : (Jvm.Cond.code ({ cls := "DowryBoxesModel", name := "asks", desc := "(III)I" } : Jvm.MethodName) prog_22_method_30_code (4 : Nat) (Option.some Jvm.ClassFile.FieldType.int)) ∈ lw_all := lw_g (lw_at lw_m8 78 rfl) rfl
theorem q1879 : (Jvm.Cond.methodLink "DowryBoxesModel" (250 : Nat) ({ cls := "DowryBoxesModel", name := "likesOf", desc := "(II)I" } : Jvm.MethodName)) ∈ lw_all := lw_g (lw_at lw_m8 79 rfl) rfl
theorem q1880 : (Jvm.Cond.privateMethod ({ cls := "DowryBoxesModel", name := "likesOf", desc := "(II)I" } : Jvm.MethodName)) ∈ lw_tbl := lw_at lw_m8 80 rfl
theorem q1881 : (Jvm.Cond.instanceMethod ({ cls := "DowryBoxesModel", name := "likesOf", desc := "(II)I" } : Jvm.MethodName)) ∈ lw_all := lw_g (lw_at lw_m8 81 rfl) rfl
theorem q1882 : (Jvm.Cond.code ({ cls := "DowryBoxesModel", name := "likesOf", desc := "(II)I" } : Jvm.MethodName) prog_22_method_73_code (3 : Nat) (Option.some Jvm.ClassFile.FieldType.int)) ∈ lw_all := lw_g (lw_at lw_m8 82 rfl) rfl
theorem q1883 : (Jvm.Cond.methodLink "DowryBoxesModel" (253 : Nat) ({ cls := "DowryBoxesModel", name := "isBarred", desc := "(II)Z" } : Jvm.MethodName)) ∈ lw_all := lw_g (lw_at lw_m8 83 rfl) rfl
theorem q1884 : (Jvm.Cond.privateMethod ({ cls := "DowryBoxesModel", name := "isBarred", desc := "(II)Z" } : Jvm.MethodName)) ∈ lw_tbl := lw_at lw_m8 84 rfl
theorem q1885 : (Jvm.Cond.instanceMethod ({ cls := "DowryBoxesModel", name := "isBarred", desc := "(II)Z" } : Jvm.MethodName)) ∈ lw_all := lw_g (lw_at lw_m8 85 rfl) rfl
theorem q1886 : (Jvm.Cond.code ({ cls := "DowryBoxesModel", name := "isBarred", desc := "(II)Z" } : Jvm.MethodName) prog_22_method_74_code (3 : Nat) (Option.some Jvm.ClassFile.FieldType.boolean)) ∈ lw_all := lw_g (lw_at lw_m8 86 rfl) rfl
theorem q1888 : (Jvm.Cond.instanceMethod ({ cls := "DowryBoxesModel", name := "terms", desc := "(II)I" } : Jvm.MethodName)) ∈ lw_all := lw_g (lw_at lw_m8 88 rfl) rfl
theorem q1889 : (Jvm.Cond.selects "DowryBoxesModel" ({ cls := "DowryBoxesModel", name := "terms", desc := "(II)I" } : Jvm.MethodName) ({ cls := "DowryBoxesModel", name := "terms", desc := "(II)I" } : Jvm.MethodName)) ∈ lw_all := lw_g (lw_at lw_m8 89 rfl) rfl
theorem q1890 : (Jvm.Cond.code ({ cls := "DowryBoxesModel", name := "terms", desc := "(II)I" } : Jvm.MethodName) prog_22_method_31_code (4 : Nat) (Option.some Jvm.ClassFile.FieldType.int)) ∈ lw_all := lw_g (lw_at lw_m8 90 rfl) rfl
theorem q1891 : (Jvm.Cond.constantLong "DowryBoxesModel" (257 : Nat) (999 : Int64)) ∈ lw_all := lw_g (lw_at lw_m8 91 rfl) rfl
theorem q1892 : (Jvm.Cond.constantLong "DowryBoxesModel" (259 : Nat) (10 : Int64)) ∈ lw_all := lw_g (lw_at lw_m8 92 rfl) rfl
theorem q1893 : (Jvm.Cond.constantLong "DowryBoxesModel" (261 : Nat) (9 : Int64)) ∈ lw_all := lw_g (lw_at lw_m8 93 rfl) rfl
theorem q1895 : (Jvm.Cond.instanceMethod ({ cls := "DowryBoxesModel", name := "row", desc := "()I" } : Jvm.MethodName)) ∈ lw_all := lw_g (lw_at lw_m8 95 rfl) rfl
theorem q1896 : (Jvm.Cond.selects "DowryBoxesModel" ({ cls := "DowryBoxesModel", name := "row", desc := "()I" } : Jvm.MethodName) ({ cls := "DowryBoxesModel", name := "row", desc := "()I" } : Jvm.MethodName)) ∈ lw_all := lw_g (lw_at lw_m8 96 rfl) rfl
theorem q1897 : (Jvm.Cond.code ({ cls := "DowryBoxesModel", name := "row", desc := "()I" } : Jvm.MethodName) prog_22_method_32_code (4 : Nat) (Option.some Jvm.ClassFile.FieldType.int)) ∈ lw_all := lw_g (lw_at lw_m8 97 rfl) rfl
theorem q1899 : (Jvm.Cond.instanceMethod ({ cls := "DowryBoxesModel", name := "rust", desc := "()I" } : Jvm.MethodName)) ∈ lw_all := lw_g (lw_at lw_m8 99 rfl) rfl
theorem q1900 : (Jvm.Cond.selects "DowryBoxesModel" ({ cls := "DowryBoxesModel", name := "rust", desc := "()I" } : Jvm.MethodName) ({ cls := "DowryBoxesModel", name := "rust", desc := "()I" } : Jvm.MethodName)) ∈ lw_all := lw_g (lw_at lw_m8 100 rfl) rfl
theorem q1901 : (Jvm.Cond.code ({ cls := "DowryBoxesModel", name := "rust", desc := "()I" } : Jvm.MethodName) prog_22_method_33_code (1 : Nat) (Option.some Jvm.ClassFile.FieldType.int)) ∈ lw_all := lw_g (lw_at lw_m8 101 rfl) rfl
theorem q1903 : (Jvm.Cond.instanceMethod ({ cls := "DowryBoxesModel", name := "feed", desc := "(IIIII)I" } : Jvm.MethodName)) ∈ lw_all := lw_g (lw_at lw_m8 103 rfl) rfl
theorem q1904 : (Jvm.Cond.selects "DowryBoxesModel" ({ cls := "DowryBoxesModel", name := "feed", desc := "(IIIII)I" } : Jvm.MethodName) ({ cls := "DowryBoxesModel", name := "feed", desc := "(IIIII)I" } : Jvm.MethodName)) ∈ lw_all := lw_g (lw_at lw_m8 104 rfl) rfl
theorem q1905 : (Jvm.Cond.code ({ cls := "DowryBoxesModel", name := "feed", desc := "(IIIII)I" } : Jvm.MethodName) prog_22_method_35_code (6 : Nat) (Option.some Jvm.ClassFile.FieldType.int)) ∈ lw_all := lw_g (lw_at lw_m8 105 rfl) rfl
theorem q1906 : (Jvm.Cond.methodLink "DowryBoxesModel" (269 : Nat) ({ cls := "DowryBoxesModel", name := "four", desc := "(I)V" } : Jvm.MethodName)) ∈ lw_all := lw_g (lw_at lw_m8 106 rfl) rfl
theorem q1907 : (Jvm.Cond.privateMethod ({ cls := "DowryBoxesModel", name := "four", desc := "(I)V" } : Jvm.MethodName)) ∈ lw_tbl := lw_at lw_m8 107 rfl
theorem q1908 : (Jvm.Cond.instanceMethod ({ cls := "DowryBoxesModel", name := "four", desc := "(I)V" } : Jvm.MethodName)) ∈ lw_all := lw_g (lw_at lw_m8 108 rfl) rfl
theorem q1909 : (Jvm.Cond.code ({ cls := "DowryBoxesModel", name := "four", desc := "(I)V" } : Jvm.MethodName) prog_22_method_34_code (3 : Nat) (Option.none : Option Jvm.ClassFile.FieldType)) ∈ lw_all := lw_g (lw_at lw_m8 109 rfl) rfl
theorem q1911 : (Jvm.Cond.instanceMethod ({ cls := "DowryBoxesModel", name := "end", desc := "(I)I" } : Jvm.MethodName)) ∈ lw_all := lw_g (lw_at lw_m8 111 rfl) rfl
theorem q1912 : (Jvm.Cond.selects "DowryBoxesModel" ({ cls := "DowryBoxesModel", name := "end", desc := "(I)I" } : Jvm.MethodName) ({ cls := "DowryBoxesModel", name := "end", desc := "(I)I" } : Jvm.MethodName)) ∈ lw_all := lw_g (lw_at lw_m8 112 rfl) rfl
theorem q1913 : (Jvm.Cond.code ({ cls := "DowryBoxesModel", name := "end", desc := "(I)I" } : Jvm.MethodName) prog_22_method_36_code (2 : Nat) (Option.some Jvm.ClassFile.FieldType.int)) ∈ lw_all := lw_g (lw_at lw_m8 113 rfl) rfl
theorem q1915 : (Jvm.Cond.instanceMethod ({ cls := "DowryBoxesModel", name := "fault", desc := "()I" } : Jvm.MethodName)) ∈ lw_all := lw_g (lw_at lw_m8 115 rfl) rfl
theorem q1916 : (Jvm.Cond.selects "DowryBoxesModel" ({ cls := "DowryBoxesModel", name := "fault", desc := "()I" } : Jvm.MethodName) ({ cls := "DowryBoxesModel", name := "fault", desc := "()I" } : Jvm.MethodName)) ∈ lw_all := lw_g (lw_at lw_m8 116 rfl) rfl
theorem q1917 : (Jvm.Cond.code ({ cls := "DowryBoxesModel", name := "fault", desc := "()I" } : Jvm.MethodName) prog_22_method_45_code (1 : Nat) (Option.some Jvm.ClassFile.FieldType.int)) ∈ lw_all := lw_g (lw_at lw_m8 117 rfl) rfl
theorem q1919 : (Jvm.Cond.instanceMethod ({ cls := "DowryBoxesModel", name := "law", desc := "()I" } : Jvm.MethodName)) ∈ lw_all := lw_g (lw_at lw_m8 119 rfl) rfl
theorem q1920 : (Jvm.Cond.selects "DowryBoxesModel" ({ cls := "DowryBoxesModel", name := "law", desc := "()I" } : Jvm.MethodName) ({ cls := "DowryBoxesModel", name := "law", desc := "()I" } : Jvm.MethodName)) ∈ lw_all := lw_g (lw_at lw_m8 120 rfl) rfl
theorem q1921 : (Jvm.Cond.code ({ cls := "DowryBoxesModel", name := "law", desc := "()I" } : Jvm.MethodName) prog_22_method_64_code (3 : Nat) (Option.some Jvm.ClassFile.FieldType.int)) ∈ lw_all := lw_g (lw_at lw_m8 121 rfl) rfl
theorem q1922 : (Jvm.Cond.methodLink "DowryBoxesModel" (412 : Nat) ({ cls := "DowryBoxesModel", name := "beginText", desc := "(Z)V" } : Jvm.MethodName)) ∈ lw_all := lw_g (lw_at lw_m8 122 rfl) rfl
theorem q1923 : (Jvm.Cond.privateMethod ({ cls := "DowryBoxesModel", name := "beginText", desc := "(Z)V" } : Jvm.MethodName)) ∈ lw_tbl := lw_at lw_m8 123 rfl
theorem q1924 : (Jvm.Cond.instanceMethod ({ cls := "DowryBoxesModel", name := "beginText", desc := "(Z)V" } : Jvm.MethodName)) ∈ lw_all := lw_g (lw_at lw_m8 124 rfl) rfl
theorem q1925 : (Jvm.Cond.code ({ cls := "DowryBoxesModel", name := "beginText", desc := "(Z)V" } : Jvm.MethodName) prog_22_method_61_code (2 : Nat) (Option.none : Option Jvm.ClassFile.FieldType)) ∈ lw_all := lw_g (lw_at lw_m8 125 rfl) rfl
theorem q1926 : (Jvm.Cond.methodLink "DowryBoxesModel" (401 : Nat) ({ cls := "DowryBoxesModel", name := "begin", desc := "()V" } : Jvm.MethodName)) ∈ lw_all := lw_g (lw_at lw_m8 126 rfl) rfl
theorem q1927 : (Jvm.Cond.privateMethod ({ cls := "DowryBoxesModel", name := "begin", desc := "()V" } : Jvm.MethodName)) ∈ lw_tbl := lw_at lw_m8 127 rfl
theorem q1928 : (Jvm.Cond.instanceMethod ({ cls := "DowryBoxesModel", name := "begin", desc := "()V" } : Jvm.MethodName)) ∈ lw_all := lw_g (lw_at lw_m8 128 rfl) rfl
theorem q1929 : (Jvm.Cond.code ({ cls := "DowryBoxesModel", name := "begin", desc := "()V" } : Jvm.MethodName) prog_22_method_39_code (1 : Nat) (Option.none : Option Jvm.ClassFile.FieldType)) ∈ lw_all := lw_g (lw_at lw_m8 129 rfl) rfl
theorem q1930 : (Jvm.Cond.methodLink "DowryBoxesModel" (279 : Nat) ({ cls := "DowryBoxesModel", name := "next", desc := "()V" } : Jvm.MethodName)) ∈ lw_all := lw_g (lw_at lw_m8 130 rfl) rfl
theorem q1931 : (Jvm.Cond.privateMethod ({ cls := "DowryBoxesModel", name := "next", desc := "()V" } : Jvm.MethodName)) ∈ lw_tbl := lw_at lw_m8 131 rfl
theorem q1932 : (Jvm.Cond.instanceMethod ({ cls := "DowryBoxesModel", name := "next", desc := "()V" } : Jvm.MethodName)) ∈ lw_all := lw_g (lw_at lw_m8 132 rfl) rfl
theorem q1933 : (Jvm.Cond.code ({ cls := "DowryBoxesModel", name := "next", desc := "()V" } : Jvm.MethodName) prog_22_method_40_code (1 : Nat) (Option.none : Option Jvm.ClassFile.FieldType)) ∈ lw_all := lw_g (lw_at lw_m8 133 rfl) rfl
theorem q1934 : (Jvm.Cond.methodLink "DowryBoxesModel" (289 : Nat) ({ cls := "DowryBoxesModel", name := "isSmall", desc := "(I)Z" } : Jvm.MethodName)) ∈ lw_all := lw_g (lw_at lw_m8 134 rfl) rfl
theorem q1935 : (Jvm.Cond.static ({ cls := "DowryBoxesModel", name := "isSmall", desc := "(I)Z" } : Jvm.MethodName)) ∈ lw_all := lw_g (lw_at lw_m8 135 rfl) rfl
theorem q1936 : (Jvm.Cond.code ({ cls := "DowryBoxesModel", name := "isSmall", desc := "(I)Z" } : Jvm.MethodName) prog_22_method_37_code (1 : Nat) (Option.some Jvm.ClassFile.FieldType.boolean)) ∈ lw_all := lw_g (lw_at lw_m8 136 rfl) rfl
theorem q1937 : (Jvm.Cond.methodLink "DowryBoxesModel" (292 : Nat) ({ cls := "DowryBoxesModel", name := "isDigit", desc := "(I)Z" } : Jvm.MethodName)) ∈ lw_all := lw_g (lw_at lw_m8 137 rfl) rfl
theorem q1938 : (Jvm.Cond.static ({ cls := "DowryBoxesModel", name := "isDigit", desc := "(I)Z" } : Jvm.MethodName)) ∈ lw_all := lw_g (lw_at lw_m8 138 rfl) rfl
theorem q1939 : (Jvm.Cond.code ({ cls := "DowryBoxesModel", name := "isDigit", desc := "(I)Z" } : Jvm.MethodName) prog_22_method_38_code (1 : Nat) (Option.some Jvm.ClassFile.FieldType.boolean)) ∈ lw_all := lw_g (lw_at lw_m8 139 rfl) rfl
theorem q1940 : (Jvm.Cond.constantLong "DowryBoxesModel" (298 : Nat) (32 : Int64)) ∈ lw_all := lw_g (lw_at lw_m8 140 rfl) rfl
theorem q1941 : (Jvm.Cond.constantLong "DowryBoxesModel" (300 : Nat) (96 : Int64)) ∈ lw_all := lw_g (lw_at lw_m8 141 rfl) rfl
theorem q1942 : (Jvm.Cond.constantLong "DowryBoxesModel" (304 : Nat) (1000000 : Int64)) ∈ lw_all := lw_g (lw_at lw_m8 142 rfl) rfl
theorem q1943 : (Jvm.Cond.constantLong "DowryBoxesModel" (306 : Nat) (48 : Int64)) ∈ lw_all := lw_g (lw_at lw_m8 143 rfl) rfl
theorem q1944 : (Jvm.Cond.methodLink "DowryBoxesModel" (415 : Nat) ({ cls := "DowryBoxesModel", name := "readLaw", desc := "()V" } : Jvm.MethodName)) ∈ lw_all := lw_g (lw_at lw_m8 144 rfl) rfl
theorem q1945 : (Jvm.Cond.privateMethod ({ cls := "DowryBoxesModel", name := "readLaw", desc := "()V" } : Jvm.MethodName)) ∈ lw_tbl := lw_at lw_m8 145 rfl
theorem q1946 : (Jvm.Cond.instanceMethod ({ cls := "DowryBoxesModel", name := "readLaw", desc := "()V" } : Jvm.MethodName)) ∈ lw_all := lw_g (lw_at lw_m8 146 rfl) rfl
theorem q1947 : (Jvm.Cond.code ({ cls := "DowryBoxesModel", name := "readLaw", desc := "()V" } : Jvm.MethodName) prog_22_method_63_code (4 : Nat) (Option.none : Option Jvm.ClassFile.FieldType)) ∈ lw_all := lw_g (lw_at lw_m8 147 rfl) rfl
theorem q1948 : (Jvm.Cond.methodLink "DowryBoxesModel" (331 : Nat) ({ cls := "DowryBoxesModel", name := "isWord", desc := "(J)Z" } : Jvm.MethodName)) ∈ lw_all := lw_g (lw_at lw_m8 148 rfl) rfl
theorem q1949 : (Jvm.Cond.privateMethod ({ cls := "DowryBoxesModel", name := "isWord", desc := "(J)Z" } : Jvm.MethodName)) ∈ lw_tbl := lw_at lw_m8 149 rfl
theorem q1950 : (Jvm.Cond.instanceMethod ({ cls := "DowryBoxesModel", name := "isWord", desc := "(J)Z" } : Jvm.MethodName)) ∈ lw_all := lw_g (lw_at lw_m8 150 rfl) rfl
theorem q1951 : (Jvm.Cond.code ({ cls := "DowryBoxesModel", name := "isWord", desc := "(J)Z" } : Jvm.MethodName) prog_22_method_41_code (3 : Nat) (Option.some Jvm.ClassFile.FieldType.boolean)) ∈ lw_all := lw_g (lw_at lw_m8 151 rfl) rfl
theorem q1952 : (Jvm.Cond.methodLink "DowryBoxesModel" (308 : Nat) ({ cls := "DowryBoxesModel", name := "must", desc := "(Z)V" } : Jvm.MethodName)) ∈ lw_all := lw_g (lw_at lw_m8 152 rfl) rfl
theorem q1953 : (Jvm.Cond.privateMethod ({ cls := "DowryBoxesModel", name := "must", desc := "(Z)V" } : Jvm.MethodName)) ∈ lw_tbl := lw_at lw_m8 153 rfl
theorem q1954 : (Jvm.Cond.instanceMethod ({ cls := "DowryBoxesModel", name := "must", desc := "(Z)V" } : Jvm.MethodName)) ∈ lw_all := lw_g (lw_at lw_m8 154 rfl) rfl
theorem q1955 : (Jvm.Cond.code ({ cls := "DowryBoxesModel", name := "must", desc := "(Z)V" } : Jvm.MethodName) prog_22_method_43_code (2 : Nat) (Option.none : Option Jvm.ClassFile.FieldType)) ∈ lw_all := lw_g (lw_at lw_m8 155 rfl) rfl
theorem q1956 : (Jvm.Cond.methodLink "DowryBoxesModel" (407 : Nat) ({ cls := "DowryBoxesModel", name := "readExpression", desc := "(Z)V" } : Jvm.MethodName)) ∈ lw_all := lw_g (lw_at lw_m8 156 rfl) rfl
theorem q1957 : (Jvm.Cond.privateMethod ({ cls := "DowryBoxesModel", name := "readExpression", desc := "(Z)V" } : Jvm.MethodName)) ∈ lw_tbl := lw_at lw_m8 157 rfl
theorem q1958 : (Jvm.Cond.instanceMethod ({ cls := "DowryBoxesModel", name := "readExpression", desc := "(Z)V" } : Jvm.MethodName)) ∈ lw_all := lw_g (lw_at lw_m8 158 rfl) rfl
theorem q1959 : (Jvm.Cond.code ({ cls := "DowryBoxesModel", name := "readExpression", desc := "(Z)V" } : Jvm.MethodName) prog_22_method_60_code (3 : Nat) (Option.none : Option Jvm.ClassFile.FieldType)) ∈ lw_all := lw_g (lw_at lw_m8 159 rfl) rfl
theorem q1960 : (Jvm.Cond.methodLink "DowryBoxesModel" (391 : Nat) ({ cls := "DowryBoxesModel", name := "readPlain", desc := "()I" } : Jvm.MethodName)) ∈ lw_all := lw_g (lw_at lw_m8 160 rfl) rfl
theorem q1961 : (Jvm.Cond.privateMethod ({ cls := "DowryBoxesModel", name := "readPlain", desc := "()I" } : Jvm.MethodName)) ∈ lw_tbl := lw_at lw_m8 161 rfl
theorem q1962 : (Jvm.Cond.instanceMethod ({ cls := "DowryBoxesModel", name := "readPlain", desc := "()I" } : Jvm.MethodName)) ∈ lw_all := lw_g (lw_at lw_m8 162 rfl) rfl
theorem q1963 : (Jvm.Cond.code ({ cls := "DowryBoxesModel", name := "readPlain", desc := "()I" } : Jvm.MethodName) prog_22_method_57_code (1 : Nat) (Option.some Jvm.ClassFile.FieldType.int)) ∈ lw_all := lw_g (lw_at lw_m8 163 rfl) rfl
theorem q1964 : (Jvm.Cond.constantLong "DowryBoxesModel" (372 : Nat) (14836 : Int64)) ∈ lw_all := lw_g (lw_at lw_m8 164 rfl) rfl
theorem q1965 : (Jvm.Cond.methodLink "DowryBoxesModel" (338 : Nat) ({ cls := "DowryBoxesModel", name := "push", desc := "(II)V" } : Jvm.MethodName)) ∈ lw_all := lw_g (lw_at lw_m8 165 rfl) rfl
theorem q1966 : (Jvm.Cond.privateMethod ({ cls := "DowryBoxesModel", name := "push", desc := "(II)V" } : Jvm.MethodName)) ∈ lw_tbl := lw_at lw_m8 166 rfl
theorem q1967 : (Jvm.Cond.instanceMethod ({ cls := "DowryBoxesModel", name := "push", desc := "(II)V" } : Jvm.MethodName)) ∈ lw_all := lw_g (lw_at lw_m8 167 rfl) rfl
theorem q1968 : (Jvm.Cond.code ({ cls := "DowryBoxesModel", name := "push", desc := "(II)V" } : Jvm.MethodName) prog_22_method_47_code (3 : Nat) (Option.none : Option Jvm.ClassFile.FieldType)) ∈ lw_all := lw_g (lw_at lw_m8 168 rfl) rfl
theorem q1969 : (Jvm.Cond.methodLink "DowryBoxesModel" (344 : Nat) ({ cls := "DowryBoxesModel", name := "isSign", desc := "(I)Z" } : Jvm.MethodName)) ∈ lw_all := lw_g (lw_at lw_m8 169 rfl) rfl
theorem q1970 : (Jvm.Cond.privateMethod ({ cls := "DowryBoxesModel", name := "isSign", desc := "(I)Z" } : Jvm.MethodName)) ∈ lw_tbl := lw_at lw_m8 170 rfl
theorem q1971 : (Jvm.Cond.instanceMethod ({ cls := "DowryBoxesModel", name := "isSign", desc := "(I)Z" } : Jvm.MethodName)) ∈ lw_all := lw_g (lw_at lw_m8 171 rfl) rfl
theorem q1972 : (Jvm.Cond.code ({ cls := "DowryBoxesModel", name := "isSign", desc := "(I)Z" } : Jvm.MethodName) prog_22_method_42_code (2 : Nat) (Option.some Jvm.ClassFile.FieldType.boolean)) ∈ lw_all := lw_g (lw_at lw_m8 172 rfl) rfl
theorem q1973 : (Jvm.Cond.methodLink "DowryBoxesModel" (347 : Nat) ({ cls := "DowryBoxesModel", name := "openBracket", desc := "(I)V" } : Jvm.MethodName)) ∈ lw_all := lw_g (lw_at lw_m8 173 rfl) rfl
theorem q1974 : (Jvm.Cond.privateMethod ({ cls := "DowryBoxesModel", name := "openBracket", desc := "(I)V" } : Jvm.MethodName)) ∈ lw_tbl := lw_at lw_m8 174 rfl
theorem q1975 : (Jvm.Cond.instanceMethod ({ cls := "DowryBoxesModel", name := "openBracket", desc := "(I)V" } : Jvm.MethodName)) ∈ lw_all := lw_g (lw_at lw_m8 175 rfl) rfl
theorem q1976 : (Jvm.Cond.code ({ cls := "DowryBoxesModel", name := "openBracket", desc := "(I)V" } : Jvm.MethodName) prog_22_method_54_code (2 : Nat) (Option.none : Option Jvm.ClassFile.FieldType)) ∈ lw_all := lw_g (lw_at lw_m8 176 rfl) rfl
theorem q1977 : (Jvm.Cond.methodLink "DowryBoxesModel" (374 : Nat) ({ cls := "DowryBoxesModel", name := "readPart", desc := "()I" } : Jvm.MethodName)) ∈ lw_all := lw_g (lw_at lw_m8 177 rfl) rfl
theorem q1978 : (Jvm.Cond.privateMethod ({ cls := "DowryBoxesModel", name := "readPart", desc := "()I" } : Jvm.MethodName)) ∈ lw_tbl := lw_at lw_m8 178 rfl
theorem q1979 : (Jvm.Cond.instanceMethod ({ cls := "DowryBoxesModel", name := "readPart", desc := "()I" } : Jvm.MethodName)) ∈ lw_all := lw_g (lw_at lw_m8 179 rfl) rfl
theorem q1980 : (Jvm.Cond.code ({ cls := "DowryBoxesModel", name := "readPart", desc := "()I" } : Jvm.MethodName) prog_22_method_56_code (4 : Nat) (Option.some Jvm.ClassFile.FieldType.int)) ∈ lw_all := lw_g (lw_at lw_m8 180 rfl) rfl
theorem q1981 : (Jvm.Cond.methodLink "DowryBoxesModel" (353 : Nat) ({ cls := "DowryBoxesModel", name := "orderPartAt", desc := "()I" } : Jvm.MethodName)) ∈ lw_all := lw_g (lw_at lw_m8 181 rfl) rfl
theorem q1982 : (Jvm.Cond.privateMethod ({ cls := "DowryBoxesModel", name := "orderPartAt", desc := "()I" } : Jvm.MethodName)) ∈ lw_tbl := lw_at lw_m8 182 rfl
theorem q1983 : (Jvm.Cond.instanceMethod ({ cls := "DowryBoxesModel", name := "orderPartAt", desc := "()I" } : Jvm.MethodName)) ∈ lw_all := lw_g (lw_at lw_m8 183 rfl) rfl
theorem q1984 : (Jvm.Cond.code ({ cls := "DowryBoxesModel", name := "orderPartAt", desc := "()I" } : Jvm.MethodName) prog_22_method_53_code (3 : Nat) (Option.some Jvm.ClassFile.FieldType.int)) ∈ lw_all := lw_g (lw_at lw_m8 184 rfl) rfl
theorem q1985 : (Jvm.Cond.methodLink "DowryBoxesModel" (357 : Nat) ({ cls := "DowryBoxesModel", name := "partAt", desc := "()I" } : Jvm.MethodName)) ∈ lw_all := lw_g (lw_at lw_m8 185 rfl) rfl
theorem q1986 : (Jvm.Cond.privateMethod ({ cls := "DowryBoxesModel", name := "partAt", desc := "()I" } : Jvm.MethodName)) ∈ lw_tbl := lw_at lw_m8 186 rfl
theorem q1987 : (Jvm.Cond.instanceMethod ({ cls := "DowryBoxesModel", name := "partAt", desc := "()I" } : Jvm.MethodName)) ∈ lw_all := lw_g (lw_at lw_m8 187 rfl) rfl
theorem q1988 : (Jvm.Cond.code ({ cls := "DowryBoxesModel", name := "partAt", desc := "()I" } : Jvm.MethodName) prog_22_method_52_code (3 : Nat) (Option.some Jvm.ClassFile.FieldType.int)) ∈ lw_all := lw_g (lw_at lw_m8 188 rfl) rfl
theorem q1989 : (Jvm.Cond.constantLong "DowryBoxesModel" (360 : Nat) (1000 : Int64)) ∈ lw_all := lw_g (lw_at lw_m8 189 rfl) rfl
theorem q1990 : (Jvm.Cond.methodLink "DowryBoxesModel" (362 : Nat) ({ cls := "DowryBoxesModel", name := "leaf", desc := "(ZII)V" } : Jvm.MethodName)) ∈ lw_all := lw_g (lw_at lw_m8 190 rfl) rfl
theorem q1991 : (Jvm.Cond.privateMethod ({ cls := "DowryBoxesModel", name := "leaf", desc := "(ZII)V" } : Jvm.MethodName)) ∈ lw_tbl := lw_at lw_m8 191 rfl
theorem q1992 : (Jvm.Cond.instanceMethod ({ cls := "DowryBoxesModel", name := "leaf", desc := "(ZII)V" } : Jvm.MethodName)) ∈ lw_all := lw_g (lw_at lw_m8 192 rfl) rfl
theorem q1993 : (Jvm.Cond.code ({ cls := "DowryBoxesModel", name := "leaf", desc := "(ZII)V" } : Jvm.MethodName) prog_22_method_55_code (4 : Nat) (Option.none : Option Jvm.ClassFile.FieldType)) ∈ lw_all := lw_g (lw_at lw_m8 193 rfl) rfl
theorem q1994 : (Jvm.Cond.methodLink "DowryBoxesModel" (321 : Nat) ({ cls := "DowryBoxesModel", name := "emit", desc := "(II)V" } : Jvm.MethodName)) ∈ lw_all := lw_g (lw_at lw_m8 194 rfl) rfl
theorem q1995 : (Jvm.Cond.privateMethod ({ cls := "DowryBoxesModel", name := "emit", desc := "(II)V" } : Jvm.MethodName)) ∈ lw_tbl := lw_at lw_m8 195 rfl
theorem q1996 : (Jvm.Cond.instanceMethod ({ cls := "DowryBoxesModel", name := "emit", desc := "(II)V" } : Jvm.MethodName)) ∈ lw_all := lw_g (lw_at lw_m8 196 rfl) rfl
theorem q1997 : (Jvm.Cond.code ({ cls := "DowryBoxesModel", name := "emit", desc := "(II)V" } : Jvm.MethodName) prog_22_method_46_code (3 : Nat) (Option.none : Option Jvm.ClassFile.FieldType)) ∈ lw_all := lw_g (lw_at lw_m8 197 rfl) rfl
theorem q1998 : (Jvm.Cond.constantLong "DowryBoxesModel" (366 : Nat) (5 : Int64)) ∈ lw_all := lw_g (lw_at lw_m8 198 rfl) rfl
theorem q1999 : (Jvm.Cond.methodLink "DowryBoxesModel" (368 : Nat) ({ cls := "DowryBoxesModel", name := "number", desc := "(JJ)I" } : Jvm.MethodName)) ∈ lw_all := lw_g (lw_at lw_m8 199 rfl) rfl
theorem q2000 : (Jvm.Cond.privateMethod ({ cls := "DowryBoxesModel", name := "number", desc := "(JJ)I" } : Jvm.MethodName)) ∈ lw_tbl := lw_at lw_m8 200 rfl
theorem q2001 : (Jvm.Cond.instanceMethod ({ cls := "DowryBoxesModel", name := "number", desc := "(JJ)I" } : Jvm.MethodName)) ∈ lw_all := lw_g (lw_at lw_m8 201 rfl) rfl
theorem q2002 : (Jvm.Cond.code ({ cls := "DowryBoxesModel", name := "number", desc := "(JJ)I" } : Jvm.MethodName) prog_22_method_44_code (6 : Nat) (Option.some Jvm.ClassFile.FieldType.int)) ∈ lw_all := lw_g (lw_at lw_m8 202 rfl) rfl
theorem q2003 : (Jvm.Cond.methodLink "DowryBoxesModel" (394 : Nat) ({ cls := "DowryBoxesModel", name := "behindSum", desc := "(Z)I" } : Jvm.MethodName)) ∈ lw_all := lw_g (lw_at lw_m8 203 rfl) rfl
theorem q2004 : (Jvm.Cond.privateMethod ({ cls := "DowryBoxesModel", name := "behindSum", desc := "(Z)I" } : Jvm.MethodName)) ∈ lw_tbl := lw_at lw_m8 204 rfl
theorem q2005 : (Jvm.Cond.instanceMethod ({ cls := "DowryBoxesModel", name := "behindSum", desc := "(Z)I" } : Jvm.MethodName)) ∈ lw_all := lw_g (lw_at lw_m8 205 rfl) rfl
theorem q2006 : (Jvm.Cond.code ({ cls := "DowryBoxesModel", name := "behindSum", desc := "(Z)I" } : Jvm.MethodName) prog_22_method_58_code (4 : Nat) (Option.some Jvm.ClassFile.FieldType.int)) ∈ lw_all := lw_g (lw_at lw_m8 206 rfl) rfl
theorem q2007 : (Jvm.Cond.methodLink "DowryBoxesModel" (318 : Nat) ({ cls := "DowryBoxesModel", name := "binds", desc := "(I)I" } : Jvm.MethodName)) ∈ lw_all := lw_g (lw_at lw_m8 207 rfl) rfl
theorem q2008 : (Jvm.Cond.static ({ cls := "DowryBoxesModel", name := "binds", desc := "(I)I" } : Jvm.MethodName)) ∈ lw_all := lw_g (lw_at lw_m8 208 rfl) rfl
theorem q2009 : (Jvm.Cond.code ({ cls := "DowryBoxesModel", name := "binds", desc := "(I)I" } : Jvm.MethodName) prog_22_method_48_code (1 : Nat) (Option.some Jvm.ClassFile.FieldType.int)) ∈ lw_all := lw_g (lw_at lw_m8 209 rfl) rfl
theorem q2010 : (Jvm.Cond.methodLink "DowryBoxesModel" (377 : Nat) ({ cls := "DowryBoxesModel", name := "settle", desc := "(I)V" } : Jvm.MethodName)) ∈ lw_all := lw_g (lw_at lw_m8 210 rfl) rfl
theorem q2011 : (Jvm.Cond.privateMethod ({ cls := "DowryBoxesModel", name := "settle", desc := "(I)V" } : Jvm.MethodName)) ∈ lw_tbl := lw_at lw_m8 211 rfl
theorem q2012 : (Jvm.Cond.instanceMethod ({ cls := "DowryBoxesModel", name := "settle", desc := "(I)V" } : Jvm.MethodName)) ∈ lw_all := lw_g (lw_at lw_m8 212 rfl) rfl
theorem q2013 : (Jvm.Cond.code ({ cls := "DowryBoxesModel", name := "settle", desc := "(I)V" } : Jvm.MethodName) prog_22_method_49_code (2 : Nat) (Option.none : Option Jvm.ClassFile.FieldType)) ∈ lw_all := lw_g (lw_at lw_m8 213 rfl) rfl
theorem q2014 : (Jvm.Cond.methodLink "DowryBoxesModel" (380 : Nat) ({ cls := "DowryBoxesModel", name := "inner", desc := "()I" } : Jvm.MethodName)) ∈ lw_all := lw_g (lw_at lw_m8 214 rfl) rfl
theorem q2015 : (Jvm.Cond.privateMethod ({ cls := "DowryBoxesModel", name := "inner", desc := "()I" } : Jvm.MethodName)) ∈ lw_tbl := lw_at lw_m8 215 rfl
theorem q2016 : (Jvm.Cond.instanceMethod ({ cls := "DowryBoxesModel", name := "inner", desc := "()I" } : Jvm.MethodName)) ∈ lw_all := lw_g (lw_at lw_m8 216 rfl) rfl
theorem q2017 : (Jvm.Cond.code ({ cls := "DowryBoxesModel", name := "inner", desc := "()I" } : Jvm.MethodName) prog_22_method_50_code (3 : Nat) (Option.some Jvm.ClassFile.FieldType.int)) ∈ lw_all := lw_g (lw_at lw_m8 217 rfl) rfl
theorem q2018 : (Jvm.Cond.methodLink "DowryBoxesModel" (383 : Nat) ({ cls := "DowryBoxesModel", name := "isCompared", desc := "()Z" } : Jvm.MethodName)) ∈ lw_all := lw_g (lw_at lw_m8 218 rfl) rfl
theorem q2019 : (Jvm.Cond.privateMethod ({ cls := "DowryBoxesModel", name := "isCompared", desc := "()Z" } : Jvm.MethodName)) ∈ lw_tbl := lw_at lw_m8 219 rfl
theorem q2020 : (Jvm.Cond.instanceMethod ({ cls := "DowryBoxesModel", name := "isCompared", desc := "()Z" } : Jvm.MethodName)) ∈ lw_all := lw_g (lw_at lw_m8 220 rfl) rfl
theorem q2021 : (Jvm.Cond.code ({ cls := "DowryBoxesModel", name := "isCompared", desc := "()Z" } : Jvm.MethodName) prog_22_method_51_code (2 : Nat) (Option.some Jvm.ClassFile.FieldType.boolean)) ∈ lw_all := lw_g (lw_at lw_m8 221 rfl) rfl
theorem q2022 : (Jvm.Cond.constantLong "DowryBoxesModel" (325 : Nat) (24 : Int64)) ∈ lw_all := lw_g (lw_at lw_m8 222 rfl) rfl
theorem q2023 : (Jvm.Cond.constantLong "DowryBoxesModel" (327 : Nat) (25 : Int64)) ∈ lw_all := lw_g (lw_at lw_m8 223 rfl) rfl
theorem q2024 : (Jvm.Cond.constantLong "DowryBoxesModel" (329 : Nat) (27 : Int64)) ∈ lw_all := lw_g (lw_at lw_m8 224 rfl) rfl
theorem q2025 : (Jvm.Cond.methodLink "DowryBoxesModel" (398 : Nat) ({ cls := "DowryBoxesModel", name := "behindTest", desc := "()I" } : Jvm.MethodName)) ∈ lw_all := lw_g (lw_at lw_m8 225 rfl) rfl
theorem q2026 : (Jvm.Cond.privateMethod ({ cls := "DowryBoxesModel", name := "behindTest", desc := "()I" } : Jvm.MethodName)) ∈ lw_tbl := lw_at lw_m8 226 rfl
theorem q2027 : (Jvm.Cond.instanceMethod ({ cls := "DowryBoxesModel", name := "behindTest", desc := "()I" } : Jvm.MethodName)) ∈ lw_all := lw_g (lw_at lw_m8 227 rfl) rfl
theorem q2028 : (Jvm.Cond.code ({ cls := "DowryBoxesModel", name := "behindTest", desc := "()I" } : Jvm.MethodName) prog_22_method_59_code (2 : Nat) (Option.some Jvm.ClassFile.FieldType.int)) ∈ lw_all := lw_g (lw_at lw_m8 228 rfl) rfl
theorem q2029 : (Jvm.Cond.constantLong "DowryBoxesModel" (387 : Nat) (1476 : Int64)) ∈ lw_all := lw_g (lw_at lw_m8 229 rfl) rfl
theorem q2030 : (Jvm.Cond.constantLong "DowryBoxesModel" (389 : Nat) (498 : Int64)) ∈ lw_all := lw_g (lw_at lw_m8 230 rfl) rfl
theorem q2031 : (Jvm.Cond.constantLong "DowryBoxesModel" (410 : Nat) (294 : Int64)) ∈ lw_all := lw_g (lw_at lw_m8 231 rfl) rfl
theorem q2032 : (Jvm.Cond.methodLink "DowryBoxesModel" (418 : Nat) ({ cls := "DowryBoxesModel", name := "endText", desc := "()V" } : Jvm.MethodName)) ∈ lw_all := lw_g (lw_at lw_m8 232 rfl) rfl
theorem q2033 : (Jvm.Cond.privateMethod ({ cls := "DowryBoxesModel", name := "endText", desc := "()V" } : Jvm.MethodName)) ∈ lw_tbl := lw_at lw_m8 233 rfl
theorem q2034 : (Jvm.Cond.instanceMethod ({ cls := "DowryBoxesModel", name := "endText", desc := "()V" } : Jvm.MethodName)) ∈ lw_all := lw_g (lw_at lw_m8 234 rfl) rfl
theorem q2035 : (Jvm.Cond.code ({ cls := "DowryBoxesModel", name := "endText", desc := "()V" } : Jvm.MethodName) prog_22_method_62_code (1 : Nat) (Option.none : Option Jvm.ClassFile.FieldType)) ∈ lw_all := lw_g (lw_at lw_m8 235 rfl) rfl
theorem q2037 : (Jvm.Cond.instanceMethod ({ cls := "DowryBoxesModel", name := "force", desc := "(I)I" } : Jvm.MethodName)) ∈ lw_all := lw_g (lw_at lw_m8 237 rfl) rfl
theorem q2038 : (Jvm.Cond.selects "DowryBoxesModel" ({ cls := "DowryBoxesModel", name := "force", desc := "(I)I" } : Jvm.MethodName) ({ cls := "DowryBoxesModel", name := "force", desc := "(I)I" } : Jvm.MethodName)) ∈ lw_all := lw_g (lw_at lw_m8 238 rfl) rfl
theorem q2039 : (Jvm.Cond.code ({ cls := "DowryBoxesModel", name := "force", desc := "(I)I" } : Jvm.MethodName) prog_22_method_66_code (2 : Nat) (Option.some Jvm.ClassFile.FieldType.int)) ∈ lw_all := lw_g (lw_at lw_m8 239 rfl) rfl
theorem q2040 : (Jvm.Cond.methodLink "DowryBoxesModel" (421 : Nat) ({ cls := "DowryBoxesModel", name := "isLaw", desc := "(I)Z" } : Jvm.MethodName)) ∈ lw_all := lw_g (lw_at lw_m9 0 rfl) rfl
theorem q2041 : (Jvm.Cond.privateMethod ({ cls := "DowryBoxesModel", name := "isLaw", desc := "(I)Z" } : Jvm.MethodName)) ∈ lw_tbl := lw_at lw_m9 1 rfl
theorem q2042 : (Jvm.Cond.instanceMethod ({ cls := "DowryBoxesModel", name := "isLaw", desc := "(I)Z" } : Jvm.MethodName)) ∈ lw_all := lw_g (lw_at lw_m9 2 rfl) rfl
theorem q2043 : (Jvm.Cond.code ({ cls := "DowryBoxesModel", name := "isLaw", desc := "(I)Z" } : Jvm.MethodName) prog_22_method_65_code (2 : Nat) (Option.some Jvm.ClassFile.FieldType.boolean)) ∈ lw_all := lw_g (lw_at lw_m9 3 rfl) rfl
theorem q2045 : (Jvm.Cond.instanceMethod ({ cls := "DowryBoxesModel", name := "pull", desc := "(III)I" } : Jvm.MethodName)) ∈ lw_all := lw_g (lw_at lw_m9 5 rfl) rfl
theorem q2046 : (Jvm.Cond.selects "DowryBoxesModel" ({ cls := "DowryBoxesModel", name := "pull", desc := "(III)I" } : Jvm.MethodName) ({ cls := "DowryBoxesModel", name := "pull", desc := "(III)I" } : Jvm.MethodName)) ∈ lw_all := lw_g (lw_at lw_m9 6 rfl) rfl
theorem q2047 : (Jvm.Cond.code ({ cls := "DowryBoxesModel", name := "pull", desc := "(III)I" } : Jvm.MethodName) prog_22_method_77_code (4 : Nat) (Option.some Jvm.ClassFile.FieldType.int)) ∈ lw_all := lw_g (lw_at lw_m9 7 rfl) rfl
theorem q2048 : (Jvm.Cond.methodLink "DowryBoxesModel" (468 : Nat) ({ cls := "DowryBoxesModel", name := "pullNow", desc := "(III)I" } : Jvm.MethodName)) ∈ lw_all := lw_g (lw_at lw_m9 8 rfl) rfl
theorem q2049 : (Jvm.Cond.privateMethod ({ cls := "DowryBoxesModel", name := "pullNow", desc := "(III)I" } : Jvm.MethodName)) ∈ lw_tbl := lw_at lw_m9 9 rfl
theorem q2050 : (Jvm.Cond.instanceMethod ({ cls := "DowryBoxesModel", name := "pullNow", desc := "(III)I" } : Jvm.MethodName)) ∈ lw_all := lw_g (lw_at lw_m9 10 rfl) rfl
theorem q2051 : (Jvm.Cond.code ({ cls := "DowryBoxesModel", name := "pullNow", desc := "(III)I" } : Jvm.MethodName) prog_22_method_76_code (4 : Nat) (Option.some Jvm.ClassFile.FieldType.int)) ∈ lw_all := lw_g (lw_at lw_m9 11 rfl) rfl
theorem q2052 : (Jvm.Cond.methodLink "DowryBoxesModel" (461 : Nat) ({ cls := "DowryBoxesModel", name := "canPull", desc := "(III)Z" } : Jvm.MethodName)) ∈ lw_all := lw_g (lw_at lw_m9 12 rfl) rfl
theorem q2053 : (Jvm.Cond.privateMethod ({ cls := "DowryBoxesModel", name := "canPull", desc := "(III)Z" } : Jvm.MethodName)) ∈ lw_tbl := lw_at lw_m9 13 rfl
theorem q2054 : (Jvm.Cond.instanceMethod ({ cls := "DowryBoxesModel", name := "canPull", desc := "(III)Z" } : Jvm.MethodName)) ∈ lw_all := lw_g (lw_at lw_m9 14 rfl) rfl
theorem q2055 : (Jvm.Cond.code ({ cls := "DowryBoxesModel", name := "canPull", desc := "(III)Z" } : Jvm.MethodName) prog_22_method_75_code (4 : Nat) (Option.some Jvm.ClassFile.FieldType.boolean)) ∈ lw_all := lw_g (lw_at lw_m9 15 rfl) rfl
theorem q2056 : (Jvm.Cond.methodLink "DowryBoxesModel" (458 : Nat) ({ cls := "DowryBoxesModel", name := "is", desc := "(II)Z" } : Jvm.MethodName)) ∈ lw_all := lw_g (lw_at lw_m9 16 rfl) rfl
theorem q2057 : (Jvm.Cond.static ({ cls := "DowryBoxesModel", name := "is", desc := "(II)Z" } : Jvm.MethodName)) ∈ lw_all := lw_g (lw_at lw_m9 17 rfl) rfl
theorem q2058 : (Jvm.Cond.code ({ cls := "DowryBoxesModel", name := "is", desc := "(II)Z" } : Jvm.MethodName) prog_22_method_4_code (2 : Nat) (Option.some Jvm.ClassFile.FieldType.boolean)) ∈ lw_all := lw_g (lw_at lw_m9 18 rfl) rfl
theorem q2059 : (Jvm.Cond.methodLink "DowryBoxesModel" (465 : Nat) ({ cls := "DowryBoxesModel", name := "remember", desc := "(I)V" } : Jvm.MethodName)) ∈ lw_all := lw_g (lw_at lw_m9 19 rfl) rfl
theorem q2060 : (Jvm.Cond.privateMethod ({ cls := "DowryBoxesModel", name := "remember", desc := "(I)V" } : Jvm.MethodName)) ∈ lw_tbl := lw_at lw_m9 20 rfl
theorem q2061 : (Jvm.Cond.instanceMethod ({ cls := "DowryBoxesModel", name := "remember", desc := "(I)V" } : Jvm.MethodName)) ∈ lw_all := lw_g (lw_at lw_m9 21 rfl) rfl
theorem q2062 : (Jvm.Cond.code ({ cls := "DowryBoxesModel", name := "remember", desc := "(I)V" } : Jvm.MethodName) prog_22_method_12_code (3 : Nat) (Option.none : Option Jvm.ClassFile.FieldType)) ∈ lw_all := lw_g (lw_at lw_m9 22 rfl) rfl
theorem q2063 : (Jvm.Cond.methodLink "DowryBoxesModel" (188 : Nat) ({ cls := "DowryBoxesModel", name := "keepAll", desc := "(I)V" } : Jvm.MethodName)) ∈ lw_all := lw_g (lw_at lw_m9 23 rfl) rfl
theorem q2064 : (Jvm.Cond.privateMethod ({ cls := "DowryBoxesModel", name := "keepAll", desc := "(I)V" } : Jvm.MethodName)) ∈ lw_tbl := lw_at lw_m9 24 rfl
theorem q2065 : (Jvm.Cond.instanceMethod ({ cls := "DowryBoxesModel", name := "keepAll", desc := "(I)V" } : Jvm.MethodName)) ∈ lw_all := lw_g (lw_at lw_m9 25 rfl) rfl
theorem q2066 : (Jvm.Cond.code ({ cls := "DowryBoxesModel", name := "keepAll", desc := "(I)V" } : Jvm.MethodName) prog_22_method_10_code (3 : Nat) (Option.none : Option Jvm.ClassFile.FieldType)) ∈ lw_all := lw_g (lw_at lw_m9 26 rfl) rfl
theorem q2068 : (Jvm.Cond.instanceMethod ({ cls := "DowryBoxesModel", name := "snap", desc := "(II)I" } : Jvm.MethodName)) ∈ lw_all := lw_g (lw_at lw_m9 28 rfl) rfl
theorem q2069 : (Jvm.Cond.selects "DowryBoxesModel" ({ cls := "DowryBoxesModel", name := "snap", desc := "(II)I" } : Jvm.MethodName) ({ cls := "DowryBoxesModel", name := "snap", desc := "(II)I" } : Jvm.MethodName)) ∈ lw_all := lw_g (lw_at lw_m9 29 rfl) rfl
theorem q2070 : (Jvm.Cond.code ({ cls := "DowryBoxesModel", name := "snap", desc := "(II)I" } : Jvm.MethodName) prog_22_method_79_code (3 : Nat) (Option.some Jvm.ClassFile.FieldType.int)) ∈ lw_all := lw_g (lw_at lw_m9 30 rfl) rfl
theorem q2071 : (Jvm.Cond.methodLink "DowryBoxesModel" (472 : Nat) ({ cls := "DowryBoxesModel", name := "snapNow", desc := "(II)I" } : Jvm.MethodName)) ∈ lw_all := lw_g (lw_at lw_m9 31 rfl) rfl
theorem q2072 : (Jvm.Cond.privateMethod ({ cls := "DowryBoxesModel", name := "snapNow", desc := "(II)I" } : Jvm.MethodName)) ∈ lw_tbl := lw_at lw_m9 32 rfl
theorem q2073 : (Jvm.Cond.instanceMethod ({ cls := "DowryBoxesModel", name := "snapNow", desc := "(II)I" } : Jvm.MethodName)) ∈ lw_all := lw_g (lw_at lw_m9 33 rfl) rfl
theorem q2074 : (Jvm.Cond.code ({ cls := "DowryBoxesModel", name := "snapNow", desc := "(II)I" } : Jvm.MethodName) prog_22_method_78_code (3 : Nat) (Option.some Jvm.ClassFile.FieldType.int)) ∈ lw_all := lw_g (lw_at lw_m9 34 rfl) rfl
theorem q2076 : (Jvm.Cond.instanceMethod ({ cls := "DowryBoxesModel", name := "wed", desc := "(II)I" } : Jvm.MethodName)) ∈ lw_all := lw_g (lw_at lw_m9 36 rfl) rfl
theorem q2077 : (Jvm.Cond.selects "DowryBoxesModel" ({ cls := "DowryBoxesModel", name := "wed", desc := "(II)I" } : Jvm.MethodName) ({ cls := "DowryBoxesModel", name := "wed", desc := "(II)I" } : Jvm.MethodName)) ∈ lw_all := lw_g (lw_at lw_m9 37 rfl) rfl
theorem q2078 : (Jvm.Cond.code ({ cls := "DowryBoxesModel", name := "wed", desc := "(II)I" } : Jvm.MethodName) prog_22_method_81_code (3 : Nat) (Option.some Jvm.ClassFile.FieldType.int)) ∈ lw_all := lw_g (lw_at lw_m9 38 rfl) rfl
theorem q2079 : (Jvm.Cond.methodLink "DowryBoxesModel" (475 : Nat) ({ cls := "DowryBoxesModel", name := "wedNow", desc := "(II)I" } : Jvm.MethodName)) ∈ lw_all := lw_g (lw_at lw_m9 39 rfl) rfl
theorem q2080 : (Jvm.Cond.privateMethod ({ cls := "DowryBoxesModel", name := "wedNow", desc := "(II)I" } : Jvm.MethodName)) ∈ lw_tbl := lw_at lw_m9 40 rfl
theorem q2081 : (Jvm.Cond.instanceMethod ({ cls := "DowryBoxesModel", name := "wedNow", desc := "(II)I" } : Jvm.MethodName)) ∈ lw_all := lw_g (lw_at lw_m9 41 rfl) rfl
theorem q2082 : (Jvm.Cond.code ({ cls := "DowryBoxesModel", name := "wedNow", desc := "(II)I" } : Jvm.MethodName) prog_22_method_80_code (4 : Nat) (Option.some Jvm.ClassFile.FieldType.int)) ∈ lw_all := lw_g (lw_at lw_m9 42 rfl) rfl
theorem q2084 : (Jvm.Cond.instanceMethod ({ cls := "DowryBoxesModel", name := "pass", desc := "()I" } : Jvm.MethodName)) ∈ lw_all := lw_g (lw_at lw_m9 44 rfl) rfl
theorem q2085 : (Jvm.Cond.selects "DowryBoxesModel" ({ cls := "DowryBoxesModel", name := "pass", desc := "()I" } : Jvm.MethodName) ({ cls := "DowryBoxesModel", name := "pass", desc := "()I" } : Jvm.MethodName)) ∈ lw_all := lw_g (lw_at lw_m9 45 rfl) rfl
theorem q2086 : (Jvm.Cond.code ({ cls := "DowryBoxesModel", name := "pass", desc := "()I" } : Jvm.MethodName) prog_22_method_84_code (1 : Nat) (Option.some Jvm.ClassFile.FieldType.int)) ∈ lw_all := lw_g (lw_at lw_m9 46 rfl) rfl
theorem q2087 : (Jvm.Cond.methodLink "DowryBoxesModel" (481 : Nat) ({ cls := "DowryBoxesModel", name := "passNow", desc := "()I" } : Jvm.MethodName)) ∈ lw_all := lw_g (lw_at lw_m9 47 rfl) rfl
theorem q2088 : (Jvm.Cond.privateMethod ({ cls := "DowryBoxesModel", name := "passNow", desc := "()I" } : Jvm.MethodName)) ∈ lw_tbl := lw_at lw_m9 48 rfl
theorem q2089 : (Jvm.Cond.instanceMethod ({ cls := "DowryBoxesModel", name := "passNow", desc := "()I" } : Jvm.MethodName)) ∈ lw_all := lw_g (lw_at lw_m9 49 rfl) rfl
theorem q2090 : (Jvm.Cond.code ({ cls := "DowryBoxesModel", name := "passNow", desc := "()I" } : Jvm.MethodName) prog_22_method_83_code (1 : Nat) (Option.some Jvm.ClassFile.FieldType.int)) ∈ lw_all := lw_g (lw_at lw_m9 50 rfl) rfl
theorem q2091 : (Jvm.Cond.methodLink "DowryBoxesModel" (478 : Nat) ({ cls := "DowryBoxesModel", name := "passIt", desc := "()I" } : Jvm.MethodName)) ∈ lw_all := lw_g (lw_at lw_m9 51 rfl) rfl
theorem q2092 : (Jvm.Cond.privateMethod ({ cls := "DowryBoxesModel", name := "passIt", desc := "()I" } : Jvm.MethodName)) ∈ lw_tbl := lw_at lw_m9 52 rfl
theorem q2093 : (Jvm.Cond.instanceMethod ({ cls := "DowryBoxesModel", name := "passIt", desc := "()I" } : Jvm.MethodName)) ∈ lw_all := lw_g (lw_at lw_m9 53 rfl) rfl
theorem q2094 : (Jvm.Cond.code ({ cls := "DowryBoxesModel", name := "passIt", desc := "()I" } : Jvm.MethodName) prog_22_method_82_code (3 : Nat) (Option.some Jvm.ClassFile.FieldType.int)) ∈ lw_all := lw_g (lw_at lw_m9 54 rfl) rfl
theorem q2096 : (Jvm.Cond.instanceMethod ({ cls := "DowryBoxesModel", name := "hear", desc := "(III)I" } : Jvm.MethodName)) ∈ lw_all := lw_g (lw_at lw_m9 56 rfl) rfl
theorem q2097 : (Jvm.Cond.selects "DowryBoxesModel" ({ cls := "DowryBoxesModel", name := "hear", desc := "(III)I" } : Jvm.MethodName) ({ cls := "DowryBoxesModel", name := "hear", desc := "(III)I" } : Jvm.MethodName)) ∈ lw_all := lw_g (lw_at lw_m9 57 rfl) rfl
theorem q2098 : (Jvm.Cond.code ({ cls := "DowryBoxesModel", name := "hear", desc := "(III)I" } : Jvm.MethodName) prog_22_method_85_code (5 : Nat) (Option.some Jvm.ClassFile.FieldType.int)) ∈ lw_all := lw_g (lw_at lw_m9 58 rfl) rfl
theorem q2100 : (Jvm.Cond.instanceMethod ({ cls := "DowryBoxesModel", name := "forget", desc := "()I" } : Jvm.MethodName)) ∈ lw_all := lw_g (lw_at lw_m9 60 rfl) rfl
theorem q2101 : (Jvm.Cond.selects "DowryBoxesModel" ({ cls := "DowryBoxesModel", name := "forget", desc := "()I" } : Jvm.MethodName) ({ cls := "DowryBoxesModel", name := "forget", desc := "()I" } : Jvm.MethodName)) ∈ lw_all := lw_g (lw_at lw_m9 61 rfl) rfl
theorem q2102 : (Jvm.Cond.code ({ cls := "DowryBoxesModel", name := "forget", desc := "()I" } : Jvm.MethodName) prog_22_method_86_code (2 : Nat) (Option.some Jvm.ClassFile.FieldType.int)) ∈ lw_all := lw_g (lw_at lw_m9 62 rfl) rfl
theorem q2104 : (Jvm.Cond.instanceMethod ({ cls := "DowryBoxesModel", name := "which", desc := "()I" } : Jvm.MethodName)) ∈ lw_all := lw_g (lw_at lw_m9 64 rfl) rfl
theorem q2105 : (Jvm.Cond.selects "DowryBoxesModel" ({ cls := "DowryBoxesModel", name := "which", desc := "()I" } : Jvm.MethodName) ({ cls := "DowryBoxesModel", name := "which", desc := "()I" } : Jvm.MethodName)) ∈ lw_all := lw_g (lw_at lw_m9 65 rfl) rfl
theorem q2106 : (Jvm.Cond.code ({ cls := "DowryBoxesModel", name := "which", desc := "()I" } : Jvm.MethodName) prog_22_method_88_code (1 : Nat) (Option.some Jvm.ClassFile.FieldType.int)) ∈ lw_all := lw_g (lw_at lw_m9 66 rfl) rfl
theorem q2107 : (Jvm.Cond.methodLink "DowryBoxesModel" (484 : Nat) ({ cls := "DowryBoxesModel", name := "whichAre", desc := "()I" } : Jvm.MethodName)) ∈ lw_all := lw_g (lw_at lw_m9 67 rfl) rfl
theorem q2108 : (Jvm.Cond.privateMethod ({ cls := "DowryBoxesModel", name := "whichAre", desc := "()I" } : Jvm.MethodName)) ∈ lw_tbl := lw_at lw_m9 68 rfl
theorem q2109 : (Jvm.Cond.instanceMethod ({ cls := "DowryBoxesModel", name := "whichAre", desc := "()I" } : Jvm.MethodName)) ∈ lw_all := lw_g (lw_at lw_m9 69 rfl) rfl
theorem q2110 : (Jvm.Cond.code ({ cls := "DowryBoxesModel", name := "whichAre", desc := "()I" } : Jvm.MethodName) prog_22_method_87_code (5 : Nat) (Option.some Jvm.ClassFile.FieldType.int)) ∈ lw_all := lw_g (lw_at lw_m9 70 rfl) rfl
theorem q2112 : (Jvm.Cond.instanceMethod ({ cls := "DowryBoxesModel", name := "listen", desc := "(I)I" } : Jvm.MethodName)) ∈ lw_all := lw_g (lw_at lw_m9 72 rfl) rfl
theorem q2113 : (Jvm.Cond.selects "DowryBoxesModel" ({ cls := "DowryBoxesModel", name := "listen", desc := "(I)I" } : Jvm.MethodName) ({ cls := "DowryBoxesModel", name := "listen", desc := "(I)I" } : Jvm.MethodName)) ∈ lw_all := lw_g (lw_at lw_m9 73 rfl) rfl
theorem q2114 : (Jvm.Cond.code ({ cls := "DowryBoxesModel", name := "listen", desc := "(I)I" } : Jvm.MethodName) prog_22_method_89_code (8 : Nat) (Option.some Jvm.ClassFile.FieldType.int)) ∈ lw_all := lw_g (lw_at lw_m9 74 rfl) rfl
theorem q2115 : (Jvm.Cond.constant "DowryBoxesModel" (487 : Nat) (100000000 : Int32)) ∈ lw_all := lw_g (lw_at lw_m9 75 rfl) rfl
theorem q2117 : (Jvm.Cond.instanceMethod ({ cls := "DowryBoxesModel", name := "steady", desc := "(I)I" } : Jvm.MethodName)) ∈ lw_all := lw_g (lw_at lw_m9 77 rfl) rfl
theorem q2118 : (Jvm.Cond.selects "DowryBoxesModel" ({ cls := "DowryBoxesModel", name := "steady", desc := "(I)I" } : Jvm.MethodName) ({ cls := "DowryBoxesModel", name := "steady", desc := "(I)I" } : Jvm.MethodName)) ∈ lw_all := lw_g (lw_at lw_m9 78 rfl) rfl
theorem q2119 : (Jvm.Cond.code ({ cls := "DowryBoxesModel", name := "steady", desc := "(I)I" } : Jvm.MethodName) prog_22_method_94_code (2 : Nat) (Option.some Jvm.ClassFile.FieldType.int)) ∈ lw_all := lw_g (lw_at lw_m9 79 rfl) rfl
theorem q2120 : (Jvm.Cond.methodLink "DowryBoxesModel" (497 : Nat) ({ cls := "DowryBoxesModel", name := "laySteady", desc := "()V" } : Jvm.MethodName)) ∈ lw_all := lw_g (lw_at lw_m9 80 rfl) rfl
theorem q2121 : (Jvm.Cond.privateMethod ({ cls := "DowryBoxesModel", name := "laySteady", desc := "()V" } : Jvm.MethodName)) ∈ lw_tbl := lw_at lw_m9 81 rfl
theorem q2122 : (Jvm.Cond.instanceMethod ({ cls := "DowryBoxesModel", name := "laySteady", desc := "()V" } : Jvm.MethodName)) ∈ lw_all := lw_g (lw_at lw_m9 82 rfl) rfl
theorem q2123 : (Jvm.Cond.code ({ cls := "DowryBoxesModel", name := "laySteady", desc := "()V" } : Jvm.MethodName) prog_22_method_93_code (4 : Nat) (Option.none : Option Jvm.ClassFile.FieldType)) ∈ lw_all := lw_g (lw_at lw_m9 83 rfl) rfl
theorem q2124 : (Jvm.Cond.methodLink "DowryBoxesModel" (488 : Nat) ({ cls := "DowryBoxesModel", name := "layTwos", desc := "()V" } : Jvm.MethodName)) ∈ lw_all := lw_g (lw_at lw_m9 84 rfl) rfl
theorem q2125 : (Jvm.Cond.privateMethod ({ cls := "DowryBoxesModel", name := "layTwos", desc := "()V" } : Jvm.MethodName)) ∈ lw_tbl := lw_at lw_m9 85 rfl
theorem q2126 : (Jvm.Cond.instanceMethod ({ cls := "DowryBoxesModel", name := "layTwos", desc := "()V" } : Jvm.MethodName)) ∈ lw_all := lw_g (lw_at lw_m9 86 rfl) rfl
theorem q2127 : (Jvm.Cond.code ({ cls := "DowryBoxesModel", name := "layTwos", desc := "()V" } : Jvm.MethodName) prog_22_method_90_code (5 : Nat) (Option.none : Option Jvm.ClassFile.FieldType)) ∈ lw_all := lw_g (lw_at lw_m9 87 rfl) rfl
theorem q2128 : (Jvm.Cond.methodLink "DowryBoxesModel" (491 : Nat) ({ cls := "DowryBoxesModel", name := "nearest", desc := "(I)I" } : Jvm.MethodName)) ∈ lw_all := lw_g (lw_at lw_m9 88 rfl) rfl
theorem q2129 : (Jvm.Cond.privateMethod ({ cls := "DowryBoxesModel", name := "nearest", desc := "(I)I" } : Jvm.MethodName)) ∈ lw_tbl := lw_at lw_m9 89 rfl
theorem q2130 : (Jvm.Cond.instanceMethod ({ cls := "DowryBoxesModel", name := "nearest", desc := "(I)I" } : Jvm.MethodName)) ∈ lw_all := lw_g (lw_at lw_m9 90 rfl) rfl
theorem q2131 : (Jvm.Cond.code ({ cls := "DowryBoxesModel", name := "nearest", desc := "(I)I" } : Jvm.MethodName) prog_22_method_91_code (4 : Nat) (Option.some Jvm.ClassFile.FieldType.int)) ∈ lw_all := lw_g (lw_at lw_m9 91 rfl) rfl
theorem q2132 : (Jvm.Cond.methodLink "DowryBoxesModel" (494 : Nat) ({ cls := "DowryBoxesModel", name := "keptBy", desc := "(I)I" } : Jvm.MethodName)) ∈ lw_all := lw_g (lw_at lw_m9 92 rfl) rfl
theorem q2133 : (Jvm.Cond.privateMethod ({ cls := "DowryBoxesModel", name := "keptBy", desc := "(I)I" } : Jvm.MethodName)) ∈ lw_tbl := lw_at lw_m9 93 rfl
theorem q2134 : (Jvm.Cond.instanceMethod ({ cls := "DowryBoxesModel", name := "keptBy", desc := "(I)I" } : Jvm.MethodName)) ∈ lw_all := lw_g (lw_at lw_m9 94 rfl) rfl
theorem q2135 : (Jvm.Cond.code ({ cls := "DowryBoxesModel", name := "keptBy", desc := "(I)I" } : Jvm.MethodName) prog_22_method_92_code (4 : Nat) (Option.some Jvm.ClassFile.FieldType.int)) ∈ lw_all := lw_g (lw_at lw_m9 95 rfl) rfl
theorem q2137 : (Jvm.Cond.instanceMethod ({ cls := "DowryBoxesModel", name := "about", desc := "(II)I" } : Jvm.MethodName)) ∈ lw_all := lw_g (lw_at lw_m9 97 rfl) rfl
theorem q2138 : (Jvm.Cond.selects "DowryBoxesModel" ({ cls := "DowryBoxesModel", name := "about", desc := "(II)I" } : Jvm.MethodName) ({ cls := "DowryBoxesModel", name := "about", desc := "(II)I" } : Jvm.MethodName)) ∈ lw_all := lw_g (lw_at lw_m9 98 rfl) rfl
theorem q2139 : (Jvm.Cond.code ({ cls := "DowryBoxesModel", name := "about", desc := "(II)I" } : Jvm.MethodName) prog_22_method_97_code (8 : Nat) (Option.some Jvm.ClassFile.FieldType.int)) ∈ lw_all := lw_g (lw_at lw_m9 99 rfl) rfl
theorem q2140 : (Jvm.Cond.methodLink "DowryBoxesModel" (505 : Nat) ({ cls := "DowryBoxesModel", name := "layAbout", desc := "(I)V" } : Jvm.MethodName)) ∈ lw_all := lw_g (lw_at lw_m9 100 rfl) rfl
theorem q2141 : (Jvm.Cond.privateMethod ({ cls := "DowryBoxesModel", name := "layAbout", desc := "(I)V" } : Jvm.MethodName)) ∈ lw_tbl := lw_at lw_m9 101 rfl
theorem q2142 : (Jvm.Cond.instanceMethod ({ cls := "DowryBoxesModel", name := "layAbout", desc := "(I)V" } : Jvm.MethodName)) ∈ lw_all := lw_g (lw_at lw_m9 102 rfl) rfl
theorem q2143 : (Jvm.Cond.code ({ cls := "DowryBoxesModel", name := "layAbout", desc := "(I)V" } : Jvm.MethodName) prog_22_method_96_code (7 : Nat) (Option.none : Option Jvm.ClassFile.FieldType)) ∈ lw_all := lw_g (lw_at lw_m9 103 rfl) rfl
theorem q2144 : (Jvm.Cond.methodLink "DowryBoxesModel" (501 : Nat) ({ cls := "DowryBoxesModel", name := "withSuitor", desc := "(IIII)I" } : Jvm.MethodName)) ∈ lw_all := lw_g (lw_at lw_m9 104 rfl) rfl
theorem q2145 : (Jvm.Cond.privateMethod ({ cls := "DowryBoxesModel", name := "withSuitor", desc := "(IIII)I" } : Jvm.MethodName)) ∈ lw_tbl := lw_at lw_m9 105 rfl
theorem q2146 : (Jvm.Cond.instanceMethod ({ cls := "DowryBoxesModel", name := "withSuitor", desc := "(IIII)I" } : Jvm.MethodName)) ∈ lw_all := lw_g (lw_at lw_m9 106 rfl) rfl
theorem q2147 : (Jvm.Cond.code ({ cls := "DowryBoxesModel", name := "withSuitor", desc := "(IIII)I" } : Jvm.MethodName) prog_22_method_95_code (6 : Nat) (Option.some Jvm.ClassFile.FieldType.int)) ∈ lw_all := lw_g (lw_at lw_m9 107 rfl) rfl
theorem q2148 : (Jvm.Cond.constant "DowryBoxesModel" (500 : Nat) (-100000000 : Int32)) ∈ lw_all := lw_g (lw_at lw_m9 108 rfl) rfl
theorem q2150 : (Jvm.Cond.instanceMethod ({ cls := "DowryBoxesModel", name := "keep", desc := "(III)I" } : Jvm.MethodName)) ∈ lw_all := lw_g (lw_at lw_m9 110 rfl) rfl
theorem q2151 : (Jvm.Cond.selects "DowryBoxesModel" ({ cls := "DowryBoxesModel", name := "keep", desc := "(III)I" } : Jvm.MethodName) ({ cls := "DowryBoxesModel", name := "keep", desc := "(III)I" } : Jvm.MethodName)) ∈ lw_all := lw_g (lw_at lw_m9 111 rfl) rfl
theorem q2152 : (Jvm.Cond.code ({ cls := "DowryBoxesModel", name := "keep", desc := "(III)I" } : Jvm.MethodName) prog_22_method_100_code (9 : Nat) (Option.some Jvm.ClassFile.FieldType.int)) ∈ lw_all := lw_g (lw_at lw_m9 112 rfl) rfl
theorem q2153 : (Jvm.Cond.constantLong "DowryBoxesModel" (511 : Nat) (8 : Int64)) ∈ lw_all := lw_g (lw_at lw_m9 113 rfl) rfl
theorem q2154 : (Jvm.Cond.methodLink "DowryBoxesModel" (513 : Nat) ({ cls := "DowryBoxesModel", name := "layMore", desc := "(II)V" } : Jvm.MethodName)) ∈ lw_all := lw_g (lw_at lw_m9 114 rfl) rfl
theorem q2155 : (Jvm.Cond.privateMethod ({ cls := "DowryBoxesModel", name := "layMore", desc := "(II)V" } : Jvm.MethodName)) ∈ lw_tbl := lw_at lw_m9 115 rfl
theorem q2156 : (Jvm.Cond.instanceMethod ({ cls := "DowryBoxesModel", name := "layMore", desc := "(II)V" } : Jvm.MethodName)) ∈ lw_all := lw_g (lw_at lw_m9 116 rfl) rfl
theorem q2157 : (Jvm.Cond.code ({ cls := "DowryBoxesModel", name := "layMore", desc := "(II)V" } : Jvm.MethodName) prog_22_method_99_code (6 : Nat) (Option.none : Option Jvm.ClassFile.FieldType)) ∈ lw_all := lw_g (lw_at lw_m9 117 rfl) rfl
theorem q2158 : (Jvm.Cond.methodLink "DowryBoxesModel" (508 : Nat) ({ cls := "DowryBoxesModel", name := "leastNext", desc := "(III)I" } : Jvm.MethodName)) ∈ lw_all := lw_g (lw_at lw_m9 118 rfl) rfl
theorem q2159 : (Jvm.Cond.privateMethod ({ cls := "DowryBoxesModel", name := "leastNext", desc := "(III)I" } : Jvm.MethodName)) ∈ lw_tbl := lw_at lw_m9 119 rfl
theorem q2160 : (Jvm.Cond.instanceMethod ({ cls := "DowryBoxesModel", name := "leastNext", desc := "(III)I" } : Jvm.MethodName)) ∈ lw_all := lw_g (lw_at lw_m9 120 rfl) rfl
theorem q2161 : (Jvm.Cond.code ({ cls := "DowryBoxesModel", name := "leastNext", desc := "(III)I" } : Jvm.MethodName) prog_22_method_98_code (6 : Nat) (Option.some Jvm.ClassFile.FieldType.int)) ∈ lw_all := lw_g (lw_at lw_m9 121 rfl) rfl
theorem q2163 : (Jvm.Cond.instanceMethod ({ cls := "DowryBoxesModel", name := "clash", desc := "(III)I" } : Jvm.MethodName)) ∈ lw_all := lw_g (lw_at lw_m9 123 rfl) rfl
theorem q2164 : (Jvm.Cond.selects "DowryBoxesModel" ({ cls := "DowryBoxesModel", name := "clash", desc := "(III)I" } : Jvm.MethodName) ({ cls := "DowryBoxesModel", name := "clash", desc := "(III)I" } : Jvm.MethodName)) ∈ lw_all := lw_g (lw_at lw_m9 124 rfl) rfl
theorem q2165 : (Jvm.Cond.code ({ cls := "DowryBoxesModel", name := "clash", desc := "(III)I" } : Jvm.MethodName) prog_22_method_103_code (4 : Nat) (Option.some Jvm.ClassFile.FieldType.int)) ∈ lw_all := lw_g (lw_at lw_m9 125 rfl) rfl
theorem q2166 : (Jvm.Cond.methodLink "DowryBoxesModel" (516 : Nat) ({ cls := "DowryBoxesModel", name := "areTwo", desc := "(II)Z" } : Jvm.MethodName)) ∈ lw_all := lw_g (lw_at lw_m9 126 rfl) rfl
theorem q2167 : (Jvm.Cond.privateMethod ({ cls := "DowryBoxesModel", name := "areTwo", desc := "(II)Z" } : Jvm.MethodName)) ∈ lw_tbl := lw_at lw_m9 127 rfl
theorem q2168 : (Jvm.Cond.instanceMethod ({ cls := "DowryBoxesModel", name := "areTwo", desc := "(II)Z" } : Jvm.MethodName)) ∈ lw_all := lw_g (lw_at lw_m9 128 rfl) rfl
theorem q2169 : (Jvm.Cond.code ({ cls := "DowryBoxesModel", name := "areTwo", desc := "(II)Z" } : Jvm.MethodName) prog_22_method_102_code (3 : Nat) (Option.some Jvm.ClassFile.FieldType.boolean)) ∈ lw_all := lw_g (lw_at lw_m9 129 rfl) rfl
theorem q2170 : (Jvm.Cond.methodLink "DowryBoxesModel" (519 : Nat) ({ cls := "DowryBoxesModel", name := "layClash", desc := "(III)I" } : Jvm.MethodName)) ∈ lw_all := lw_g (lw_at lw_m9 130 rfl) rfl
theorem q2171 : (Jvm.Cond.privateMethod ({ cls := "DowryBoxesModel", name := "layClash", desc := "(III)I" } : Jvm.MethodName)) ∈ lw_tbl := lw_at lw_m9 131 rfl
theorem q2172 : (Jvm.Cond.instanceMethod ({ cls := "DowryBoxesModel", name := "layClash", desc := "(III)I" } : Jvm.MethodName)) ∈ lw_all := lw_g (lw_at lw_m9 132 rfl) rfl
theorem q2173 : (Jvm.Cond.code ({ cls := "DowryBoxesModel", name := "layClash", desc := "(III)I" } : Jvm.MethodName) prog_22_method_101_code (10 : Nat) (Option.some Jvm.ClassFile.FieldType.int)) ∈ lw_all := lw_g (lw_at lw_m9 133 rfl) rfl
theorem q2175 : (Jvm.Cond.instanceMethod ({ cls := "DowryBoxesModel", name := "best", desc := "(III)I" } : Jvm.MethodName)) ∈ lw_all := lw_g (lw_at lw_m9 135 rfl) rfl
theorem q2176 : (Jvm.Cond.selects "DowryBoxesModel" ({ cls := "DowryBoxesModel", name := "best", desc := "(III)I" } : Jvm.MethodName) ({ cls := "DowryBoxesModel", name := "best", desc := "(III)I" } : Jvm.MethodName)) ∈ lw_all := lw_g (lw_at lw_m9 136 rfl) rfl
theorem q2177 : (Jvm.Cond.code ({ cls := "DowryBoxesModel", name := "best", desc := "(III)I" } : Jvm.MethodName) prog_22_method_104_code (8 : Nat) (Option.some Jvm.ClassFile.FieldType.int)) ∈ lw_all := lw_g (lw_at lw_m9 137 rfl) rfl
theorem q2179 : (Jvm.Cond.instanceMethod ({ cls := "DowryBoxesModel", name := "filed", desc := "(IIII)I" } : Jvm.MethodName)) ∈ lw_all := lw_g (lw_at lw_m9 139 rfl) rfl
theorem q2180 : (Jvm.Cond.selects "DowryBoxesModel" ({ cls := "DowryBoxesModel", name := "filed", desc := "(IIII)I" } : Jvm.MethodName) ({ cls := "DowryBoxesModel", name := "filed", desc := "(IIII)I" } : Jvm.MethodName)) ∈ lw_all := lw_g (lw_at lw_m9 140 rfl) rfl
theorem q2181 : (Jvm.Cond.code ({ cls := "DowryBoxesModel", name := "filed", desc := "(IIII)I" } : Jvm.MethodName) prog_22_method_105_code (11 : Nat) (Option.some Jvm.ClassFile.FieldType.int)) ∈ lw_all := lw_g (lw_at lw_m9 141 rfl) rfl
theorem q2182 : (Jvm.Cond.constantLong "DowryBoxesModel" (522 : Nat) (2 : Int64)) ∈ lw_all := lw_g (lw_at lw_m9 142 rfl) rfl
theorem q2184 : (Jvm.Cond.instanceMethod ({ cls := "DowryBoxesModel", name := "shares", desc := "(II)I" } : Jvm.MethodName)) ∈ lw_all := lw_g (lw_at lw_m9 144 rfl) rfl
theorem q2185 : (Jvm.Cond.selects "DowryBoxesModel" ({ cls := "DowryBoxesModel", name := "shares", desc := "(II)I" } : Jvm.MethodName) ({ cls := "DowryBoxesModel", name := "shares", desc := "(II)I" } : Jvm.MethodName)) ∈ lw_all := lw_g (lw_at lw_m9 145 rfl) rfl
theorem q2186 : (Jvm.Cond.code ({ cls := "DowryBoxesModel", name := "shares", desc := "(II)I" } : Jvm.MethodName) prog_22_method_107_code (8 : Nat) (Option.some Jvm.ClassFile.FieldType.int)) ∈ lw_all := lw_g (lw_at lw_m9 146 rfl) rfl
theorem q2187 : (Jvm.Cond.constantLong "DowryBoxesModel" (524 : Nat) (3 : Int64)) ∈ lw_all := lw_g (lw_at lw_m9 147 rfl) rfl
theorem q2188 : (Jvm.Cond.methodLink "DowryBoxesModel" (526 : Nat) ({ cls := "DowryBoxesModel", name := "leastOf", desc := "(II)I" } : Jvm.MethodName)) ∈ lw_all := lw_g (lw_at lw_m9 148 rfl) rfl
theorem q2189 : (Jvm.Cond.privateMethod ({ cls := "DowryBoxesModel", name := "leastOf", desc := "(II)I" } : Jvm.MethodName)) ∈ lw_tbl := lw_at lw_m9 149 rfl
theorem q2190 : (Jvm.Cond.instanceMethod ({ cls := "DowryBoxesModel", name := "leastOf", desc := "(II)I" } : Jvm.MethodName)) ∈ lw_all := lw_g (lw_at lw_m9 150 rfl) rfl
theorem q2191 : (Jvm.Cond.code ({ cls := "DowryBoxesModel", name := "leastOf", desc := "(II)I" } : Jvm.MethodName) prog_22_method_106_code (5 : Nat) (Option.some Jvm.ClassFile.FieldType.int)) ∈ lw_all := lw_g (lw_at lw_m9 151 rfl) rfl
theorem q2193 : (Jvm.Cond.instanceMethod ({ cls := "DowryBoxesModel", name := "again", desc := "(II)I" } : Jvm.MethodName)) ∈ lw_all := lw_g (lw_at lw_m9 153 rfl) rfl
theorem q2194 : (Jvm.Cond.selects "DowryBoxesModel" ({ cls := "DowryBoxesModel", name := "again", desc := "(II)I" } : Jvm.MethodName) ({ cls := "DowryBoxesModel", name := "again", desc := "(II)I" } : Jvm.MethodName)) ∈ lw_all := lw_g (lw_at lw_m9 154 rfl) rfl
theorem q2195 : (Jvm.Cond.code ({ cls := "DowryBoxesModel", name := "again", desc := "(II)I" } : Jvm.MethodName) prog_22_method_108_code (7 : Nat) (Option.some Jvm.ClassFile.FieldType.int)) ∈ lw_all := lw_g (lw_at lw_m9 155 rfl) rfl
theorem q2197 : (Jvm.Cond.instanceMethod ({ cls := "DowryBoxesModel", name := "ends", desc := "(I)I" } : Jvm.MethodName)) ∈ lw_all := lw_g (lw_at lw_m9 157 rfl) rfl
theorem q2198 : (Jvm.Cond.selects "DowryBoxesModel" ({ cls := "DowryBoxesModel", name := "ends", desc := "(I)I" } : Jvm.MethodName) ({ cls := "DowryBoxesModel", name := "ends", desc := "(I)I" } : Jvm.MethodName)) ∈ lw_all := lw_g (lw_at lw_m9 158 rfl) rfl
theorem q2199 : (Jvm.Cond.code ({ cls := "DowryBoxesModel", name := "ends", desc := "(I)I" } : Jvm.MethodName) prog_22_method_109_code (4 : Nat) (Option.some Jvm.ClassFile.FieldType.int)) ∈ lw_all := lw_g (lw_at lw_m9 159 rfl) rfl
theorem q2201 : (Jvm.Cond.instanceMethod ({ cls := "DowryBoxesModel", name := "stands", desc := "(II)J" } : Jvm.MethodName)) ∈ lw_all := lw_g (lw_at lw_m9 161 rfl) rfl
theorem q2202 : (Jvm.Cond.selects "DowryBoxesModel" ({ cls := "DowryBoxesModel", name := "stands", desc := "(II)J" } : Jvm.MethodName) ({ cls := "DowryBoxesModel", name := "stands", desc := "(II)J" } : Jvm.MethodName)) ∈ lw_all := lw_g (lw_at lw_m9 162 rfl) rfl
theorem q2203 : (Jvm.Cond.code ({ cls := "DowryBoxesModel", name := "stands", desc := "(II)J" } : Jvm.MethodName) prog_22_method_110_code (8 : Nat) (Option.some Jvm.ClassFile.FieldType.long)) ∈ lw_all := lw_g (lw_at lw_m9 163 rfl) rfl
theorem q2204 : (Jvm.Cond.constantLong "DowryBoxesModel" (529 : Nat) (1000000000000 : Int64)) ∈ lw_all := lw_g (lw_at lw_m9 164 rfl) rfl
theorem q2206 : (Jvm.Cond.instanceMethod ({ cls := "DowryBoxesModel", name := "compare", desc := "(I)I" } : Jvm.MethodName)) ∈ lw_all := lw_g (lw_at lw_m9 166 rfl) rfl
theorem q2207 : (Jvm.Cond.selects "DowryBoxesModel" ({ cls := "DowryBoxesModel", name := "compare", desc := "(I)I" } : Jvm.MethodName) ({ cls := "DowryBoxesModel", name := "compare", desc := "(I)I" } : Jvm.MethodName)) ∈ lw_all := lw_g (lw_at lw_m9 167 rfl) rfl
theorem q2208 : (Jvm.Cond.code ({ cls := "DowryBoxesModel", name := "compare", desc := "(I)I" } : Jvm.MethodName) prog_22_method_111_code (5 : Nat) (Option.some Jvm.ClassFile.FieldType.int)) ∈ lw_all := lw_g (lw_at lw_m9 168 rfl) rfl
theorem q2210 : (Jvm.Cond.instanceMethod ({ cls := "DowryBoxesModel", name := "orders", desc := "()I" } : Jvm.MethodName)) ∈ lw_all := lw_g (lw_at lw_m9 170 rfl) rfl
theorem q2211 : (Jvm.Cond.selects "DowryBoxesModel" ({ cls := "DowryBoxesModel", name := "orders", desc := "()I" } : Jvm.MethodName) ({ cls := "DowryBoxesModel", name := "orders", desc := "()I" } : Jvm.MethodName)) ∈ lw_all := lw_g (lw_at lw_m9 171 rfl) rfl
theorem q2212 : (Jvm.Cond.code ({ cls := "DowryBoxesModel", name := "orders", desc := "()I" } : Jvm.MethodName) prog_22_method_118_code (4 : Nat) (Option.some Jvm.ClassFile.FieldType.int)) ∈ lw_all := lw_g (lw_at lw_m9 172 rfl) rfl
theorem q2213 : (Jvm.Cond.methodLink "DowryBoxesModel" (557 : Nat) ({ cls := "DowryBoxesModel", name := "readOrder", desc := "()V" } : Jvm.MethodName)) ∈ lw_all := lw_g (lw_at lw_m9 173 rfl) rfl
theorem q2214 : (Jvm.Cond.privateMethod ({ cls := "DowryBoxesModel", name := "readOrder", desc := "()V" } : Jvm.MethodName)) ∈ lw_tbl := lw_at lw_m9 174 rfl
theorem q2215 : (Jvm.Cond.instanceMethod ({ cls := "DowryBoxesModel", name := "readOrder", desc := "()V" } : Jvm.MethodName)) ∈ lw_all := lw_g (lw_at lw_m9 175 rfl) rfl
theorem q2216 : (Jvm.Cond.code ({ cls := "DowryBoxesModel", name := "readOrder", desc := "()V" } : Jvm.MethodName) prog_22_method_114_code (4 : Nat) (Option.none : Option Jvm.ClassFile.FieldType)) ∈ lw_all := lw_g (lw_at lw_m9 176 rfl) rfl
theorem q2217 : (Jvm.Cond.methodLink "DowryBoxesModel" (531 : Nat) ({ cls := "DowryBoxesModel", name := "readSum", desc := "(I)V" } : Jvm.MethodName)) ∈ lw_all := lw_g (lw_at lw_m9 177 rfl) rfl
theorem q2218 : (Jvm.Cond.privateMethod ({ cls := "DowryBoxesModel", name := "readSum", desc := "(I)V" } : Jvm.MethodName)) ∈ lw_tbl := lw_at lw_m9 178 rfl
theorem q2219 : (Jvm.Cond.instanceMethod ({ cls := "DowryBoxesModel", name := "readSum", desc := "(I)V" } : Jvm.MethodName)) ∈ lw_all := lw_g (lw_at lw_m9 179 rfl) rfl
theorem q2220 : (Jvm.Cond.code ({ cls := "DowryBoxesModel", name := "readSum", desc := "(I)V" } : Jvm.MethodName) prog_22_method_112_code (2 : Nat) (Option.none : Option Jvm.ClassFile.FieldType)) ∈ lw_all := lw_g (lw_at lw_m9 180 rfl) rfl
theorem q2221 : (Jvm.Cond.methodLink "DowryBoxesModel" (534 : Nat) ({ cls := "DowryBoxesModel", name := "mustJoin", desc := "(I)V" } : Jvm.MethodName)) ∈ lw_all := lw_g (lw_at lw_m9 181 rfl) rfl
theorem q2222 : (Jvm.Cond.privateMethod ({ cls := "DowryBoxesModel", name := "mustJoin", desc := "(I)V" } : Jvm.MethodName)) ∈ lw_tbl := lw_at lw_m9 182 rfl
theorem q2223 : (Jvm.Cond.instanceMethod ({ cls := "DowryBoxesModel", name := "mustJoin", desc := "(I)V" } : Jvm.MethodName)) ∈ lw_all := lw_g (lw_at lw_m9 183 rfl) rfl
theorem q2224 : (Jvm.Cond.code ({ cls := "DowryBoxesModel", name := "mustJoin", desc := "(I)V" } : Jvm.MethodName) prog_22_method_113_code (2 : Nat) (Option.none : Option Jvm.ClassFile.FieldType)) ∈ lw_all := lw_g (lw_at lw_m9 184 rfl) rfl
theorem q2225 : (Jvm.Cond.constantLong "DowryBoxesModel" (537 : Nat) (21279923 : Int64)) ∈ lw_all := lw_g (lw_at lw_m9 185 rfl) rfl
theorem q2226 : (Jvm.Cond.methodLink "DowryBoxesModel" (560 : Nat) ({ cls := "DowryBoxesModel", name := "run", desc := "(I)I" } : Jvm.MethodName)) ∈ lw_all := lw_g (lw_at lw_m9 186 rfl) rfl
theorem q2227 : (Jvm.Cond.privateMethod ({ cls := "DowryBoxesModel", name := "run", desc := "(I)I" } : Jvm.MethodName)) ∈ lw_tbl := lw_at lw_m9 187 rfl
theorem q2228 : (Jvm.Cond.instanceMethod ({ cls := "DowryBoxesModel", name := "run", desc := "(I)I" } : Jvm.MethodName)) ∈ lw_all := lw_g (lw_at lw_m9 188 rfl) rfl
theorem q2229 : (Jvm.Cond.code ({ cls := "DowryBoxesModel", name := "run", desc := "(I)I" } : Jvm.MethodName) prog_22_method_117_code (6 : Nat) (Option.some Jvm.ClassFile.FieldType.int)) ∈ lw_all := lw_g (lw_at lw_m9 189 rfl) rfl
theorem q2230 : (Jvm.Cond.methodLink "DowryBoxesModel" (548 : Nat) ({ cls := "DowryBoxesModel", name := "couples", desc := "()I" } : Jvm.MethodName)) ∈ lw_all := lw_g (lw_at lw_m9 190 rfl) rfl
theorem q2231 : (Jvm.Cond.privateMethod ({ cls := "DowryBoxesModel", name := "couples", desc := "()I" } : Jvm.MethodName)) ∈ lw_tbl := lw_at lw_m9 191 rfl
theorem q2232 : (Jvm.Cond.instanceMethod ({ cls := "DowryBoxesModel", name := "couples", desc := "()I" } : Jvm.MethodName)) ∈ lw_all := lw_g (lw_at lw_m9 192 rfl) rfl
theorem q2233 : (Jvm.Cond.code ({ cls := "DowryBoxesModel", name := "couples", desc := "()I" } : Jvm.MethodName) prog_22_method_24_code (3 : Nat) (Option.some Jvm.ClassFile.FieldType.int)) ∈ lw_all := lw_g (lw_at lw_m9 193 rfl) rfl
theorem q2234 : (Jvm.Cond.methodLink "DowryBoxesModel" (551 : Nat) ({ cls := "DowryBoxesModel", name := "sumOf", desc := "(I)I" } : Jvm.MethodName)) ∈ lw_all := lw_g (lw_at lw_m9 194 rfl) rfl
theorem q2235 : (Jvm.Cond.privateMethod ({ cls := "DowryBoxesModel", name := "sumOf", desc := "(I)I" } : Jvm.MethodName)) ∈ lw_tbl := lw_at lw_m9 195 rfl
theorem q2236 : (Jvm.Cond.instanceMethod ({ cls := "DowryBoxesModel", name := "sumOf", desc := "(I)I" } : Jvm.MethodName)) ∈ lw_all := lw_g (lw_at lw_m9 196 rfl) rfl
theorem q2237 : (Jvm.Cond.code ({ cls := "DowryBoxesModel", name := "sumOf", desc := "(I)I" } : Jvm.MethodName) prog_22_method_115_code (2 : Nat) (Option.some Jvm.ClassFile.FieldType.int)) ∈ lw_all := lw_g (lw_at lw_m9 197 rfl) rfl
theorem q2238 : (Jvm.Cond.methodLink "DowryBoxesModel" (554 : Nat) ({ cls := "DowryBoxesModel", name := "act", desc := "(IIII)I" } : Jvm.MethodName)) ∈ lw_all := lw_g (lw_at lw_m9 198 rfl) rfl
theorem q2239 : (Jvm.Cond.privateMethod ({ cls := "DowryBoxesModel", name := "act", desc := "(IIII)I" } : Jvm.MethodName)) ∈ lw_tbl := lw_at lw_m9 199 rfl
theorem q2240 : (Jvm.Cond.instanceMethod ({ cls := "DowryBoxesModel", name := "act", desc := "(IIII)I" } : Jvm.MethodName)) ∈ lw_all := lw_g (lw_at lw_m9 200 rfl) rfl
theorem q2241 : (Jvm.Cond.code ({ cls := "DowryBoxesModel", name := "act", desc := "(IIII)I" } : Jvm.MethodName) prog_22_method_116_code (5 : Nat) (Option.some Jvm.ClassFile.FieldType.int)) ∈ lw_all := lw_g (lw_at lw_m9 201 rfl) rfl
theorem q2242 : (Jvm.Cond.methodLink "DowryBoxesModel" (563 : Nat) ({ cls := "DowryBoxesModel", name := "giveBack", desc := "(I)V" } : Jvm.MethodName)) ∈ lw_all := lw_g (lw_at lw_m9 202 rfl) rfl
theorem q2243 : (Jvm.Cond.privateMethod ({ cls := "DowryBoxesModel", name := "giveBack", desc := "(I)V" } : Jvm.MethodName)) ∈ lw_tbl := lw_at lw_m9 203 rfl
theorem q2244 : (Jvm.Cond.instanceMethod ({ cls := "DowryBoxesModel", name := "giveBack", desc := "(I)V" } : Jvm.MethodName)) ∈ lw_all := lw_g (lw_at lw_m9 204 rfl) rfl
theorem q2245 : (Jvm.Cond.code ({ cls := "DowryBoxesModel", name := "giveBack", desc := "(I)V" } : Jvm.MethodName) prog_22_method_119_code (3 : Nat) (Option.none : Option Jvm.ClassFile.FieldType)) ∈ lw_all := lw_g (lw_at lw_m9 205 rfl) rfl
theorem q2247 : (Jvm.Cond.instanceMethod ({ cls := "DowryBoxesModel", name := "stopped", desc := "()I" } : Jvm.MethodName)) ∈ lw_all := lw_g (lw_at lw_m9 207 rfl) rfl
theorem q2248 : (Jvm.Cond.selects "DowryBoxesModel" ({ cls := "DowryBoxesModel", name := "stopped", desc := "()I" } : Jvm.MethodName) ({ cls := "DowryBoxesModel", name := "stopped", desc := "()I" } : Jvm.MethodName)) ∈ lw_all := lw_g (lw_at lw_m9 208 rfl) rfl
theorem q2249 : (Jvm.Cond.code ({ cls := "DowryBoxesModel", name := "stopped", desc := "()I" } : Jvm.MethodName) prog_22_method_120_code (1 : Nat) (Option.some Jvm.ClassFile.FieldType.int)) ∈ lw_all := lw_g (lw_at lw_m9 209 rfl) rfl
theorem q2251 : (Jvm.Cond.instanceMethod ({ cls := "DowryBoxesModel", name := "generations", desc := "(II)I" } : Jvm.MethodName)) ∈ lw_all := lw_g (lw_at lw_m9 211 rfl) rfl
theorem q2252 : (Jvm.Cond.selects "DowryBoxesModel" ({ cls := "DowryBoxesModel", name := "generations", desc := "(II)I" } : Jvm.MethodName) ({ cls := "DowryBoxesModel", name := "generations", desc := "(II)I" } : Jvm.MethodName)) ∈ lw_all := lw_g (lw_at lw_m9 212 rfl) rfl
theorem q2253 : (Jvm.Cond.code ({ cls := "DowryBoxesModel", name := "generations", desc := "(II)I" } : Jvm.MethodName) prog_22_method_122_code (9 : Nat) (Option.some Jvm.ClassFile.FieldType.int)) ∈ lw_all := lw_g (lw_at lw_m9 213 rfl) rfl
theorem q2254 : (Jvm.Cond.methodLink "DowryBoxesModel" (575 : Nat) ({ cls := "DowryBoxesModel", name := "draw", desc := "(I)I" } : Jvm.MethodName)) ∈ lw_all := lw_g (lw_at lw_m9 214 rfl) rfl
theorem q2255 : (Jvm.Cond.privateMethod ({ cls := "DowryBoxesModel", name := "draw", desc := "(I)I" } : Jvm.MethodName)) ∈ lw_tbl := lw_at lw_m9 215 rfl
theorem q2256 : (Jvm.Cond.instanceMethod ({ cls := "DowryBoxesModel", name := "draw", desc := "(I)I" } : Jvm.MethodName)) ∈ lw_all := lw_g (lw_at lw_m9 216 rfl) rfl
theorem q2257 : (Jvm.Cond.code ({ cls := "DowryBoxesModel", name := "draw", desc := "(I)I" } : Jvm.MethodName) prog_22_method_121_code (2 : Nat) (Option.some Jvm.ClassFile.FieldType.int)) ∈ lw_all := lw_g (lw_at lw_m9 217 rfl) rfl
theorem q2258 : (Jvm.Cond.constantLong "DowryBoxesModel" (569 : Nat) (1103 : Int64)) ∈ lw_all := lw_g (lw_at lw_m9 218 rfl) rfl
theorem q2259 : (Jvm.Cond.constantLong "DowryBoxesModel" (571 : Nat) (12345 : Int64)) ∈ lw_all := lw_g (lw_at lw_m9 219 rfl) rfl
theorem q2260 : (Jvm.Cond.constantLong "DowryBoxesModel" (573 : Nat) (1000003 : Int64)) ∈ lw_all := lw_g (lw_at lw_m9 220 rfl) rfl
theorem q2262 : (Jvm.Cond.instanceMethod ({ cls := "DowryBoxesModel", name := "drawn", desc := "(II)I" } : Jvm.MethodName)) ∈ lw_all := lw_g (lw_at lw_m9 222 rfl) rfl
theorem q2263 : (Jvm.Cond.selects "DowryBoxesModel" ({ cls := "DowryBoxesModel", name := "drawn", desc := "(II)I" } : Jvm.MethodName) ({ cls := "DowryBoxesModel", name := "drawn", desc := "(II)I" } : Jvm.MethodName)) ∈ lw_all := lw_g (lw_at lw_m9 223 rfl) rfl
theorem q2264 : (Jvm.Cond.code ({ cls := "DowryBoxesModel", name := "drawn", desc := "(II)I" } : Jvm.MethodName) prog_22_method_123_code (3 : Nat) (Option.some Jvm.ClassFile.FieldType.int)) ∈ lw_all := lw_g (lw_at lw_m9 224 rfl) rfl
theorem q2266 : (Jvm.Cond.instanceMethod ({ cls := "DowryBoxesModel", name := "count", desc := "(I)I" } : Jvm.MethodName)) ∈ lw_all := lw_g (lw_at lw_m9 226 rfl) rfl
theorem q2267 : (Jvm.Cond.selects "DowryBoxesModel" ({ cls := "DowryBoxesModel", name := "count", desc := "(I)I" } : Jvm.MethodName) ({ cls := "DowryBoxesModel", name := "count", desc := "(I)I" } : Jvm.MethodName)) ∈ lw_all := lw_g (lw_at lw_m9 227 rfl) rfl
theorem q2268 : (Jvm.Cond.code ({ cls := "DowryBoxesModel", name := "count", desc := "(I)I" } : Jvm.MethodName) prog_22_method_124_code (2 : Nat) (Option.some Jvm.ClassFile.FieldType.int)) ∈ lw_all := lw_g (lw_at lw_m9 228 rfl) rfl
theorem q2269 : (Jvm.Cond.constantLong "DowryBoxesModel" (578 : Nat) (13 : Int64)) ∈ lw_all := lw_g (lw_at lw_m9 229 rfl) rfl
theorem q2270 : (Jvm.Cond.constantLong "DowryBoxesModel" (580 : Nat) (15 : Int64)) ∈ lw_all := lw_g (lw_at lw_m9 230 rfl) rfl
theorem q2272 : (Jvm.Cond.instanceMethod ({ cls := "DowryBoxesModel", name := "status", desc := "()I" } : Jvm.MethodName)) ∈ lw_all := lw_g (lw_at lw_m9 232 rfl) rfl
theorem q2273 : (Jvm.Cond.selects "DowryBoxesModel" ({ cls := "DowryBoxesModel", name := "status", desc := "()I" } : Jvm.MethodName) ({ cls := "DowryBoxesModel", name := "status", desc := "()I" } : Jvm.MethodName)) ∈ lw_all := lw_g (lw_at lw_m9 233 rfl) rfl
theorem q2274 : (Jvm.Cond.code ({ cls := "DowryBoxesModel", name := "status", desc := "()I" } : Jvm.MethodName) prog_22_method_125_code (1 : Nat) (Option.some Jvm.ClassFile.FieldType.int)) ∈ lw_all := lw_g (lw_at lw_m9 234 rfl) rfl
theorem q2295 : (Jvm.Cond.castable "DowryBoxesModel" "java/lang/Object") ∈ lw_tbl := lw_at lw_m10 15 rfl
theorem in_X5 : ∀ w ∈ wsX50, w ∈ lw_all := lw_in wsX50 [1630, 1632, 1634, 1636, 1638, 1640, 1642, 1644, 1646, 1648, 1650, 1652, 1654, 1656, 1658, 1660, 1662, 1664, 1666, 1668, 1670, 1672, 1674, 1676, 1678, 1680, 1682, 1684, 1686, 1688, 1690, 1692, 1694, 1696, 1698, 1700, 1702, 1704, 1706, 1708, 1710, 1712, 1714, 1716, 1718, 1720, 1722, 1724, 1726, 1728, 1730, 1732, 1734, 1736, 1738, 1740, 1742, 1744, 1746, 1748, 1750, 1752] (by decide +kernel) (by decide +kernel)
